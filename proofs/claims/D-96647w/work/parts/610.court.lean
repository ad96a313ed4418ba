/-! a statement comes -/
set_option maxRecDepth 100000
theorem nm_r1 {s : Rw_} {i : Nat} (h : (nmR s 1 i 0).1 = true) : rg_ 10 (nmR s 1 i 0).2.2 := by
  unfold nmR at h ⊢
  split at h
  · rename_i g
    rw [if_pos g]
    obtain ⟨j, hj, e⟩ := in_rg (m := 57) (by decide) (in_lo (by decide) g)
    rw [e] at g
    have h48 : 48 ≤ j := in_low (m := 48) (by decide) (by omega) rfl g
    have K : ∀ j : Fin 10, rgb_ 10 (10 * 0 + Int32.ofNat (j.val + 48) - 48) = true := by decide +kernel
    have k := K ⟨j - 48, by omega⟩
    rw [show j - 48 + 48 = j by omega, ← e] at k
    exact rgb_rg k
  · exact absurd h nft
theorem nm_r2 {s : Rw_} {i : Nat} (h : (nmR s 2 i 0).1 = true) : rg_ 100 (nmR s 2 i 0).2.2 := by
  unfold nmR at h ⊢
  split at h
  · rename_i g
    rw [if_pos g]
    unfold nmR at h ⊢
    split at h
    · rename_i g'
      rw [if_pos g']
      obtain ⟨j, hj, e⟩ := in_rg (m := 57) (by decide) (in_lo (by decide) g)
      rw [e] at g
      have h48 : 48 ≤ j := in_low (m := 48) (by decide) (by omega) rfl g
      obtain ⟨j', hj', e'⟩ := in_rg (m := 57) (by decide) (in_lo (by decide) g')
      rw [e'] at g'
      have h48' : 48 ≤ j' := in_low (m := 48) (by decide) (by omega) rfl g'
      have K : ∀ j k : Fin 10, rgb_ 100 (10 * (10 * 0 + Int32.ofNat (j.val + 48) - 48) + Int32.ofNat (k.val + 48) - 48) = true := by decide +kernel
      have k := K ⟨j - 48, by omega⟩ ⟨j' - 48, by omega⟩
      rw [show j - 48 + 48 = j by omega, show j' - 48 + 48 = j' by omega, ← e, ← e'] at k
      exact rgb_rg k
    · exact absurd h nft
  · exact absurd h nft
theorem ns_1 {s : Rw_} {D i : Nat} {l : List Nat} (h : (nsR s (D :: l) i).1 = true) : (nmR s D i 0).1 = true ∧ (nsR s l (nmR s D i 0).2.1).1 = true ∧ (nsR s (D :: l) i).2.2 = (nmR s D i 0).2.2 :: (nsR s l (nmR s D i 0).2.1).2.2 := by
  by_cases g : (nmR s D i 0).1 = true
  · have e : nsR s (D :: l) i = ((nsR s l (nmR s D i 0).2.1).1, (nsR s l (nmR s D i 0).2.1).2.1, (nmR s D i 0).2.2 :: (nsR s l (nmR s D i 0).2.1).2.2) := by rw [nsR, if_pos g]
    rw [e] at h ⊢
    exact ⟨g, h, rfl⟩
  · have e : nsR s (D :: l) i = (false, (nmR s D i 0).2.1, []) := by rw [nsR, if_neg g]
    rw [e] at h
    exact absurd h nft
theorem st_inv {s : Rw_} {i : Nat} (h : (stR s i).1 = true) : ∃ l, shp (s i) = some l ∧ (nsR s l (i + 1)).1 = true ∧ (stR s i).2.2 = (nsR s l (i + 1)).2.2 := by
  unfold stR at h ⊢
  split at h
  · exact absurd h nft
  · rename_i l e
    refine ⟨l, e, ?_⟩
    unfold seR at h ⊢
    split at h
    · rename_i g
      rw [if_pos g]
      split at h
      · rename_i g2
        rw [if_pos g2]
        exact ⟨g, rfl⟩
      · exact absurd h nft
    · exact absurd h nft
/-- the numbers of a statement -/
def Nu (c : Int32) (vs : List Int32) : Prop := ((c = 98 ∨ c = 102 ∨ c = 104 ∨ c = 120) ∧ ∃ a b, vs = [a, b] ∧ rg_ 10 a ∧ rg_ 10 b) ∨ ((c = 100 ∨ c = 108) ∧ ∃ a, vs = [a] ∧ rg_ 10 a) ∨ (c = 112 ∧ ∃ a b e, vs = [a, b, e] ∧ rg_ 10 a ∧ rg_ 10 b ∧ rg_ 10 e) ∨ (c = 116 ∧ ∃ a b, vs = [a, b] ∧ rg_ 10 a ∧ rg_ 100 b)
theorem st_nu {s : Rw_} {i : Nat} (h : (stR s i).1 = true) : Nu (s i) (stR s i).2.2 := by
  obtain ⟨l, e, h1, h2⟩ := st_inv h
  rw [h2]
  have T1 : ∀ j, (nsR s [1] j).1 = true → ∃ a, (nsR s [1] j).2.2 = [a] ∧ rg_ 10 a := fun j w => by
    obtain ⟨a1, a2, a3⟩ := ns_1 w
    exact ⟨_, a3, nm_r1 a1⟩
  have T2 : ∀ j, (nsR s [1, 1] j).1 = true → ∃ a b, (nsR s [1, 1] j).2.2 = [a, b] ∧ rg_ 10 a ∧ rg_ 10 b := fun j w => by
    obtain ⟨a1, a2, a3⟩ := ns_1 w
    obtain ⟨b, b1, b2⟩ := T1 _ a2
    exact ⟨_, b, by rw [a3, b1], nm_r1 a1, b2⟩
  unfold shp at e
  by_cases g : s i = 98
  · rw [if_pos g] at e
    injection e with e
    subst e
    exact .inl ⟨.inl g, T2 _ h1⟩
  rw [if_neg g] at e
  by_cases g : s i = 100
  · rw [if_pos g] at e
    injection e with e
    subst e
    exact .inr (.inl ⟨.inl g, T1 _ h1⟩)
  rw [if_neg g] at e
  by_cases g : s i = 102
  · rw [if_pos g] at e
    injection e with e
    subst e
    exact .inl ⟨.inr (.inl g), T2 _ h1⟩
  rw [if_neg g] at e
  by_cases g : s i = 104
  · rw [if_pos g] at e
    injection e with e
    subst e
    exact .inl ⟨.inr (.inr (.inl g)), T2 _ h1⟩
  rw [if_neg g] at e
  by_cases g : s i = 108
  · rw [if_pos g] at e
    injection e with e
    subst e
    exact .inr (.inl ⟨.inr g, T1 _ h1⟩)
  rw [if_neg g] at e
  by_cases g : s i = 112
  · rw [if_pos g] at e
    injection e with e
    subst e
    refine .inr (.inr (.inl ⟨g, ?_⟩))
    obtain ⟨a1, a2, a3⟩ := ns_1 h1
    obtain ⟨b, c, b1, b2, b3⟩ := T2 _ a2
    exact ⟨_, b, c, by rw [a3, b1], nm_r1 a1, b2, b3⟩
  rw [if_neg g] at e
  by_cases g : s i = 116
  · rw [if_pos g] at e
    injection e with e
    subst e
    refine .inr (.inr (.inr ⟨g, ?_⟩))
    obtain ⟨a1, a2, a3⟩ := ns_1 h1
    obtain ⟨b1, b2, b3⟩ := ns_1 a2
    exact ⟨_, _, by rw [a3, b3]; rfl, nm_r1 a1, nm_r2 b1⟩
  rw [if_neg g] at e
  by_cases g : s i = 120
  · rw [if_pos g] at e
    injection e with e
    subst e
    exact .inl ⟨.inr (.inr (.inr g)), T2 _ h1⟩
  rw [if_neg g] at e
  cases e
/-- what a statement leaves: of the component (its court in mind), of the twin (its row) -/
def StC (M : Mem_) (n x : Nat) (ρ ρi : Rw_) (hi : Int32) (K : Nat → Rw_) (Z : Zr_) (cs ρ1 : Rw_) (b : Bool) (o : Option (Bool × Mem_ × Nat)) : Prop := ∃ M1 n1 ρm Zm γm, o = some (b, M1, n1) ∧ n ≤ n1 ∧ IC M1 n1 x ρ ρi hi K Z ρm Zm γm cs ∧ (∀ p, p < n → p < x + 19 ∨ x + 28 ≤ p → M1 p = M p) ∧ (b = true → ρm = ρ1 ∧ SZ M1 x n1 Zm ρ1)
def StT (M : Mem_) (x : Nat) (ρi : Rw_) (hi : Int32) (K : Nat → Rw_) (d sz : Nat) (ω ν : Rw_) (i : Nat) (ρ1 : Rw_) (b : Bool) (o : Option (Bool × Mem_)) : Prop := (b = true ∧ ∃ M1, o = some (true, M1) ∧ TP M1 x ρ1 ρi hi K d sz ω ν i ∧ Ft M M1 x) ∨ (b = false ∧ o = some (false, M))
theorem co_can {M : Mem_} {c : Nat} {ρ : Rw_} {Z : Zr_} {γ : Rw_} (h1 : Co_ M c ρ Z γ) (V : OK_ ρ) : fX1_canHit M c = some (!ovR ρ) := by
  have g1 : (999 : Int32) ≤ ρ 1 ↔ ρ 1 = 999 := ge_iff (n := 999) (by decide) V.2.2.1
  have g2 : (99 : Int32) ≤ ρ 38 ↔ ρ 38 = 99 := ge_iff (n := 99) (by decide) V.2.2.2.1
  have g3 : (99 : Int32) ≤ ρ 41 ↔ ρ 41 = 99 := ge_iff (n := 99) (by decide) V.2.2.2.2
  unfold fX1_canHit ovR
  simp only [co_i12 h1, co_r6 h1, co_a7_0 h1, co_a7_1 h1, Option.bind_some, g1, g2, g3]
  repeat' split
  all_goals rfl
theorem IC.mh2 {M : Mem_} {n x : Nat} {ρ ρi : Rw_} {hi : Int32} {K : Nat → Rw_} {Z : Zr_} {ρm : Rw_} {Zm : Zr_} {γm cs : Rw_} (h : IC M n x ρ ρi hi K Z ρm Zm γm cs) (S : SZ M x n Zm ρm) (V : VR ρm) {k c : Int32} (hk : k.toNatClampNeg < (ρm 0).toNatClampNeg) (hk8 : rg_ 8 k) (hc : rg_ 9 c) : fX2_hits M (x + 19) k c = some (hB ρm k c, cw_ M (x + 19) (hR ρm k c) Zm (hG ρm γm k c)) := by
  obtain ⟨q, kn, fg, a, b, c1, d⟩ := S.2 _ hk
  obtain ⟨e1, e2, _⟩ := S.1 _ _ a
  have t := C_hit M (x + 19) ρm Zm γm V hk hk8 hc a b (by omega) c1 d
  rw [cw_eq h.2.2.2.1, hit_eq] at t
  exact t
section STP
variable {M M' : Mem_} {n x : Nat} {ρ ρi : Rw_} {hi : Int32} {K : Nat → Rw_} {Z : Zr_} {ρm : Rw_} {Zm : Zr_} {γm cs : Rw_} {d sz : Nat} {ω ν : Rw_} {i : Nat}
theorem sc_no (h : IC M n x ρ ρi hi K Z ρm Zm γm cs) (ρ1 : Rw_) : StC M n x ρ ρi hi K Z cs ρ1 false (some (false, M, n)) := ⟨M, n, ρm, Zm, γm, rfl, Nat.le_refl _, h, fun _ _ _ => rfl, fun w => absurd w nft⟩
theorem sc_row (h : IC M n x ρ ρi hi K Z ρm Zm γm cs) (S : SZ M x n Zm ρm) (V : OK_ ρm) {ρ1 : Rw_} (s : SS ρ1 ρm) (γ' : Rw_) : StC M n x ρ ρi hi K Z cs ρ1 true (some (true, cw_ M (x + 19) ρ1 Zm γ', n)) := ⟨_, n, ρ1, Zm, γ', rfl, Nat.le_refl _, (h.mind h.2.2.2.2.2.2.2.2.2.2.1).1, fun p _ hp => cw_out (by omega), fun _ => ⟨rfl, (S.same V.1.2.2.2.2.1 s).cg (Nat.le_refl _) fun q a b => sk_cg (cw_out (by omega))⟩⟩
theorem TP.now (t : TP M x ρ ρi hi K d sz ω ν i) (ρ1 : Rw_) : TP (ms_ M (x + 48) (eI_ 0 42 ρ1)) x ρ1 ρi hi K d sz ω ν i ∧ Ft M (ms_ M (x + 48) (eI_ 0 42 ρ1)) x := by
  obtain ⟨μ, γ, sc, t, e6, e7, e8, e9, e10⟩ := t
  obtain ⟨a, b⟩ := t.now (ρ' := ρ1)
  exact ⟨⟨μ, γ, sc, a, e6, e7, e8, (ms_ne (by omega)).trans e9, (ms_ne (by omega)).trans e10⟩, b⟩
theorem TP.r0 (t : TP M x ρ ρi hi K d sz ω ν i) : gR_ M (x + 47) 3 0 = some (x + 48) := by
  obtain ⟨μ, γ, sc, t, _⟩ := t
  exact t.r0
theorem TP.row (t : TP M x ρ ρi hi K d sz ω ν i) : M (x + 48) = some (eI_ 0 42 ρ) := by
  obtain ⟨μ, γ, sc, t, _⟩ := t
  exact t.2.1
theorem st_row (t : TP M x ρ ρi hi K d sz ω ν i) (ρ1 : Rw_) : StT M x ρi hi K d sz ω ν i ρ1 true (some (true, ms_ M (x + 48) (eI_ 0 42 ρ1))) := .inl ⟨rfl, _, rfl, (t.now ρ1).1, (t.now ρ1).2⟩
theorem v01 {v : Int32} (h : rg_ 10 v) (g : ¬ 1 < v) : v = 0 ∨ v = 1 := by
  obtain ⟨j, hj, rfl⟩ := h
  have : j ≤ 1 := by
    by_cases w : j ≤ 1
    · exact w
    · exact absurd ((nT (i := 1) (by omega) (by omega)).mpr (by omega)) g
  have : j = 0 ∨ j = 1 := by omega
  rcases this with z | z <;> subst z
  · exact .inl rfl
  · exact .inr rfl
theorem rg_cut {v : Int32} {n m : Nat} (hn : n ≤ 1000) (h : rg_ n v) (g : v ≤ Int32.ofNat m) (hm : m ≤ 1000) : rg_ (m + 1) v := by
  obtain ⟨j, hj, rfl⟩ := h
  have := (nL (by omega) (by omega)).mp g
  exact ⟨j, by omega, rfl⟩
theorem step_fh (h : IC M n x ρ ρi hi K Z ρm Zm γm cs) (S : SZ M x n Zm ρm) (V : OK_ ρm) (t : TP M' x ρm ρi hi K d sz ω ν i) {a b : Int32} (ha : rg_ 10 a) (hb : rg_ 10 b) {m : Nat} {u : Nat} (hm : u = 0 ∧ m = 1 ∨ u = 1 ∧ m = 3) : ∃ (r : Bool) (ρ1 : Rw_), StC M n x ρ ρi hi K Z cs ρ1 r (if 1 < a then some (false, M, n) else if b ≤ Int32.ofNat m then (gR_ M x 0 2).bind fun v28 => (gR_ M v28 1 (4 + u)).bind fun v29 => (sI_ M v29 0 a b).bind fun M32 => some (true, M32, n) else some (false, M, n)) ∧ StT M' x ρi hi K d sz ω ν i ρ1 r (if 1 < a then some (false, M') else if b ≤ Int32.ofNat m then (gR_ M' (x + 47) 3 0).bind fun v25 => lt_ (fX4_ofSide a (Int32.ofNat u)) fun r28 => (sI_ M' v25 0 r28 b).bind fun M29 => some (true, M29) else some (false, M')) ∧ (r = true → OK_ ρ1) := by
  have bad : ∃ (r : Bool) (ρ1 : Rw_), StC M n x ρ ρi hi K Z cs ρ1 r (some (false, M, n)) ∧ StT M' x ρi hi K d sz ω ν i ρ1 r (some (false, M')) ∧ (r = true → OK_ ρ1) := ⟨false, ρm, sc_no h _, .inr ⟨rfl, rfl⟩, fun w => absurd w nft⟩
  by_cases g : 1 < a
  · rw [if_pos g, if_pos g]
    exact bad
  rw [if_neg g, if_neg g]
  by_cases g2 : b ≤ Int32.ofNat m
  · rw [if_pos g2, if_pos g2, h.r2, ob_n, t.r0, ob_n, lt_]
    have c := h.2.2.2.1
    have hb' : rg_ (m + 1) b := rg_cut (by decide) hb g2 (by omega)
    rcases hm with ⟨z1, z2⟩ | ⟨z1, z2⟩ <;> subst z1 <;> subst z2 <;> rcases v01 ha g with z | z <;> subst z
    · have s1 : sI_ M' (x + 48) 0 (fX4_ofSide 0 (Int32.ofNat 0)) b = some (ms_ M' (x + 48) (eI_ 0 42 (upd ρm 36 b))) := ro_s36 t.row b
      rw [co_r4 c, ob_n, co_s5_0 c, ob_n, s1, ob_n]
      exact ⟨true, upd ρm 36 b, sc_row h S V ((SS.refl _).up (by decide)) _, st_row t _, fun _ => V.up (V.1.form (s := 0) (by decide) hb') (by omega) (by omega) (by omega) (by omega)⟩
    · have s1 : sI_ M' (x + 48) 0 (fX4_ofSide 1 (Int32.ofNat 0)) b = some (ms_ M' (x + 48) (eI_ 0 42 (upd ρm 39 b))) := ro_s39 t.row b
      rw [co_r4 c, ob_n, co_s5_1 c, ob_n, s1, ob_n]
      exact ⟨true, upd ρm 39 b, sc_row h S V ((SS.refl _).up (by decide)) _, st_row t _, fun _ => V.up (V.1.form (s := 1) (by decide) hb') (by omega) (by omega) (by omega) (by omega)⟩
    · have s1 : sI_ M' (x + 48) 0 (fX4_ofSide 0 (Int32.ofNat 1)) b = some (ms_ M' (x + 48) (eI_ 0 42 (upd ρm 37 b))) := ro_s37 t.row b
      rw [co_r5 c, ob_n, co_s6_0 c, ob_n, s1, ob_n]
      exact ⟨true, upd ρm 37 b, sc_row h S V ((SS.refl _).up (by decide)) _, st_row t _, fun _ => V.up (V.1.habit (s := 0) (by decide) hb') (by omega) (by omega) (by omega) (by omega)⟩
    · have s1 : sI_ M' (x + 48) 0 (fX4_ofSide 1 (Int32.ofNat 1)) b = some (ms_ M' (x + 48) (eI_ 0 42 (upd ρm 40 b))) := ro_s40 t.row b
      rw [co_r5 c, ob_n, co_s6_1 c, ob_n, s1, ob_n]
      exact ⟨true, upd ρm 40 b, sc_row h S V ((SS.refl _).up (by decide)) _, st_row t _, fun _ => V.up (V.1.habit (s := 1) (by decide) hb') (by omega) (by omega) (by omega) (by omega)⟩
  · rw [if_neg g2, if_neg g2]
    exact bad
theorem step_d (h : IC M n x ρ ρi hi K Z ρm Zm γm cs) (S : SZ M x n Zm ρm) (V : OK_ ρm) (t : TP M' x ρm ρi hi K d sz ω ν i) {a : Int32} (ha : rg_ 10 a) : ∃ (r : Bool) (ρ1 : Rw_), StC M n x ρ ρi hi K Z cs ρ1 r ((pF_ M (x + 19) 1 11 (.int (a - 1))).bind fun M22 => if 2 < a then some (false, M22, n) else some (true, M22, n)) ∧ StT M' x ρi hi K d sz ω ν i ρ1 r (if a ≤ 2 then (sI_ M' (x + 48) 0 3 (a - 1)).bind fun M15 => some (true, M15) else some (false, M')) ∧ (r = true → OK_ ρ1) := by
  have c := h.2.2.2.1
  rw [co_p11 c, ob_n]
  by_cases g : a ≤ 2
  · rw [if_pos g, if_neg (Int32.not_lt.mpr g), ro_s3 t.row, ob_n]
    have ha' : rg_ 3 a := rg_cut (m := 2) (by decide) ha g (by decide)
    exact ⟨true, upd ρm 3 (a - 1), sc_row h S V ((SS.refl _).up (by decide)) _, st_row t _, fun _ => V.up (V.1.draught (by obtain ⟨j, hj, e⟩ := ha'; exact ⟨j, hj, by rw [e]⟩)) (by omega) (by omega) (by omega) (by omega)⟩
  · rw [if_neg g, if_pos (Int32.not_le.mp g)]
    exact ⟨false, ρm, ⟨_, n, _, _, _, rfl, Nat.le_refl _, (h.mind h.2.2.2.2.2.2.2.2.2.2.1).1, fun p _ hp => cw_out (by omega), fun w => absurd w nft⟩, .inr ⟨rfl, rfl⟩, fun w => absurd w nft⟩
theorem step_b (h : IC M n x ρ ρi hi K Z ρm Zm γm cs) (S : SZ M x n Zm ρm) (V : OK_ ρm) (t : TP M' x ρm ρi hi K d sz ω ν i) {a b : Int32} (ha : rg_ 10 a) (hb : rg_ 10 b) : ∃ (r : Bool) (ρ1 : Rw_), StC M n x ρ ρi hi K Z cs ρ1 r (if 8 ≤ a then some (false, M, n) else if ρm 0 = 8 then some (false, M, n) else ba_ (fX1_strokeOf M n a b) fun r10 M11 n12 => (ck_ M11 (x + 19) 1).bind fun _ => bw_ (fX2_learns M11 (x + 19) r10) fun _ M15 => some (true, M15, n12)) ∧ StT M' x ρi hi K d sz ω ν i ρ1 r (if 8 ≤ a then some (false, M') else if ρm 0 = 8 then some (false, M') else (fX4_adds M' (x + 47) a b).bind fun M10 => some (true, M10)) ∧ (r = true → OK_ ρ1) := by
  have hx := h.nx
  have bad : ∃ (r : Bool) (ρ1 : Rw_), StC M n x ρ ρi hi K Z cs ρ1 r (some (false, M, n)) ∧ StT M' x ρi hi K d sz ω ν i ρ1 r (some (false, M')) ∧ (r = true → OK_ ρ1) := ⟨false, ρm, sc_no h _, .inr ⟨rfl, rfl⟩, fun w => absurd w nft⟩
  by_cases g : 8 ≤ a
  · rw [if_pos g, if_pos g]
    exact bad
  rw [if_neg g, if_neg g]
  by_cases g2 : ρm 0 = 8
  · rw [if_pos g2, if_pos g2]
    exact bad
  rw [if_neg g2, if_neg g2]
  obtain ⟨kn, hk, rfl⟩ := ha
  have hk8 : kn < 8 := by
    by_cases w : kn < 8
    · exact w
    · exact absurd ((nL (i := 8) (by omega) (by omega)).mpr (by omega)) g
  have hN := rg9_8 V.1.2.2.2.2.1 g2
  obtain ⟨a1, a2⟩ := h.new (eO_ (7 + kn) [.int b])
  have L := co_learn a1.2.2.2.1 hN (sk_new M n hk8 b) (Int32.ofNat kn) b
  have S1 : SZ (ms_ M n (eO_ (7 + kn) [.int b])) x (n + 1) Zm ρm := S.cg (Nat.le_succ n) fun q _ hq => sk_cg (ms_ne (by omega))
  have S2 := S1.learn hN (sk_new M n hk8 b) (by omega) (Nat.lt_succ_self n)
  obtain ⟨b1, b2⟩ := a1.mind (ρ' := lnR ρm (Int32.ofNat kn) b) (γ' := γm) (h.2.2.2.2.2.2.2.2.2.2.1.learn hN (some n))
  obtain ⟨μ, γ, sc, t, e6, e7, e8, e9, e10⟩ := t
  obtain ⟨M1, c1, c2, c3, c4⟩ := t.adds hN (Int32.ofNat kn) b
  rw [so_ok M n hk8 b, ba_n, a1.ck19, ob_n, L, bw_n, c1, ob_n]
  exact ⟨true, _, ⟨_, n + 1, _, _, _, rfl, by omega, b1, fun p hp hp2 => (cw_out (by omega)).trans (ms_ne (by omega)), fun _ => ⟨rfl, S2.cg (Nat.le_refl _) fun q a b => sk_cg (cw_out (by omega))⟩⟩, .inl ⟨rfl, M1, rfl, ⟨μ, γ, sc, c2, e6, e7, e8, (c4 _ (by omega)).trans e9, (c4 _ (by omega)).trans e10⟩, c3⟩, fun _ => V.learn hN ⟨kn, hk8, rfl⟩ hb⟩
theorem step_x (h : IC M n x ρ ρi hi K Z ρm Zm γm cs) (S : SZ M x n Zm ρm) (V : OK_ ρm) (t : TP M' x ρm ρi hi K d sz ω ν i) {a b : Int32} : ∃ (r : Bool) (ρ1 : Rw_), StC M n x ρ ρi hi K Z cs ρ1 r (bw_ (fX1_comesHit M x a b) fun r49 M50 => some (r49, M50, n)) ∧ StT M' x ρi hi K d sz ω ν i ρ1 r ((fX4_isStroke M' (x + 47) a).bind fun r82 => if (b2_ r82) = 0 then some (false, M') else lt_ (fX4_isCell b) fun r83 => if (b2_ r83) = 0 then some (false, M') else (ck_ M' (x + 47) 3).bind fun _ => (fX4_isOver M' (x + 47)).bind fun r85 => if (b2_ r85) = 0 then (gR_ M' (x + 47) 3 0).bind fun v86 => (ck_ M' (x + 47) 3).bind fun _ => bw_ (fX4_hits M' (x + 47) v86 a b) fun _ M89 => some (true, M89) else some (false, M')) ∧ (r = true → OK_ ρ1) := by
  have bad : ∃ (r : Bool) (ρ1 : Rw_), StC M n x ρ ρi hi K Z cs ρ1 r (bw_ (some (false, M)) fun r49 M50 => some (r49, M50, n)) ∧ StT M' x ρi hi K d sz ω ν i ρ1 r (some (false, M')) ∧ (r = true → OK_ ρ1) := by
    rw [bw_n]
    exact ⟨false, ρm, sc_no h _, .inr ⟨rfl, rfl⟩, fun w => absurd w nft⟩
  have c := h.2.2.2.1
  obtain ⟨μ, γ, sc, t, e6, e7, e8, e9, e10⟩ := t
  have st : fX2_isStroke M (x + 19) a = some (fX4_isIn a 0 (ρm 0 - 1)) := by
    unfold fX2_isStroke
    simp only [co_i9 c, lt_, Option.bind_some]
    rfl
  have can := co_can c V
  unfold fX1_comesHit
  rw [h.r2, ob_n, ob_n, ob_n, h.ck19, ob_n, ob_n, st, ob_n, t.isStroke, ob_n, lt_, lt_, show fX1_isCell b = fX4_isIn b 0 8 from rfl, show fX4_isCell b = fX4_isIn b 0 8 from rfl]
  cases e1 : fX4_isIn a 0 (ρm 0 - 1) with
  | false => exact bad
  | true =>
    rw [if_neg b2_t, if_neg b2_t]
    cases e2 : fX4_isIn b 0 8 with
    | false => exact bad
    | true =>
      rw [if_neg b2_t, if_neg b2_t, can, ob_n, t.ck, ob_n, t.over, ob_n]
      obtain ⟨hk, hk8⟩ := str_rg V.1.2.2.2.2.1 e1
      have hc := in_rg (m := 8) (by decide) e2
      cases eo : ovR ρm with
      | true =>
        rw [if_neg b2_t]
        exact bad
      | false =>
        have C := h.mh2 S V.1 hk hk8 hc
        have u := T_hit (M := M') (r := x + 48) (g := x + 52) (t := x + 47) (γ := γ) (by omega) (by omega) (by omega) t.1 rfl V.1 hk hk8 hc
        rw [tw_eq t.2.1 t.2.2.2.2.2.2.1, hit_eq, tw_ms (by omega)] at u
        have A := t.now (ρ' := hR ρm a b)
        have B := A.1.gone (γ' := hG ρm γ a b)
        have W := V.mv.hit hk hc
        rw [if_neg (show ¬ b2_ (!false) = 0 by decide), C, bw_n, bw_n, if_pos b2_f, t.r0, ob_n, ob_n, u, bw_n]
        have o1 : ¬ ρm 1 = 999 ∧ ¬ ρm 38 = 99 ∧ ¬ ρm 41 = 99 := by
          unfold ovR at eo
          by_cases w1 : ρm 1 = 999
          · rw [if_pos w1] at eo
            cases eo
          · rw [if_neg w1] at eo
            by_cases w2 : ρm 38 = 99
            · rw [if_pos w2] at eo
              cases eo
            · rw [if_neg w2] at eo
              by_cases w3 : ρm 41 = 99
              · rw [if_pos w3] at eo
                cases eo
              · exact ⟨w1, w2, w3⟩
        exact ⟨true, _, sc_row h S V W.2.2 _, .inl ⟨rfl, _, rfl, ⟨μ, _, sc, B.1, e6, e7, e8, (ms_ne (by omega)).trans ((ms_ne (by omega)).trans e9), (ms_ne (by omega)).trans ((ms_ne (by omega)).trans e10)⟩, A.2.trans B.2⟩, fun _ => V.hit hk hc o1.1 o1.2.1 o1.2.2⟩
theorem step_t (h : IC M n x ρ ρi hi K Z ρm Zm γm cs) (S : SZ M x n Zm ρm) (V : OK_ ρm) (t : TP M' x ρm ρi hi K d sz ω ν i) {a b : Int32} (hb : rg_ 100 b) : ∃ (r : Bool) (ρ1 : Rw_), StC M n x ρ ρi hi K Z cs ρ1 r (bw_ (if b2_ (fX4_isIn a 0 3) = 0 then some (false, M) else (sI_ M (x + 19 + 4) 0 a b).bind fun M22 => some (true, M22)) fun r49 M50 => some (r49, M50, n)) ∧ StT M' x ρi hi K d sz ω ν i ρ1 r (if b2_ (fX4_isIn a 0 3) = 0 then some (false, M') else (sI_ M' (x + 48) 0 (fX4_ofP a 2) b).bind fun M79 => some (true, M79)) ∧ (r = true → OK_ ρ1) := by
  cases e : fX4_isIn a 0 3 with
  | false =>
    rw [if_pos b2_f, if_pos b2_f, bw_n]
    exact ⟨false, ρm, sc_no h _, .inr ⟨rfl, rfl⟩, fun w => absurd w nft⟩
  | true =>
    obtain ⟨p, hp, rfl⟩ := in_rg (m := 3) (by decide) e
    rw [if_neg b2_t, if_neg b2_t, (co_sP h.2.2.2.1 hp b).2.2, ob_n, bw_n, (ro_sP t.row hp b).2.2.1, ob_n]
    exact ⟨true, _, sc_row h S V ((SS.refl _).up (by omega)) _, st_row t _, fun _ => V.up (V.1.tired hp hb) (by omega) (by omega) (by omega) (by omega)⟩
theorem step_l (h : IC M n x ρ ρi hi K Z ρm Zm γm cs) (S : SZ M x n Zm ρm) (V : OK_ ρm) (t : TP M' x ρm ρi hi K d sz ω ν i) {a : Int32} : ∃ (r : Bool) (ρ1 : Rw_), StC M n x ρ ρi hi K Z cs ρ1 r (bw_ (if b2_ (fX4_isIn a 0 3) = 0 then some (false, M) else (pF_ M (x + 19) 1 8 (.int (lf_ ρm ^^^ (1 <<< (a &&& 31))))).bind fun M16 => some (true, M16)) fun r49 M50 => some (r49, M50, n)) ∧ StT M' x ρi hi K d sz ω ν i ρ1 r (if b2_ (fX4_isIn a 0 3) = 0 then some (false, M') else (aI_ M' (x + 48) 0 (fX4_ofP a 3)).bind fun v55 => (sI_ M' (x + 48) 0 (fX4_ofP a 3) (v55 ^^^ 1)).bind fun M56 => some (true, M56)) ∧ (r = true → OK_ ρ1) := by
  cases e : fX4_isIn a 0 3 with
  | false =>
    rw [if_pos b2_f, if_pos b2_f, bw_n]
    exact ⟨false, ρm, sc_no h _, .inr ⟨rfl, rfl⟩, fun w => absurd w nft⟩
  | true =>
    obtain ⟨p, hp, rfl⟩ := in_rg (m := 3) (by decide) e
    have R := ro_sP t.row hp (ρm (23 + 4 * p) ^^^ 1)
    rw [if_neg b2_t, if_neg b2_t, co_hand h.2.2.2.1 V.1 hp, ob_n, bw_n, R.2.2.2.2, ob_n, R.2.2.2.1, ob_n]
    exact ⟨true, _, sc_row h S V ((SS.refl _).up (by omega)) _, st_row t _, fun _ => V.up (V.1.left hp (rg_x1 (V.1.1 p hp).2.2.2)) (by omega) (by omega) (by omega) (by omega)⟩
theorem step_p (h : IC M n x ρ ρi hi K Z ρm Zm γm cs) (S : SZ M x n Zm ρm) (V : OK_ ρm) (t : TP M' x ρm ρi hi K d sz ω ν i) {a b e : Int32} (n2 : ν 2 = e) : ∃ (r : Bool) (ρ1 : Rw_), StC M n x ρ ρi hi K Z cs ρ1 r (bw_ (if b2_ (fX4_isIn a 0 3) = 0 then some (false, M) else bw_ (fX1_comesPlace M x a b e) fun r10 M11 => some (r10, M11)) fun r49 M50 => some (r49, M50, n)) ∧ StT M' x ρi hi K d sz ω ν i ρ1 r (if b2_ (fX4_isIn a 0 3) = 0 then some (false, M') else if b2_ (fX4_isIn b 0 8) = 0 then some (false, M') else if b2_ (fX4_isIn e 1 4) = 0 then some (false, M') else (sI_ M' (x + 48) 0 (fX4_ofP a 0) b).bind fun M66 => (gR_ M66 (x + 47) 3 0).bind fun v67 => lt_ (fX4_ofP a 1) fun r68 => (gR_ M66 (x + 47) 3 9).bind fun v69 => (aI_ M66 v69 0 2).bind fun v70 => (sI_ M66 v67 0 r68 v70).bind fun M71 => some (true, M71)) ∧ (r = true → OK_ ρ1) := by
  have bad : ∃ (r : Bool) (ρ1 : Rw_), StC M n x ρ ρi hi K Z cs ρ1 r (bw_ (some (false, M)) fun r49 M50 => some (r49, M50, n)) ∧ StT M' x ρi hi K d sz ω ν i ρ1 r (some (false, M')) ∧ (r = true → OK_ ρ1) := by
    rw [bw_n]
    exact ⟨false, ρm, sc_no h _, .inr ⟨rfl, rfl⟩, fun w => absurd w nft⟩
  cases e0 : fX4_isIn a 0 3 with
  | false => exact bad
  | true =>
    rw [if_neg b2_t, if_neg b2_t]
    unfold fX1_comesPlace
    rw [lt_, lt_, show fX1_isCell b = fX4_isIn b 0 8 from rfl, show fX1_isIn e 1 4 = fX4_isIn e 1 4 from rfl]
    cases e1 : fX4_isIn b 0 8 with
    | false =>
      rw [if_pos b2_f, bw_n]
      exact bad
    | true =>
      rw [if_neg b2_t, if_neg b2_t]
      cases e2 : fX4_isIn e 1 4 with
      | false =>
        rw [if_pos b2_f, bw_n]
        exact bad
      | true =>
        obtain ⟨p, hp, rfl⟩ := in_rg (m := 3) (by decide) e0
        have hc := in_rg (m := 8) (by decide) e1
        have hw := in_pace e2
        have V1 := V.1.at hp hc
        have O1 := V.up V1 (by omega) (by omega) (by omega) (by omega)
        have V2 := V1.pace hp hw
        have O2 := O1.up V2 (by omega) (by omega) (by omega) (by omega)
        have c := h.2.2.2.1
        obtain ⟨a1, a2⟩ := h.mind (ρ' := upd ρm (20 + 4 * p) b) (Z' := Zm) (γ' := γm) h.2.2.2.2.2.2.2.2.2.2.1
        have c1 : Co_ (cw_ M (x + 19) (upd ρm (20 + 4 * p) b) Zm γm) (x + 19) (upd ρm (20 + 4 * p) b) Zm γm := cw_co _ _ _ _ _
        obtain ⟨t1, f1⟩ := t.now (upd ρm (20 + 4 * p) b)
        have k2 := (co_sP c1 hp e).2.1
        rw [cw_cw] at k2
        have n2' := t1.nu (k := 2) (by decide)
        rw [n2, oN2] at n2'
        have T2 := (ro_sP t1.row hp e).2.1
        rw [ms_ms] at T2
        rw [if_neg b2_t, if_neg b2_t, h.r2, ob_n, co_r1 c, ob_n, (co_sP c hp b).1, ob_n, a1.r2, ob_n, co_r2 c1, ob_n, k2, ob_n, bw_n, bw_n, (ro_sP t.row hp b).1, ob_n, t1.r0, ob_n, lt_, t1.r9, ob_n, n2', ob_n, T2, ob_n]
        exact ⟨true, _, sc_row h S V (((SS.refl _).up (by omega)).up (by omega)) _, st_row t _, fun _ => O2⟩
/-- one statement comes, to both -/
theorem step (h : IC M n x ρ ρi hi K Z ρm Zm γm cs) (S : SZ M x n Zm ρm) (V : OK_ ρm) (t : TP M' x ρm ρi hi K d sz ω ν i) {s : Rw_} {a j : Nat} {hh : Int32} (D : Td M s a j) (hx : x + 61 ≤ a) (sg : Sg (s j) hh) (nu : ∀ l v, (stR s j).2.2[l]? = some v → ν l = v) : ∃ (r : Bool) (ρ1 : Rw_), StC M n x ρ ρi hi K Z cs ρ1 r (fX1_comes M n x a) ∧ StT M' x ρi hi K d sz ω ν i ρ1 r (fX4_isDone M' (x + 47) hh) ∧ (r = true → OK_ ρ1) := by
  obtain ⟨m, g, d0, d1, d2, d3⟩ := D
  have N := st_nu d0
  have c := h.2.2.2.1
  have cr : gR_ M a 5 2 = some (a + 1) := gRof d1 rfl
  have ci : gI_ M a 5 0 = some (s j) := gIof d1 rfl
  have g0 : aI_ M (a + 1) 0 0 = some (g 0) := aIof (i := 0) d2 (by decide)
  have g1 : aI_ M (a + 1) 0 1 = some (g 1) := aIof (i := 1) d2 (by decide)
  have g2 : aI_ M (a + 1) 0 2 = some (g 2) := aIof (i := 2) d2 (by decide)
  have t0 : aI_ M' (x + 53) 0 0 = some (ν 0) := t.nu (k := 0) (by decide)
  have t1 : aI_ M' (x + 53) 0 1 = some (ν 1) := t.nu (k := 1) (by decide)
  have t2 : aI_ M' (x + 53) 0 2 = some (ν 2) := t.nu (k := 2) (by decide)
  generalize s j = L at N ci sg
  generalize (stR s j).2.2 = vs at N d3 nu
  unfold fX1_comes fX4_isDone
  rcases N with ⟨z, a0, b0, e, ha, hb⟩ | ⟨z, a0, e, ha⟩ | ⟨z, a0, b0, e0, e, ha, hb, he⟩ | ⟨z, a0, b0, e, ha, hb⟩
  · subst e
    have q0 : g 0 = a0 := d3 0 a0 rfl
    have q1 : g 1 = b0 := d3 1 b0 rfl
    have u0 : ν 0 = a0 := nu 0 a0 rfl
    have u1 : ν 1 = b0 := nu 1 b0 rfl
    rw [q0] at g0
    rw [q1] at g1
    rw [u0] at t0
    rw [u1] at t1
    rcases z with z | z | z | z
    · have hw := (sg.1 98 (by decide)).mpr z
      subst z
      subst hw
      rw [cr, ob_n, ci, ob_n, if_pos rfl, t.r9, ob_n, t0, ob_n, ob_n, t1, ob_n, if_pos rfl]
      simp only [g0, g1, h.r2, co_i9 c, t.r0, ro_a0 t.row, t.ck, ob_n]
      exact step_b h S V t ha hb
    · have hw := (sg.1 102 (by decide)).mpr z
      subst z
      subst hw
      rw [cr, ob_n, ci, ob_n, if_neg (by decide), if_neg (by decide), if_pos rfl, t.r9, ob_n, t0, ob_n, ob_n, t1, ob_n, if_neg (by decide), if_neg (by decide), if_pos rfl]
      simp only [g0, g1, ob_n, if_true]
      exact step_fh (u := 0) (m := 1) h S V t ha hb (.inl ⟨rfl, rfl⟩)
    · have hw := (sg.1 104 (by decide)).mpr z
      subst z
      subst hw
      rw [cr, ob_n, ci, ob_n, if_neg (by decide), if_neg (by decide), if_neg (by decide), if_pos rfl, t.r9, ob_n, t0, ob_n, ob_n, t1, ob_n, if_neg (by decide), if_neg (by decide), if_neg (by decide), if_pos rfl]
      simp only [g0, g1, ob_n, if_neg (show ¬ (104 : Int32) = 102 by decide)]
      exact step_fh (u := 1) (m := 3) h S V t ha hb (.inr ⟨rfl, rfl⟩)
    · have hw := (sg.1 120 (by decide)).mpr z
      subst z
      subst hw
      rw [cr, ob_n, ci, ob_n, if_neg (by decide), if_neg (by decide), if_neg (by decide), if_neg (by decide), if_pos rfl, g0, ob_n, g1, ob_n, h.ck, ob_n, t.r9, ob_n, t0, ob_n, ob_n, t1, ob_n, if_neg (by decide), if_neg (by decide), if_neg (by decide), if_neg (by decide), if_neg (by decide), if_neg (by decide), if_neg (by decide), t.ck, ob_n]
      have k := step_x (a := a0) (b := b0) h S V t
      rw [t.ck] at k
      exact k
  · subst e
    have q0 : g 0 = a0 := d3 0 a0 rfl
    have u0 : ν 0 = a0 := nu 0 a0 rfl
    rw [q0] at g0
    rw [u0] at t0
    rcases z with z | z
    · have hw := (sg.1 100 (by decide)).mpr z
      subst z
      subst hw
      have k := step_d h S V t ha
      have P := co_p11 c (a0 - 1)
      have g0' : aI_ (cw_ M (x + 19) (upd ρm 3 (a0 - 1)) Zm γm) (a + 1) 0 0 = some a0 := by
        have this : aI_ (cw_ M (x + 19) (upd ρm 3 (a0 - 1)) Zm γm) (a + 1) 0 0 = some (g 0) := aIof (i := 0) (f := g) ((cw_out (M := M) (c := x + 19) (ρ := upd ρm 3 (a0 - 1)) (Z := Zm) (γ := γm) (q := a + 1) (by omega)).trans d2) (by decide)
        exact this.trans (congrArg some q0)
      rw [P, ob_n] at k
      rw [cr, ob_n, ci, ob_n, if_neg (by decide), if_pos rfl, h.r2, ob_n, g0, ob_n, lt_, P, ob_n, g0', ob_n, t.r9, ob_n, t0, ob_n, ob_n, t1, ob_n, if_neg (show ¬ (100 : Int32) = 98 by decide), if_pos rfl, t.r0, ob_n]
      exact k
    · have hw := (sg.1 108 (by decide)).mpr z
      subst z
      subst hw
      have k := step_l (a := a0) h S V t
      rw [cr, ob_n, ci, ob_n, if_neg (by decide), if_neg (by decide), if_neg (by decide), if_neg (by decide), if_neg (by decide), h.ck, ob_n, t.r9, ob_n, t0, ob_n, ob_n, t1, ob_n, if_neg (by decide), if_neg (by decide), if_neg (by decide), if_neg (by decide), if_pos rfl]
      unfold fX1_comesPlayer
      rw [cr, ob_n, g0, ob_n, lt_, ci, ob_n, if_neg (show ¬ (108 : Int32) = 116 by decide), ob_n, if_pos rfl, h.r2, ob_n, co_i8 c, ob_n, ob_n, lt_, lt_, t.r0, ob_n, lt_]
      exact k
  · subst e
    have q0 : g 0 = a0 := d3 0 a0 rfl
    have q1 : g 1 = b0 := d3 1 b0 rfl
    have q2 : g 2 = e0 := d3 2 e0 rfl
    have u0 : ν 0 = a0 := nu 0 a0 rfl
    have u1 : ν 1 = b0 := nu 1 b0 rfl
    have u2 : ν 2 = e0 := nu 2 e0 rfl
    rw [q0] at g0
    rw [q1] at g1
    rw [q2] at g2
    rw [u0] at t0
    rw [u1] at t1
    rw [u2] at t2
    have hw := (sg.1 112 (by decide)).mpr z
    subst z
    subst hw
    have k := step_p (a := a0) (b := b0) h S V t u2
    rw [cr, ob_n, ci, ob_n, if_neg (by decide), if_neg (by decide), if_neg (by decide), if_neg (by decide), if_neg (by decide), h.ck, ob_n, t.r9, ob_n, t0, ob_n, ob_n, t1, ob_n, if_neg (by decide), if_neg (by decide), if_neg (by decide), if_neg (by decide), if_neg (by decide), if_pos rfl]
    unfold fX1_comesPlayer
    rw [cr, ob_n, g0, ob_n, lt_, ci, ob_n, if_neg (show ¬ (112 : Int32) = 116 by decide), ob_n, if_neg (show ¬ (112 : Int32) = 108 by decide), ob_n, g1, ob_n, g2, ob_n, h.ck, ob_n, lt_, lt_, ob_n, t2, ob_n, lt_, t.r0, ob_n, lt_]
    exact k
  · subst e
    have q0 : g 0 = a0 := d3 0 a0 rfl
    have q1 : g 1 = b0 := d3 1 b0 rfl
    have u0 : ν 0 = a0 := nu 0 a0 rfl
    have u1 : ν 1 = b0 := nu 1 b0 rfl
    rw [q0] at g0
    rw [q1] at g1
    rw [u0] at t0
    rw [u1] at t1
    have hw := (sg.1 116 (by decide)).mpr z
    subst z
    subst hw
    have k := step_t (a := a0) h S V t hb
    rw [cr, ob_n, ci, ob_n, if_neg (by decide), if_neg (by decide), if_neg (by decide), if_neg (by decide), if_neg (by decide), h.ck, ob_n, t.r9, ob_n, t0, ob_n, ob_n, t1, ob_n, if_neg (by decide), if_neg (by decide), if_neg (by decide), if_neg (by decide), if_neg (by decide), if_neg (by decide), if_pos rfl]
    unfold fX1_comesPlayer
    rw [cr, ob_n, g0, ob_n, lt_, ci, ob_n, if_pos rfl, h.r2, ob_n, co_r3 c, ob_n, ob_n, g1, ob_n, lt_, t.r0, ob_n, lt_]
    exact k
end STP
