/-! an element is asked; a stroke is tossed -/
set_option maxRecDepth 100000
theorem bx_l {α δ : Type} (c : Nat) (M : Mem_) (n : Nat) (k1 : Nat → Mem_ → Nat → Option δ) (k2 : α → Mem_ → Nat → Option δ) : bx_ (some ((.inl c : Nat ⊕ α), M, n)) k1 k2 = k1 c M n := by
  have h : ∀ o : Option ((Nat ⊕ α) × Mem_ × Nat), o = some (.inl c, M, n) → bx_ o k1 k2 = k1 c M n := fun o e => by
    subst e
    rfl
  exact h _ rfl
theorem bx_r {α δ : Type} (c : α) (M : Mem_) (n : Nat) (k1 : Nat → Mem_ → Nat → Option δ) (k2 : α → Mem_ → Nat → Option δ) : bx_ (some ((.inr c : Nat ⊕ α), M, n)) k1 k2 = k2 c M n := by
  have h : ∀ o : Option ((Nat ⊕ α) × Mem_ × Nat), o = some (.inr c, M, n) → bx_ o k1 k2 = k2 c M n := fun o e => by
    subst e
    rfl
  exact h _ rfl
theorem sLof {M : Mem_} {a : Nat} {g : Nat → Int64} (h : M a = some (eL_ 1 g)) (v : Int64) : sL_ M a 0 v = some (ms_ M a (eL_ 1 (vp_updL g 0 v))) := by
  unfold sL_
  rw [h]
  exact if_neg (show ¬ ((0 : Int32) < 0 ∨ 1 ≤ (0 : Int32).toNatClampNeg) by decide)
section Q25
variable {M M' : Mem_} {n x : Nat} {ρ ρi : Rw_} {hi : Int32} {K : Nat → Rw_} {Z : Zr_} {ρm : Rw_} {Zm : Zr_} {γm cs : Rw_} {μ γ sc : Rw_}
/-- what the law sees of an element: k tells whether it was thrown -/
def El (M : Mem_) (n x : Nat) (ρ ρi : Rw_) (hi : Int32) (K : Nat → Rw_) (Z : Zr_) (ρm : Rw_) (Zm : Zr_) (γm cs : Rw_) (o : Option (Int32 × Mem_ × Nat)) (k : Int32) (v : Int64) : Prop := ∃ M1 n1 g, o = some (k, M1, n1) ∧ n ≤ n1 ∧ IC M1 n1 x ρ ρi hi K Z ρm Zm γm cs ∧ (∀ q, x + 47 ≤ q → q < x + 60 → M1 q = M q) ∧ M1 (x + 60) = some (eL_ 1 g) ∧ (k = 0 → g 0 = v)
def Et (M : Mem_) (x : Nat) (ρ ρi : Rw_) (hi : Int32) (K : Nat → Rw_) (μ γ : Rw_) (o : Option (Int64 × Mem_)) (k : Int32) (v : Int64) : Prop := ∃ M1 sc, o = some (v, M1) ∧ IT M1 x ρ ρi hi K μ γ sc ∧ Ft M M1 x ∧ sc 19 = k
theorem o_element (h : IC M n x ρ ρi hi K Z ρm Zm γm cs) (t : IT M' x ρ ρi hi K μ γ sc) {g : Nat → Int64} (L : M (x + 60) = some (eL_ 1 g)) (d i : Int32) : ∃ (k : Int32) (v : Int64), El M n x ρ ρi hi K Z ρm Zm γm cs (fX0_element M n x d i (x + 60)) k v ∧ Et M' x ρ ρi hi K μ γ (fX4_element M' (x + 47) d i) k v := by
  have cb : ∀ (j : Nat) (k : Int32), ¬ k = 0 → El M n x ρ ρi hi K Z ρm Zm γm cs (some (k, M, n + j)) k 0 := fun j k hk => ⟨M, n + j, g, rfl, by omega, h.grow (by omega), fun _ _ _ => rfl, L, fun w => absurd w hk⟩
  obtain ⟨T1, a1, b1, c1⟩ := t.scal (k := 19) (v := 1) (by decide)
  obtain ⟨T2, a2, b2, c2⟩ := t.scal (k := 19) (v := 2) (by decide)
  obtain ⟨T0, a0, b0, c0⟩ := t.scal (k := 19) (v := 0) (by decide)
  have i1 : gI_ T1 (x + 47) 3 19 = some 1 := b1.i19
  have i2 : gI_ T2 (x + 47) 3 19 = some 2 := b2.i19
  have i0 : gI_ T0 (x + 47) 3 19 = some 0 := b0.i19
  have tb1 : Et M' x ρ ρi hi K μ γ (some (0, T1)) 1 0 := ⟨T1, _, rfl, b1, c1, rfl⟩
  have tb2 : Et M' x ρ ρi hi K μ γ (some (0, T2)) 2 0 := ⟨T2, _, rfl, b2, c2, rfl⟩
  unfold fX0_element fX1_element fX4_element
  rw [h.ck, ob_n, ob_n, lt_, lt_, show fX1_isShelf x d = fX4_isIn d 0 7 from rfl, show fX4_isShelf d = fX4_isIn d 0 7 from rfl]
  cases e : fX4_isIn d 0 7 with
  | false =>
    rw [if_pos b2_f, if_pos b2_f, bx_l, if_pos rfl, a1, ob_n, i1, ob_n, if_neg ne10]
    exact ⟨1, 0, cb 1 1 (by decide), tb1⟩
  | true =>
    obtain ⟨dn, hd, rfl⟩ := in_rg (m := 7) (by decide) e
    have hd8 : dn < 8 := hd
    obtain ⟨hv, a, b, c⟩ := h.shelf (d := Int32.ofNat dn) ⟨dn, hd, rfl⟩
    have k := t.kf (d := Int32.ofNat dn) ⟨dn, hd, rfl⟩
    rw [nC (by omega)] at a b c k
    rw [if_neg b2_t, if_neg b2_t, h.r8, ob_n, a, ob_n, gNof b, ob_n, t.r13, ob_n, k.1, ob_n]
    rcases c with ⟨z1, z2⟩ | ⟨z1, q, kn, fg, z2, _, _, z3, _⟩ | ⟨z1, q, sz, f, z2, z3, z4, z5, z6, z7, z8, z9, z10⟩
    · rw [z1, z2, if_neg (show ¬ (0 : Int32) = 2 by decide), a2, ob_n, i2, ob_n, if_neg ne20]
      show ∃ k v, El M n x ρ ρi hi K Z ρm Zm γm cs (bx_ (some (.inl 2, M, n + 2)) _ _) k v ∧ _
      rw [bx_l, if_neg (show ¬ (2 : Nat) = 1 by decide)]
      exact ⟨2, 0, cb 2 2 (by decide), tb2⟩
    · rw [z1, z2, if_neg (show ¬ (1 : Int32) = 2 by decide), a2, ob_n, i2, ob_n, if_neg ne20]
      simp only [no_, tg_str z3, ob_n]
      rw [if_pos (show b2_ (decide ((3 : Nat) = 1)) = 0 by decide), if_pos (show b2_ (decide ((3 : Nat) = 2)) = 0 by decide), if_neg (show ¬ (3 : Nat) = 0 by decide), bx_l, if_neg (show ¬ (2 : Nat) = 1 by decide)]
      exact ⟨2, 0, cb 4 2 (by decide), tb2⟩
    · rw [z1, z2, if_pos rfl, t.r17, ob_n, k.2.2.2.2, ob_n, lt_, z7]
      simp only [no_, row_tg z5, ob_n]
      have key : ∃ (k : Int32) (v : Int64), El M n x ρ ρi hi K Z ρm Zm γm cs (bx_ ((oI_ M q (tagOf (K 3 dn)) i).bind fun b14 => if b14 = true then some ((.inl 2 : Nat ⊕ Int64), M, n + 4) else (aI_ M q (tagOf (K 3 dn)) i).bind fun v16 => some (.inr (v16.toInt64), M, n)) (fun xe3 M4 n5 => if xe3 = 1 then some (1, M4, n5) else some (2, M4, n5)) (fun r6 M7 n8 => (sL_ M7 (x + 60) 0 r6).bind fun M11 => some (0, M11, n8))) k v ∧ Et M' x ρ ρi hi K μ γ (if b2_ (fX4_isIn i 0 (Int32.ofNat sz - 1)) = 0 then (pF_ M' (x + 47) 3 19 (.int 2)).bind fun M17 => (gI_ M17 (x + 47) 3 19).bind fun v18 => if v18 = 0 then (gR_ M17 (x + 47) 3 18).bind fun v19 => (aI_ M17 v19 0 (100 * Int32.ofNat dn + i)).bind fun v20 => some (v20.toInt64, M17) else some (0, M17) else (pF_ M' (x + 47) 3 19 (.int 0)).bind fun M12 => (gI_ M12 (x + 47) 3 19).bind fun v13 => if v13 = 0 then (gR_ M12 (x + 47) 3 18).bind fun v14 => (aI_ M12 v14 0 (100 * Int32.ofNat dn + i)).bind fun v15 => some (v15.toInt64, M12) else some (0, M12)) k v := by
        rw [oIof z5 (by omega), ob_n]
        by_cases g' : i < 0 ∨ sz ≤ i.toNatClampNeg
        · have g2 : fX4_isIn i 0 (Int32.ofNat sz - 1) = false := by
            cases w : fX4_isIn i 0 (Int32.ofNat sz - 1) with
            | false => rfl
            | true => exact absurd g' ((in_sz z6).mp w)
          rw [g2, if_pos b2_f, if_pos (decide_eq_true g'), bx_l, if_neg (show ¬ (2 : Nat) = 1 by decide), a2, ob_n, i2, ob_n, if_neg ne20]
          exact ⟨2, 0, cb 4 2 (by decide), tb2⟩
        · rw [(in_sz z6).mpr g', if_neg b2_t, if_neg (by rw [decide_eq_true_iff]; exact g'), aIof z5 g', ob_n, bx_r, sLof L, ob_n, a0, ob_n, i0, ob_n, if_pos rfl, b0.r18, ob_n]
          have hi0 : 0 ≤ i := Int32.not_lt.mp fun w => g' (.inl w)
          have hin : i.toNatClampNeg < sz := Nat.lt_of_not_le fun w => g' (.inr w)
          have ei : i = Int32.ofNat i.toNatClampNeg := (Int32.ofNat_toNatClampNeg i hi0).symm
          rw [z9 _ hin]
          generalize i.toNatClampNeg = j at hin ei
          subst ei
          rw [b0.elem hd8 (show j < 100 by omega), ob_n]
          have hx := h.nx
          refine ⟨0, _, ⟨_, n, _, rfl, Nat.le_refl _, h.ext (Nat.le_refl _) fun q _ hq => ms_ne (by omega), fun q _ _ => ms_ne (by omega), ms_at _ _ _, fun _ => ?_⟩, ⟨T0, _, rfl, b0, c0, rfl⟩⟩
          simp [vp_updL]
      rcases rg3c z8 with z | z | z
      · rw [z] at key ⊢
        rw [if_neg (show ¬ b2_ (decide (tagOf 0 = 1)) = 0 by decide), if_pos (show tagOf 0 = 1 by decide)]
        exact key
      · rw [z] at key ⊢
        rw [if_pos (show b2_ (decide (tagOf 1 = 1)) = 0 by decide), if_neg (show ¬ b2_ (decide (tagOf 1 = 2)) = 0 by decide), if_pos (show tagOf 1 = 2 by decide)]
        exact key
      · rw [z] at key ⊢
        rw [if_pos (show b2_ (decide (tagOf 2 = 1)) = 0 by decide), if_pos (show b2_ (decide (tagOf 2 = 2)) = 0 by decide), if_pos (show tagOf 2 = 0 by decide)]
        exact key
/-! toss -/
theorem xIof {M : Mem_} {a ci : Nat} (h : M a = some (eN_ ci)) (v : Int32) : xI_ M a ci v = some (ms_ M a (eX_ ci v)) := by
  unfold xI_
  rw [h]
  exact if_pos rfl
theorem gXof {M : Mem_} {a ci : Nat} {v : Int32} (h : M a = some (eX_ ci v)) : gX_ M a ci = some v := by
  unfold gX_
  rw [h]
  exact if_pos rfl
/-- what a stroke tosses -/
def tsR (kn : Nat) (fg : Int32) : Option Int32 := if fg = 0 then none else match kn with
  | 0 => some fg
  | 1 => some fg
  | 2 => some (fg + 100)
  | 3 => none
  | 4 => some (200 + fX4_costBy 4 fg)
  | 5 => none
  | 6 => some fg
  | _ => none
theorem f8_fail {M : Mem_} {n q kn : Nat} {fg : Int32} (hs : sk_ M q = some (kn, fg)) (hq : q < n) : fX8_failure M n q = if fg = 0 then some (none, M, n) else some (some n, ms_ M n (eX_ 15 fg), n + 1) := by
  unfold fX8_failure
  rw [gF_of hs, ob_n]
  by_cases g : fg = 0
  · rw [if_pos g, if_pos g]
  · rw [if_neg g, if_neg g, lt_, gF_of ((sk_cg (ms_ne (by omega))).trans hs), ob_n, fX16_init, xIof (ms_at _ _ _), ob_n, ms_ms]
theorem f10_fail {M : Mem_} {n q kn : Nat} {fg : Int32} (hs : sk_ M q = some (kn, fg)) (hq : q < n) : fX10_failure M n q = if fg = 0 then some (none, M, n) else some (some (n + 1), ms_ (ms_ M n (eX_ 15 fg)) (n + 1) (eX_ 15 (fg + 100)), n + 2) := by
  unfold fX10_failure
  rw [kd_of hs, ob_n, f8_fail hs hq]
  by_cases g : fg = 0
  · rw [if_pos g, if_pos g, ba_n]
    rfl
  · rw [if_neg g, if_neg g, ba_n]
    show (lt_ (ms_ (ms_ M n (eX_ 15 fg)) (n + 1) (eN_ 15)) fun M6 => (gX_ M6 n 15).bind fun v7 => (fX16_init M6 (n + 1) (v7 + 100)).bind fun M9 => some (some (n + 1), M9, n + 1 + 1)) = _
    rw [lt_, gXof ((ms_ne (by omega)).trans (ms_at _ _ _)), ob_n, fX16_init, xIof (ms_at _ _ _), ob_n, ms_ms]
theorem f12_fail {M : Mem_} {n q : Nat} {fg : Int32} (hs : sk_ M q = some (4, fg)) (hq : q < n) : fX12_failure M n q = if fg = 0 then some (none, M, n) else some (some (n + 2), ms_ (ms_ (ms_ M n (eX_ 15 fg)) (n + 1) (eX_ 15 (fg + 100))) (n + 2) (eX_ 15 (200 + fX4_costBy 4 fg)), n + 3) := by
  unfold fX12_failure
  rw [kd_of hs, ob_n, f10_fail hs hq]
  by_cases g : fg = 0
  · rw [if_pos g, if_pos g, ba_n]
    rfl
  · rw [if_neg g, if_neg g, ba_n]
    show (lt_ (ms_ (ms_ (ms_ M n (eX_ 15 fg)) (n + 1) (eX_ 15 (fg + 100))) (n + 2) (eN_ 15)) fun M6 => (ck_ M6 q 11).bind fun _ => (fX12_cost M6 q).bind fun r8 => (fX16_init M6 (n + 2) (200 + r8)).bind fun M10 => some (some (n + 2), M10, n + 2 + 1)) = _
    have o : ms_ (ms_ (ms_ M n (eX_ 15 fg)) (n + 1) (eX_ 15 (fg + 100))) (n + 2) (eN_ 15) q = M q := (ms_ne (by omega)).trans ((ms_ne (by omega)).trans (ms_ne (by omega)))
    have hs' := (sk_cg o).trans hs
    have C : fX12_cost (ms_ (ms_ (ms_ M n (eX_ 15 fg)) (n + 1) (eX_ 15 (fg + 100))) (n + 2) (eN_ 15)) q = some (fX4_costBy 4 fg) := by
      have c := S_cost hs'
      unfold s_cost at c
      rw [kd_of hs', ob_n] at c
      exact c
    have K : ck_ (ms_ (ms_ (ms_ M n (eX_ 15 fg)) (n + 1) (eX_ 15 (fg + 100))) (n + 2) (eN_ 15)) q 11 = some () := ckof (sk_spec hs').2
    rw [lt_, K, ob_n, C, ob_n, fX16_init, xIof (ms_at _ _ _), ob_n, ms_ms]
theorem S_fail {M : Mem_} {n q kn : Nat} {fg : Int32} (hs : sk_ M q = some (kn, fg)) (hq : q < n) : ∃ M1 n1, n ≤ n1 ∧ (∀ p, p < n → M1 p = M p) ∧ ((tsR kn fg = none ∧ s_failure M n q = some (none, M1, n1)) ∨ ∃ a v, tsR kn fg = some v ∧ s_failure M n q = some (some a, M1, n1) ∧ gX_ M1 a 15 = some v) := by
  have hk : kn < 8 := (sk_spec hs).1
  unfold s_failure tsR
  rw [kd_of hs, ob_n]
  by_cases g : fg = 0
  · refine ⟨M, n, Nat.le_refl _, fun _ _ => rfl, .inl ⟨if_pos g, ?_⟩⟩
    match kn, hk, hs with
    | 0, _, hs => exact (f8_fail hs hq).trans (if_pos g)
    | 1, _, hs => exact (f8_fail hs hq).trans (if_pos g)
    | 2, _, hs => exact (f10_fail hs hq).trans (if_pos g)
    | 3, _, hs => rfl
    | 4, _, hs => exact (f12_fail hs hq).trans (if_pos g)
    | 5, _, hs => rfl
    | 6, _, hs => exact (f8_fail hs hq).trans (if_pos g)
    | 7, _, hs => rfl
  · rw [if_neg g]
    match kn, hk, hs with
    | 0, _, hs => exact ⟨_, _, Nat.le_succ n, fun p hp => ms_ne (by omega), .inr ⟨n, fg, rfl, (f8_fail hs hq).trans (if_neg g), gXof (ms_at _ _ _)⟩⟩
    | 1, _, hs => exact ⟨_, _, Nat.le_succ n, fun p hp => ms_ne (by omega), .inr ⟨n, fg, rfl, (f8_fail hs hq).trans (if_neg g), gXof (ms_at _ _ _)⟩⟩
    | 2, _, hs => exact ⟨_, _, by omega, fun p hp => (ms_ne (by omega)).trans (ms_ne (by omega)), .inr ⟨n + 1, fg + 100, rfl, (f10_fail hs hq).trans (if_neg g), gXof (ms_at _ _ _)⟩⟩
    | 3, _, hs => exact ⟨M, n, Nat.le_refl _, fun _ _ => rfl, .inl ⟨rfl, rfl⟩⟩
    | 4, _, hs => exact ⟨_, _, by omega, fun p hp => (ms_ne (by omega)).trans ((ms_ne (by omega)).trans (ms_ne (by omega))), .inr ⟨n + 2, 200 + fX4_costBy 4 fg, rfl, (f12_fail hs hq).trans (if_neg g), gXof (ms_at _ _ _)⟩⟩
    | 5, _, hs => exact ⟨M, n, Nat.le_refl _, fun _ _ => rfl, .inl ⟨rfl, rfl⟩⟩
    | 6, _, hs => exact ⟨_, _, Nat.le_succ n, fun p hp => ms_ne (by omega), .inr ⟨n, fg, rfl, (f8_fail hs hq).trans (if_neg g), gXof (ms_at _ _ _)⟩⟩
    | 7, _, hs => exact ⟨M, n, Nat.le_refl _, fun _ _ => rfl, .inl ⟨rfl, rfl⟩⟩
/-- what the twin tells of it -/
def ttR (k f : Int32) : Int32 := if k = 3 then -15 else if k = 5 then -15 else if k = 7 then -15 else if f = 0 then -15 else if k = 4 then 200 + fX4_costBy k f else if k = 2 then 100 + f else f
theorem tt_eq {kn : Nat} (hk : kn < 8) (fg : Int32) : ttR (Int32.ofNat kn) fg = (match tsR kn fg with | none => -15 | some v => v) := by
  unfold ttR tsR
  by_cases g : fg = 0
  · rw [if_pos g, if_pos g]
    show _ = (-15 : Int32)
    repeat' split
    all_goals rfl
  · rw [if_neg g, if_neg g]
    match kn, hk with
    | 0, _ => rfl
    | 1, _ => rfl
    | 2, _ =>
      show 100 + fg = fg + 100
      exact Int32.add_comm _ _
    | 3, _ => rfl
    | 4, _ => rfl
    | 5, _ => rfl
    | 6, _ => rfl
    | 7, _ => rfl
theorem tt_some (k f : Int32) : (if k = 3 then some (-15) else if k = 5 then some (-15) else if k = 7 then some (-15) else if f = 0 then some (-15) else if k = 4 then lt_ (fX4_costBy k f) fun r8 => some (200 + r8) else if k = 2 then some (100 + f) else some f) = some (ttR k f) := by
  unfold ttR lt_
  by_cases h : k = 3
  · rw [if_pos h, if_pos h]
  · rw [if_neg h, if_neg h]
    by_cases h : k = 5
    · rw [if_pos h, if_pos h]
    · rw [if_neg h, if_neg h]
      by_cases h : k = 7
      · rw [if_pos h, if_pos h]
      · rw [if_neg h, if_neg h]
        by_cases h : f = 0
        · rw [if_pos h, if_pos h]
        · rw [if_neg h, if_neg h]
          by_cases h : k = 4
          · rw [if_pos h, if_pos h]
          · rw [if_neg h, if_neg h]
            by_cases h : k = 2
            · rw [if_pos h, if_pos h]
            · rw [if_neg h, if_neg h]
theorem no_n {α β : Type} (A : β) (B : α → β) : no_ none A B = A := rfl
theorem no_s {α β : Type} (a : α) (A : β) (B : α → β) : no_ (some a) A B = B a := rfl
theorem o_toss (h : IC M n x ρ ρi hi K Z ρm Zm γm cs) (t : IT M' x ρ ρi hi K μ γ sc) (d : Int32) : ∃ r : Int32, CA M n x (fX1_toss M n x d) r ρ ρi hi K ∧ fX4_toss M' (x + 47) d = some r := by
  have bad : ∀ (j : Nat) (v : Int32), CA M n x (some (v, M, n + j)) v ρ ρi hi K := fun j v => ⟨M, n + j, _, _, _, _, _, rfl, by omega, h.grow (by omega), Fw.refl _ _⟩
  have hx := h.nx
  unfold fX1_toss fX4_toss
  rw [h.ck, ob_n, t.ck, ob_n, t.wrongKept, ob_n, lt_, show fX1_isShelf x d = fX4_isIn d 0 7 from rfl]
  unfold wkR
  cases e : fX4_isIn d 0 7 with
  | false => exact ⟨_, bad 0 _, rfl⟩
  | true =>
    have hd := in_rg (m := 7) (by decide) e
    obtain ⟨hv, a, b, c⟩ := h.shelf hd
    have k := t.kf hd
    rw [if_neg b2_t, if_pos rfl, h.r8, ob_n, a, ob_n, gNof b, ob_n, ob_n]
    rcases c with ⟨c1, c2⟩ | ⟨c1, q, kn, fg, c2, cx, cn, c3, c4, c5, c6, c7⟩ | ⟨c1, q, sz, f, c2, _, _, c3, _, _, c4, _⟩
    · rw [c2, if_pos c1]
      exact ⟨_, bad 0 _, rfl⟩
    · have z0 : ¬ K 0 d.toNatClampNeg = 0 := by rw [c1]; decide
      have z2 : ¬ K 0 d.toNatClampNeg = 2 := by rw [c1]; decide
      rw [c2, if_neg z0, if_neg z2, if_pos rfl, t.r14, ob_n, k.2.1, ob_n, t.r15, ob_n, k.2.2.1, ob_n]
      simp only [no_, tg_str c3, a, gNof b, c2, ob_n, if_true]
      obtain ⟨M1, n1, hn, f1, S⟩ := S_fail c3 cn
      have I := h.ext hn (fun p hp _ => f1 p hp)
      have F : Fw M M1 x := fun p _ _ => f1 p (by omega)
      have T : ttR (K 1 d.toNatClampNeg) (K 2 d.toNatClampNeg) = (match tsR kn fg with | none => -15 | some v => v) := by
        rw [← c4, ← c5]
        exact tt_eq (sk_spec c3).1 fg
      rw [tt_some, T]
      rcases S with ⟨s1, s2⟩ | ⟨p, v, s1, s2, s3⟩
      · rw [s2, ba_n, s1]
        exact ⟨-15, ⟨M1, n1 + 1, _, _, _, _, _, rfl, by omega, I.grow (by omega), F⟩, rfl⟩
      · rw [s2, ba_n, s1]
        show ∃ r : Int32, CA M n x ((gX_ M1 p 15).bind fun v16 => (gX_ M1 p 15).bind fun v17 => some (v17, M1, n1)) r ρ ρi hi K ∧ some v = some r
        rw [s3, ob_n, ob_n]
        exact ⟨v, ⟨M1, n1, _, _, _, _, _, rfl, hn, I, F⟩, rfl⟩
    · have z0 : ¬ K 0 d.toNatClampNeg = 0 := by rw [c1]; decide
      have h3 : ¬ tagOf (K 3 d.toNatClampNeg) = 3 := by
        have := tagLt (s := K 3 d.toNatClampNeg)
        omega
      rw [c2, if_neg z0, if_pos c1]
      simp only [no_, row_tg c3, a, gNof b, c2, ob_n, if_neg h3, if_neg (show ¬ (-12 : Int32) = 0 by decide)]
      exact ⟨_, bad 3 _, rfl⟩
end Q25
