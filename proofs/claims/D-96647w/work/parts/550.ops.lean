/-! two: what the forms cost the sides -/
set_option maxRecDepth 100000
def tdR (μ : Rw_) (s : Nat) : Int32 := μ (22 + 8 * s) + μ (26 + 8 * s)
theorem co_td {M : Mem_} {c : Nat} {ρ : Rw_} {Z : Zr_} {γ : Rw_} (h : Co_ M c ρ Z γ) {s : Nat} (hs : s < 2) : fX2_tiredOf M c (Int32.ofNat s) = some (tdR ρ s) := by
  have : s = 0 ∨ s = 1 := by omega
  rcases this with z | z <;> subst z
  · show fX2_tiredOf M c 0 = some (ρ 22 + ρ 26)
    simp only [fX2_tiredOf, co_r3 h, Int32.reduceMul, Int32.reduceAdd, co_a4_0 h, co_a4_1 h, Option.bind_some]
  · show fX2_tiredOf M c 1 = some (ρ 30 + ρ 34)
    simp only [fX2_tiredOf, co_r3 h, Int32.reduceMul, Int32.reduceAdd, co_a4_2 h, co_a4_3 h, Option.bind_some]
theorem ro_td {M : Mem_} {r : Nat} {ρ : Rw_} (h : M r = some (eI_ 0 42 ρ)) {s : Nat} (hs : s < 2) : aI_ M r 0 (fX4_ofP (2 * Int32.ofNat s) 2) = some (ρ (22 + 8 * s)) ∧ aI_ M r 0 (fX4_ofP (2 * Int32.ofNat s + 1) 2) = some (ρ (26 + 8 * s)) := by
  have : s = 0 ∨ s = 1 := by omega
  rcases this with z | z <;> subst z
  · exact ⟨ro_a22 h, ro_a26 h⟩
  · exact ⟨ro_a30 h, ro_a34 h⟩
theorem co_pS {M : Mem_} {c : Nat} {ρ : Rw_} {Z : Zr_} {γ : Rw_} (h : Co_ M c ρ Z γ) {s : Nat} (hs : s < 2) : aI_ M (c + 7) 0 (Int32.ofNat s) = some (ρ (38 + 3 * s)) := by
  have : s = 0 ∨ s = 1 := by omega
  rcases this with z | z <;> subst z
  · exact co_a7_0 h
  · exact co_a7_1 h
def coR (s : Nat) : Nat → Nat → Rw_ → Int32
  | 0, _, μ => tdR μ s - 0
  | d + 1, k, μ => if hB μ 0 (juC k) = true then tdR (hR μ 0 (juC k)) s - (if (μ 2).toNatClampNeg / 2 = s then 9 else 0) else coR s d (k + 1) (hR μ 0 (juC k))
theorem rg_ni {v : Int32} (h : rg_ 100 v) : ¬ v + 1 ≤ v := by
  obtain ⟨i, hi, rfl⟩ := h
  rw [nS1, nL (by omega) (by omega)]
  omega
theorem n6 {k : Nat} (hk : k < 6) : ¬ (6 : Int32) ≤ Int32.ofNat k := fun g => by
  have := (nL (i := 6) (by omega) (by omega)).mp g
  omega
theorem cs_C {n x : Nat} {ρ ρi : Rw_} {hi : Int32} {K : Nat → Rw_} {Z : Zr_} (V : OK_ ρ) (hN : 0 < (ρ 0).toNatClampNeg) {s : Nat} (hs : s < 2) (y1 y2 : Int32) {old : Int32} (ho : rg_ 100 old) : ∀ (d k fuel : Nat) (M : Mem_) (ρm γm cs : Rw_), k + d = 6 → d + 1 < fuel → IC M n x ρ ρi hi K Z ρm Z γm cs → MV ρm ρ → ρm (38 + 3 * s) = old → Cq M n x ρ ρi hi K Z (fX1_costs_L41 fuel M x y1 y2 (Int32.ofNat s) old 0 (Int32.ofNat k)) (coR s d k ρm) := by
  have fin : ∀ (k fuel : Nat) (o : Int32) (M : Mem_) (μ γm cs : Rw_), IC M n x ρ ρi hi K Z μ Z γm cs → (k = 6 ∨ (¬ o = 0)) → fX1_costs_L41 (fuel + 1) M x y1 y2 (Int32.ofNat s) old o (Int32.ofNat k) = some (if μ (38 + 3 * s) ≤ old then tdR μ s - 0 else tdR μ s - 9, M) := by
    intro k fuel o M μ γm cs h ho
    have c := h.2.2.2.1
    rw [fX1_costs_L41]
    by_cases g : (6 : Int32) ≤ Int32.ofNat k
    · rw [if_pos g]
      simp only [h.r2, co_ck c, co_td c hs, co_r6 c, co_pS c hs, Option.bind_some]
      split <;> rfl
    · have go : ¬ o = 0 := by
        rcases ho with e | e
        · subst e
          exact absurd (show (6 : Int32) ≤ Int32.ofNat 6 by decide) g
        · exact e
      rw [if_neg g, if_neg go]
      simp only [h.r2, co_ck c, co_td c hs, co_r6 c, co_pS c hs, Option.bind_some]
      split <;> rfl
  intro d
  induction d with
  | zero =>
    intro k fuel M ρm γm cs hk hf h W hp
    obtain ⟨f, rfl⟩ : ∃ f, fuel = f + 1 := ⟨fuel - 1, by omega⟩
    rw [fin k f 0 M ρm γm cs h (.inl (by omega)), hp, if_pos (Int32.le_refl _)]
    exact ⟨M, _, _, _, _, rfl, h, Fc.refl _ _⟩
  | succ d ih =>
    intro k fuel M ρm γm cs hk hf h W hp
    obtain ⟨f, rfl⟩ : ∃ f, fuel = f + 1 + 1 := ⟨fuel - 2, by omega⟩
    obtain ⟨M1, e1, h1, f1⟩ := h.mhit rfl W (k := 0) hN rg8_0 (juC_rg k)
    have W1 := W.hit (k := 0) hN (juC_rg k)
    have P := hR_p W.1 0 (juC k) (j := 38 + 3 * s) (by omega)
    have go : Cq M n x ρ ρi hi K Z (fX1_costs_L41 (f + 1) M1 x y1 y2 (Int32.ofNat s) old (b2_ (hB ρm 0 (juC k))) (Int32.ofNat (k + 1))) (coR s (d + 1) k ρm) := by
      unfold coR
      cases e : hB ρm 0 (juC k) with
      | false => exact (ih (k + 1) (f + 1) M1 _ _ _ (by omega) (by omega) h1 W1 ((P.2 e).trans hp)).on f1
      | true =>
        rw [fin (k + 1) f _ M1 _ _ _ h1 (.inr b2_t), P.1 e, hp]
        rw [if_pos rfl]
        by_cases g : (ρm 2).toNatClampNeg / 2 = s
        · rw [if_pos g, if_pos (show 38 + 3 * s = 38 + 3 * ((ρm 2).toNatClampNeg / 2) by omega), if_neg (rg_ni ho)]
          exact ⟨M1, _, _, _, _, rfl, h1, f1⟩
        · rw [if_neg g, if_neg (show ¬ 38 + 3 * s = 38 + 3 * ((ρm 2).toNatClampNeg / 2) by omega), if_pos (Int32.le_refl _)]
          exact ⟨M1, _, _, _, _, rfl, h1, f1⟩
    rw [fX1_costs_L41, if_neg (n6 (by omega)), if_pos rfl, h.r2, Option.bind_some]
    have J := (nD2 (i := k) (by omega)).2.1
    by_cases g : k % 2 = 0
    · have ej : juC k = 0 := if_pos g
      rw [ej] at e1 go
      rw [if_pos (J.mpr g), h.ck19, Option.bind_some, e1]
      simp only [bw_, Option.bind_some, lt_, nS1]
      exact go
    · have ej : juC k = 8 := if_neg g
      rw [ej] at e1 go
      rw [if_neg (fun w => g (J.mp w)), h.ck19, Option.bind_some, e1]
      simp only [bw_, Option.bind_some, lt_, nS1]
      exact go
theorem sd_iff {v : Int32} (h : rg_ 4 v) {s : Nat} (hs : s < 2) : (v / 2 = Int32.ofNat s ↔ v.toNatClampNeg / 2 = s) ∧ ¬ v / 2 = 2 := by
  have : s = 0 ∨ s = 1 := by omega
  rcases rg4c h with z | z | z | z <;> subst z <;> rcases this with z | z <;> subst z <;> decide
theorem cs_T {x : Nat} {ρ ρi : Rw_} {hi : Int32} {K : Nat → Rw_} (V : OK_ ρ) (hN : 0 < (ρ 0).toNatClampNeg) {s : Nat} (hs : s < 2) (y2 y3 : Int32) : ∀ (d k fuel : Nat) (M : Mem_) (μ γ sc : Rw_), k + d = 6 → d + 1 < fuel → IT M x ρ ρi hi K μ γ sc → MV μ ρ → Tq M x ρ ρi hi K (fX4_costBy2_L39 fuel M (x + 47) (Int32.ofNat s) y2 y3 2 (Int32.ofNat k)) (coR s d k μ) := by
  have fin : ∀ (k fuel : Nat) (o : Int32) (M : Mem_) (μ γ sc : Rw_), IT M x ρ ρi hi K μ γ sc → (k = 6 ∨ (¬ o = 2)) → fX4_costBy2_L39 (fuel + 1) M (x + 47) (Int32.ofNat s) y2 y3 o (Int32.ofNat k) = some (if o = Int32.ofNat s then tdR μ s - 9 else tdR μ s - 0, M) := by
    intro k fuel o M μ γm cs h ho
    have c := ro_td h.2.2.1 hs
    rw [fX4_costBy2_L39]
    by_cases g : (6 : Int32) ≤ Int32.ofNat k
    · rw [if_pos g]
      simp only [h.r1, c.1, c.2, lt_, Option.bind_some]
      split <;> rfl
    · have go : ¬ o = 2 := by
        rcases ho with e | e
        · subst e
          exact absurd (show (6 : Int32) ≤ Int32.ofNat 6 by decide) g
        · exact e
      rw [if_neg g, if_neg go]
      simp only [h.r1, c.1, c.2, lt_, Option.bind_some]
      split <;> rfl
  have n2s : ¬ (2 : Int32) = Int32.ofNat s := by
    have : s = 0 ∨ s = 1 := by omega
    rcases this with z | z <;> subst z <;> decide
  intro d
  induction d with
  | zero =>
    intro k fuel M μ γ sc hk hf h W
    obtain ⟨f, rfl⟩ : ∃ f, fuel = f + 1 := ⟨fuel - 1, by omega⟩
    rw [fin k f 2 M μ γ sc h (.inl (by omega)), if_neg n2s]
    exact ⟨M, _, _, _, rfl, h, Ft.refl _ _⟩
  | succ d ih =>
    intro k fuel M μ γ sc hk hf h W
    obtain ⟨f, rfl⟩ : ∃ f, fuel = f + 1 + 1 := ⟨fuel - 2, by omega⟩
    obtain ⟨M1, e1, h1, f1⟩ := h.mhit W (k := 0) hN rg8_0 (juC_rg k)
    have W1 := W.hit (k := 0) hN (juC_rg k)
    have S := sd_iff W.1.2.2.1 hs
    have go : Tq M x ρ ρi hi K (if b2_ (hB μ 0 (juC k)) = 0 then fX4_costBy2_L39 (f + 1) M1 (x + 47) (Int32.ofNat s) y2 y3 2 (Int32.ofNat (k + 1)) else fX4_costBy2_L39 (f + 1) M1 (x + 47) (Int32.ofNat s) y2 y3 (μ 2 / 2) (Int32.ofNat (k + 1))) (coR s (d + 1) k μ) := by
      unfold coR
      cases e : hB μ 0 (juC k) with
      | false =>
        rw [if_pos b2_f, if_neg (by decide)]
        exact (ih (k + 1) (f + 1) M1 _ _ _ (by omega) (by omega) h1 W1).on f1
      | true =>
        rw [if_neg b2_t, fin (k + 1) f _ M1 _ _ _ h1 (.inr S.2)]
        rw [if_pos rfl]
        by_cases g : (μ 2).toNatClampNeg / 2 = s
        · rw [if_pos g, if_pos (S.1.mpr g)]
          exact ⟨M1, _, _, _, rfl, h1, f1⟩
        · rw [if_neg g, if_neg (fun w => g (S.1.mp w))]
          exact ⟨M1, _, _, _, rfl, h1, f1⟩
    rw [fX4_costBy2_L39, if_neg (n6 (by omega)), if_pos rfl, h.r1, Option.bind_some, ro_a2 h.2.2.1, Option.bind_some, lt_, fX4_sideOf, Option.bind_some]
    have J := (nD2 (i := k) (by omega)).2.1
    by_cases g : k % 2 = 0
    · have ej : juC k = 0 := if_pos g
      rw [ej] at e1 go
      rw [if_pos (J.mpr g), h.ck, Option.bind_some, e1]
      simp only [bw_, Option.bind_some, lt_, nS1]
      exact go
    · have ej : juC k = 8 := if_neg g
      rw [ej] at e1 go
      rw [if_neg (fun w => g (J.mp w)), h.ck, Option.bind_some, e1]
      simp only [bw_, Option.bind_some, lt_, nS1]
      exact go
/-- what a side pays, if the forms are so -/
def coS (ρ : Rw_) (s : Nat) (a b : Int32) : Int32 := coR s 6 0 (upd (upd ρ 36 a) 39 b)
theorem IC.costs {M : Mem_} {n x : Nat} {ρ ρi : Rw_} {hi : Int32} {K : Nat → Rw_} {Z : Zr_} {ρm : Rw_} {Zm : Zr_} {γm cs : Rw_} (h : IC M n x ρ ρi hi K Z ρm Zm γm cs) (V : OK_ ρ) (hN : 0 < (ρ 0).toNatClampNeg) {s : Nat} (hs : s < 2) {a b : Int32} (ha : rg_ 2 a) (hb : rg_ 2 b) : Cq M n x ρ ρi hi K Z (fX1_costs M x a b (Int32.ofNat s)) (coS ρ s a b) := by
  have hz := h.2.2.2.2.2.2.2.2.2.1
  obtain ⟨M1, e1, h1, f1⟩ := h.minds
  obtain ⟨h2, f2⟩ := h1.mind (ρ' := upd ρ 36 a) (Z' := Z) (γ' := fun _ => 0) hz
  have c2 : Co_ (cw_ M1 (x + 19) (upd ρ 36 a) Z fun _ => 0) (x + 19) (upd ρ 36 a) Z fun _ => 0 := cw_co _ _ _ _ _
  obtain ⟨h3, f3⟩ := h2.mind (ρ' := upd (upd ρ 36 a) 39 b) (Z' := Z) (γ' := fun _ => 0) hz
  have W : MV (upd (upd ρ 36 a) 39 b) ρ := (V.mv.form (s := 0) (by decide) ha).form (s := 1) (by decide) hb
  have o : rg_ 100 (upd (upd ρ 36 a) 39 b (38 + 3 * s)) := by
    rw [updA, if_neg (by omega), updA, if_neg (by omega)]
    have : s = 0 ∨ s = 1 := by omega
    rcases this with z | z <;> subst z
    · exact V.2.2.2.1
    · exact V.2.2.2.2
  have k := cs_C V hN hs a b o 6 0 1000 _ _ _ _ (by omega) (by omega) h3 W rfl
  unfold fX1_costs
  simp only [h.ck, e1, h1.r2, co_r4 h1.2.2.2.1, co_s5_0 h1.2.2.2.1, h2.r2, co_r4 c2, co_s5_1 c2, h3.r2, co_r6 h3.2.2.2.1, co_pS h3.2.2.2.1 hs, ob_n]
  exact k.on (f1.trans (f2.trans f3))
theorem IT.costs {M : Mem_} {x : Nat} {ρ ρi : Rw_} {hi : Int32} {K : Nat → Rw_} {μ γ sc : Rw_} (t : IT M x ρ ρi hi K μ γ sc) (V : OK_ ρ) (hN : 0 < (ρ 0).toNatClampNeg) {s : Nat} (hs : s < 2) {a b : Int32} (ha : rg_ 2 a) (hb : rg_ 2 b) : Tq M x ρ ρi hi K (fX4_costBy2 M (x + 47) (Int32.ofNat s) a b) (coS ρ s a b) := by
  obtain ⟨M1, e1, h1, f1⟩ := t.cop V.2.1
  have W1 : MV (upd ρ 36 a) ρ := V.mv.form (s := 0) (by decide) ha
  have W : MV (upd (upd ρ 36 a) 39 b) ρ := W1.form (s := 1) (by decide) hb
  obtain ⟨h2, f2⟩ := h1.row W1.2.1
  obtain ⟨h3, f3⟩ := h2.row W.2.1
  have k := cs_T V hN hs a b 6 0 1000 _ _ _ _ (by omega) (by omega) h3 W
  have s1 : sI_ M1 (x + 49) 0 (fX4_ofSide 0 0) a = _ := ro_s36 h1.2.2.1 a
  have s2 : sI_ _ (x + 49) 0 (fX4_ofSide 1 0) b = _ := ro_s39 h2.2.2.1 b
  unfold fX4_costBy2
  rw [t.r0, ob_n, t.r1, ob_n, e1, ob_n, h1.r1, ob_n, lt_, s1, ob_n, h2.r1, ob_n, lt_, s2, ob_n]
  exact k.on (f1.trans (f2.trans f3))
theorem xy_rg {k : Nat} (h : k < 4) : rg_ 2 (Int32.ofNat k / 2) ∧ rg_ 2 (Int32.ofNat k - Int32.ofNat k / 2 * 2) ∧ rg_ 2 (1 - Int32.ofNat k / 2) ∧ rg_ 2 (1 - (Int32.ofNat k - Int32.ofNat k / 2 * 2)) := by
  have t := rg_all1 (n := 4) (P := fun v => rgb_ 2 (v / 2) = true ∧ rgb_ 2 (v - v / 2 * 2) = true ∧ rgb_ 2 (1 - v / 2) = true ∧ rgb_ 2 (1 - (v - v / 2 * 2)) = true) (by decide +kernel) (v := Int32.ofNat k) ⟨k, h, rfl⟩
  exact ⟨rgb_rg t.1, rgb_rg t.2.1, rgb_rg t.2.2.1, rgb_rg t.2.2.2⟩
def twR (ρ : Rw_) : Nat → Nat → Int32
  | 0, _ => -4
  | d + 1, k => if coS ρ 0 (1 - Int32.ofNat k / 2) (Int32.ofNat k - Int32.ofNat k / 2 * 2) < coS ρ 0 (Int32.ofNat k / 2) (Int32.ofNat k - Int32.ofNat k / 2 * 2) then twR ρ d (k + 1)
    else if coS ρ 1 (Int32.ofNat k / 2) (1 - (Int32.ofNat k - Int32.ofNat k / 2 * 2)) < coS ρ 1 (Int32.ofNat k / 2) (Int32.ofNat k - Int32.ofNat k / 2 * 2) then twR ρ d (k + 1)
    else 10 * (Int32.ofNat k / 2) + (Int32.ofNat k - Int32.ofNat k / 2 * 2)
theorem n4k {k d : Nat} (h : k + (d + 1) = 4) : ¬ (4 : Int32) ≤ Int32.ofNat k := fun g => by
  have := (nL (i := 4) (by omega) (by omega)).mp g
  omega
theorem tw_C {n x : Nat} {ρ ρi : Rw_} {hi : Int32} {K : Nat → Rw_} {Z : Zr_} (V : OK_ ρ) (hN : 0 < (ρ 0).toNatClampNeg) : ∀ (d k fuel : Nat) (M : Mem_) (ρm : Rw_) (Zm : Zr_) (γm cs : Rw_), k + d = 4 → d < fuel → IC M n x ρ ρi hi K Z ρm Zm γm cs → Cq M n x ρ ρi hi K Z (fX1_two_L15 fuel M x (Int32.ofNat k)) (twR ρ d k) := by
  intro d
  induction d with
  | zero =>
    intro k fuel M ρm Zm γm cs hk hf h
    obtain ⟨f, rfl⟩ : ∃ f, fuel = f + 1 := ⟨fuel - 1, by omega⟩
    have : k = 4 := by omega
    subst this
    rw [fX1_two_L15, if_pos (by decide)]
    exact ⟨M, _, _, _, _, rfl, h, Fc.refl _ _⟩
  | succ d ih =>
    intro k fuel M ρm Zm γm cs hk hf h
    obtain ⟨f, rfl⟩ : ∃ f, fuel = f + 1 := ⟨fuel - 1, by omega⟩
    obtain ⟨r1, r2, r3, r4⟩ := xy_rg (k := k) (by omega)
    obtain ⟨M1, _, _, _, _, e1, h1, f1⟩ := h.costs V hN (s := 0) (by decide) r3 r2
    obtain ⟨M2, _, _, _, _, e2, h2, f2⟩ := h1.costs V hN (s := 0) (by decide) r1 r2
    obtain ⟨M3, _, _, _, _, e3, h3, f3⟩ := h2.costs V hN (s := 1) (by decide) r1 r4
    obtain ⟨M4, _, _, _, _, e4, h4, f4⟩ := h3.costs V hN (s := 1) (by decide) r1 r2
    rw [oN0] at e1 e2
    rw [oN1] at e3 e4
    rw [fX1_two_L15, if_neg (n4k hk), lt_, lt_, h.ck, ob_n, e1, bw_n, h1.ck, ob_n, e2, bw_n]
    unfold twR
    by_cases g : coS ρ 0 (1 - Int32.ofNat k / 2) (Int32.ofNat k - Int32.ofNat k / 2 * 2) < coS ρ 0 (Int32.ofNat k / 2) (Int32.ofNat k - Int32.ofNat k / 2 * 2)
    · rw [if_pos g, if_pos g, lt_, nS1]
      exact (ih (k + 1) f M2 _ _ _ _ (by omega) (by omega) h2).on (f1.trans f2)
    · rw [if_neg g, if_neg g, h2.ck, ob_n, e3, bw_n, h3.ck, ob_n, e4, bw_n]
      by_cases g : coS ρ 1 (Int32.ofNat k / 2) (1 - (Int32.ofNat k - Int32.ofNat k / 2 * 2)) < coS ρ 1 (Int32.ofNat k / 2) (Int32.ofNat k - Int32.ofNat k / 2 * 2)
      · rw [if_pos g, if_pos g, lt_, nS1]
        exact (ih (k + 1) f M4 _ _ _ _ (by omega) (by omega) h4).on (f1.trans (f2.trans (f3.trans f4)))
      · rw [if_neg g, if_neg g]
        exact ⟨M4, _, _, _, _, rfl, h4, f1.trans (f2.trans (f3.trans f4))⟩
theorem tw_T {x : Nat} {ρ ρi : Rw_} {hi : Int32} {K : Nat → Rw_} (V : OK_ ρ) (hN : 0 < (ρ 0).toNatClampNeg) : ∀ (d k fuel : Nat) (M : Mem_) (μ γ sc : Rw_), k + d = 4 → d < fuel → IT M x ρ ρi hi K μ γ sc → Tq M x ρ ρi hi K (fX4_two_L14 fuel M (x + 47) (Int32.ofNat k)) (twR ρ d k) := by
  intro d
  induction d with
  | zero =>
    intro k fuel M μ γ sc hk hf h
    obtain ⟨f, rfl⟩ : ∃ f, fuel = f + 1 := ⟨fuel - 1, by omega⟩
    have : k = 4 := by omega
    subst this
    rw [fX4_two_L14, if_pos (by decide)]
    exact ⟨M, _, _, _, rfl, h, Ft.refl _ _⟩
  | succ d ih =>
    intro k fuel M μ γ sc hk hf h
    obtain ⟨f, rfl⟩ : ∃ f, fuel = f + 1 := ⟨fuel - 1, by omega⟩
    obtain ⟨r1, r2, r3, r4⟩ := xy_rg (k := k) (by omega)
    obtain ⟨M1, _, _, _, e1, h1, f1⟩ := h.costs V hN (s := 0) (by decide) r3 r2
    obtain ⟨M2, _, _, _, e2, h2, f2⟩ := h1.costs V hN (s := 0) (by decide) r1 r2
    obtain ⟨M3, _, _, _, e3, h3, f3⟩ := h2.costs V hN (s := 1) (by decide) r1 r4
    obtain ⟨M4, _, _, _, e4, h4, f4⟩ := h3.costs V hN (s := 1) (by decide) r1 r2
    rw [oN0] at e1 e2
    rw [oN1] at e3 e4
    rw [fX4_two_L14, if_neg (n4k hk), lt_, lt_, h.ck, ob_n, e1, bw_n, h1.ck, ob_n, e2, bw_n]
    unfold twR
    by_cases g : coS ρ 0 (1 - Int32.ofNat k / 2) (Int32.ofNat k - Int32.ofNat k / 2 * 2) < coS ρ 0 (Int32.ofNat k / 2) (Int32.ofNat k - Int32.ofNat k / 2 * 2)
    · rw [if_pos g, if_pos g, lt_, nS1]
      exact (ih (k + 1) f M2 _ _ _ (by omega) (by omega) h2).on (f1.trans f2)
    · rw [if_neg g, if_neg g, h2.ck, ob_n, e3, bw_n, h3.ck, ob_n, e4, bw_n]
      by_cases g : coS ρ 1 (Int32.ofNat k / 2) (1 - (Int32.ofNat k - Int32.ofNat k / 2 * 2)) < coS ρ 1 (Int32.ofNat k / 2) (Int32.ofNat k - Int32.ofNat k / 2 * 2)
      · rw [if_pos g, if_pos g, lt_, nS1]
        exact (ih (k + 1) f M4 _ _ _ (by omega) (by omega) h4).on (f1.trans (f2.trans (f3.trans f4)))
      · rw [if_neg g, if_neg g]
        exact ⟨M4, _, _, _, rfl, h4, f1.trans (f2.trans (f3.trans f4))⟩
section Q17
variable {M M' : Mem_} {n x : Nat} {ρ ρi : Rw_} {hi : Int32} {K : Nat → Rw_} {Z : Zr_} {ρm : Rw_} {Zm : Zr_} {γm cs : Rw_} {μ γ sc : Rw_}
theorem o_two (h : IC M n x ρ ρi hi K Z ρm Zm γm cs) (t : IT M' x ρ ρi hi K μ γ sc) (V : OK_ ρ) : ∃ r, Cq M n x ρ ρi hi K Z (fX1_two M x) r ∧ Tq M' x ρ ρi hi K (fX4_two M' (x + 47)) r := by
  obtain ⟨γ0, h1⟩ := h.2.1
  unfold fX1_two fX4_two
  rw [h.r0, ob_n, co_i9 h1, ob_n, t.r0, ob_n, ro_a0 t.2.1, ob_n]
  by_cases g : ρ 0 = 0
  · rw [if_pos g, if_pos g]
    exact ⟨_, ⟨M, _, _, _, _, rfl, h, Fc.refl _ _⟩, ⟨M', _, _, _, rfl, t, Ft.refl _ _⟩⟩
  · rw [if_neg g, if_neg g]
    exact ⟨_, tw_C V (V.pos g) 4 0 1000 M _ _ _ _ (by omega) (by omega) h, tw_T V (V.pos g) 4 0 1000 M' _ _ _ (by omega) (by omega) t⟩
end Q17
