/-! the questions, first: what both see -/
set_option maxRecDepth 100000
theorem in_rg {v : Int32} {m : Nat} (hm : m < 10000) (h : fX4_isIn v 0 (Int32.ofNat m) = true) : rg_ (m + 1) v := by
  unfold fX4_isIn at h
  split at h
  · cases h
  · rename_i h1
    split at h
    · cases h
    · rename_i h2
      have a : (0 : Int) ≤ v.toInt := by
        have := Int32.le_iff_toInt_le.mp (Int32.not_lt.mp h1)
        simpa using this
      have b : v.toInt ≤ (m : Int) := by
        have := Int32.le_iff_toInt_le.mp (Int32.not_lt.mp h2)
        rw [nJ (by omega)] at this
        exact this
      refine ⟨v.toInt.toNat, by omega, ?_⟩
      apply Int32.toInt_inj.mp
      rw [nJ (by omega)]
      omega
theorem in_false {v : Int32} : fX4_isIn v 0 (-1) = false := by
  unfold fX4_isIn
  split
  · rfl
  · rename_i h1
    split
    · rfl
    · rename_i h2
      have a := Int32.le_iff_toInt_le.mp (Int32.not_lt.mp h1)
      have b := Int32.le_iff_toInt_le.mp (Int32.not_lt.mp h2)
      have e1 : (0 : Int32).toInt = 0 := rfl
      have e2 : (-1 : Int32).toInt = -1 := rfl
      rw [e1] at a
      rw [e2] at b
      omega
theorem str_rg {ρ : Rw_} {k : Int32} (V : rg_ 9 (ρ 0)) (h : fX4_isIn k 0 (ρ 0 - 1) = true) : k.toNatClampNeg < (ρ 0).toNatClampNeg ∧ rg_ 8 k := by
  obtain ⟨j, hj, e⟩ := V
  rw [e] at h ⊢
  cases j with
  | zero =>
    rw [show Int32.ofNat 0 - 1 = -1 from rfl, in_false] at h
    cases h
  | succ j =>
    rw [show Int32.ofNat (j + 1) - 1 = Int32.ofNat j by rw [← nS1, Int32.add_sub_cancel]] at h
    have g := in_rg (by omega) h
    have g2 := (rg_nat (by omega) g).1
    rw [nC (by omega)]
    exact ⟨g2, rg_lt (by omega) g⟩
theorem b2_t : ¬ b2_ true = 0 := by decide
theorem b2_f : b2_ false = 0 := rfl
theorem IC.isStroke {M : Mem_} {n x : Nat} {ρ ρi : Rw_} {hi : Int32} {K : Nat → Rw_} {Z : Zr_} {ρm : Rw_} {Zm : Zr_} {γm cs : Rw_} (h : IC M n x ρ ρi hi K Z ρm Zm γm cs) (k : Int32) : fX2_isStroke M (x + 1) k = some (fX4_isIn k 0 (ρ 0 - 1)) := by
  obtain ⟨γ, h1⟩ := h.2.1
  unfold fX2_isStroke
  simp only [co_i9 h1, lt_, Option.bind_some]
  rfl
theorem IC.isHit {M : Mem_} {n x : Nat} {ρ ρi : Rw_} {hi : Int32} {K : Nat → Rw_} {Z : Zr_} {ρm : Rw_} {Zm : Zr_} {γm cs : Rw_} (h : IC M n x ρ ρi hi K Z ρm Zm γm cs) (k c : Int32) : fX1_isHit M x k c = some (fX4_isIn k 0 (ρ 0 - 1) && fX4_isIn c 0 8) := by
  unfold fX1_isHit
  simp only [h.r0, h.ck1, h.isStroke, Option.bind_some, lt_, show fX1_isCell c = fX4_isIn c 0 8 from rfl]
  cases fX4_isIn k 0 (ρ 0 - 1) <;> cases fX4_isIn c 0 8 <;> rfl
theorem IT.isStroke {M : Mem_} {x : Nat} {ρ ρi : Rw_} {hi : Int32} {K : Nat → Rw_} {μ γ sc : Rw_} (h : IT M x ρ ρi hi K μ γ sc) (k : Int32) : fX4_isStroke M (x + 47) k = some (fX4_isIn k 0 (ρ 0 - 1)) := by
  unfold fX4_isStroke
  simp only [h.r0, ro_a0 h.2.1, lt_, Option.bind_some]
theorem IT.isHit {M : Mem_} {x : Nat} {ρ ρi : Rw_} {hi : Int32} {K : Nat → Rw_} {μ γ sc : Rw_} (h : IT M x ρ ρi hi K μ γ sc) (k c : Int32) : fX4_isHit M (x + 47) k c = some (fX4_isIn k 0 (ρ 0 - 1) && fX4_isIn c 0 8) := by
  unfold fX4_isHit
  simp only [h.ck, h.isStroke, Option.bind_some, lt_, show fX4_isCell c = fX4_isIn c 0 8 from rfl]
  cases fX4_isIn k 0 (ρ 0 - 1) <;> cases fX4_isIn c 0 8 <;> rfl
theorem IT.other {M : Mem_} {x : Nat} {ρ ρi : Rw_} {hi : Int32} {K : Nat → Rw_} {μ γ sc : Rw_} (h : IT M x ρ ρi hi K μ γ sc) : fX4_otherSide M (x + 47) = some (1 - ρ 2 / 2) := by
  unfold fX4_otherSide
  simp only [h.r0, ro_a2 h.2.1, lt_, Option.bind_some, fX4_sideOf]
theorem ro_who {M : Mem_} {r g : Nat} {ρ γ μ : Rw_} (h : M r = some (eI_ 0 42 μ)) (h2 : M g = some (eI_ 0 4 γ)) (V : rg_ 4 (ρ 2)) (f : Int32) : fX4_whoseIn M r (1 - ρ 2 / 2) f = some (whoR μ (1 - (ρ 2).toNatClampNeg / 2) f) := by
  obtain ⟨i, hi, e⟩ := V
  rw [e]
  match i, hi with
  | 0, _ => exact ro_who1 h h2 f
  | 1, _ => exact ro_who1 h h2 f
  | 2, _ => exact ro_who0 h h2 f
  | 3, _ => exact ro_who0 h h2 f
theorem IT.whoNow {M : Mem_} {x : Nat} {ρ ρi : Rw_} {hi : Int32} {K : Nat → Rw_} {μ γ sc : Rw_} (h : IT M x ρ ρi hi K μ γ sc) (V : VR ρ) {k : Int32} (c : Int32) (hk : rg_ 8 k) : fX4_whoseNow M (x + 47) k c = some (whoR ρ (1 - (ρ 2).toNatClampNeg / 2) (falR ρ k c)) := by
  have g := h.2.2.2.2.2.2.1
  unfold fX4_whoseNow
  simp only [h.r0, h.ck, h.other, ro_fal h.2.1 g c hk, ro_who h.2.1 g V.2.2.1, Option.bind_some]
section Q1
variable {M M' : Mem_} {n x : Nat} {ρ ρi : Rw_} {hi : Int32} {K : Nat → Rw_} {Z : Zr_} {ρm : Rw_} {Zm : Zr_} {γm cs : Rw_} {μ γ sc : Rw_}
theorem o_whose (h : IC M n x ρ ρi hi K Z ρm Zm γm cs) (t : IT M' x ρ ρi hi K μ γ sc) (V : OK_ ρ) (k c : Int32) : ∃ r, fX1_whose M x k c = some r ∧ fX4_whose M' (x + 47) k c = some r := by
  obtain ⟨γ0, h1⟩ := h.2.1
  unfold fX1_whose fX4_whose
  simp only [h.ck, h.isHit, t.ck, t.isHit, Option.bind_some]
  cases e1 : fX4_isIn k 0 (ρ 0 - 1) with
  | false => exact ⟨_, rfl, rfl⟩
  | true =>
    cases e2 : fX4_isIn c 0 8 with
    | false => exact ⟨_, rfl, rfl⟩
    | true =>
      obtain ⟨hk, hk8⟩ := str_rg V.1.2.2.2.2.1 e1
      have hc := in_rg (m := 8) (by decide) e2
      obtain ⟨q, kn, fg, a, b, c1, d, _, _⟩ := h.stroke hk
      have hS := V.1.2.2.2.2.2 _ hk
      have hf : rg_ 9 (falR ρ k c) := fal_rg hS.1 hc V.1.2.2.2.1
      simp only [Bool.and_self, if_neg b2_t, h.r0, h.ck1, co_fal h1 V.1.2.2.2.1 hk8 hc a b c1, co_who h1 V.1 hf, t.whoNow V.1 c hk8, Option.bind_some]
      exact ⟨_, rfl, rfl⟩
theorem o_falls (h : IC M n x ρ ρi hi K Z ρm Zm γm cs) (t : IT M' x ρ ρi hi K μ γ sc) (V : OK_ ρ) (k c : Int32) : ∃ r, fX1_falls M x k c = some r ∧ fX4_falls M' (x + 47) k c = some r := by
  obtain ⟨γ0, h1⟩ := h.2.1
  unfold fX1_falls fX4_falls
  simp only [h.ck, h.isHit, t.ck, t.isHit, Option.bind_some]
  cases e1 : fX4_isIn k 0 (ρ 0 - 1) with
  | false => exact ⟨_, rfl, rfl⟩
  | true =>
    cases e2 : fX4_isIn c 0 8 with
    | false => exact ⟨_, rfl, rfl⟩
    | true =>
      obtain ⟨hk, hk8⟩ := str_rg V.1.2.2.2.2.1 e1
      have hc := in_rg (m := 8) (by decide) e2
      obtain ⟨q, kn, fg, a, b, c1, d, _, _⟩ := h.stroke hk
      simp only [Bool.and_self, if_neg b2_t, h.r0, h.ck1, co_fal h1 V.1.2.2.2.1 hk8 hc a b c1, t.r0, ro_fal t.2.1 t.2.2.2.2.2.2.1 c hk8, Option.bind_some]
      exact ⟨_, rfl, rfl⟩
theorem S_kind {M : Mem_} {q kn : Nat} {fg : Int32} (hs : sk_ M q = some (kn, fg)) : s_kind M q = some (Int32.ofNat kn) := by
  have hk : kn < 8 := (sk_spec hs).1
  unfold s_kind
  rw [kd_of hs]
  match kn, hk with
  | 0, _ => rfl
  | 1, _ => rfl
  | 2, _ => rfl
  | 3, _ => rfl
  | 4, _ => rfl
  | 5, _ => rfl
  | 6, _ => rfl
  | 7, _ => rfl
theorem in4 (v : Int32) : (fX4_isIn v 0 4 = true ∧ (v = 0 ∨ v = 1 ∨ v = 2 ∨ v = 3 ∨ v = 4)) ∨ (fX4_isIn v 0 4 = false ∧ v ≠ 0 ∧ v ≠ 1 ∧ v ≠ 2 ∧ v ≠ 3 ∧ v ≠ 4) := by
  cases e : fX4_isIn v 0 4 with
  | true =>
    obtain ⟨i, hi, rfl⟩ := in_rg (m := 4) (by decide) e
    refine .inl ⟨rfl, ?_⟩
    match i, hi with
    | 0, _ => exact .inl rfl
    | 1, _ => exact .inr (.inl rfl)
    | 2, _ => exact .inr (.inr (.inl rfl))
    | 3, _ => exact .inr (.inr (.inr (.inl rfl)))
    | 4, _ => exact .inr (.inr (.inr (.inr rfl)))
  | false =>
    refine .inr ⟨rfl, ?_, ?_, ?_, ?_, ?_⟩
    all_goals intro z
    all_goals subst z
    all_goals revert e
    all_goals decide
theorem o_stroke (h : IC M n x ρ ρi hi K Z ρm Zm γm cs) (t : IT M' x ρ ρi hi K μ γ sc) (V : OK_ ρ) (k c : Int32) : ∃ r, fX1_stroke M x k c = some r ∧ fX4_stroke M' (x + 47) k c = some r := by
  obtain ⟨γ0, h1⟩ := h.2.1
  unfold fX1_stroke fX4_stroke
  simp only [h.r0, h.ck1, h.isStroke, t.ck, t.isStroke, Option.bind_some]
  cases e1 : fX4_isIn k 0 (ρ 0 - 1) with
  | false => exact ⟨_, rfl, rfl⟩
  | true =>
    obtain ⟨hk, hk8⟩ := str_rg V.1.2.2.2.2.1 e1
    obtain ⟨q, kn, fg, a, b, c1, d, _, _⟩ := h.stroke hk
    subst d
    simp only [if_neg b2_t, co_r0 h1, co_str h1 hk8 a, S_kind b, gF_of b, S_tires b, S_time b, t.r0, ro_S0 t.2.1 t.2.2.2.2.2.2.1 hk8, ro_S1 t.2.1 t.2.2.2.2.2.2.1 hk8, lt_, c1, Option.bind_some]
    rcases in4 c with ⟨e, z⟩ | ⟨e, z0, z1, z2, z3, z4⟩
    · rw [e]
      rcases z with z | z | z | z | z <;> subst z
      · exact ⟨_, rfl, rfl⟩
      · exact ⟨_, rfl, rfl⟩
      · exact ⟨_, rfl, rfl⟩
      · exact ⟨_, rfl, rfl⟩
      · exact ⟨_, rfl, rfl⟩
    · rw [e, if_neg z0, if_neg z1, if_neg z2, if_neg z3, if_neg z4]
      exact ⟨_, rfl, rfl⟩
end Q1
