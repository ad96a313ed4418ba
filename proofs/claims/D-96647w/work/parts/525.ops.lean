/-! the mean -/
set_option maxRecDepth 100000
theorem part_all {a : Int32} (h : rg_ 400 a) : ((fX1_partOf a.toInt64 4 0).isSome = true ∧ fX1_partOf a.toInt64 4 0 = fX4_partOf a.toInt64 4 0) ∧ ((fX1_partOf a.toInt64 4 1).isSome = true ∧ fX1_partOf a.toInt64 4 1 = fX4_partOf a.toInt64 4 1) := rg_all1 (n := 400) (P := fun a => ((fX1_partOf a.toInt64 4 0).isSome = true ∧ fX1_partOf a.toInt64 4 0 = fX4_partOf a.toInt64 4 0) ∧ ((fX1_partOf a.toInt64 4 1).isSome = true ∧ fX1_partOf a.toInt64 4 1 = fX4_partOf a.toInt64 4 1)) (by decide +kernel) h
theorem atd_rg {ρ : Rw_} (V : VR ρ) : rg_ 400 (atd_ ρ) := by
  obtain ⟨a, ha, ea⟩ := (V.1 0 (by decide)).2.2.1
  obtain ⟨b, hb, eb⟩ := (V.1 1 (by decide)).2.2.1
  obtain ⟨c, hc, ec⟩ := (V.1 2 (by decide)).2.2.1
  obtain ⟨d, hd, ed⟩ := (V.1 3 (by decide)).2.2.1
  have ea : ρ 22 = _ := ea
  have eb : ρ 26 = _ := eb
  have ec : ρ 30 = _ := ec
  have ed : ρ 34 = _ := ed
  refine ⟨a + b + c + d, by omega, ?_⟩
  unfold atd_
  rw [ea, eb, ec, ed, Int32.zero_add, nS, nS, nS]
section Q14
variable {M M' : Mem_} {n x : Nat} {ρ ρi : Rw_} {hi : Int32} {K : Nat → Rw_} {Z : Zr_} {ρm : Rw_} {Zm : Zr_} {γm cs : Rw_} {μ γ sc : Rw_}
theorem o_mean (h : IC M n x ρ ρi hi K Z ρm Zm γm cs) (t : IT M' x ρ ρi hi K μ γ sc) (V : OK_ ρ) (w : Int32) : ∃ r, fX1_mean M x w = some r ∧ fX4_mean M' (x + 47) w = some r := by
  unfold fX1_mean fX4_mean
  simp only [lt_, show fX1_isIn w 0 1 = fX4_isIn w 0 1 from rfl, h.r0, h.ck1, h.allTired.1, h.allTired.2, t.ck, t.allTired, atd_eq, Option.bind_some]
  have P := part_all (atd_rg V.1)
  generalize (atd_ ρ).toInt64 = A at P ⊢
  rcases in1 w with ⟨e, z⟩ | ⟨e, _⟩
  · rw [e, if_neg b2_t, if_neg b2_t]
    rcases z with z | z <;> subst z
    · rw [← P.1.2]
      have s := P.1.1
      generalize fX1_partOf A 4 0 = o at s ⊢
      cases o with
      | none => cases s
      | some v => exact ⟨v, rfl, rfl⟩
    · rw [← P.2.2]
      have s := P.2.1
      generalize fX1_partOf A 4 1 = o at s ⊢
      cases o with
      | none => cases s
      | some v => exact ⟨v, rfl, rfl⟩
  · rw [e]
    exact ⟨_, rfl, rfl⟩
end Q14
