/-! habits, joined -/
set_option maxRecDepth 100000
theorem IC.notNine {M : Mem_} {n x : Nat} {ρ ρi : Rw_} {hi : Int32} {K : Nat → Rw_} {Z : Zr_} {ρm : Rw_} {Zm : Zr_} {γm cs : Rw_} (h : IC M n x ρ ρi hi K Z ρm Zm γm cs) (d : Int32) : fX1_notNine M x d = some (if wrR K d = 0 then (if K 4 d.toNatClampNeg ≤ 9 then 0 else -13) else wrR K d) := by
  unfold fX1_notNine
  simp only [h.ck, h.notRow, Option.bind_some]
  by_cases e : wrR K d = 0
  · obtain ⟨dn, q, sz, f, hd, ed, a, b, R⟩ := h.rowOf e
    rw [if_pos e, if_pos e]
    simp only [h.r8, a, b, R.size, Option.bind_some]
    rw [ed, nC (i := dn) (by omega), R.2.2.2.2.1]
    split <;> rfl
  · rw [if_neg e, if_neg e]
section Q15
variable {M M' : Mem_} {n x : Nat} {ρ ρi : Rw_} {hi : Int32} {K : Nat → Rw_} {Z : Zr_} {ρm : Rw_} {Zm : Zr_} {γm cs : Rw_} {μ γ sc : Rw_}
theorem o_habits (h : IC M n x ρ ρi hi K Z ρm Zm γm cs) (t : IT M' x ρ ρi hi K μ γ sc) (V : OK_ ρ) (d : Int32) : ∃ r, Cq M n x ρ ρi hi K Z (fX1_habits M x d) r ∧ Tq M' x ρ ρi hi K (fX4_habits M' (x + 47) d) r := by
  obtain ⟨γ0, h1⟩ := h.2.1
  have bad : ∀ v : Int32, ∃ r : Int32, Cq M n x ρ ρi hi K Z (some (v, M)) r ∧ Tq M' x ρ ρi hi K (some (v, M')) r := fun v => ⟨v, ⟨M, _, _, _, _, rfl, h, Fc.refl _ _⟩, ⟨M', _, _, _, rfl, t, Ft.refl _ _⟩⟩
  unfold fX1_habits fX4_habits
  generalize hF : (1000 : Nat) = F
  simp only [h.ck, h.notNine, t.ck, t.wrong, ob_n, h.r0, co_i9 h1, t.r0, ro_a0 t.2.1]
  by_cases e : wrR K d = 0
  · obtain ⟨dn, q, sz, f, hd, ed, a, b, R⟩ := h.rowOf e
    have kf := (t.kf (d := Int32.ofNat dn) ⟨dn, hd, rfl⟩).2.2.2.2
    have h100 := R.2.2.2.1
    rw [nC (by omega), R.2.2.2.2.1] at kf
    subst ed
    simp only [if_pos e, t.r17, kf, ob_n, nC (show dn < 100000 by omega), R.2.2.2.2.1]
    by_cases z : Int32.ofNat sz ≤ 9
    · have h9 : sz ≤ 9 := (nL (j := 9) (by omega) (by omega)).mp z
      simp only [if_pos z, if_true]
      by_cases z0 : ρ 0 = 0
      · simp only [if_pos z0]
        exact bad _
      · simp only [if_neg z0]
        have A := hb_C V (V.pos z0) hd e R.2.2.2.2.1 h9 0 4 0 F 0 M _ _ _ _ (by omega) (by omega) h
        have B := hb_T V hd R.2.2.2.2.1 h9 (wrR K (Int32.ofNat dn)) 4 0 F 0 M' _ _ _ (by omega) (by omega) t
        rw [oN0] at A B
        exact ⟨_, A, B⟩
    · simp only [if_neg z, if_neg (show ¬ (-13 : Int32) = 0 by decide)]
      exact bad _
  · simp only [if_neg e]
    exact bad _
end Q15
