/-! who makes the point of a hit -/
set_option maxRecDepth 100000
theorem end_p {ρ γ : Rw_} {s : Nat} {w f t : Int32} (hp4 : ¬ w = 9 → w.toNatClampNeg < 4) {j : Nat} (hj : j = 38 ∨ j = 41) : (endR ρ γ s w f t).2.1 j = if (endR ρ γ s w f t).1 = true then poiR ρ (1 - s) j else ρ j := by
  unfold endR
  by_cases h9 : w = 9
  · rw [if_pos h9]
    exact (if_pos rfl).symm
  · rw [if_neg h9]
    have h4 := hp4 h9
    have hq := par_lt h4
    by_cases g : fX4_wayOf (ρ (20 + 4 * w.toNatClampNeg)) f ≤ stpR ρ w.toNatClampNeg t
    · rw [if_pos g]
      refine Eq.trans ?_ (if_neg (show ¬ (false = true) by decide)).symm
      show upd (getR ρ s w.toNatClampNeg f) (20 + 4 * parR w.toNatClampNeg) (toR (getR ρ s w.toNatClampNeg f) s w.toNatClampNeg f t) j = ρ j
      rw [updA, if_neg (by omega)]
      unfold getR
      rw [updA, if_neg (by omega), tir_o h4 (.inr hj), updA, if_neg (by omega)]
    · rw [if_neg g]
      exact (if_pos rfl).symm
theorem hR_p {ρ : Rw_} (V : VR ρ) (k c : Int32) {j : Nat} (hj : j = 38 ∨ j = 41) : (hB ρ k c = true → hR ρ k c j = if j = 38 + 3 * ((ρ 2).toNatClampNeg / 2) then ρ j + 1 else ρ j) ∧ (hB ρ k c = false → hR ρ k c j = ρ j) := by
  have hh := (rg_nat (by decide) V.2.2.1).1
  unfold hR hB
  simp only [hitR]
  have hw := whoR_cases ρ (1 - (ρ 2).toNatClampNeg / 2) (falR ρ k c)
  have hs : 1 - (ρ 2).toNatClampNeg / 2 < 2 := by omega
  have es : 1 - (1 - (ρ 2).toNatClampNeg / 2) = (ρ 2).toNatClampNeg / 2 := by omega
  have h1 : tirR (upd ρ 1 (ρ 1 + 1)) (ρ 2).toNatClampNeg (fX4_tiresBy (kS_r ρ k) (fS_r ρ k)) j = ρ j := by
    rw [tir_o hh (.inr hj), updA, if_neg (by omega)]
  generalize tirR (upd ρ 1 (ρ 1 + 1)) (ρ 2).toNatClampNeg (fX4_tiresBy (kS_r ρ k) (fS_r ρ k)) = ρ1 at h1 ⊢
  generalize hS : 1 - (ρ 2).toNatClampNeg / 2 = s at hw hs es ⊢
  generalize whoR ρ s (falR ρ k c) = w at hw ⊢
  have h2 : (if botR ρ1 s (falR ρ k c) = true then tirR (tirR ρ1 (2 * s) 3) (2 * s + 1) 3 else ρ1) j = ρ j := by
    split
    · rw [tir_o (by omega) (.inr hj), tir_o (by omega) (.inr hj)]
      exact h1
    · exact h1
  generalize (if botR ρ1 s (falR ρ k c) = true then tirR (tirR ρ1 (2 * s) 3) (2 * s + 1) 3 else ρ1) = ρ2 at h2 ⊢
  have e := end_p (ρ := ρ2) (γ := fun _ => 0) (s := s) (f := falR ρ k c) (t := fX4_timeBy (kS_r ρ k) (fS_r ρ k) (falR ρ k c)) (w := w) (fun h9 => by
    have : s = 0 ∨ s = 1 := by omega
    rcases hw with e | e | e
    · rcases this with z | z <;> subst z <;> subst e <;> decide
    · rcases this with z | z <;> subst z <;> subst e <;> decide
    · exact absurd e h9) hj
  have po : poiR ρ2 (1 - s) j = if j = 38 + 3 * ((ρ 2).toNatClampNeg / 2) then ρ j + 1 else ρ j := by
    unfold poiR
    rw [updA, if_neg (by omega), updA, es]
    by_cases g : j = 38 + 3 * ((ρ 2).toNatClampNeg / 2)
    · rw [if_pos g, if_pos g, ← g, h2]
    · rw [if_neg g, if_neg g, h2]
  generalize endR ρ2 (fun _ => 0) s w (falR ρ k c) (fX4_timeBy (kS_r ρ k) (fS_r ρ k) (falR ρ k c)) = E at e ⊢
  refine ⟨fun hb => ?_, fun hb => ?_⟩
  · rw [e, if_pos hb]
    exact po
  · rw [e, if_neg (by rw [hb]; decide)]
    exact h2
