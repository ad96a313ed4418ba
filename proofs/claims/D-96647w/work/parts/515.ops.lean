/-! hit, image, restore -/
set_option maxRecDepth 100000
theorem tir_o {ρ : Rw_} {p j : Nat} {v : Int32} (hp : p < 4) (hj : j = 1 ∨ j = 38 ∨ j = 41) : tirR ρ p v j = ρ j := by
  unfold tirR
  rw [updA, if_neg (by omega)]
theorem end_o {ρ γ : Rw_} {s : Nat} {w f t : Int32} (hs : s < 2) (hp4 : ¬ w = 9 → w.toNatClampNeg < 4) : (endR ρ γ s w f t).2.1 1 = ρ 1 ∧ ((endR ρ γ s w f t).2.1 38 = ρ 38 ∨ (endR ρ γ s w f t).2.1 38 = ρ 38 + 1) ∧ ((endR ρ γ s w f t).2.1 41 = ρ 41 ∨ (endR ρ γ s w f t).2.1 41 = ρ 41 + 1) := by
  have po : poiR ρ (1 - s) 1 = ρ 1 ∧ (poiR ρ (1 - s) 38 = ρ 38 ∨ poiR ρ (1 - s) 38 = ρ 38 + 1) ∧ (poiR ρ (1 - s) 41 = ρ 41 ∨ poiR ρ (1 - s) 41 = ρ 41 + 1) := by
    have : s = 0 ∨ s = 1 := by omega
    rcases this with e | e <;> subst e
    · exact ⟨rfl, .inl rfl, .inr rfl⟩
    · exact ⟨rfl, .inr rfl, .inl rfl⟩
  unfold endR
  by_cases h9 : w = 9
  · rw [if_pos h9]
    exact po
  · rw [if_neg h9]
    have h4 := hp4 h9
    have hq := par_lt h4
    by_cases g : fX4_wayOf (ρ (20 + 4 * w.toNatClampNeg)) f ≤ stpR ρ w.toNatClampNeg t
    · rw [if_pos g]
      have k : ∀ j, j = 1 ∨ j = 38 ∨ j = 41 → upd (getR ρ s w.toNatClampNeg f) (20 + 4 * parR w.toNatClampNeg) (toR (getR ρ s w.toNatClampNeg f) s w.toNatClampNeg f t) j = ρ j := fun j hj => by
        rw [updA, if_neg (by omega)]
        unfold getR
        rw [updA, if_neg (by omega), tir_o h4 hj, updA, if_neg (by omega)]
      exact ⟨k 1 (by decide), .inl (k 38 (by decide)), .inl (k 41 (by decide))⟩
    · rw [if_neg g]
      exact po
theorem hR_o {ρ : Rw_} (V : VR ρ) (k c : Int32) : hR ρ k c 1 = ρ 1 + 1 ∧ (hR ρ k c 38 = ρ 38 ∨ hR ρ k c 38 = ρ 38 + 1) ∧ (hR ρ k c 41 = ρ 41 ∨ hR ρ k c 41 = ρ 41 + 1) := by
  have hh := (rg_nat (by decide) V.2.2.1).1
  unfold hR
  simp only [hitR]
  have hw := whoR_cases ρ (1 - (ρ 2).toNatClampNeg / 2) (falR ρ k c)
  have hs : 1 - (ρ 2).toNatClampNeg / 2 < 2 := by omega
  have h1 : ∀ j, j = 1 ∨ j = 38 ∨ j = 41 → tirR (upd ρ 1 (ρ 1 + 1)) (ρ 2).toNatClampNeg (fX4_tiresBy (kS_r ρ k) (fS_r ρ k)) j = if j = 1 then ρ 1 + 1 else ρ j := fun j hj => by
    rw [tir_o hh hj, updA]
  generalize tirR (upd ρ 1 (ρ 1 + 1)) (ρ 2).toNatClampNeg (fX4_tiresBy (kS_r ρ k) (fS_r ρ k)) = ρ1 at h1 ⊢
  generalize 1 - (ρ 2).toNatClampNeg / 2 = s at hw hs ⊢
  generalize whoR ρ s (falR ρ k c) = w at hw ⊢
  have h2 : ∀ j, j = 1 ∨ j = 38 ∨ j = 41 → (if botR ρ1 s (falR ρ k c) = true then tirR (tirR ρ1 (2 * s) 3) (2 * s + 1) 3 else ρ1) j = if j = 1 then ρ 1 + 1 else ρ j := fun j hj => by
    split
    · rw [tir_o (by omega) hj, tir_o (by omega) hj]
      exact h1 j hj
    · exact h1 j hj
  generalize (if botR ρ1 s (falR ρ k c) = true then tirR (tirR ρ1 (2 * s) 3) (2 * s + 1) 3 else ρ1) = ρ2 at h2 ⊢
  have e := end_o (ρ := ρ2) (γ := fun _ => 0) (f := falR ρ k c) (t := fX4_timeBy (kS_r ρ k) (fS_r ρ k) (falR ρ k c)) hs (w := w) (fun h9 => by
    have : s = 0 ∨ s = 1 := by omega
    rcases hw with e | e | e
    · rcases this with z | z <;> subst z <;> subst e <;> decide
    · rcases this with z | z <;> subst z <;> subst e <;> decide
    · exact absurd e h9)
  have a1 : ρ2 1 = ρ 1 + 1 := h2 1 (by decide)
  have a2 : ρ2 38 = ρ 38 := h2 38 (by decide)
  have a3 : ρ2 41 = ρ 41 := h2 41 (by decide)
  rw [a1, a2, a3] at e
  exact e
theorem rg_inc {n : Nat} {v w : Int32} (hn : n ≤ 1000) (h : rg_ n v) (hv : ¬ v = Int32.ofNat (n - 1)) (hw : w = v ∨ w = v + 1) : rg_ n w := by
  obtain ⟨i, hi, rfl⟩ := h
  rcases hw with e | e
  · exact ⟨i, hi, e⟩
  · refine ⟨i + 1, ?_, by rw [e, nS1]⟩
    rcases Nat.lt_or_ge (i + 1) n with g | g
    · exact g
    · exact absurd (by rw [show n - 1 = i by omega]) hv
theorem OK_.hit {ρ : Rw_} (V : OK_ ρ) {k c : Int32} (hk : k.toNatClampNeg < (ρ 0).toNatClampNeg) (hc : rg_ 9 c) (h1 : ¬ ρ 1 = 999) (h2 : ¬ ρ 38 = 99) (h3 : ¬ ρ 41 = 99) : OK_ (hR ρ k c) := by
  have W := V.mv.hit hk hc
  have o := hR_o V.1 k c
  exact ⟨W.1, W.2.1, rg_inc (by decide) V.2.2.1 h1 (.inr o.1), rg_inc (by decide) V.2.2.2.1 h2 o.2.1, rg_inc (by decide) V.2.2.2.2 h3 o.2.2⟩
theorem ge_iff {n : Nat} {v : Int32} (hn : n < 1000) (h : rg_ (n + 1) v) : Int32.ofNat n ≤ v ↔ v = Int32.ofNat n := by
  obtain ⟨i, hi, rfl⟩ := h
  rw [nL (by omega) (by omega), nE (by omega) (by omega)]
  omega
theorem IC.nhit {M : Mem_} {n x : Nat} {ρ ρi : Rw_} {hi : Int32} {K : Nat → Rw_} {Z : Zr_} {ρm : Rw_} {Zm : Zr_} {γm cs : Rw_} (h : IC M n x ρ ρi hi K Z ρm Zm γm cs) (V : OK_ ρ) {k c : Int32} (hk : k.toNatClampNeg < (ρ 0).toNatClampNeg) (hk8 : rg_ 8 k) (hc : rg_ 9 c) : ∃ M1, fX2_hits M (x + 1) k c = some (hB ρ k c, M1) ∧ IC M1 n x (hR ρ k c) ρi hi K Z ρm Zm γm cs ∧ Fc M M1 x := by
  obtain ⟨γ0, h1⟩ := h.2.1
  obtain ⟨q, kn, fg, a, b, c1, d, e, f⟩ := h.stroke hk
  have t := C_hit M (x + 1) ρ Z γ0 V.1 hk hk8 hc a b (by omega) c1 d
  rw [cw_eq h1, hit_eq] at t
  exact ⟨_, t, h.nowS V (V.mv.hit hk hc).2.2⟩
theorem IT.nhit {M : Mem_} {x : Nat} {ρ ρi : Rw_} {hi : Int32} {K : Nat → Rw_} {μ γ sc : Rw_} (t : IT M x ρ ρi hi K μ γ sc) (V : OK_ ρ) {k c : Int32} (hk : k.toNatClampNeg < (ρ 0).toNatClampNeg) (hk8 : rg_ 8 k) (hc : rg_ 9 c) : ∃ M1, fX4_hits M (x + 47) (x + 48) k c = some (hB ρ k c, M1) ∧ IT M1 x (hR ρ k c) ρi hi K μ (hG ρ γ k c) sc ∧ Ft M M1 x := by
  have u := T_hit (M := M) (r := x + 48) (g := x + 52) (t := x + 47) (γ := γ) (by omega) (by omega) (by omega) t.1 rfl V.1 hk hk8 hc
  rw [tw_eq t.2.1 t.2.2.2.2.2.2.1, hit_eq, tw_ms (by omega)] at u
  have a := t.now (ρ' := hR ρ k c)
  have b := a.1.gone (γ' := hG ρ γ k c)
  exact ⟨_, u, b.1, a.2.trans b.2⟩
def ovR (ρ : Rw_) : Bool := if ρ 1 = 999 then true else if ρ 38 = 99 then true else if ρ 41 = 99 then true else false
theorem IC.can {M : Mem_} {n x : Nat} {ρ ρi : Rw_} {hi : Int32} {K : Nat → Rw_} {Z : Zr_} {ρm : Rw_} {Zm : Zr_} {γm cs : Rw_} (h : IC M n x ρ ρi hi K Z ρm Zm γm cs) (V : OK_ ρ) : fX1_canHit M (x + 1) = some (!ovR ρ) := by
  obtain ⟨γ0, h1⟩ := h.2.1
  have g1 : (999 : Int32) ≤ ρ 1 ↔ ρ 1 = 999 := ge_iff (n := 999) (by decide) V.2.2.1
  have g2 : (99 : Int32) ≤ ρ 38 ↔ ρ 38 = 99 := ge_iff (n := 99) (by decide) V.2.2.2.1
  have g3 : (99 : Int32) ≤ ρ 41 ↔ ρ 41 = 99 := ge_iff (n := 99) (by decide) V.2.2.2.2
  unfold fX1_canHit ovR
  simp only [co_i12 h1, co_r6 h1, co_a7_0 h1, co_a7_1 h1, Option.bind_some, g1, g2, g3]
  repeat' split
  all_goals rfl
theorem IT.over {M : Mem_} {x : Nat} {ρ ρi : Rw_} {hi : Int32} {K : Nat → Rw_} {μ γ sc : Rw_} (t : IT M x ρ ρi hi K μ γ sc) : fX4_isOver M (x + 47) = some (ovR ρ) := by
  unfold fX4_isOver ovR
  simp only [t.r0, ro_a1 t.2.1, lt_, fX4_ofSide, Int32.reduceMul, Int32.reduceAdd, ro_a38 t.2.1, ro_a41 t.2.1, Option.bind_some]
  repeat' split
  all_goals rfl
section Q12
variable {M M' : Mem_} {n x : Nat} {ρ ρi : Rw_} {hi : Int32} {K : Nat → Rw_} {Z : Zr_} {ρm : Rw_} {Zm : Zr_} {γm cs : Rw_} {μ γ sc : Rw_}
theorem o_hit (h : IC M n x ρ ρi hi K Z ρm Zm γm cs) (t : IT M' x ρ ρi hi K μ γ sc) (V : OK_ ρ) (k c : Int32) : ∃ r ρ', CG M n x (fX1_hit M x k c) r ρ' ρi hi K ∧ TG M' x (fX4_hit M' (x + 47) k c) r ρ' ρi hi K ∧ OK_ ρ' := by
  unfold fX1_hit fX4_hit
  simp only [h.ck, h.isHit, t.ck, t.isStroke, Option.bind_some, lt_, show fX4_isCell c = fX4_isIn c 0 8 from rfl, h.r0, h.can V, t.over, t.r0]
  cases e1 : fX4_isIn k 0 (ρ 0 - 1) with
  | false => exact o_none h t V _
  | true =>
    cases e2 : fX4_isIn c 0 8 with
    | false => exact o_none h t V _
    | true =>
      cases e3 : ovR ρ with
      | true => exact o_none h t V _
      | false =>
        obtain ⟨hk, hk8⟩ := str_rg V.1.2.2.2.2.1 e1
        have hc := in_rg (m := 8) (by decide) e2
        obtain ⟨M1, a1, a2, a3⟩ := h.nhit V hk hk8 hc
        obtain ⟨M2, b1, b2, b3⟩ := t.nhit V hk hk8 hc
        obtain ⟨γ1, c1⟩ := a2.2.1
        have ov : ¬ ρ 1 = 999 ∧ ¬ ρ 38 = 99 ∧ ¬ ρ 41 = 99 := by
          unfold ovR at e3
          refine ⟨fun z => ?_, fun z => ?_, fun z => ?_⟩
          · rw [if_pos z] at e3
            cases e3
          · rw [if_pos z] at e3
            revert e3
            split <;> intro e3 <;> cases e3
          · rw [if_pos z] at e3
            revert e3
            repeat' split
            all_goals intro e3
            all_goals cases e3
        simp only [Bool.and_self, Bool.not_false, if_neg b2_t, if_pos b2_f, h.ck1, a1, b1, bw_, Option.bind_some, a2.r0, co_i10 c1, b2.r0, ro_a2 b2.2.1]
        exact ⟨_, _, ⟨_, _, _, _, _, _, rfl, a2, a3.w⟩, ⟨_, _, _, _, rfl, b2, b3⟩, V.hit hk hc ov.1 ov.2.1 ov.2.2⟩
end Q12
