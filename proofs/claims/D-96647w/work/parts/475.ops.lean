/-! more questions -/
set_option maxRecDepth 100000
theorem lf_bits {ρ : Rw_} (V : VR ρ) : (lf_ ρ >>> ((0 : Int32) &&& 31)) &&& 1 = ρ 23 ∧ (lf_ ρ >>> ((1 : Int32) &&& 31)) &&& 1 = ρ 27 ∧ (lf_ ρ >>> ((2 : Int32) &&& 31)) &&& 1 = ρ 31 ∧ (lf_ ρ >>> ((3 : Int32) &&& 31)) &&& 1 = ρ 35 ∧ lf_ ρ = ((((0 ||| (ρ 23 <<< ((0 : Int32) &&& 31))) ||| (ρ 27 <<< ((1 : Int32) &&& 31))) ||| (ρ 31 <<< ((2 : Int32) &&& 31))) ||| (ρ 35 <<< ((3 : Int32) &&& 31))) := by
  obtain ⟨i0, h0, e0⟩ := (V.1 0 (by decide)).2.2.2
  obtain ⟨i1, h1, e1⟩ := (V.1 1 (by decide)).2.2.2
  obtain ⟨i2, h2, e2⟩ := (V.1 2 (by decide)).2.2.2
  obtain ⟨i3, h3, e3⟩ := (V.1 3 (by decide)).2.2.2
  have e0 : ρ 23 = _ := e0
  have e1 : ρ 27 = _ := e1
  have e2 : ρ 31 = _ := e2
  have e3 : ρ 35 = _ := e3
  unfold lf_
  rw [e0, e1, e2, e3]
  have K : ∀ (a b c d : Fin 2), ((Int32.ofNat a.val + 2 * Int32.ofNat b.val + 4 * Int32.ofNat c.val + 8 * Int32.ofNat d.val) >>> ((0 : Int32) &&& 31)) &&& 1 = Int32.ofNat a.val ∧ ((Int32.ofNat a.val + 2 * Int32.ofNat b.val + 4 * Int32.ofNat c.val + 8 * Int32.ofNat d.val) >>> ((1 : Int32) &&& 31)) &&& 1 = Int32.ofNat b.val ∧ ((Int32.ofNat a.val + 2 * Int32.ofNat b.val + 4 * Int32.ofNat c.val + 8 * Int32.ofNat d.val) >>> ((2 : Int32) &&& 31)) &&& 1 = Int32.ofNat c.val ∧ ((Int32.ofNat a.val + 2 * Int32.ofNat b.val + 4 * Int32.ofNat c.val + 8 * Int32.ofNat d.val) >>> ((3 : Int32) &&& 31)) &&& 1 = Int32.ofNat d.val ∧ (Int32.ofNat a.val + 2 * Int32.ofNat b.val + 4 * Int32.ofNat c.val + 8 * Int32.ofNat d.val) = ((((0 ||| (Int32.ofNat a.val <<< ((0 : Int32) &&& 31))) ||| (Int32.ofNat b.val <<< ((1 : Int32) &&& 31))) ||| (Int32.ofNat c.val <<< ((2 : Int32) &&& 31))) ||| (Int32.ofNat d.val <<< ((3 : Int32) &&& 31))) := by decide +kernel
  exact K ⟨i0, h0⟩ ⟨i1, h1⟩ ⟨i2, h2⟩ ⟨i3, h3⟩
theorem rg4c {v : Int32} (h : rg_ 4 v) : v = 0 ∨ v = 1 ∨ v = 2 ∨ v = 3 := by
  obtain ⟨i, hi, rfl⟩ := h
  match i, hi with
  | 0, _ => exact .inl rfl
  | 1, _ => exact .inr (.inl rfl)
  | 2, _ => exact .inr (.inr (.inl rfl))
  | 3, _ => exact .inr (.inr (.inr rfl))
theorem rg2c {v : Int32} (h : rg_ 2 v) : v = 0 ∨ v = 1 := by
  obtain ⟨i, hi, rfl⟩ := h
  match i, hi with
  | 0, _ => exact .inl rfl
  | 1, _ => exact .inr rfl
theorem in3 (v : Int32) : (fX4_isIn v 0 3 = true ∧ (v = 0 ∨ v = 1 ∨ v = 2 ∨ v = 3)) ∨ (fX4_isIn v 0 3 = false ∧ v ≠ 0 ∧ v ≠ 1 ∧ v ≠ 2 ∧ v ≠ 3) := by
  cases e : fX4_isIn v 0 3 with
  | true => exact .inl ⟨rfl, rg4c (in_rg (m := 3) (by decide) e)⟩
  | false =>
    refine .inr ⟨rfl, ?_, ?_, ?_, ?_⟩
    all_goals intro z
    all_goals subst z
    all_goals revert e
    all_goals decide
theorem in1 (v : Int32) : (fX4_isIn v 0 1 = true ∧ (v = 0 ∨ v = 1)) ∨ (fX4_isIn v 0 1 = false ∧ v ≠ 0 ∧ v ≠ 1) := by
  cases e : fX4_isIn v 0 1 with
  | true => exact .inl ⟨rfl, rg2c (in_rg (m := 1) (by decide) e)⟩
  | false =>
    refine .inr ⟨rfl, ?_, ?_⟩
    all_goals intro z
    all_goals subst z
    all_goals revert e
    all_goals decide
theorem ne01 : ¬ (0 : Int32) = 1 := by decide
theorem ne04 : ¬ (0 : Int32) = 4 := by decide
theorem ne10 : ¬ (1 : Int32) = 0 := by decide
theorem ne14 : ¬ (1 : Int32) = 4 := by decide
theorem ne20 : ¬ (2 : Int32) = 0 := by decide
theorem ne21 : ¬ (2 : Int32) = 1 := by decide
theorem ne24 : ¬ (2 : Int32) = 4 := by decide
theorem ne30 : ¬ (3 : Int32) = 0 := by decide
theorem ne31 : ¬ (3 : Int32) = 1 := by decide
theorem ne32 : ¬ (3 : Int32) = 2 := by decide
theorem ne34 : ¬ (3 : Int32) = 4 := by decide
theorem ne03 : ¬ (0 : Int32) = 3 := by decide
theorem ne13 : ¬ (1 : Int32) = 3 := by decide
theorem ne23 : ¬ (2 : Int32) = 3 := by decide
theorem ne40 : ¬ (4 : Int32) = 0 := by decide
theorem ne41 : ¬ (4 : Int32) = 1 := by decide
theorem ne42 : ¬ (4 : Int32) = 2 := by decide
theorem ne43 : ¬ (4 : Int32) = 3 := by decide
theorem ne50 : ¬ (5 : Int32) = 0 := by decide
theorem ne51 : ¬ (5 : Int32) = 1 := by decide
theorem ne52 : ¬ (5 : Int32) = 2 := by decide
theorem ne53 : ¬ (5 : Int32) = 3 := by decide
theorem ne54 : ¬ (5 : Int32) = 4 := by decide
section Q2
variable {M M' : Mem_} {n x : Nat} {ρ ρi : Rw_} {hi : Int32} {K : Nat → Rw_} {Z : Zr_} {ρm : Rw_} {Zm : Zr_} {γm cs : Rw_} {μ γ sc : Rw_}
set_option maxHeartbeats 4000000 in
theorem o_player (h : IC M n x ρ ρi hi K Z ρm Zm γm cs) (t : IT M' x ρ ρi hi K μ γ sc) (V : OK_ ρ) (p w : Int32) : ∃ r, fX1_player M x p w = some r ∧ fX4_player M' (x + 47) p w = some r := by
  obtain ⟨γ0, h1⟩ := h.2.1
  have g := t.2.2.2.2.2.2.1
  obtain ⟨b0, b1, b2, b3, _⟩ := lf_bits V.1
  unfold fX1_player fX4_player
  simp only [lt_, show fX1_isPlayer p = fX4_isIn p 0 3 from rfl, show fX4_isPlayer p = fX4_isIn p 0 3 from rfl]
  rcases in3 p with ⟨e, z⟩ | ⟨e, _⟩
  · rw [e]
    rcases in4 w with ⟨e2, y⟩ | ⟨e2, y0, y1, y2, y3, y4⟩
    · rw [e2]
      rcases z with z | z | z | z <;> rcases y with y | y | y | y | y <;> subst z <;> subst y
      all_goals simp only [if_neg b2_t, if_true, if_neg ne01, if_neg ne04, if_neg ne10, if_neg ne14, if_neg ne20, if_neg ne21, if_neg ne24, if_neg ne30, if_neg ne31, if_neg ne32, if_neg ne34, if_neg ne40, if_neg ne41, if_neg ne42, if_neg ne43, h.r0, t.r0, co_ck (h1), co_r0 (h1), co_r1 (h1), co_r2 (h1), co_r3 (h1), co_r4 (h1), co_r5 (h1), co_r6 (h1), co_r7 (h1), co_i8 (h1), co_i9 (h1), co_i10 (h1), co_i11 (h1), co_i12 (h1), co_a2_0 (h1), co_a2_1 (h1), co_a2_2 (h1), co_a2_3 (h1), co_a3_0 (h1), co_a3_1 (h1), co_a3_2 (h1), co_a3_3 (h1), co_a4_0 (h1), co_a4_1 (h1), co_a4_2 (h1), co_a4_3 (h1), co_a5_0 (h1), co_a5_1 (h1), co_a6_0 (h1), co_a6_1 (h1), co_a7_0 (h1), co_a7_1 (h1), co_a8_0 (h1), co_a8_1 (h1), co_a8_2 (h1), co_a8_3 (h1), co_stp0 h1, co_stp1 h1, co_stp2 h1, co_stp3 h1, b0, b1, b2, b3, ro_stp0 t.2.1 g, ro_stp1 t.2.1 g, ro_stp2 t.2.1 g, ro_stp3 t.2.1 g, ro_a0 (t.2.1), ro_a1 (t.2.1), ro_a2 (t.2.1), ro_a3 (t.2.1), ro_a20 (t.2.1), ro_a21 (t.2.1), ro_a22 (t.2.1), ro_a23 (t.2.1), ro_a24 (t.2.1), ro_a25 (t.2.1), ro_a26 (t.2.1), ro_a27 (t.2.1), ro_a28 (t.2.1), ro_a29 (t.2.1), ro_a30 (t.2.1), ro_a31 (t.2.1), ro_a32 (t.2.1), ro_a33 (t.2.1), ro_a34 (t.2.1), ro_a35 (t.2.1), ro_a36 (t.2.1), ro_a37 (t.2.1), ro_a38 (t.2.1), ro_a39 (t.2.1), ro_a40 (t.2.1), ro_a41 (t.2.1), tn0, tn1, tn2, tn3, Int32.reduceMul, Int32.reduceAdd, Int32.reduceSub, Int32.reduceDiv, Nat.reduceMul, Nat.reduceAdd, Nat.reduceSub, Nat.reduceDiv, Nat.reduceMod, oN0, oN1, oN2, oN3, Option.bind_some, lt_, fX4_ofP, fX4_ofSide]
      all_goals exact ⟨_, rfl, rfl⟩
    · rw [e2]
      simp only [if_neg b2_t, if_neg y0, if_neg y1, if_neg y2, if_neg y3, if_neg y4]
      exact ⟨_, rfl, rfl⟩
  · rw [e]
    exact ⟨_, rfl, rfl⟩
set_option maxHeartbeats 4000000 in
theorem o_side (h : IC M n x ρ ρi hi K Z ρm Zm γm cs) (t : IT M' x ρ ρi hi K μ γ sc) (V : OK_ ρ) (p w : Int32) : ∃ r, fX1_side M x p w = some r ∧ fX4_side M' (x + 47) p w = some r := by
  obtain ⟨γ0, h1⟩ := h.2.1
  have g := t.2.2.2.2.2.2.1
  have A : ∀ p, p < 4 → rg_ 9 (ρ (20 + 4 * p)) := fun p hp => (V.1.1 p hp).1
  have P : ∀ p s, p < 4 → s < 2 → rg_ 9 (fX4_placeFor (ρ (36 + 3 * s)) (ρ (20 + 4 * p))) := fun p s hp hs => place_rg (V.1.2.1 s hs).1 (A p hp)
  have w0 : fX1_wayTo (ρ 24) (fX4_placeFor (ρ 36) (ρ 20)) = fX4_wayOf (ρ 24) (fX4_placeFor (ρ 36) (ρ 20)) := way_eq (A 1 (by decide)) (P 0 0 (by decide) (by decide))
  have w1 : fX1_wayTo (ρ 20) (fX4_placeFor (ρ 36) (ρ 24)) = fX4_wayOf (ρ 20) (fX4_placeFor (ρ 36) (ρ 24)) := way_eq (A 0 (by decide)) (P 1 0 (by decide) (by decide))
  have w2 : fX1_wayTo (ρ 32) (fX4_placeFor (ρ 39) (ρ 28)) = fX4_wayOf (ρ 32) (fX4_placeFor (ρ 39) (ρ 28)) := way_eq (A 3 (by decide)) (P 2 1 (by decide) (by decide))
  have w3 : fX1_wayTo (ρ 28) (fX4_placeFor (ρ 39) (ρ 32)) = fX4_wayOf (ρ 28) (fX4_placeFor (ρ 39) (ρ 32)) := way_eq (A 2 (by decide)) (P 3 1 (by decide) (by decide))
  have x0 : (0 ^^^ 1 : Int32) = 1 := by decide
  have x1 : (1 ^^^ 1 : Int32) = 0 := by decide
  have x2 : (2 ^^^ 1 : Int32) = 3 := by decide
  have x3 : (3 ^^^ 1 : Int32) = 2 := by decide
  have p0 : fX4_partner 0 = 1 := by decide
  have p1 : fX4_partner 1 = 0 := by decide
  have p2 : fX4_partner 2 = 3 := by decide
  have p3 : fX4_partner 3 = 2 := by decide
  unfold fX1_side fX4_side
  simp only [lt_, show fX1_isIn p 0 1 = fX4_isIn p 0 1 from rfl]
  rcases in1 p with ⟨e, z⟩ | ⟨e, _⟩
  · rw [e]
    rcases in3 w with ⟨e2, y⟩ | ⟨e2, y0, y1, y2, y3⟩
    · rw [e2]
      rcases z with z | z <;> rcases y with y | y | y | y <;> subst z <;> subst y
      all_goals try (simp only [if_neg b2_t, if_true, if_neg ne01, if_neg ne03, if_neg ne10, if_neg ne13, if_neg ne20, if_neg ne21, if_neg ne23, h.r0, t.r0, co_ck (h1), co_r0 (h1), co_r1 (h1), co_r2 (h1), co_r3 (h1), co_r4 (h1), co_r5 (h1), co_r6 (h1), co_r7 (h1), co_i8 (h1), co_i9 (h1), co_i10 (h1), co_i11 (h1), co_i12 (h1), co_a2_0 (h1), co_a2_1 (h1), co_a2_2 (h1), co_a2_3 (h1), co_a3_0 (h1), co_a3_1 (h1), co_a3_2 (h1), co_a3_3 (h1), co_a4_0 (h1), co_a4_1 (h1), co_a4_2 (h1), co_a4_3 (h1), co_a5_0 (h1), co_a5_1 (h1), co_a6_0 (h1), co_a6_1 (h1), co_a7_0 (h1), co_a7_1 (h1), co_a8_0 (h1), co_a8_1 (h1), co_a8_2 (h1), co_a8_3 (h1), ro_a0 (t.2.1), ro_a1 (t.2.1), ro_a2 (t.2.1), ro_a3 (t.2.1), ro_a20 (t.2.1), ro_a21 (t.2.1), ro_a22 (t.2.1), ro_a23 (t.2.1), ro_a24 (t.2.1), ro_a25 (t.2.1), ro_a26 (t.2.1), ro_a27 (t.2.1), ro_a28 (t.2.1), ro_a29 (t.2.1), ro_a30 (t.2.1), ro_a31 (t.2.1), ro_a32 (t.2.1), ro_a33 (t.2.1), ro_a34 (t.2.1), ro_a35 (t.2.1), ro_a36 (t.2.1), ro_a37 (t.2.1), ro_a38 (t.2.1), ro_a39 (t.2.1), ro_a40 (t.2.1), ro_a41 (t.2.1), tn0, tn1, tn2, tn3, Int32.reduceMul, Int32.reduceAdd, Int32.reduceSub, Int32.reduceDiv, Nat.reduceMul, Nat.reduceAdd, Nat.reduceSub, Nat.reduceDiv, Nat.reduceMod, oN0, oN1, oN2, oN3, Option.bind_some, lt_, fX4_ofP, fX4_ofSide]; exact ⟨_, rfl, rfl⟩)
      all_goals unfold fX4_outOfPlace fX2_outOfPlace
      all_goals rcases rg4c V.1.2.2.1 with z | z | z | z
      all_goals simp only [if_neg b2_t, if_true, if_neg ne01, if_neg ne10, if_neg ne30, if_neg ne31, if_neg ne32, h.r0, h.ck1, t.r0, t.ck, co_turn h1, z, fX4_sideOf, co_pla0 h1, co_pla1 h1, co_pla2 h1, co_pla3 h1, w0, w1, w2, w3, x0, x1, x2, x3, p0, p1, p2, p3, co_ck (h1), co_r0 (h1), co_r1 (h1), co_r2 (h1), co_r3 (h1), co_r4 (h1), co_r5 (h1), co_r6 (h1), co_r7 (h1), co_i8 (h1), co_i9 (h1), co_i10 (h1), co_i11 (h1), co_i12 (h1), co_a2_0 (h1), co_a2_1 (h1), co_a2_2 (h1), co_a2_3 (h1), co_a3_0 (h1), co_a3_1 (h1), co_a3_2 (h1), co_a3_3 (h1), co_a4_0 (h1), co_a4_1 (h1), co_a4_2 (h1), co_a4_3 (h1), co_a5_0 (h1), co_a5_1 (h1), co_a6_0 (h1), co_a6_1 (h1), co_a7_0 (h1), co_a7_1 (h1), co_a8_0 (h1), co_a8_1 (h1), co_a8_2 (h1), co_a8_3 (h1), ro_a0 (t.2.1), ro_a1 (t.2.1), ro_a2 (t.2.1), ro_a3 (t.2.1), ro_a20 (t.2.1), ro_a21 (t.2.1), ro_a22 (t.2.1), ro_a23 (t.2.1), ro_a24 (t.2.1), ro_a25 (t.2.1), ro_a26 (t.2.1), ro_a27 (t.2.1), ro_a28 (t.2.1), ro_a29 (t.2.1), ro_a30 (t.2.1), ro_a31 (t.2.1), ro_a32 (t.2.1), ro_a33 (t.2.1), ro_a34 (t.2.1), ro_a35 (t.2.1), ro_a36 (t.2.1), ro_a37 (t.2.1), ro_a38 (t.2.1), ro_a39 (t.2.1), ro_a40 (t.2.1), ro_a41 (t.2.1), tn0, tn1, tn2, tn3, Int32.reduceMul, Int32.reduceAdd, Int32.reduceSub, Int32.reduceDiv, Nat.reduceMul, Nat.reduceAdd, Nat.reduceSub, Nat.reduceDiv, Nat.reduceMod, oN0, oN1, oN2, oN3, Option.bind_some, lt_, fX4_ofP, fX4_ofSide]
      all_goals exact ⟨_, rfl, rfl⟩
    · rw [e2]
      simp only [if_neg b2_t, if_neg y0, if_neg y1, if_neg y2, if_neg y3]
      exact ⟨_, rfl, rfl⟩
  · rw [e]
    exact ⟨_, rfl, rfl⟩
def atd_ (ρ : Rw_) : Int32 := (((0 + ρ 22) + ρ 26) + ρ 30) + ρ 34
theorem IT.allTired (t : IT M' x ρ ρi hi K μ γ sc) : fX4_allTired M' (x + 47) = some (atd_ ρ) := by
  have k : ∀ fuel, fX4_allTired_L4 (fuel + 1 + 1 + 1 + 1 + 1) M' (x + 47) 0 0 = some (atd_ ρ) := fun fuel => by
    rw [fX4_allTired_L4, if_neg (by decide)]
    simp only [t.r0, ro_a0 (t.2.1), ro_a1 (t.2.1), ro_a2 (t.2.1), ro_a3 (t.2.1), ro_a20 (t.2.1), ro_a21 (t.2.1), ro_a22 (t.2.1), ro_a23 (t.2.1), ro_a24 (t.2.1), ro_a25 (t.2.1), ro_a26 (t.2.1), ro_a27 (t.2.1), ro_a28 (t.2.1), ro_a29 (t.2.1), ro_a30 (t.2.1), ro_a31 (t.2.1), ro_a32 (t.2.1), ro_a33 (t.2.1), ro_a34 (t.2.1), ro_a35 (t.2.1), ro_a36 (t.2.1), ro_a37 (t.2.1), ro_a38 (t.2.1), ro_a39 (t.2.1), ro_a40 (t.2.1), ro_a41 (t.2.1), tn0, tn1, tn2, tn3, Int32.reduceMul, Int32.reduceAdd, Int32.reduceSub, Int32.reduceDiv, Nat.reduceMul, Nat.reduceAdd, Nat.reduceSub, Nat.reduceDiv, Nat.reduceMod, oN0, oN1, oN2, oN3, Option.bind_some, lt_, fX4_ofP, fX4_ofSide]
    rw [fX4_allTired_L4, if_neg (by decide)]
    simp only [t.r0, ro_a0 (t.2.1), ro_a1 (t.2.1), ro_a2 (t.2.1), ro_a3 (t.2.1), ro_a20 (t.2.1), ro_a21 (t.2.1), ro_a22 (t.2.1), ro_a23 (t.2.1), ro_a24 (t.2.1), ro_a25 (t.2.1), ro_a26 (t.2.1), ro_a27 (t.2.1), ro_a28 (t.2.1), ro_a29 (t.2.1), ro_a30 (t.2.1), ro_a31 (t.2.1), ro_a32 (t.2.1), ro_a33 (t.2.1), ro_a34 (t.2.1), ro_a35 (t.2.1), ro_a36 (t.2.1), ro_a37 (t.2.1), ro_a38 (t.2.1), ro_a39 (t.2.1), ro_a40 (t.2.1), ro_a41 (t.2.1), tn0, tn1, tn2, tn3, Int32.reduceMul, Int32.reduceAdd, Int32.reduceSub, Int32.reduceDiv, Nat.reduceMul, Nat.reduceAdd, Nat.reduceSub, Nat.reduceDiv, Nat.reduceMod, oN0, oN1, oN2, oN3, Option.bind_some, lt_, fX4_ofP, fX4_ofSide]
    rw [fX4_allTired_L4, if_neg (by decide)]
    simp only [t.r0, ro_a0 (t.2.1), ro_a1 (t.2.1), ro_a2 (t.2.1), ro_a3 (t.2.1), ro_a20 (t.2.1), ro_a21 (t.2.1), ro_a22 (t.2.1), ro_a23 (t.2.1), ro_a24 (t.2.1), ro_a25 (t.2.1), ro_a26 (t.2.1), ro_a27 (t.2.1), ro_a28 (t.2.1), ro_a29 (t.2.1), ro_a30 (t.2.1), ro_a31 (t.2.1), ro_a32 (t.2.1), ro_a33 (t.2.1), ro_a34 (t.2.1), ro_a35 (t.2.1), ro_a36 (t.2.1), ro_a37 (t.2.1), ro_a38 (t.2.1), ro_a39 (t.2.1), ro_a40 (t.2.1), ro_a41 (t.2.1), tn0, tn1, tn2, tn3, Int32.reduceMul, Int32.reduceAdd, Int32.reduceSub, Int32.reduceDiv, Nat.reduceMul, Nat.reduceAdd, Nat.reduceSub, Nat.reduceDiv, Nat.reduceMod, oN0, oN1, oN2, oN3, Option.bind_some, lt_, fX4_ofP, fX4_ofSide]
    rw [fX4_allTired_L4, if_neg (by decide)]
    simp only [t.r0, ro_a0 (t.2.1), ro_a1 (t.2.1), ro_a2 (t.2.1), ro_a3 (t.2.1), ro_a20 (t.2.1), ro_a21 (t.2.1), ro_a22 (t.2.1), ro_a23 (t.2.1), ro_a24 (t.2.1), ro_a25 (t.2.1), ro_a26 (t.2.1), ro_a27 (t.2.1), ro_a28 (t.2.1), ro_a29 (t.2.1), ro_a30 (t.2.1), ro_a31 (t.2.1), ro_a32 (t.2.1), ro_a33 (t.2.1), ro_a34 (t.2.1), ro_a35 (t.2.1), ro_a36 (t.2.1), ro_a37 (t.2.1), ro_a38 (t.2.1), ro_a39 (t.2.1), ro_a40 (t.2.1), ro_a41 (t.2.1), tn0, tn1, tn2, tn3, Int32.reduceMul, Int32.reduceAdd, Int32.reduceSub, Int32.reduceDiv, Nat.reduceMul, Nat.reduceAdd, Nat.reduceSub, Nat.reduceDiv, Nat.reduceMod, oN0, oN1, oN2, oN3, Option.bind_some, lt_, fX4_ofP, fX4_ofSide]
    rw [fX4_allTired_L4, if_pos (by decide)]
    rfl
  unfold fX4_allTired
  exact k 995
theorem IC.allTired (h : IC M n x ρ ρi hi K Z ρm Zm γm cs) : fX2_tiredOf M (x + 1) 0 = some (ρ 22 + ρ 26) ∧ fX2_tiredOf M (x + 1) 1 = some (ρ 30 + ρ 34) := by
  obtain ⟨γ0, h1⟩ := h.2.1
  unfold fX2_tiredOf
  constructor
  all_goals simp only [co_ck (h1), co_r0 (h1), co_r1 (h1), co_r2 (h1), co_r3 (h1), co_r4 (h1), co_r5 (h1), co_r6 (h1), co_r7 (h1), co_i8 (h1), co_i9 (h1), co_i10 (h1), co_i11 (h1), co_i12 (h1), co_a2_0 (h1), co_a2_1 (h1), co_a2_2 (h1), co_a2_3 (h1), co_a3_0 (h1), co_a3_1 (h1), co_a3_2 (h1), co_a3_3 (h1), co_a4_0 (h1), co_a4_1 (h1), co_a4_2 (h1), co_a4_3 (h1), co_a5_0 (h1), co_a5_1 (h1), co_a6_0 (h1), co_a6_1 (h1), co_a7_0 (h1), co_a7_1 (h1), co_a8_0 (h1), co_a8_1 (h1), co_a8_2 (h1), co_a8_3 (h1), tn0, tn1, tn2, tn3, Int32.reduceMul, Int32.reduceAdd, Int32.reduceSub, Int32.reduceDiv, Nat.reduceMul, Nat.reduceAdd, Nat.reduceSub, Nat.reduceDiv, Nat.reduceMod, oN0, oN1, oN2, oN3, Option.bind_some, lt_, fX4_ofP, fX4_ofSide]
theorem atd_eq (ρ : Rw_) : (ρ 22 + ρ 26) + (ρ 30 + ρ 34) = atd_ ρ := by
  unfold atd_
  rw [Int32.zero_add, Int32.add_assoc (ρ 22 + ρ 26)]
theorem o_count (h : IC M n x ρ ρi hi K Z ρm Zm γm cs) (t : IT M' x ρ ρi hi K μ γ sc) (V : OK_ ρ) (w : Int32) : ∃ r, fX1_count M x w = some r ∧ fX4_count M' (x + 47) w = some r := by
  obtain ⟨γ0, h1⟩ := h.2.1
  have k : ∀ fuel, fX4_count_L63 (fuel + 1 + 1 + 1 + 1 + 1) M' (x + 47) 5 0 0 = some (lf_ ρ) := fun fuel => by
    rw [fX4_count_L63, if_neg (by decide)]
    simp only [t.r0, ro_a0 (t.2.1), ro_a1 (t.2.1), ro_a2 (t.2.1), ro_a3 (t.2.1), ro_a20 (t.2.1), ro_a21 (t.2.1), ro_a22 (t.2.1), ro_a23 (t.2.1), ro_a24 (t.2.1), ro_a25 (t.2.1), ro_a26 (t.2.1), ro_a27 (t.2.1), ro_a28 (t.2.1), ro_a29 (t.2.1), ro_a30 (t.2.1), ro_a31 (t.2.1), ro_a32 (t.2.1), ro_a33 (t.2.1), ro_a34 (t.2.1), ro_a35 (t.2.1), ro_a36 (t.2.1), ro_a37 (t.2.1), ro_a38 (t.2.1), ro_a39 (t.2.1), ro_a40 (t.2.1), ro_a41 (t.2.1), tn0, tn1, tn2, tn3, Int32.reduceMul, Int32.reduceAdd, Int32.reduceSub, Int32.reduceDiv, Nat.reduceMul, Nat.reduceAdd, Nat.reduceSub, Nat.reduceDiv, Nat.reduceMod, oN0, oN1, oN2, oN3, Option.bind_some, lt_, fX4_ofP, fX4_ofSide]
    rw [fX4_count_L63, if_neg (by decide)]
    simp only [t.r0, ro_a0 (t.2.1), ro_a1 (t.2.1), ro_a2 (t.2.1), ro_a3 (t.2.1), ro_a20 (t.2.1), ro_a21 (t.2.1), ro_a22 (t.2.1), ro_a23 (t.2.1), ro_a24 (t.2.1), ro_a25 (t.2.1), ro_a26 (t.2.1), ro_a27 (t.2.1), ro_a28 (t.2.1), ro_a29 (t.2.1), ro_a30 (t.2.1), ro_a31 (t.2.1), ro_a32 (t.2.1), ro_a33 (t.2.1), ro_a34 (t.2.1), ro_a35 (t.2.1), ro_a36 (t.2.1), ro_a37 (t.2.1), ro_a38 (t.2.1), ro_a39 (t.2.1), ro_a40 (t.2.1), ro_a41 (t.2.1), tn0, tn1, tn2, tn3, Int32.reduceMul, Int32.reduceAdd, Int32.reduceSub, Int32.reduceDiv, Nat.reduceMul, Nat.reduceAdd, Nat.reduceSub, Nat.reduceDiv, Nat.reduceMod, oN0, oN1, oN2, oN3, Option.bind_some, lt_, fX4_ofP, fX4_ofSide]
    rw [fX4_count_L63, if_neg (by decide)]
    simp only [t.r0, ro_a0 (t.2.1), ro_a1 (t.2.1), ro_a2 (t.2.1), ro_a3 (t.2.1), ro_a20 (t.2.1), ro_a21 (t.2.1), ro_a22 (t.2.1), ro_a23 (t.2.1), ro_a24 (t.2.1), ro_a25 (t.2.1), ro_a26 (t.2.1), ro_a27 (t.2.1), ro_a28 (t.2.1), ro_a29 (t.2.1), ro_a30 (t.2.1), ro_a31 (t.2.1), ro_a32 (t.2.1), ro_a33 (t.2.1), ro_a34 (t.2.1), ro_a35 (t.2.1), ro_a36 (t.2.1), ro_a37 (t.2.1), ro_a38 (t.2.1), ro_a39 (t.2.1), ro_a40 (t.2.1), ro_a41 (t.2.1), tn0, tn1, tn2, tn3, Int32.reduceMul, Int32.reduceAdd, Int32.reduceSub, Int32.reduceDiv, Nat.reduceMul, Nat.reduceAdd, Nat.reduceSub, Nat.reduceDiv, Nat.reduceMod, oN0, oN1, oN2, oN3, Option.bind_some, lt_, fX4_ofP, fX4_ofSide]
    rw [fX4_count_L63, if_neg (by decide)]
    simp only [t.r0, ro_a0 (t.2.1), ro_a1 (t.2.1), ro_a2 (t.2.1), ro_a3 (t.2.1), ro_a20 (t.2.1), ro_a21 (t.2.1), ro_a22 (t.2.1), ro_a23 (t.2.1), ro_a24 (t.2.1), ro_a25 (t.2.1), ro_a26 (t.2.1), ro_a27 (t.2.1), ro_a28 (t.2.1), ro_a29 (t.2.1), ro_a30 (t.2.1), ro_a31 (t.2.1), ro_a32 (t.2.1), ro_a33 (t.2.1), ro_a34 (t.2.1), ro_a35 (t.2.1), ro_a36 (t.2.1), ro_a37 (t.2.1), ro_a38 (t.2.1), ro_a39 (t.2.1), ro_a40 (t.2.1), ro_a41 (t.2.1), tn0, tn1, tn2, tn3, Int32.reduceMul, Int32.reduceAdd, Int32.reduceSub, Int32.reduceDiv, Nat.reduceMul, Nat.reduceAdd, Nat.reduceSub, Nat.reduceDiv, Nat.reduceMod, oN0, oN1, oN2, oN3, Option.bind_some, lt_, fX4_ofP, fX4_ofSide]
    rw [fX4_count_L63, if_pos (by decide), (lf_bits V.1).2.2.2.2]
  unfold fX1_count fX4_count
  by_cases y0 : w = 0
  · subst y0
    simp only [if_true, h.r0, t.r0, co_ck (h1), co_r0 (h1), co_r1 (h1), co_r2 (h1), co_r3 (h1), co_r4 (h1), co_r5 (h1), co_r6 (h1), co_r7 (h1), co_i8 (h1), co_i9 (h1), co_i10 (h1), co_i11 (h1), co_i12 (h1), co_a2_0 (h1), co_a2_1 (h1), co_a2_2 (h1), co_a2_3 (h1), co_a3_0 (h1), co_a3_1 (h1), co_a3_2 (h1), co_a3_3 (h1), co_a4_0 (h1), co_a4_1 (h1), co_a4_2 (h1), co_a4_3 (h1), co_a5_0 (h1), co_a5_1 (h1), co_a6_0 (h1), co_a6_1 (h1), co_a7_0 (h1), co_a7_1 (h1), co_a8_0 (h1), co_a8_1 (h1), co_a8_2 (h1), co_a8_3 (h1), ro_a0 (t.2.1), ro_a1 (t.2.1), ro_a2 (t.2.1), ro_a3 (t.2.1), ro_a20 (t.2.1), ro_a21 (t.2.1), ro_a22 (t.2.1), ro_a23 (t.2.1), ro_a24 (t.2.1), ro_a25 (t.2.1), ro_a26 (t.2.1), ro_a27 (t.2.1), ro_a28 (t.2.1), ro_a29 (t.2.1), ro_a30 (t.2.1), ro_a31 (t.2.1), ro_a32 (t.2.1), ro_a33 (t.2.1), ro_a34 (t.2.1), ro_a35 (t.2.1), ro_a36 (t.2.1), ro_a37 (t.2.1), ro_a38 (t.2.1), ro_a39 (t.2.1), ro_a40 (t.2.1), ro_a41 (t.2.1), Option.bind_some]
    exact ⟨_, rfl, rfl⟩
  by_cases y1 : w = 1
  · subst y1
    simp only [if_true, if_neg ne10, h.r0, t.r0, co_ck (h1), co_r0 (h1), co_r1 (h1), co_r2 (h1), co_r3 (h1), co_r4 (h1), co_r5 (h1), co_r6 (h1), co_r7 (h1), co_i8 (h1), co_i9 (h1), co_i10 (h1), co_i11 (h1), co_i12 (h1), co_a2_0 (h1), co_a2_1 (h1), co_a2_2 (h1), co_a2_3 (h1), co_a3_0 (h1), co_a3_1 (h1), co_a3_2 (h1), co_a3_3 (h1), co_a4_0 (h1), co_a4_1 (h1), co_a4_2 (h1), co_a4_3 (h1), co_a5_0 (h1), co_a5_1 (h1), co_a6_0 (h1), co_a6_1 (h1), co_a7_0 (h1), co_a7_1 (h1), co_a8_0 (h1), co_a8_1 (h1), co_a8_2 (h1), co_a8_3 (h1), ro_a0 (t.2.1), ro_a1 (t.2.1), ro_a2 (t.2.1), ro_a3 (t.2.1), ro_a20 (t.2.1), ro_a21 (t.2.1), ro_a22 (t.2.1), ro_a23 (t.2.1), ro_a24 (t.2.1), ro_a25 (t.2.1), ro_a26 (t.2.1), ro_a27 (t.2.1), ro_a28 (t.2.1), ro_a29 (t.2.1), ro_a30 (t.2.1), ro_a31 (t.2.1), ro_a32 (t.2.1), ro_a33 (t.2.1), ro_a34 (t.2.1), ro_a35 (t.2.1), ro_a36 (t.2.1), ro_a37 (t.2.1), ro_a38 (t.2.1), ro_a39 (t.2.1), ro_a40 (t.2.1), ro_a41 (t.2.1), Option.bind_some]
    exact ⟨_, rfl, rfl⟩
  by_cases y2 : w = 2
  · subst y2
    simp only [if_true, if_neg ne20, if_neg ne21, h.r0, t.r0, co_ck (h1), co_r0 (h1), co_r1 (h1), co_r2 (h1), co_r3 (h1), co_r4 (h1), co_r5 (h1), co_r6 (h1), co_r7 (h1), co_i8 (h1), co_i9 (h1), co_i10 (h1), co_i11 (h1), co_i12 (h1), co_a2_0 (h1), co_a2_1 (h1), co_a2_2 (h1), co_a2_3 (h1), co_a3_0 (h1), co_a3_1 (h1), co_a3_2 (h1), co_a3_3 (h1), co_a4_0 (h1), co_a4_1 (h1), co_a4_2 (h1), co_a4_3 (h1), co_a5_0 (h1), co_a5_1 (h1), co_a6_0 (h1), co_a6_1 (h1), co_a7_0 (h1), co_a7_1 (h1), co_a8_0 (h1), co_a8_1 (h1), co_a8_2 (h1), co_a8_3 (h1), ro_a0 (t.2.1), ro_a1 (t.2.1), ro_a2 (t.2.1), ro_a3 (t.2.1), ro_a20 (t.2.1), ro_a21 (t.2.1), ro_a22 (t.2.1), ro_a23 (t.2.1), ro_a24 (t.2.1), ro_a25 (t.2.1), ro_a26 (t.2.1), ro_a27 (t.2.1), ro_a28 (t.2.1), ro_a29 (t.2.1), ro_a30 (t.2.1), ro_a31 (t.2.1), ro_a32 (t.2.1), ro_a33 (t.2.1), ro_a34 (t.2.1), ro_a35 (t.2.1), ro_a36 (t.2.1), ro_a37 (t.2.1), ro_a38 (t.2.1), ro_a39 (t.2.1), ro_a40 (t.2.1), ro_a41 (t.2.1), Option.bind_some]
    exact ⟨_, rfl, rfl⟩
  by_cases y3 : w = 3
  · subst y3
    simp only [if_true, if_neg ne30, if_neg ne31, if_neg ne32, h.r0, t.r0, co_ck (h1), co_r0 (h1), co_r1 (h1), co_r2 (h1), co_r3 (h1), co_r4 (h1), co_r5 (h1), co_r6 (h1), co_r7 (h1), co_i8 (h1), co_i9 (h1), co_i10 (h1), co_i11 (h1), co_i12 (h1), co_a2_0 (h1), co_a2_1 (h1), co_a2_2 (h1), co_a2_3 (h1), co_a3_0 (h1), co_a3_1 (h1), co_a3_2 (h1), co_a3_3 (h1), co_a4_0 (h1), co_a4_1 (h1), co_a4_2 (h1), co_a4_3 (h1), co_a5_0 (h1), co_a5_1 (h1), co_a6_0 (h1), co_a6_1 (h1), co_a7_0 (h1), co_a7_1 (h1), co_a8_0 (h1), co_a8_1 (h1), co_a8_2 (h1), co_a8_3 (h1), ro_a0 (t.2.1), ro_a1 (t.2.1), ro_a2 (t.2.1), ro_a3 (t.2.1), ro_a20 (t.2.1), ro_a21 (t.2.1), ro_a22 (t.2.1), ro_a23 (t.2.1), ro_a24 (t.2.1), ro_a25 (t.2.1), ro_a26 (t.2.1), ro_a27 (t.2.1), ro_a28 (t.2.1), ro_a29 (t.2.1), ro_a30 (t.2.1), ro_a31 (t.2.1), ro_a32 (t.2.1), ro_a33 (t.2.1), ro_a34 (t.2.1), ro_a35 (t.2.1), ro_a36 (t.2.1), ro_a37 (t.2.1), ro_a38 (t.2.1), ro_a39 (t.2.1), ro_a40 (t.2.1), ro_a41 (t.2.1), Option.bind_some]
    exact ⟨_, rfl, rfl⟩
  by_cases y4 : w = 4
  · subst y4
    simp only [if_true, if_neg ne40, if_neg ne41, if_neg ne42, if_neg ne43, h.r0, h.ck1, t.ck, h.allTired.1, h.allTired.2, t.allTired, Option.bind_some, atd_eq]
    exact ⟨_, rfl, rfl⟩
  by_cases y5 : w = 5
  · subst y5
    simp only [if_true, if_neg ne50, if_neg ne51, if_neg ne52, if_neg ne53, if_neg ne54, h.r0, co_ck (h1), co_r0 (h1), co_r1 (h1), co_r2 (h1), co_r3 (h1), co_r4 (h1), co_r5 (h1), co_r6 (h1), co_r7 (h1), co_i8 (h1), co_i9 (h1), co_i10 (h1), co_i11 (h1), co_i12 (h1), co_a2_0 (h1), co_a2_1 (h1), co_a2_2 (h1), co_a2_3 (h1), co_a3_0 (h1), co_a3_1 (h1), co_a3_2 (h1), co_a3_3 (h1), co_a4_0 (h1), co_a4_1 (h1), co_a4_2 (h1), co_a4_3 (h1), co_a5_0 (h1), co_a5_1 (h1), co_a6_0 (h1), co_a6_1 (h1), co_a7_0 (h1), co_a7_1 (h1), co_a8_0 (h1), co_a8_1 (h1), co_a8_2 (h1), co_a8_3 (h1), Option.bind_some]
    exact ⟨_, rfl, k 995⟩
  rw [if_neg y0, if_neg y1, if_neg y2, if_neg y3, if_neg y4, if_neg y5, if_neg y0, if_neg y1, if_neg y2, if_neg y3, if_neg y4, if_neg y5]
  exact ⟨_, rfl, rfl⟩
end Q2
