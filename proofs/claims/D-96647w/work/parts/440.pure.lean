/-! a hit, by the court -/
set_option maxRecDepth 100000
theorem T_hit {M : Mem_} {r g t : Nat} {ρ γ : Rw_} {fs : List Value} {k cell : Int32} (hg : g ≠ r) (h1 : t ≠ r) (h2 : t ≠ g) (hM : M t = some (eO_ 3 fs)) (hfs : fs[4]? = some (.ref g)) (V : VR ρ) (hk : k.toNatClampNeg < (ρ 0).toNatClampNeg) (hk8 : rg_ 8 k) (hc : rg_ 9 cell) : fX4_hits (tw_ M r g ρ γ) t r k cell = some ((hitR ρ γ k cell).1, tw_ M r g (hitR ρ γ k cell).2.1 (hitR ρ γ k cell).2.2) := by
  obtain ⟨i, hi, e⟩ := V.2.2.1
  match i, hi, e with
  | 0, _, e => exact T_hit0 M r g ρ γ hg h1 h2 hM hfs V hk8 hk hc e
  | 1, _, e => exact T_hit1 M r g ρ γ hg h1 h2 hM hfs V hk8 hk hc e
  | 2, _, e => exact T_hit2 M r g ρ γ hg h1 h2 hM hfs V hk8 hk hc e
  | 3, _, e => exact T_hit3 M r g ρ γ hg h1 h2 hM hfs V hk8 hk hc e
theorem sk_cg {M M' : Mem_} {q : Nat} (h : M' q = M q) : sk_ M' q = sk_ M q := by
  unfold sk_
  rw [h]
theorem gF_of {M : Mem_} {q kn : Nat} {fg : Int32} (hs : sk_ M q = some (kn, fg)) : gF_ M q = some fg := by
  unfold gF_
  rw [hs]
  rfl
theorem kd_of {M : Mem_} {q kn : Nat} {fg : Int32} (hs : sk_ M q = some (kn, fg)) : kd_ M q = some kn := by
  unfold kd_
  rw [hs]
  rfl
theorem S_time {M : Mem_} {q kn : Nat} {fg : Int32} (hs : sk_ M q = some (kn, fg)) (f : Int32) : s_time M q f = some (fX4_timeBy (Int32.ofNat kn) fg f) := by
  have hk : kn < 8 := (sk_spec hs).1
  unfold s_time
  rw [kd_of hs]
  match kn, hk, hs with
  | 0, _, hs => simp [fX8_time, fX4_timeBy]
  | 1, _, hs =>
    simp [fX9_time, fX4_timeBy, gF_of hs]
    repeat' split
    all_goals rfl
  | 2, _, hs =>
    simp [fX10_time, fX8_time, fX1_rowOf, lt_, fX4_timeBy, kd_of hs]
    repeat' split
    all_goals rfl
  | 3, _, hs =>
    simp [fX11_time, fX8_time, lt_, fX4_timeBy, kd_of hs]
  | 4, _, hs =>
    simp [fX12_time, fX10_time, fX8_time, fX1_rowOf, lt_, fX4_timeBy, kd_of hs]
    split
    all_goals simp
  | 5, _, hs => simp [fX13_time, fX11_time, fX8_time, lt_, fX4_timeBy, kd_of hs]
  | 6, _, hs => simp [fX8_time, fX4_timeBy]
  | 7, _, hs => simp [fX15_time, fX11_time, fX8_time, lt_, fX4_timeBy, kd_of hs]
theorem S_tires {M : Mem_} {q kn : Nat} {fg : Int32} (hs : sk_ M q = some (kn, fg)) : s_tires M q = some (fX4_tiresBy (Int32.ofNat kn) fg) := by
  have hk : kn < 8 := (sk_spec hs).1
  unfold s_tires
  rw [kd_of hs]
  match kn, hk, hs with
  | 0, _, hs => simp [fX4_tiresBy]
  | 1, _, hs => simp [fX9_tires, fX4_tiresBy]
  | 2, _, hs => simp [fX10_tires, fX18_tires, lt_, fX4_tiresBy, gF_of hs, kd_of hs]
  | 3, _, hs => simp [fX11_tires, fX18_tires, lt_, fX4_tiresBy, kd_of hs]
  | 4, _, hs => simp [fX10_tires, fX18_tires, lt_, fX4_tiresBy, gF_of hs, kd_of hs]
  | 5, _, hs => simp [fX13_tires, fX11_tires, fX18_tires, lt_, fX4_tiresBy, kd_of hs]
  | 6, _, hs => simp [fX4_tiresBy]
  | 7, _, hs => simp [fX11_tires, fX18_tires, lt_, fX4_tiresBy, kd_of hs]
theorem S_falls {M : Mem_} {q kn : Nat} {fg : Int32} (hs : sk_ M q = some (kn, fg)) {c d : Int32} (hc : rg_ 9 c) (hd : dr_ d) : s_falls M q c d = some (fal_ (Int32.ofNat kn) c d) := by
  have hk : kn < 8 := (sk_spec hs).1
  unfold s_falls
  rw [kd_of hs]
  match kn, hk with
  | 0, _ => rfl
  | 1, _ => rfl
  | 2, _ => rfl
  | 3, _ => rfl
  | 4, _ => rfl
  | 5, _ => rfl
  | 6, _ => exact congrArg some (rg_all1 (n := 9) (P := fun c => fX14_falls q c d = fal_ (Int32.ofNat 6) c d) (fun a => show (3 * (Int32.ofNat a.val / 3)) + 1 = ((Int32.ofNat a.val / 3) * 3) + 1 by rw [Int32.mul_comm]) hc)
  | 7, _ =>
    obtain ⟨i, hi, rfl⟩ := hd
    exact congrArg some (rg_all2 (n := 9) (m := 3) (P := fun c d => fX15_falls 0 c (d - 1) = fal_ (Int32.ofNat 7) c (d - 1)) (by decide +kernel) hc ⟨i, hi, rfl⟩)
theorem aNof {M : Mem_} {a t n : Nat} {f : Zr_} {i : Int32} (h : M a = some (eQ_ t n f)) (hi : ¬ (i < 0 ∨ n ≤ i.toNatClampNeg)) : aN_ M a t i = some (f i.toNatClampNeg) := by
  have e : aq_ M a t = some (n, f) := by
    unfold aq_
    rw [h]
    exact if_pos rfl
  unfold aN_
  rw [e]
  exact if_neg hi
theorem aRof {M : Mem_} {a t n q : Nat} {f : Zr_} {i : Int32} (h : M a = some (eQ_ t n f)) (hi : ¬ (i < 0 ∨ n ≤ i.toNatClampNeg)) (hf : f i.toNatClampNeg = some q) : aR_ M a t i = some q := by
  unfold aR_
  rw [aNof h hi, hf]
  rfl
theorem rg_in {n : Nat} {k : Int32} (hn : n ≤ 1000) (h : rg_ n k) : ¬ (k < 0 ∨ n ≤ k.toNatClampNeg) := by
  have h1 := rg_nat hn h
  obtain ⟨i, hi, e⟩ := h
  intro hh
  rcases hh with hh | hh
  · rw [e] at hh
    have := Int32.lt_iff_toInt_lt.mp hh
    rw [Int32.toInt_ofNat_of_lt (by omega)] at this
    simp at this
    omega
  · omega
theorem lf_has {ρ : Rw_} (V : VR ρ) : fX1_has (lf_ ρ) 0 = decide (ρ 23 = 1) ∧ fX1_has (lf_ ρ) 1 = decide (ρ 27 = 1) ∧ fX1_has (lf_ ρ) 2 = decide (ρ 31 = 1) ∧ fX1_has (lf_ ρ) 3 = decide (ρ 35 = 1) := by
  obtain ⟨i0, h0, e0⟩ := (V.1 0 (by decide)).2.2.2
  obtain ⟨i1, h1, e1⟩ := (V.1 1 (by decide)).2.2.2
  obtain ⟨i2, h2, e2⟩ := (V.1 2 (by decide)).2.2.2
  obtain ⟨i3, h3, e3⟩ := (V.1 3 (by decide)).2.2.2
  have e0 : ρ 23 = _ := e0
  have e1 : ρ 27 = _ := e1
  have e2 : ρ 31 = _ := e2
  have e3 : ρ 35 = _ := e3
  unfold lf_
  rw [e0, e1, e2, e3]
  have K : ∀ (a b c d : Fin 2), fX1_has (Int32.ofNat a.val + 2 * Int32.ofNat b.val + 4 * Int32.ofNat c.val + 8 * Int32.ofNat d.val) 0 = decide (Int32.ofNat a.val = 1) ∧ fX1_has (Int32.ofNat a.val + 2 * Int32.ofNat b.val + 4 * Int32.ofNat c.val + 8 * Int32.ofNat d.val) 1 = decide (Int32.ofNat b.val = 1) ∧ fX1_has (Int32.ofNat a.val + 2 * Int32.ofNat b.val + 4 * Int32.ofNat c.val + 8 * Int32.ofNat d.val) 2 = decide (Int32.ofNat c.val = 1) ∧ fX1_has (Int32.ofNat a.val + 2 * Int32.ofNat b.val + 4 * Int32.ofNat c.val + 8 * Int32.ofNat d.val) 3 = decide (Int32.ofNat d.val = 1) := by decide +kernel
  exact K ⟨i0, h0⟩ ⟨i1, h1⟩ ⟨i2, h2⟩ ⟨i3, h3⟩
theorem byh {h x y p0 p1 : Int32} (hh : rg_ 4 h) (hx : rg_ 2 x) (hy : rg_ 2 y) : (if h = 1 then some p0 else if h = 2 then some p0 else if h = 0 then some 9 else if (b2_ (decide (x = 1))) = (b2_ (decide (y = 1))) then some 9 else if (b2_ (decide (x = 1))) = 0 then some p1 else some p0) = (some (if h = 1 then p0 else if h = 2 then p0 else if x = y then 9 else if h = 3 then (if x = 1 then p0 else p1) else 9) : Option Int32) := by
  obtain ⟨i, hi, rfl⟩ := hh
  obtain ⟨j, hj, rfl⟩ := hx
  obtain ⟨k, hk, rfl⟩ := hy
  match i, hi, j, hj, k, hk with
  | 0, _, 0, _, 0, _ => rfl
  | 0, _, 0, _, 1, _ => rfl
  | 0, _, 1, _, 0, _ => rfl
  | 0, _, 1, _, 1, _ => rfl
  | 1, _, _, _, _, _ => rfl
  | 2, _, _, _, _, _ => rfl
  | 3, _, 0, _, 0, _ => rfl
  | 3, _, 0, _, 1, _ => rfl
  | 3, _, 1, _, 0, _ => rfl
  | 3, _, 1, _, 1, _ => rfl
theorem whl {a b : Int32} {α : Type} {x y z : α} (ha : rg_ 5 a) (hb : rg_ 5 b) : (if 0 ≤ a - b then if a - b ≤ 0 then x else y else z) = if a = b then x else if b ≤ a then y else z := by
  have K : ∀ (a b : Fin 5), (if 0 ≤ Int32.ofNat a.val - Int32.ofNat b.val then if Int32.ofNat a.val - Int32.ofNat b.val ≤ 0 then 0 else 1 else 2) = (if Int32.ofNat a.val = Int32.ofNat b.val then 0 else if Int32.ofNat b.val ≤ Int32.ofNat a.val then 1 else 2 : Nat) := by decide +kernel
  obtain ⟨i, hi, rfl⟩ := ha
  obtain ⟨j, hj, rfl⟩ := hb
  have k := K ⟨i, hi⟩ ⟨j, hj⟩
  revert k
  repeat' split
  all_goals intro k
  all_goals first | rfl | cases k
section CWF
variable (M : Mem_) (c : Nat) (ρ : Rw_) (Z : Zr_) (γ : Rw_)
theorem cw_q1 : cw_ M c ρ Z γ (c + 1) = some (eQ_ 3 8 Z) := cw_at (j := 1) (by decide)
theorem C_str {k : Int32} {q : Nat} (hk : rg_ 8 k) (hZ : Z k.toNatClampNeg = some q) : aR_ (cw_ M c ρ Z γ) (c + 1) 3 k = some q := aRof (cw_q1 M c ρ Z γ) (rg_in (by decide) hk) hZ
theorem C_turn : fX2_turn (cw_ M c ρ Z γ) c = some (ρ 2 / 2) := by
  unfold fX2_turn
  simp only [cw_i10, Option.bind_some]
theorem C_tir0 (v : Int32) : fX2_tiresMore (cw_ M c ρ Z γ) c 0 v = some (cw_ M c (tirR ρ 0 v) Z γ) := by
  unfold fX2_tiresMore
  simp only [cw_r3, cw_a4_0, cw_s4_0, min_eq, lt_, Option.bind_some]
  rfl
theorem C_stp0 (t : Int32) : fX2_steps (cw_ M c ρ Z γ) c 0 t = some (stpR ρ 0 t) := by
  unfold fX2_steps
  simp only [cw_r3, cw_r2, cw_a3_0, cw_a4_0, max_eq, lt_, Option.bind_some]
  rfl
theorem C_pla0 : fX2_placeBy (cw_ M c ρ Z γ) c 0 = some (fX4_placeFor (ρ 36) (ρ 20)) := by
  unfold fX2_placeBy fX4_placeFor
  simp only [cw_r1, cw_a2_0, cw_r4, fX1_columnOf, fX1_rowOf, cw_a5_0, tn0, tn1, tn2, tn3, Int32.reduceMul, Int32.reduceAdd, Int32.reduceSub, Int32.reduceDiv, Nat.reduceMul, Nat.reduceAdd, Nat.reduceSub, Nat.reduceDiv, Nat.reduceMod, oN0, oN1, oN2, oN3, Option.bind_some, lt_]
  split
  all_goals rfl
theorem C_sin0 {to most : Int32} (h1 : rg_ 9 (ρ 20)) (h2 : rg_ 9 to) (h3 : rg_ 29 most) : fX2_stepsIn (cw_ M c ρ Z γ) c 0 to most = some (cw_ M c (upd ρ 20 (tow_ (ρ 20) to most)) Z (upd γ 0 (γ 0 + fX4_wayOf (ρ 20) (tow_ (ρ 20) to most)))) := by
  have T := (tow_all h1 h2 h3).2
  rw [← T.2.1, ← T.1]
  unfold fX2_stepsIn st3_ st2_ st1_
  simp only [cw_r1, cw_a2_0, cw_s2_0, cw_r7, cw_a8_0, cw_s8_0, fX1_columnOf, fX1_rowOf, lt_, Option.bind_some]
  rfl
theorem C_tir1 (v : Int32) : fX2_tiresMore (cw_ M c ρ Z γ) c 1 v = some (cw_ M c (tirR ρ 1 v) Z γ) := by
  unfold fX2_tiresMore
  simp only [cw_r3, cw_a4_1, cw_s4_1, min_eq, lt_, Option.bind_some]
  rfl
theorem C_stp1 (t : Int32) : fX2_steps (cw_ M c ρ Z γ) c 1 t = some (stpR ρ 1 t) := by
  unfold fX2_steps
  simp only [cw_r3, cw_r2, cw_a3_1, cw_a4_1, max_eq, lt_, Option.bind_some]
  rfl
theorem C_pla1 : fX2_placeBy (cw_ M c ρ Z γ) c 1 = some (fX4_placeFor (ρ 36) (ρ 24)) := by
  unfold fX2_placeBy fX4_placeFor
  simp only [cw_r1, cw_a2_1, cw_r4, fX1_columnOf, fX1_rowOf, cw_a5_0, tn0, tn1, tn2, tn3, Int32.reduceMul, Int32.reduceAdd, Int32.reduceSub, Int32.reduceDiv, Nat.reduceMul, Nat.reduceAdd, Nat.reduceSub, Nat.reduceDiv, Nat.reduceMod, oN0, oN1, oN2, oN3, Option.bind_some, lt_]
  split
  all_goals rfl
theorem C_sin1 {to most : Int32} (h1 : rg_ 9 (ρ 24)) (h2 : rg_ 9 to) (h3 : rg_ 29 most) : fX2_stepsIn (cw_ M c ρ Z γ) c 1 to most = some (cw_ M c (upd ρ 24 (tow_ (ρ 24) to most)) Z (upd γ 1 (γ 1 + fX4_wayOf (ρ 24) (tow_ (ρ 24) to most)))) := by
  have T := (tow_all h1 h2 h3).2
  rw [← T.2.1, ← T.1]
  unfold fX2_stepsIn st3_ st2_ st1_
  simp only [cw_r1, cw_a2_1, cw_s2_1, cw_r7, cw_a8_1, cw_s8_1, fX1_columnOf, fX1_rowOf, lt_, Option.bind_some]
  rfl
theorem C_tir2 (v : Int32) : fX2_tiresMore (cw_ M c ρ Z γ) c 2 v = some (cw_ M c (tirR ρ 2 v) Z γ) := by
  unfold fX2_tiresMore
  simp only [cw_r3, cw_a4_2, cw_s4_2, min_eq, lt_, Option.bind_some]
  rfl
theorem C_stp2 (t : Int32) : fX2_steps (cw_ M c ρ Z γ) c 2 t = some (stpR ρ 2 t) := by
  unfold fX2_steps
  simp only [cw_r3, cw_r2, cw_a3_2, cw_a4_2, max_eq, lt_, Option.bind_some]
  rfl
theorem C_pla2 : fX2_placeBy (cw_ M c ρ Z γ) c 2 = some (fX4_placeFor (ρ 39) (ρ 28)) := by
  unfold fX2_placeBy fX4_placeFor
  simp only [cw_r1, cw_a2_2, cw_r4, fX1_columnOf, fX1_rowOf, cw_a5_1, tn0, tn1, tn2, tn3, Int32.reduceMul, Int32.reduceAdd, Int32.reduceSub, Int32.reduceDiv, Nat.reduceMul, Nat.reduceAdd, Nat.reduceSub, Nat.reduceDiv, Nat.reduceMod, oN0, oN1, oN2, oN3, Option.bind_some, lt_]
  split
  all_goals rfl
theorem C_sin2 {to most : Int32} (h1 : rg_ 9 (ρ 28)) (h2 : rg_ 9 to) (h3 : rg_ 29 most) : fX2_stepsIn (cw_ M c ρ Z γ) c 2 to most = some (cw_ M c (upd ρ 28 (tow_ (ρ 28) to most)) Z (upd γ 2 (γ 2 + fX4_wayOf (ρ 28) (tow_ (ρ 28) to most)))) := by
  have T := (tow_all h1 h2 h3).2
  rw [← T.2.1, ← T.1]
  unfold fX2_stepsIn st3_ st2_ st1_
  simp only [cw_r1, cw_a2_2, cw_s2_2, cw_r7, cw_a8_2, cw_s8_2, fX1_columnOf, fX1_rowOf, lt_, Option.bind_some]
  rfl
theorem C_tir3 (v : Int32) : fX2_tiresMore (cw_ M c ρ Z γ) c 3 v = some (cw_ M c (tirR ρ 3 v) Z γ) := by
  unfold fX2_tiresMore
  simp only [cw_r3, cw_a4_3, cw_s4_3, min_eq, lt_, Option.bind_some]
  rfl
theorem C_stp3 (t : Int32) : fX2_steps (cw_ M c ρ Z γ) c 3 t = some (stpR ρ 3 t) := by
  unfold fX2_steps
  simp only [cw_r3, cw_r2, cw_a3_3, cw_a4_3, max_eq, lt_, Option.bind_some]
  rfl
theorem C_pla3 : fX2_placeBy (cw_ M c ρ Z γ) c 3 = some (fX4_placeFor (ρ 39) (ρ 32)) := by
  unfold fX2_placeBy fX4_placeFor
  simp only [cw_r1, cw_a2_3, cw_r4, fX1_columnOf, fX1_rowOf, cw_a5_1, tn0, tn1, tn2, tn3, Int32.reduceMul, Int32.reduceAdd, Int32.reduceSub, Int32.reduceDiv, Nat.reduceMul, Nat.reduceAdd, Nat.reduceSub, Nat.reduceDiv, Nat.reduceMod, oN0, oN1, oN2, oN3, Option.bind_some, lt_]
  split
  all_goals rfl
theorem C_sin3 {to most : Int32} (h1 : rg_ 9 (ρ 32)) (h2 : rg_ 9 to) (h3 : rg_ 29 most) : fX2_stepsIn (cw_ M c ρ Z γ) c 3 to most = some (cw_ M c (upd ρ 32 (tow_ (ρ 32) to most)) Z (upd γ 3 (γ 3 + fX4_wayOf (ρ 32) (tow_ (ρ 32) to most)))) := by
  have T := (tow_all h1 h2 h3).2
  rw [← T.2.1, ← T.1]
  unfold fX2_stepsIn st3_ st2_ st1_
  simp only [cw_r1, cw_a2_3, cw_s2_3, cw_r7, cw_a8_3, cw_s8_3, fX1_columnOf, fX1_rowOf, lt_, Option.bind_some]
  rfl
theorem C_win0 : fX2_wins (cw_ M c ρ Z γ) c 0 = some (cw_ M c (poiR ρ 0) Z γ) := by
  unfold fX2_wins
  simp only [cw_r6, cw_a7_0, cw_s7_0, cw_p10, tn0, tn1, tn2, tn3, Int32.reduceMul, Int32.reduceAdd, Int32.reduceSub, Int32.reduceDiv, Nat.reduceMul, Nat.reduceAdd, Nat.reduceSub, Nat.reduceDiv, Nat.reduceMod, oN0, oN1, oN2, oN3, Option.bind_some, lt_]
  rfl
theorem C_win1 : fX2_wins (cw_ M c ρ Z γ) c 1 = some (cw_ M c (poiR ρ 1) Z γ) := by
  unfold fX2_wins
  simp only [cw_r6, cw_a7_1, cw_s7_1, cw_p10, tn0, tn1, tn2, tn3, Int32.reduceMul, Int32.reduceAdd, Int32.reduceSub, Int32.reduceDiv, Nat.reduceMul, Nat.reduceAdd, Nat.reduceSub, Nat.reduceDiv, Nat.reduceMod, oN0, oN1, oN2, oN3, Option.bind_some, lt_]
  rfl
theorem C_who0 {f : Int32} (V : VR ρ) (hf : rg_ 9 f) (hh : ρ 2 = 0) : fX2_whose (cw_ M c ρ Z γ) c f = some (whoR ρ 1 f) := by
  have V1 := (V.1 2 (by decide)).1
  have V2 := (V.1 3 (by decide)).1
  have V1 : rg_ 9 (ρ 28) := V1
  have V2 : rg_ 9 (ρ 32) := V2
  unfold fX2_whose fX2_byHabit whoR
  simp only [cw_ck, C_turn, hh, cw_r1, cw_a2_2, cw_a2_3, way_eq V1 hf, way_eq V2 hf, cw_r5, cw_a6_1, cw_i8, (lf_has V).2.2.1, (lf_has V).2.2.2, tn0, tn1, tn2, tn3, Int32.reduceMul, Int32.reduceAdd, Int32.reduceSub, Int32.reduceDiv, Nat.reduceMul, Nat.reduceAdd, Nat.reduceSub, Nat.reduceDiv, Nat.reduceMod, oN0, oN1, oN2, oN3, Option.bind_some, lt_]
  rw [whl (way_rg V1 hf) (way_rg V2 hf)]
  by_cases e1 : fX4_wayOf (ρ 28) f = fX4_wayOf (ρ 32) f
  · rw [if_pos e1, if_pos e1]
    have B := byh (p0 := 2) (p1 := 3) (V.2.1 1 (by decide)).2 (V.1 2 (by decide)).2.2.2 (V.1 3 (by decide)).2.2.2
    rw [show ∀ o : Option Int32, (o.bind fun r => some r) = o from fun o => by cases o <;> rfl]
    exact B
  · rw [if_neg e1, if_neg e1]
    split
    all_goals rfl
theorem C_cla0 {f : Int32} (V : VR ρ) (hf : rg_ 9 f) (hh : ρ 2 = 0) : fX2_isClash (cw_ M c ρ Z γ) c f = some (botR ρ 1 f) := by
  have V1 := (V.1 2 (by decide)).1
  have V2 := (V.1 3 (by decide)).1
  have V1 : rg_ 9 (ρ 28) := V1
  have V2 : rg_ 9 (ρ 32) := V2
  unfold fX2_isClash botR
  simp only [cw_ck, C_turn, hh, cw_r1, cw_a2_2, cw_a2_3, way_eq V1 hf, way_eq V2 hf, cw_r5, cw_a6_1, tn0, tn1, tn2, tn3, Int32.reduceMul, Int32.reduceAdd, Int32.reduceSub, Int32.reduceDiv, Nat.reduceMul, Nat.reduceAdd, Nat.reduceSub, Nat.reduceDiv, Nat.reduceMod, oN0, oN1, oN2, oN3, Option.bind_some, lt_]
  repeat' split
  all_goals rfl
theorem C_who1 {f : Int32} (V : VR ρ) (hf : rg_ 9 f) (hh : ρ 2 = 1) : fX2_whose (cw_ M c ρ Z γ) c f = some (whoR ρ 1 f) := by
  have V1 := (V.1 2 (by decide)).1
  have V2 := (V.1 3 (by decide)).1
  have V1 : rg_ 9 (ρ 28) := V1
  have V2 : rg_ 9 (ρ 32) := V2
  unfold fX2_whose fX2_byHabit whoR
  simp only [cw_ck, C_turn, hh, cw_r1, cw_a2_2, cw_a2_3, way_eq V1 hf, way_eq V2 hf, cw_r5, cw_a6_1, cw_i8, (lf_has V).2.2.1, (lf_has V).2.2.2, tn0, tn1, tn2, tn3, Int32.reduceMul, Int32.reduceAdd, Int32.reduceSub, Int32.reduceDiv, Nat.reduceMul, Nat.reduceAdd, Nat.reduceSub, Nat.reduceDiv, Nat.reduceMod, oN0, oN1, oN2, oN3, Option.bind_some, lt_]
  rw [whl (way_rg V1 hf) (way_rg V2 hf)]
  by_cases e1 : fX4_wayOf (ρ 28) f = fX4_wayOf (ρ 32) f
  · rw [if_pos e1, if_pos e1]
    have B := byh (p0 := 2) (p1 := 3) (V.2.1 1 (by decide)).2 (V.1 2 (by decide)).2.2.2 (V.1 3 (by decide)).2.2.2
    rw [show ∀ o : Option Int32, (o.bind fun r => some r) = o from fun o => by cases o <;> rfl]
    exact B
  · rw [if_neg e1, if_neg e1]
    split
    all_goals rfl
theorem C_cla1 {f : Int32} (V : VR ρ) (hf : rg_ 9 f) (hh : ρ 2 = 1) : fX2_isClash (cw_ M c ρ Z γ) c f = some (botR ρ 1 f) := by
  have V1 := (V.1 2 (by decide)).1
  have V2 := (V.1 3 (by decide)).1
  have V1 : rg_ 9 (ρ 28) := V1
  have V2 : rg_ 9 (ρ 32) := V2
  unfold fX2_isClash botR
  simp only [cw_ck, C_turn, hh, cw_r1, cw_a2_2, cw_a2_3, way_eq V1 hf, way_eq V2 hf, cw_r5, cw_a6_1, tn0, tn1, tn2, tn3, Int32.reduceMul, Int32.reduceAdd, Int32.reduceSub, Int32.reduceDiv, Nat.reduceMul, Nat.reduceAdd, Nat.reduceSub, Nat.reduceDiv, Nat.reduceMod, oN0, oN1, oN2, oN3, Option.bind_some, lt_]
  repeat' split
  all_goals rfl
theorem C_who2 {f : Int32} (V : VR ρ) (hf : rg_ 9 f) (hh : ρ 2 = 2) : fX2_whose (cw_ M c ρ Z γ) c f = some (whoR ρ 0 f) := by
  have V1 := (V.1 0 (by decide)).1
  have V2 := (V.1 1 (by decide)).1
  have V1 : rg_ 9 (ρ 20) := V1
  have V2 : rg_ 9 (ρ 24) := V2
  unfold fX2_whose fX2_byHabit whoR
  simp only [cw_ck, C_turn, hh, cw_r1, cw_a2_0, cw_a2_1, way_eq V1 hf, way_eq V2 hf, cw_r5, cw_a6_0, cw_i8, (lf_has V).1, (lf_has V).2.1, tn0, tn1, tn2, tn3, Int32.reduceMul, Int32.reduceAdd, Int32.reduceSub, Int32.reduceDiv, Nat.reduceMul, Nat.reduceAdd, Nat.reduceSub, Nat.reduceDiv, Nat.reduceMod, oN0, oN1, oN2, oN3, Option.bind_some, lt_]
  rw [whl (way_rg V1 hf) (way_rg V2 hf)]
  by_cases e1 : fX4_wayOf (ρ 20) f = fX4_wayOf (ρ 24) f
  · rw [if_pos e1, if_pos e1]
    have B := byh (p0 := 0) (p1 := 1) (V.2.1 0 (by decide)).2 (V.1 0 (by decide)).2.2.2 (V.1 1 (by decide)).2.2.2
    rw [show ∀ o : Option Int32, (o.bind fun r => some r) = o from fun o => by cases o <;> rfl]
    exact B
  · rw [if_neg e1, if_neg e1]
    split
    all_goals rfl
theorem C_cla2 {f : Int32} (V : VR ρ) (hf : rg_ 9 f) (hh : ρ 2 = 2) : fX2_isClash (cw_ M c ρ Z γ) c f = some (botR ρ 0 f) := by
  have V1 := (V.1 0 (by decide)).1
  have V2 := (V.1 1 (by decide)).1
  have V1 : rg_ 9 (ρ 20) := V1
  have V2 : rg_ 9 (ρ 24) := V2
  unfold fX2_isClash botR
  simp only [cw_ck, C_turn, hh, cw_r1, cw_a2_0, cw_a2_1, way_eq V1 hf, way_eq V2 hf, cw_r5, cw_a6_0, tn0, tn1, tn2, tn3, Int32.reduceMul, Int32.reduceAdd, Int32.reduceSub, Int32.reduceDiv, Nat.reduceMul, Nat.reduceAdd, Nat.reduceSub, Nat.reduceDiv, Nat.reduceMod, oN0, oN1, oN2, oN3, Option.bind_some, lt_]
  repeat' split
  all_goals rfl
theorem C_who3 {f : Int32} (V : VR ρ) (hf : rg_ 9 f) (hh : ρ 2 = 3) : fX2_whose (cw_ M c ρ Z γ) c f = some (whoR ρ 0 f) := by
  have V1 := (V.1 0 (by decide)).1
  have V2 := (V.1 1 (by decide)).1
  have V1 : rg_ 9 (ρ 20) := V1
  have V2 : rg_ 9 (ρ 24) := V2
  unfold fX2_whose fX2_byHabit whoR
  simp only [cw_ck, C_turn, hh, cw_r1, cw_a2_0, cw_a2_1, way_eq V1 hf, way_eq V2 hf, cw_r5, cw_a6_0, cw_i8, (lf_has V).1, (lf_has V).2.1, tn0, tn1, tn2, tn3, Int32.reduceMul, Int32.reduceAdd, Int32.reduceSub, Int32.reduceDiv, Nat.reduceMul, Nat.reduceAdd, Nat.reduceSub, Nat.reduceDiv, Nat.reduceMod, oN0, oN1, oN2, oN3, Option.bind_some, lt_]
  rw [whl (way_rg V1 hf) (way_rg V2 hf)]
  by_cases e1 : fX4_wayOf (ρ 20) f = fX4_wayOf (ρ 24) f
  · rw [if_pos e1, if_pos e1]
    have B := byh (p0 := 0) (p1 := 1) (V.2.1 0 (by decide)).2 (V.1 0 (by decide)).2.2.2 (V.1 1 (by decide)).2.2.2
    rw [show ∀ o : Option Int32, (o.bind fun r => some r) = o from fun o => by cases o <;> rfl]
    exact B
  · rw [if_neg e1, if_neg e1]
    split
    all_goals rfl
theorem C_cla3 {f : Int32} (V : VR ρ) (hf : rg_ 9 f) (hh : ρ 2 = 3) : fX2_isClash (cw_ M c ρ Z γ) c f = some (botR ρ 0 f) := by
  have V1 := (V.1 0 (by decide)).1
  have V2 := (V.1 1 (by decide)).1
  have V1 : rg_ 9 (ρ 20) := V1
  have V2 : rg_ 9 (ρ 24) := V2
  unfold fX2_isClash botR
  simp only [cw_ck, C_turn, hh, cw_r1, cw_a2_0, cw_a2_1, way_eq V1 hf, way_eq V2 hf, cw_r5, cw_a6_0, tn0, tn1, tn2, tn3, Int32.reduceMul, Int32.reduceAdd, Int32.reduceSub, Int32.reduceDiv, Nat.reduceMul, Nat.reduceAdd, Nat.reduceSub, Nat.reduceDiv, Nat.reduceMod, oN0, oN1, oN2, oN3, Option.bind_some, lt_]
  repeat' split
  all_goals rfl
theorem C_get0 {f t : Int32} (V : VR ρ) (hf : rg_ 9 f) (ht : rg_ 8 t) : fX2_gets (cw_ M c ρ Z γ) c 0 f t = some (cw_ M c (upd (getR ρ 0 0 f) 24 (toR (getR ρ 0 0 f) 0 0 f t)) Z (upd (upd γ 0 (γ 0 + fX4_wayOf (ρ 20) f)) 1 (γ 1 + fX4_wayOf (ρ 24) (toR (getR ρ 0 0 f) 0 0 f t)))) := by
  have V1 : rg_ 9 (ρ 20) := (V.1 0 (by decide)).1
  have W := V.get (s := 0) (p := 0) (f := f) (by decide) hf
  have H1 : rg_ 9 (getR ρ 0 0 f 24) := (W.1 1 (by decide)).1
  have H2 : rg_ 9 (fX4_placeFor (getR ρ 0 0 f 36) f) := place_rg (W.2.1 0 (by decide)).1 hf
  have H3 : rg_ 29 (stpR (getR ρ 0 0 f) 1 t) := stp_rg (W.1 1 (by decide)).2.1 (W.1 1 (by decide)).2.2.1 ht
  have x1 : (0 ^^^ 1 : Int32) = 1 := by decide
  have gt : upd (tirR (upd ρ 20 f) 0 (fX4_wayOf (ρ 20) f)) 2 0 = getR ρ 0 0 f := rfl
  have ga : getR ρ 0 0 f 20 = f := rfl
  unfold fX2_gets
  simp only [cw_r1, cw_a2_0, cw_r7, cw_a8_0, cw_s8_0, cw_s2_0, cw_ck, way_eq V1 hf, C_tir0, cw_p10, gt, C_pla0, ga, x1, C_stp1, C_sin1 _ _ _ _ _ H1 H2 H3, lt_, Option.bind_some]
  rfl
theorem C_get1 {f t : Int32} (V : VR ρ) (hf : rg_ 9 f) (ht : rg_ 8 t) : fX2_gets (cw_ M c ρ Z γ) c 1 f t = some (cw_ M c (upd (getR ρ 0 1 f) 20 (toR (getR ρ 0 1 f) 0 1 f t)) Z (upd (upd γ 1 (γ 1 + fX4_wayOf (ρ 24) f)) 0 (γ 0 + fX4_wayOf (ρ 20) (toR (getR ρ 0 1 f) 0 1 f t)))) := by
  have V1 : rg_ 9 (ρ 24) := (V.1 1 (by decide)).1
  have W := V.get (s := 0) (p := 1) (f := f) (by decide) hf
  have H1 : rg_ 9 (getR ρ 0 1 f 20) := (W.1 0 (by decide)).1
  have H2 : rg_ 9 (fX4_placeFor (getR ρ 0 1 f 36) f) := place_rg (W.2.1 0 (by decide)).1 hf
  have H3 : rg_ 29 (stpR (getR ρ 0 1 f) 0 t) := stp_rg (W.1 0 (by decide)).2.1 (W.1 0 (by decide)).2.2.1 ht
  have x1 : (1 ^^^ 1 : Int32) = 0 := by decide
  have gt : upd (tirR (upd ρ 24 f) 1 (fX4_wayOf (ρ 24) f)) 2 1 = getR ρ 0 1 f := rfl
  have ga : getR ρ 0 1 f 24 = f := rfl
  unfold fX2_gets
  simp only [cw_r1, cw_a2_1, cw_r7, cw_a8_1, cw_s8_1, cw_s2_1, cw_ck, way_eq V1 hf, C_tir1, cw_p10, gt, C_pla1, ga, x1, C_stp0, C_sin0 _ _ _ _ _ H1 H2 H3, lt_, Option.bind_some]
  rfl
theorem C_get2 {f t : Int32} (V : VR ρ) (hf : rg_ 9 f) (ht : rg_ 8 t) : fX2_gets (cw_ M c ρ Z γ) c 2 f t = some (cw_ M c (upd (getR ρ 1 2 f) 32 (toR (getR ρ 1 2 f) 1 2 f t)) Z (upd (upd γ 2 (γ 2 + fX4_wayOf (ρ 28) f)) 3 (γ 3 + fX4_wayOf (ρ 32) (toR (getR ρ 1 2 f) 1 2 f t)))) := by
  have V1 : rg_ 9 (ρ 28) := (V.1 2 (by decide)).1
  have W := V.get (s := 1) (p := 2) (f := f) (by decide) hf
  have H1 : rg_ 9 (getR ρ 1 2 f 32) := (W.1 3 (by decide)).1
  have H2 : rg_ 9 (fX4_placeFor (getR ρ 1 2 f 39) f) := place_rg (W.2.1 1 (by decide)).1 hf
  have H3 : rg_ 29 (stpR (getR ρ 1 2 f) 3 t) := stp_rg (W.1 3 (by decide)).2.1 (W.1 3 (by decide)).2.2.1 ht
  have x1 : (2 ^^^ 1 : Int32) = 3 := by decide
  have gt : upd (tirR (upd ρ 28 f) 2 (fX4_wayOf (ρ 28) f)) 2 2 = getR ρ 1 2 f := rfl
  have ga : getR ρ 1 2 f 28 = f := rfl
  unfold fX2_gets
  simp only [cw_r1, cw_a2_2, cw_r7, cw_a8_2, cw_s8_2, cw_s2_2, cw_ck, way_eq V1 hf, C_tir2, cw_p10, gt, C_pla2, ga, x1, C_stp3, C_sin3 _ _ _ _ _ H1 H2 H3, lt_, Option.bind_some]
  rfl
theorem C_get3 {f t : Int32} (V : VR ρ) (hf : rg_ 9 f) (ht : rg_ 8 t) : fX2_gets (cw_ M c ρ Z γ) c 3 f t = some (cw_ M c (upd (getR ρ 1 3 f) 28 (toR (getR ρ 1 3 f) 1 3 f t)) Z (upd (upd γ 3 (γ 3 + fX4_wayOf (ρ 32) f)) 2 (γ 2 + fX4_wayOf (ρ 28) (toR (getR ρ 1 3 f) 1 3 f t)))) := by
  have V1 : rg_ 9 (ρ 32) := (V.1 3 (by decide)).1
  have W := V.get (s := 1) (p := 3) (f := f) (by decide) hf
  have H1 : rg_ 9 (getR ρ 1 3 f 28) := (W.1 2 (by decide)).1
  have H2 : rg_ 9 (fX4_placeFor (getR ρ 1 3 f 39) f) := place_rg (W.2.1 1 (by decide)).1 hf
  have H3 : rg_ 29 (stpR (getR ρ 1 3 f) 2 t) := stp_rg (W.1 2 (by decide)).2.1 (W.1 2 (by decide)).2.2.1 ht
  have x1 : (3 ^^^ 1 : Int32) = 2 := by decide
  have gt : upd (tirR (upd ρ 32 f) 3 (fX4_wayOf (ρ 32) f)) 2 3 = getR ρ 1 3 f := rfl
  have ga : getR ρ 1 3 f 32 = f := rfl
  unfold fX2_gets
  simp only [cw_r1, cw_a2_3, cw_r7, cw_a8_3, cw_s8_3, cw_s2_3, cw_ck, way_eq V1 hf, C_tir3, cw_p10, gt, C_pla3, ga, x1, C_stp2, C_sin2 _ _ _ _ _ H1 H2 H3, lt_, Option.bind_some]
  rfl
set_option maxHeartbeats 4000000 in
theorem C_hit0 {k cell : Int32} {q kn : Nat} {fg : Int32} (V : VR ρ) (hk : k.toNatClampNeg < (ρ 0).toNatClampNeg) (hk8 : rg_ 8 k) (hc : rg_ 9 cell) (hZ : Z k.toNatClampNeg = some q) (hs : sk_ M q = some (kn, fg)) (hq : q < c ∨ c + 9 ≤ q) (hkn : Int32.ofNat kn = kS_r ρ k) (hfg : fg = fS_r ρ k) (hh : ρ 2 = 0) : fX2_hits (cw_ M c ρ Z γ) c k cell = some ((hitR ρ γ k cell).1, cw_ M c (hitR ρ γ k cell).2.1 Z (hitR ρ γ k cell).2.2) := by
  have hS := V.2.2.2.2.2 _ hk
  have hf : rg_ 9 (falR ρ k cell) := fal_rg hS.1 hc V.2.2.2.1
  have htm := time_rg hS.1 hf hS.2
  have hn : (ρ 2).toNatClampNeg = 0 := by rw [hh]; rfl
  have k8 : k.toNatClampNeg < 8 := (rg_nat (by decide) hk8).1
  have V1 : VR (tirR (upd ρ 1 (ρ 1 + 1)) 0 (fX4_tiresBy (kS_r ρ k) (fS_r ρ k))) := V.hits.tir (by decide) (tires_rg hS.1 hS.2)
  have sk : ∀ ρ' γ', sk_ (cw_ M c ρ' Z γ') q = some (kn, fg) := fun _ _ => (sk_cg (cw_out hq)).trans hs
  have sf : s_falls (cw_ M c ρ Z γ) q cell (ρ 3) = some (falR ρ k cell) := by rw [S_falls (sk _ _) hc V.2.2.2.1, hkn]; rfl
  have st : ∀ f, s_time (cw_ M c ρ Z γ) q f = some (fX4_timeBy (kS_r ρ k) (fS_r ρ k) f) := fun f => by rw [S_time (sk _ _), hkn, hfg]
  have si : ∀ ρ', s_tires (cw_ M c ρ' Z γ) q = some (fX4_tiresBy (kS_r ρ k) (fS_r ρ k)) := fun ρ' => by rw [S_tires (sk _ _), hkn, hfg]
  have h2a : upd ρ 1 (ρ 1 + 1) 2 = 0 := hh
  have h2b : ∀ v, tirR (upd ρ 1 (ρ 1 + 1)) 0 v 2 = 0 := fun _ => hh
  have ew : ∀ v f, whoR (tirR (upd ρ 1 (ρ 1 + 1)) 0 v) 1 f = whoR ρ 1 f := fun _ _ => rfl
  unfold fX2_hits fX2_falls hitR
  simp only [hn, cw_ck, C_turn, cw_r0, C_str _ _ _ _ _ hk8 hZ, cw_i11, sf, st, cw_i12, cw_p12, cw_i10, si, h2a, C_tir0, C_who0 _ _ _ _ _ V1 hf (h2b _), C_cla0 _ _ _ _ _ V1 hf (h2b _), ew, hh, tn0, tn1, tn2, tn3, Int32.reduceMul, Int32.reduceAdd, Int32.reduceSub, Int32.reduceDiv, Nat.reduceMul, Nat.reduceAdd, Nat.reduceSub, Nat.reduceDiv, Nat.reduceMod, oN0, oN1, oN2, oN3, Option.bind_some, lt_]
  generalize tirR (upd ρ 1 (ρ 1 + 1)) 0 (fX4_tiresBy (kS_r ρ k) (fS_r ρ k)) = ρ1 at V1 ⊢
  generalize fX4_timeBy (kS_r ρ k) (fS_r ρ k) (falR ρ k cell) = tm at htm ⊢
  have hw := whoR_cases ρ 1 (falR ρ k cell)
  generalize whoR ρ 1 (falR ρ k cell) = p at hw ⊢
  generalize falR ρ k cell = f at hf ⊢
  have tail : ∀ ρ2 : Rw_, VR ρ2 → (if p = 9 then (fX2_wins (cw_ M c ρ2 Z γ) c 0).bind fun M24 => some (true, M24)
    else (aI_ (cw_ M c ρ2 Z γ) (c + 2) 0 p).bind fun v26 => (fX2_steps (cw_ M c ρ2 Z γ) c p tm).bind fun r29 => if fX1_wayTo v26 f ≤ r29 then (fX2_gets (cw_ M c ρ2 Z γ) c p f tm).bind fun M32 => some (false, M32) else (fX2_wins (cw_ M c ρ2 Z γ) c 0).bind fun M35 => some (true, M35)) = some ((endR ρ2 γ 1 p f tm).1, cw_ M c (endR ρ2 γ 1 p f tm).2.1 Z (endR ρ2 γ 1 p f tm).2.2) := by
    intro ρ2 V2
    rcases hw with e | e | e
    · have e : p = 2 := e
      subst e
      have V3 : rg_ 9 (ρ2 28) := (V2.1 2 (by decide)).1
      have pn : (2 : Int32).toNatClampNeg = 2 := rfl
      simp only [endR, pn, cw_a2_2, C_stp2, way_eq V3 hf, C_win0, if_neg (show ¬ (2 : Int32) = 9 by decide), tn0, tn1, tn2, tn3, Int32.reduceMul, Int32.reduceAdd, Int32.reduceSub, Int32.reduceDiv, Nat.reduceMul, Nat.reduceAdd, Nat.reduceSub, Nat.reduceDiv, Nat.reduceMod, oN0, oN1, oN2, oN3, Option.bind_some, lt_]
      by_cases hq : fX4_wayOf (ρ2 28) f ≤ stpR ρ2 2 tm
      · simp only [if_pos hq, C_get2 _ _ _ _ _ V2 hf htm, Option.bind_some]
        rfl
      · simp only [if_neg hq]
    · have e : p = 3 := e
      subst e
      have V3 : rg_ 9 (ρ2 32) := (V2.1 3 (by decide)).1
      have pn : (3 : Int32).toNatClampNeg = 3 := rfl
      simp only [endR, pn, cw_a2_3, C_stp3, way_eq V3 hf, C_win0, if_neg (show ¬ (3 : Int32) = 9 by decide), tn0, tn1, tn2, tn3, Int32.reduceMul, Int32.reduceAdd, Int32.reduceSub, Int32.reduceDiv, Nat.reduceMul, Nat.reduceAdd, Nat.reduceSub, Nat.reduceDiv, Nat.reduceMod, oN0, oN1, oN2, oN3, Option.bind_some, lt_]
      by_cases hq : fX4_wayOf (ρ2 32) f ≤ stpR ρ2 3 tm
      · simp only [if_pos hq, C_get3 _ _ _ _ _ V2 hf htm, Option.bind_some]
        rfl
      · simp only [if_neg hq]
    · subst e
      simp only [endR, if_pos, C_win0, tn0, tn1, tn2, tn3, Int32.reduceMul, Int32.reduceAdd, Int32.reduceSub, Int32.reduceDiv, Nat.reduceMul, Nat.reduceAdd, Nat.reduceSub, Nat.reduceDiv, Nat.reduceMod, oN0, oN1, oN2, oN3, Option.bind_some, lt_]
  cases hb : botR ρ1 1 f with
  | false =>
    simp only [b2_, Bool.false_eq_true, if_true, if_false, cw_r1, Option.bind_some]
    exact tail ρ1 V1
  | true =>
    simp only [b2_, if_true, if_neg (show ¬ (1 : Int32) = 0 by decide), C_tir2, C_tir3, cw_ck, cw_r1, Option.bind_some]
    exact tail (tirR (tirR ρ1 2 3) 3 3) ((V1.tir (by decide) rg3).tir (by decide) rg3)
set_option maxHeartbeats 4000000 in
theorem C_hit1 {k cell : Int32} {q kn : Nat} {fg : Int32} (V : VR ρ) (hk : k.toNatClampNeg < (ρ 0).toNatClampNeg) (hk8 : rg_ 8 k) (hc : rg_ 9 cell) (hZ : Z k.toNatClampNeg = some q) (hs : sk_ M q = some (kn, fg)) (hq : q < c ∨ c + 9 ≤ q) (hkn : Int32.ofNat kn = kS_r ρ k) (hfg : fg = fS_r ρ k) (hh : ρ 2 = 1) : fX2_hits (cw_ M c ρ Z γ) c k cell = some ((hitR ρ γ k cell).1, cw_ M c (hitR ρ γ k cell).2.1 Z (hitR ρ γ k cell).2.2) := by
  have hS := V.2.2.2.2.2 _ hk
  have hf : rg_ 9 (falR ρ k cell) := fal_rg hS.1 hc V.2.2.2.1
  have htm := time_rg hS.1 hf hS.2
  have hn : (ρ 2).toNatClampNeg = 1 := by rw [hh]; rfl
  have k8 : k.toNatClampNeg < 8 := (rg_nat (by decide) hk8).1
  have V1 : VR (tirR (upd ρ 1 (ρ 1 + 1)) 1 (fX4_tiresBy (kS_r ρ k) (fS_r ρ k))) := V.hits.tir (by decide) (tires_rg hS.1 hS.2)
  have sk : ∀ ρ' γ', sk_ (cw_ M c ρ' Z γ') q = some (kn, fg) := fun _ _ => (sk_cg (cw_out hq)).trans hs
  have sf : s_falls (cw_ M c ρ Z γ) q cell (ρ 3) = some (falR ρ k cell) := by rw [S_falls (sk _ _) hc V.2.2.2.1, hkn]; rfl
  have st : ∀ f, s_time (cw_ M c ρ Z γ) q f = some (fX4_timeBy (kS_r ρ k) (fS_r ρ k) f) := fun f => by rw [S_time (sk _ _), hkn, hfg]
  have si : ∀ ρ', s_tires (cw_ M c ρ' Z γ) q = some (fX4_tiresBy (kS_r ρ k) (fS_r ρ k)) := fun ρ' => by rw [S_tires (sk _ _), hkn, hfg]
  have h2a : upd ρ 1 (ρ 1 + 1) 2 = 1 := hh
  have h2b : ∀ v, tirR (upd ρ 1 (ρ 1 + 1)) 1 v 2 = 1 := fun _ => hh
  have ew : ∀ v f, whoR (tirR (upd ρ 1 (ρ 1 + 1)) 1 v) 1 f = whoR ρ 1 f := fun _ _ => rfl
  unfold fX2_hits fX2_falls hitR
  simp only [hn, cw_ck, C_turn, cw_r0, C_str _ _ _ _ _ hk8 hZ, cw_i11, sf, st, cw_i12, cw_p12, cw_i10, si, h2a, C_tir1, C_who1 _ _ _ _ _ V1 hf (h2b _), C_cla1 _ _ _ _ _ V1 hf (h2b _), ew, hh, tn0, tn1, tn2, tn3, Int32.reduceMul, Int32.reduceAdd, Int32.reduceSub, Int32.reduceDiv, Nat.reduceMul, Nat.reduceAdd, Nat.reduceSub, Nat.reduceDiv, Nat.reduceMod, oN0, oN1, oN2, oN3, Option.bind_some, lt_]
  generalize tirR (upd ρ 1 (ρ 1 + 1)) 1 (fX4_tiresBy (kS_r ρ k) (fS_r ρ k)) = ρ1 at V1 ⊢
  generalize fX4_timeBy (kS_r ρ k) (fS_r ρ k) (falR ρ k cell) = tm at htm ⊢
  have hw := whoR_cases ρ 1 (falR ρ k cell)
  generalize whoR ρ 1 (falR ρ k cell) = p at hw ⊢
  generalize falR ρ k cell = f at hf ⊢
  have tail : ∀ ρ2 : Rw_, VR ρ2 → (if p = 9 then (fX2_wins (cw_ M c ρ2 Z γ) c 0).bind fun M24 => some (true, M24)
    else (aI_ (cw_ M c ρ2 Z γ) (c + 2) 0 p).bind fun v26 => (fX2_steps (cw_ M c ρ2 Z γ) c p tm).bind fun r29 => if fX1_wayTo v26 f ≤ r29 then (fX2_gets (cw_ M c ρ2 Z γ) c p f tm).bind fun M32 => some (false, M32) else (fX2_wins (cw_ M c ρ2 Z γ) c 0).bind fun M35 => some (true, M35)) = some ((endR ρ2 γ 1 p f tm).1, cw_ M c (endR ρ2 γ 1 p f tm).2.1 Z (endR ρ2 γ 1 p f tm).2.2) := by
    intro ρ2 V2
    rcases hw with e | e | e
    · have e : p = 2 := e
      subst e
      have V3 : rg_ 9 (ρ2 28) := (V2.1 2 (by decide)).1
      have pn : (2 : Int32).toNatClampNeg = 2 := rfl
      simp only [endR, pn, cw_a2_2, C_stp2, way_eq V3 hf, C_win0, if_neg (show ¬ (2 : Int32) = 9 by decide), tn0, tn1, tn2, tn3, Int32.reduceMul, Int32.reduceAdd, Int32.reduceSub, Int32.reduceDiv, Nat.reduceMul, Nat.reduceAdd, Nat.reduceSub, Nat.reduceDiv, Nat.reduceMod, oN0, oN1, oN2, oN3, Option.bind_some, lt_]
      by_cases hq : fX4_wayOf (ρ2 28) f ≤ stpR ρ2 2 tm
      · simp only [if_pos hq, C_get2 _ _ _ _ _ V2 hf htm, Option.bind_some]
        rfl
      · simp only [if_neg hq]
    · have e : p = 3 := e
      subst e
      have V3 : rg_ 9 (ρ2 32) := (V2.1 3 (by decide)).1
      have pn : (3 : Int32).toNatClampNeg = 3 := rfl
      simp only [endR, pn, cw_a2_3, C_stp3, way_eq V3 hf, C_win0, if_neg (show ¬ (3 : Int32) = 9 by decide), tn0, tn1, tn2, tn3, Int32.reduceMul, Int32.reduceAdd, Int32.reduceSub, Int32.reduceDiv, Nat.reduceMul, Nat.reduceAdd, Nat.reduceSub, Nat.reduceDiv, Nat.reduceMod, oN0, oN1, oN2, oN3, Option.bind_some, lt_]
      by_cases hq : fX4_wayOf (ρ2 32) f ≤ stpR ρ2 3 tm
      · simp only [if_pos hq, C_get3 _ _ _ _ _ V2 hf htm, Option.bind_some]
        rfl
      · simp only [if_neg hq]
    · subst e
      simp only [endR, if_pos, C_win0, tn0, tn1, tn2, tn3, Int32.reduceMul, Int32.reduceAdd, Int32.reduceSub, Int32.reduceDiv, Nat.reduceMul, Nat.reduceAdd, Nat.reduceSub, Nat.reduceDiv, Nat.reduceMod, oN0, oN1, oN2, oN3, Option.bind_some, lt_]
  cases hb : botR ρ1 1 f with
  | false =>
    simp only [b2_, Bool.false_eq_true, if_true, if_false, cw_r1, Option.bind_some]
    exact tail ρ1 V1
  | true =>
    simp only [b2_, if_true, if_neg (show ¬ (1 : Int32) = 0 by decide), C_tir2, C_tir3, cw_ck, cw_r1, Option.bind_some]
    exact tail (tirR (tirR ρ1 2 3) 3 3) ((V1.tir (by decide) rg3).tir (by decide) rg3)
set_option maxHeartbeats 4000000 in
theorem C_hit2 {k cell : Int32} {q kn : Nat} {fg : Int32} (V : VR ρ) (hk : k.toNatClampNeg < (ρ 0).toNatClampNeg) (hk8 : rg_ 8 k) (hc : rg_ 9 cell) (hZ : Z k.toNatClampNeg = some q) (hs : sk_ M q = some (kn, fg)) (hq : q < c ∨ c + 9 ≤ q) (hkn : Int32.ofNat kn = kS_r ρ k) (hfg : fg = fS_r ρ k) (hh : ρ 2 = 2) : fX2_hits (cw_ M c ρ Z γ) c k cell = some ((hitR ρ γ k cell).1, cw_ M c (hitR ρ γ k cell).2.1 Z (hitR ρ γ k cell).2.2) := by
  have hS := V.2.2.2.2.2 _ hk
  have hf : rg_ 9 (falR ρ k cell) := fal_rg hS.1 hc V.2.2.2.1
  have htm := time_rg hS.1 hf hS.2
  have hn : (ρ 2).toNatClampNeg = 2 := by rw [hh]; rfl
  have k8 : k.toNatClampNeg < 8 := (rg_nat (by decide) hk8).1
  have V1 : VR (tirR (upd ρ 1 (ρ 1 + 1)) 2 (fX4_tiresBy (kS_r ρ k) (fS_r ρ k))) := V.hits.tir (by decide) (tires_rg hS.1 hS.2)
  have sk : ∀ ρ' γ', sk_ (cw_ M c ρ' Z γ') q = some (kn, fg) := fun _ _ => (sk_cg (cw_out hq)).trans hs
  have sf : s_falls (cw_ M c ρ Z γ) q cell (ρ 3) = some (falR ρ k cell) := by rw [S_falls (sk _ _) hc V.2.2.2.1, hkn]; rfl
  have st : ∀ f, s_time (cw_ M c ρ Z γ) q f = some (fX4_timeBy (kS_r ρ k) (fS_r ρ k) f) := fun f => by rw [S_time (sk _ _), hkn, hfg]
  have si : ∀ ρ', s_tires (cw_ M c ρ' Z γ) q = some (fX4_tiresBy (kS_r ρ k) (fS_r ρ k)) := fun ρ' => by rw [S_tires (sk _ _), hkn, hfg]
  have h2a : upd ρ 1 (ρ 1 + 1) 2 = 2 := hh
  have h2b : ∀ v, tirR (upd ρ 1 (ρ 1 + 1)) 2 v 2 = 2 := fun _ => hh
  have ew : ∀ v f, whoR (tirR (upd ρ 1 (ρ 1 + 1)) 2 v) 0 f = whoR ρ 0 f := fun _ _ => rfl
  unfold fX2_hits fX2_falls hitR
  simp only [hn, cw_ck, C_turn, cw_r0, C_str _ _ _ _ _ hk8 hZ, cw_i11, sf, st, cw_i12, cw_p12, cw_i10, si, h2a, C_tir2, C_who2 _ _ _ _ _ V1 hf (h2b _), C_cla2 _ _ _ _ _ V1 hf (h2b _), ew, hh, tn0, tn1, tn2, tn3, Int32.reduceMul, Int32.reduceAdd, Int32.reduceSub, Int32.reduceDiv, Nat.reduceMul, Nat.reduceAdd, Nat.reduceSub, Nat.reduceDiv, Nat.reduceMod, oN0, oN1, oN2, oN3, Option.bind_some, lt_]
  generalize tirR (upd ρ 1 (ρ 1 + 1)) 2 (fX4_tiresBy (kS_r ρ k) (fS_r ρ k)) = ρ1 at V1 ⊢
  generalize fX4_timeBy (kS_r ρ k) (fS_r ρ k) (falR ρ k cell) = tm at htm ⊢
  have hw := whoR_cases ρ 0 (falR ρ k cell)
  generalize whoR ρ 0 (falR ρ k cell) = p at hw ⊢
  generalize falR ρ k cell = f at hf ⊢
  have tail : ∀ ρ2 : Rw_, VR ρ2 → (if p = 9 then (fX2_wins (cw_ M c ρ2 Z γ) c 1).bind fun M24 => some (true, M24)
    else (aI_ (cw_ M c ρ2 Z γ) (c + 2) 0 p).bind fun v26 => (fX2_steps (cw_ M c ρ2 Z γ) c p tm).bind fun r29 => if fX1_wayTo v26 f ≤ r29 then (fX2_gets (cw_ M c ρ2 Z γ) c p f tm).bind fun M32 => some (false, M32) else (fX2_wins (cw_ M c ρ2 Z γ) c 1).bind fun M35 => some (true, M35)) = some ((endR ρ2 γ 0 p f tm).1, cw_ M c (endR ρ2 γ 0 p f tm).2.1 Z (endR ρ2 γ 0 p f tm).2.2) := by
    intro ρ2 V2
    rcases hw with e | e | e
    · have e : p = 0 := e
      subst e
      have V3 : rg_ 9 (ρ2 20) := (V2.1 0 (by decide)).1
      have pn : (0 : Int32).toNatClampNeg = 0 := rfl
      simp only [endR, pn, cw_a2_0, C_stp0, way_eq V3 hf, C_win1, if_neg (show ¬ (0 : Int32) = 9 by decide), tn0, tn1, tn2, tn3, Int32.reduceMul, Int32.reduceAdd, Int32.reduceSub, Int32.reduceDiv, Nat.reduceMul, Nat.reduceAdd, Nat.reduceSub, Nat.reduceDiv, Nat.reduceMod, oN0, oN1, oN2, oN3, Option.bind_some, lt_]
      by_cases hq : fX4_wayOf (ρ2 20) f ≤ stpR ρ2 0 tm
      · simp only [if_pos hq, C_get0 _ _ _ _ _ V2 hf htm, Option.bind_some]
        rfl
      · simp only [if_neg hq]
    · have e : p = 1 := e
      subst e
      have V3 : rg_ 9 (ρ2 24) := (V2.1 1 (by decide)).1
      have pn : (1 : Int32).toNatClampNeg = 1 := rfl
      simp only [endR, pn, cw_a2_1, C_stp1, way_eq V3 hf, C_win1, if_neg (show ¬ (1 : Int32) = 9 by decide), tn0, tn1, tn2, tn3, Int32.reduceMul, Int32.reduceAdd, Int32.reduceSub, Int32.reduceDiv, Nat.reduceMul, Nat.reduceAdd, Nat.reduceSub, Nat.reduceDiv, Nat.reduceMod, oN0, oN1, oN2, oN3, Option.bind_some, lt_]
      by_cases hq : fX4_wayOf (ρ2 24) f ≤ stpR ρ2 1 tm
      · simp only [if_pos hq, C_get1 _ _ _ _ _ V2 hf htm, Option.bind_some]
        rfl
      · simp only [if_neg hq]
    · subst e
      simp only [endR, if_pos, C_win1, tn0, tn1, tn2, tn3, Int32.reduceMul, Int32.reduceAdd, Int32.reduceSub, Int32.reduceDiv, Nat.reduceMul, Nat.reduceAdd, Nat.reduceSub, Nat.reduceDiv, Nat.reduceMod, oN0, oN1, oN2, oN3, Option.bind_some, lt_]
  cases hb : botR ρ1 0 f with
  | false =>
    simp only [b2_, Bool.false_eq_true, if_true, if_false, cw_r1, Option.bind_some]
    exact tail ρ1 V1
  | true =>
    simp only [b2_, if_true, if_neg (show ¬ (1 : Int32) = 0 by decide), C_tir0, C_tir1, cw_ck, cw_r1, Option.bind_some]
    exact tail (tirR (tirR ρ1 0 3) 1 3) ((V1.tir (by decide) rg3).tir (by decide) rg3)
set_option maxHeartbeats 4000000 in
theorem C_hit3 {k cell : Int32} {q kn : Nat} {fg : Int32} (V : VR ρ) (hk : k.toNatClampNeg < (ρ 0).toNatClampNeg) (hk8 : rg_ 8 k) (hc : rg_ 9 cell) (hZ : Z k.toNatClampNeg = some q) (hs : sk_ M q = some (kn, fg)) (hq : q < c ∨ c + 9 ≤ q) (hkn : Int32.ofNat kn = kS_r ρ k) (hfg : fg = fS_r ρ k) (hh : ρ 2 = 3) : fX2_hits (cw_ M c ρ Z γ) c k cell = some ((hitR ρ γ k cell).1, cw_ M c (hitR ρ γ k cell).2.1 Z (hitR ρ γ k cell).2.2) := by
  have hS := V.2.2.2.2.2 _ hk
  have hf : rg_ 9 (falR ρ k cell) := fal_rg hS.1 hc V.2.2.2.1
  have htm := time_rg hS.1 hf hS.2
  have hn : (ρ 2).toNatClampNeg = 3 := by rw [hh]; rfl
  have k8 : k.toNatClampNeg < 8 := (rg_nat (by decide) hk8).1
  have V1 : VR (tirR (upd ρ 1 (ρ 1 + 1)) 3 (fX4_tiresBy (kS_r ρ k) (fS_r ρ k))) := V.hits.tir (by decide) (tires_rg hS.1 hS.2)
  have sk : ∀ ρ' γ', sk_ (cw_ M c ρ' Z γ') q = some (kn, fg) := fun _ _ => (sk_cg (cw_out hq)).trans hs
  have sf : s_falls (cw_ M c ρ Z γ) q cell (ρ 3) = some (falR ρ k cell) := by rw [S_falls (sk _ _) hc V.2.2.2.1, hkn]; rfl
  have st : ∀ f, s_time (cw_ M c ρ Z γ) q f = some (fX4_timeBy (kS_r ρ k) (fS_r ρ k) f) := fun f => by rw [S_time (sk _ _), hkn, hfg]
  have si : ∀ ρ', s_tires (cw_ M c ρ' Z γ) q = some (fX4_tiresBy (kS_r ρ k) (fS_r ρ k)) := fun ρ' => by rw [S_tires (sk _ _), hkn, hfg]
  have h2a : upd ρ 1 (ρ 1 + 1) 2 = 3 := hh
  have h2b : ∀ v, tirR (upd ρ 1 (ρ 1 + 1)) 3 v 2 = 3 := fun _ => hh
  have ew : ∀ v f, whoR (tirR (upd ρ 1 (ρ 1 + 1)) 3 v) 0 f = whoR ρ 0 f := fun _ _ => rfl
  unfold fX2_hits fX2_falls hitR
  simp only [hn, cw_ck, C_turn, cw_r0, C_str _ _ _ _ _ hk8 hZ, cw_i11, sf, st, cw_i12, cw_p12, cw_i10, si, h2a, C_tir3, C_who3 _ _ _ _ _ V1 hf (h2b _), C_cla3 _ _ _ _ _ V1 hf (h2b _), ew, hh, tn0, tn1, tn2, tn3, Int32.reduceMul, Int32.reduceAdd, Int32.reduceSub, Int32.reduceDiv, Nat.reduceMul, Nat.reduceAdd, Nat.reduceSub, Nat.reduceDiv, Nat.reduceMod, oN0, oN1, oN2, oN3, Option.bind_some, lt_]
  generalize tirR (upd ρ 1 (ρ 1 + 1)) 3 (fX4_tiresBy (kS_r ρ k) (fS_r ρ k)) = ρ1 at V1 ⊢
  generalize fX4_timeBy (kS_r ρ k) (fS_r ρ k) (falR ρ k cell) = tm at htm ⊢
  have hw := whoR_cases ρ 0 (falR ρ k cell)
  generalize whoR ρ 0 (falR ρ k cell) = p at hw ⊢
  generalize falR ρ k cell = f at hf ⊢
  have tail : ∀ ρ2 : Rw_, VR ρ2 → (if p = 9 then (fX2_wins (cw_ M c ρ2 Z γ) c 1).bind fun M24 => some (true, M24)
    else (aI_ (cw_ M c ρ2 Z γ) (c + 2) 0 p).bind fun v26 => (fX2_steps (cw_ M c ρ2 Z γ) c p tm).bind fun r29 => if fX1_wayTo v26 f ≤ r29 then (fX2_gets (cw_ M c ρ2 Z γ) c p f tm).bind fun M32 => some (false, M32) else (fX2_wins (cw_ M c ρ2 Z γ) c 1).bind fun M35 => some (true, M35)) = some ((endR ρ2 γ 0 p f tm).1, cw_ M c (endR ρ2 γ 0 p f tm).2.1 Z (endR ρ2 γ 0 p f tm).2.2) := by
    intro ρ2 V2
    rcases hw with e | e | e
    · have e : p = 0 := e
      subst e
      have V3 : rg_ 9 (ρ2 20) := (V2.1 0 (by decide)).1
      have pn : (0 : Int32).toNatClampNeg = 0 := rfl
      simp only [endR, pn, cw_a2_0, C_stp0, way_eq V3 hf, C_win1, if_neg (show ¬ (0 : Int32) = 9 by decide), tn0, tn1, tn2, tn3, Int32.reduceMul, Int32.reduceAdd, Int32.reduceSub, Int32.reduceDiv, Nat.reduceMul, Nat.reduceAdd, Nat.reduceSub, Nat.reduceDiv, Nat.reduceMod, oN0, oN1, oN2, oN3, Option.bind_some, lt_]
      by_cases hq : fX4_wayOf (ρ2 20) f ≤ stpR ρ2 0 tm
      · simp only [if_pos hq, C_get0 _ _ _ _ _ V2 hf htm, Option.bind_some]
        rfl
      · simp only [if_neg hq]
    · have e : p = 1 := e
      subst e
      have V3 : rg_ 9 (ρ2 24) := (V2.1 1 (by decide)).1
      have pn : (1 : Int32).toNatClampNeg = 1 := rfl
      simp only [endR, pn, cw_a2_1, C_stp1, way_eq V3 hf, C_win1, if_neg (show ¬ (1 : Int32) = 9 by decide), tn0, tn1, tn2, tn3, Int32.reduceMul, Int32.reduceAdd, Int32.reduceSub, Int32.reduceDiv, Nat.reduceMul, Nat.reduceAdd, Nat.reduceSub, Nat.reduceDiv, Nat.reduceMod, oN0, oN1, oN2, oN3, Option.bind_some, lt_]
      by_cases hq : fX4_wayOf (ρ2 24) f ≤ stpR ρ2 1 tm
      · simp only [if_pos hq, C_get1 _ _ _ _ _ V2 hf htm, Option.bind_some]
        rfl
      · simp only [if_neg hq]
    · subst e
      simp only [endR, if_pos, C_win1, tn0, tn1, tn2, tn3, Int32.reduceMul, Int32.reduceAdd, Int32.reduceSub, Int32.reduceDiv, Nat.reduceMul, Nat.reduceAdd, Nat.reduceSub, Nat.reduceDiv, Nat.reduceMod, oN0, oN1, oN2, oN3, Option.bind_some, lt_]
  cases hb : botR ρ1 0 f with
  | false =>
    simp only [b2_, Bool.false_eq_true, if_true, if_false, cw_r1, Option.bind_some]
    exact tail ρ1 V1
  | true =>
    simp only [b2_, if_true, if_neg (show ¬ (1 : Int32) = 0 by decide), C_tir0, C_tir1, cw_ck, cw_r1, Option.bind_some]
    exact tail (tirR (tirR ρ1 0 3) 1 3) ((V1.tir (by decide) rg3).tir (by decide) rg3)
theorem C_hit {k cell : Int32} {q kn : Nat} {fg : Int32} (V : VR ρ) (hk : k.toNatClampNeg < (ρ 0).toNatClampNeg) (hk8 : rg_ 8 k) (hc : rg_ 9 cell) (hZ : Z k.toNatClampNeg = some q) (hs : sk_ M q = some (kn, fg)) (hq : q < c ∨ c + 9 ≤ q) (hkn : Int32.ofNat kn = kS_r ρ k) (hfg : fg = fS_r ρ k) : fX2_hits (cw_ M c ρ Z γ) c k cell = some ((hitR ρ γ k cell).1, cw_ M c (hitR ρ γ k cell).2.1 Z (hitR ρ γ k cell).2.2) := by
  obtain ⟨i, hi, e⟩ := V.2.2.1
  match i, hi, e with
  | 0, _, e => exact C_hit0 M c ρ Z γ V hk hk8 hc hZ hs hq hkn hfg e
  | 1, _, e => exact C_hit1 M c ρ Z γ V hk hk8 hc hZ hs hq hkn hfg e
  | 2, _, e => exact C_hit2 M c ρ Z γ V hk hk8 hc hZ hs hq hkn hfg e
  | 3, _, e => exact C_hit3 M c ρ Z γ V hk hk8 hc hZ hs hq hkn hfg e
end CWF
