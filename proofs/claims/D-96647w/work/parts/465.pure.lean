/-! reads and writes where a court or a row lies -/
set_option maxRecDepth 100000
section COF
variable {M : Mem_} {c : Nat} {ρ : Rw_} {Z : Zr_} {γ : Rw_}
theorem co_ck (h : Co_ M c ρ Z γ) : ck_ M c 1 = some () := by
  have t := cw_ck M c ρ Z γ
  rw [cw_eq h] at t
  exact t
theorem co_r0 (h : Co_ M c ρ Z γ) : gR_ M c 1 0 = some (c + 1) := by
  have t := cw_r0 M c ρ Z γ
  rw [cw_eq h] at t
  exact t
theorem co_r1 (h : Co_ M c ρ Z γ) : gR_ M c 1 1 = some (c + 2) := by
  have t := cw_r1 M c ρ Z γ
  rw [cw_eq h] at t
  exact t
theorem co_r2 (h : Co_ M c ρ Z γ) : gR_ M c 1 2 = some (c + 3) := by
  have t := cw_r2 M c ρ Z γ
  rw [cw_eq h] at t
  exact t
theorem co_r3 (h : Co_ M c ρ Z γ) : gR_ M c 1 3 = some (c + 4) := by
  have t := cw_r3 M c ρ Z γ
  rw [cw_eq h] at t
  exact t
theorem co_r4 (h : Co_ M c ρ Z γ) : gR_ M c 1 4 = some (c + 5) := by
  have t := cw_r4 M c ρ Z γ
  rw [cw_eq h] at t
  exact t
theorem co_r5 (h : Co_ M c ρ Z γ) : gR_ M c 1 5 = some (c + 6) := by
  have t := cw_r5 M c ρ Z γ
  rw [cw_eq h] at t
  exact t
theorem co_r6 (h : Co_ M c ρ Z γ) : gR_ M c 1 6 = some (c + 7) := by
  have t := cw_r6 M c ρ Z γ
  rw [cw_eq h] at t
  exact t
theorem co_r7 (h : Co_ M c ρ Z γ) : gR_ M c 1 7 = some (c + 8) := by
  have t := cw_r7 M c ρ Z γ
  rw [cw_eq h] at t
  exact t
theorem co_i8 (h : Co_ M c ρ Z γ) : gI_ M c 1 8 = some (lf_ ρ) := by
  have t := cw_i8 M c ρ Z γ
  rw [cw_eq h] at t
  exact t
theorem co_i9 (h : Co_ M c ρ Z γ) : gI_ M c 1 9 = some (ρ 0) := by
  have t := cw_i9 M c ρ Z γ
  rw [cw_eq h] at t
  exact t
theorem co_i10 (h : Co_ M c ρ Z γ) : gI_ M c 1 10 = some (ρ 2) := by
  have t := cw_i10 M c ρ Z γ
  rw [cw_eq h] at t
  exact t
theorem co_i11 (h : Co_ M c ρ Z γ) : gI_ M c 1 11 = some (ρ 3) := by
  have t := cw_i11 M c ρ Z γ
  rw [cw_eq h] at t
  exact t
theorem co_i12 (h : Co_ M c ρ Z γ) : gI_ M c 1 12 = some (ρ 1) := by
  have t := cw_i12 M c ρ Z γ
  rw [cw_eq h] at t
  exact t
theorem co_a2_0 (h : Co_ M c ρ Z γ) : aI_ M (c + 2) 0 0 = some (ρ 20) := by
  have t := cw_a2_0 M c ρ Z γ
  rw [cw_eq h] at t
  exact t
theorem co_s2_0 (h : Co_ M c ρ Z γ) (v : Int32) : sI_ M (c + 2) 0 0 v = some (cw_ M c (upd ρ 20 v) Z γ) := by
  have t := cw_s2_0 M c ρ Z γ v
  rw [cw_eq h] at t
  exact t
theorem co_a2_1 (h : Co_ M c ρ Z γ) : aI_ M (c + 2) 0 1 = some (ρ 24) := by
  have t := cw_a2_1 M c ρ Z γ
  rw [cw_eq h] at t
  exact t
theorem co_s2_1 (h : Co_ M c ρ Z γ) (v : Int32) : sI_ M (c + 2) 0 1 v = some (cw_ M c (upd ρ 24 v) Z γ) := by
  have t := cw_s2_1 M c ρ Z γ v
  rw [cw_eq h] at t
  exact t
theorem co_a2_2 (h : Co_ M c ρ Z γ) : aI_ M (c + 2) 0 2 = some (ρ 28) := by
  have t := cw_a2_2 M c ρ Z γ
  rw [cw_eq h] at t
  exact t
theorem co_s2_2 (h : Co_ M c ρ Z γ) (v : Int32) : sI_ M (c + 2) 0 2 v = some (cw_ M c (upd ρ 28 v) Z γ) := by
  have t := cw_s2_2 M c ρ Z γ v
  rw [cw_eq h] at t
  exact t
theorem co_a2_3 (h : Co_ M c ρ Z γ) : aI_ M (c + 2) 0 3 = some (ρ 32) := by
  have t := cw_a2_3 M c ρ Z γ
  rw [cw_eq h] at t
  exact t
theorem co_s2_3 (h : Co_ M c ρ Z γ) (v : Int32) : sI_ M (c + 2) 0 3 v = some (cw_ M c (upd ρ 32 v) Z γ) := by
  have t := cw_s2_3 M c ρ Z γ v
  rw [cw_eq h] at t
  exact t
theorem co_a3_0 (h : Co_ M c ρ Z γ) : aI_ M (c + 3) 0 0 = some (ρ 21) := by
  have t := cw_a3_0 M c ρ Z γ
  rw [cw_eq h] at t
  exact t
theorem co_s3_0 (h : Co_ M c ρ Z γ) (v : Int32) : sI_ M (c + 3) 0 0 v = some (cw_ M c (upd ρ 21 v) Z γ) := by
  have t := cw_s3_0 M c ρ Z γ v
  rw [cw_eq h] at t
  exact t
theorem co_a3_1 (h : Co_ M c ρ Z γ) : aI_ M (c + 3) 0 1 = some (ρ 25) := by
  have t := cw_a3_1 M c ρ Z γ
  rw [cw_eq h] at t
  exact t
theorem co_s3_1 (h : Co_ M c ρ Z γ) (v : Int32) : sI_ M (c + 3) 0 1 v = some (cw_ M c (upd ρ 25 v) Z γ) := by
  have t := cw_s3_1 M c ρ Z γ v
  rw [cw_eq h] at t
  exact t
theorem co_a3_2 (h : Co_ M c ρ Z γ) : aI_ M (c + 3) 0 2 = some (ρ 29) := by
  have t := cw_a3_2 M c ρ Z γ
  rw [cw_eq h] at t
  exact t
theorem co_s3_2 (h : Co_ M c ρ Z γ) (v : Int32) : sI_ M (c + 3) 0 2 v = some (cw_ M c (upd ρ 29 v) Z γ) := by
  have t := cw_s3_2 M c ρ Z γ v
  rw [cw_eq h] at t
  exact t
theorem co_a3_3 (h : Co_ M c ρ Z γ) : aI_ M (c + 3) 0 3 = some (ρ 33) := by
  have t := cw_a3_3 M c ρ Z γ
  rw [cw_eq h] at t
  exact t
theorem co_s3_3 (h : Co_ M c ρ Z γ) (v : Int32) : sI_ M (c + 3) 0 3 v = some (cw_ M c (upd ρ 33 v) Z γ) := by
  have t := cw_s3_3 M c ρ Z γ v
  rw [cw_eq h] at t
  exact t
theorem co_a4_0 (h : Co_ M c ρ Z γ) : aI_ M (c + 4) 0 0 = some (ρ 22) := by
  have t := cw_a4_0 M c ρ Z γ
  rw [cw_eq h] at t
  exact t
theorem co_s4_0 (h : Co_ M c ρ Z γ) (v : Int32) : sI_ M (c + 4) 0 0 v = some (cw_ M c (upd ρ 22 v) Z γ) := by
  have t := cw_s4_0 M c ρ Z γ v
  rw [cw_eq h] at t
  exact t
theorem co_a4_1 (h : Co_ M c ρ Z γ) : aI_ M (c + 4) 0 1 = some (ρ 26) := by
  have t := cw_a4_1 M c ρ Z γ
  rw [cw_eq h] at t
  exact t
theorem co_s4_1 (h : Co_ M c ρ Z γ) (v : Int32) : sI_ M (c + 4) 0 1 v = some (cw_ M c (upd ρ 26 v) Z γ) := by
  have t := cw_s4_1 M c ρ Z γ v
  rw [cw_eq h] at t
  exact t
theorem co_a4_2 (h : Co_ M c ρ Z γ) : aI_ M (c + 4) 0 2 = some (ρ 30) := by
  have t := cw_a4_2 M c ρ Z γ
  rw [cw_eq h] at t
  exact t
theorem co_s4_2 (h : Co_ M c ρ Z γ) (v : Int32) : sI_ M (c + 4) 0 2 v = some (cw_ M c (upd ρ 30 v) Z γ) := by
  have t := cw_s4_2 M c ρ Z γ v
  rw [cw_eq h] at t
  exact t
theorem co_a4_3 (h : Co_ M c ρ Z γ) : aI_ M (c + 4) 0 3 = some (ρ 34) := by
  have t := cw_a4_3 M c ρ Z γ
  rw [cw_eq h] at t
  exact t
theorem co_s4_3 (h : Co_ M c ρ Z γ) (v : Int32) : sI_ M (c + 4) 0 3 v = some (cw_ M c (upd ρ 34 v) Z γ) := by
  have t := cw_s4_3 M c ρ Z γ v
  rw [cw_eq h] at t
  exact t
theorem co_a5_0 (h : Co_ M c ρ Z γ) : aI_ M (c + 5) 0 0 = some (ρ 36) := by
  have t := cw_a5_0 M c ρ Z γ
  rw [cw_eq h] at t
  exact t
theorem co_s5_0 (h : Co_ M c ρ Z γ) (v : Int32) : sI_ M (c + 5) 0 0 v = some (cw_ M c (upd ρ 36 v) Z γ) := by
  have t := cw_s5_0 M c ρ Z γ v
  rw [cw_eq h] at t
  exact t
theorem co_a5_1 (h : Co_ M c ρ Z γ) : aI_ M (c + 5) 0 1 = some (ρ 39) := by
  have t := cw_a5_1 M c ρ Z γ
  rw [cw_eq h] at t
  exact t
theorem co_s5_1 (h : Co_ M c ρ Z γ) (v : Int32) : sI_ M (c + 5) 0 1 v = some (cw_ M c (upd ρ 39 v) Z γ) := by
  have t := cw_s5_1 M c ρ Z γ v
  rw [cw_eq h] at t
  exact t
theorem co_a6_0 (h : Co_ M c ρ Z γ) : aI_ M (c + 6) 0 0 = some (ρ 37) := by
  have t := cw_a6_0 M c ρ Z γ
  rw [cw_eq h] at t
  exact t
theorem co_s6_0 (h : Co_ M c ρ Z γ) (v : Int32) : sI_ M (c + 6) 0 0 v = some (cw_ M c (upd ρ 37 v) Z γ) := by
  have t := cw_s6_0 M c ρ Z γ v
  rw [cw_eq h] at t
  exact t
theorem co_a6_1 (h : Co_ M c ρ Z γ) : aI_ M (c + 6) 0 1 = some (ρ 40) := by
  have t := cw_a6_1 M c ρ Z γ
  rw [cw_eq h] at t
  exact t
theorem co_s6_1 (h : Co_ M c ρ Z γ) (v : Int32) : sI_ M (c + 6) 0 1 v = some (cw_ M c (upd ρ 40 v) Z γ) := by
  have t := cw_s6_1 M c ρ Z γ v
  rw [cw_eq h] at t
  exact t
theorem co_a7_0 (h : Co_ M c ρ Z γ) : aI_ M (c + 7) 0 0 = some (ρ 38) := by
  have t := cw_a7_0 M c ρ Z γ
  rw [cw_eq h] at t
  exact t
theorem co_s7_0 (h : Co_ M c ρ Z γ) (v : Int32) : sI_ M (c + 7) 0 0 v = some (cw_ M c (upd ρ 38 v) Z γ) := by
  have t := cw_s7_0 M c ρ Z γ v
  rw [cw_eq h] at t
  exact t
theorem co_a7_1 (h : Co_ M c ρ Z γ) : aI_ M (c + 7) 0 1 = some (ρ 41) := by
  have t := cw_a7_1 M c ρ Z γ
  rw [cw_eq h] at t
  exact t
theorem co_s7_1 (h : Co_ M c ρ Z γ) (v : Int32) : sI_ M (c + 7) 0 1 v = some (cw_ M c (upd ρ 41 v) Z γ) := by
  have t := cw_s7_1 M c ρ Z γ v
  rw [cw_eq h] at t
  exact t
theorem co_a8_0 (h : Co_ M c ρ Z γ) : aI_ M (c + 8) 0 0 = some (γ 0) := by
  have t := cw_a8_0 M c ρ Z γ
  rw [cw_eq h] at t
  exact t
theorem co_a8_1 (h : Co_ M c ρ Z γ) : aI_ M (c + 8) 0 1 = some (γ 1) := by
  have t := cw_a8_1 M c ρ Z γ
  rw [cw_eq h] at t
  exact t
theorem co_a8_2 (h : Co_ M c ρ Z γ) : aI_ M (c + 8) 0 2 = some (γ 2) := by
  have t := cw_a8_2 M c ρ Z γ
  rw [cw_eq h] at t
  exact t
theorem co_a8_3 (h : Co_ M c ρ Z γ) : aI_ M (c + 8) 0 3 = some (γ 3) := by
  have t := cw_a8_3 M c ρ Z γ
  rw [cw_eq h] at t
  exact t
theorem co_p9 (h : Co_ M c ρ Z γ) (v : Int32) : pF_ M c 1 9 (.int v) = some (cw_ M c (upd ρ 0 v) Z γ) := by
  have t := cw_p9 M c ρ Z γ v
  rw [cw_eq h] at t
  exact t
theorem co_p10 (h : Co_ M c ρ Z γ) (v : Int32) : pF_ M c 1 10 (.int v) = some (cw_ M c (upd ρ 2 v) Z γ) := by
  have t := cw_p10 M c ρ Z γ v
  rw [cw_eq h] at t
  exact t
theorem co_p11 (h : Co_ M c ρ Z γ) (v : Int32) : pF_ M c 1 11 (.int v) = some (cw_ M c (upd ρ 3 v) Z γ) := by
  have t := cw_p11 M c ρ Z γ v
  rw [cw_eq h] at t
  exact t
theorem co_p12 (h : Co_ M c ρ Z γ) (v : Int32) : pF_ M c 1 12 (.int v) = some (cw_ M c (upd ρ 1 v) Z γ) := by
  have t := cw_p12 M c ρ Z γ v
  rw [cw_eq h] at t
  exact t
theorem co_turn (h : Co_ M c ρ Z γ) : fX2_turn M c = some (ρ 2 / 2) := by
  have t := C_turn M c ρ Z γ
  rw [cw_eq h] at t
  exact t
theorem co_stp0 (h : Co_ M c ρ Z γ) (t : Int32) : fX2_steps M c 0 t = some (stpR ρ 0 t) := by
  have t := C_stp0 M c ρ Z γ t
  rw [cw_eq h] at t
  exact t
theorem co_pla0 (h : Co_ M c ρ Z γ) : fX2_placeBy M c 0 = some (fX4_placeFor (ρ 36) (ρ 20)) := by
  have t := C_pla0 M c ρ Z γ
  rw [cw_eq h] at t
  exact t
theorem co_stp1 (h : Co_ M c ρ Z γ) (t : Int32) : fX2_steps M c 1 t = some (stpR ρ 1 t) := by
  have t := C_stp1 M c ρ Z γ t
  rw [cw_eq h] at t
  exact t
theorem co_pla1 (h : Co_ M c ρ Z γ) : fX2_placeBy M c 1 = some (fX4_placeFor (ρ 36) (ρ 24)) := by
  have t := C_pla1 M c ρ Z γ
  rw [cw_eq h] at t
  exact t
theorem co_stp2 (h : Co_ M c ρ Z γ) (t : Int32) : fX2_steps M c 2 t = some (stpR ρ 2 t) := by
  have t := C_stp2 M c ρ Z γ t
  rw [cw_eq h] at t
  exact t
theorem co_pla2 (h : Co_ M c ρ Z γ) : fX2_placeBy M c 2 = some (fX4_placeFor (ρ 39) (ρ 28)) := by
  have t := C_pla2 M c ρ Z γ
  rw [cw_eq h] at t
  exact t
theorem co_stp3 (h : Co_ M c ρ Z γ) (t : Int32) : fX2_steps M c 3 t = some (stpR ρ 3 t) := by
  have t := C_stp3 M c ρ Z γ t
  rw [cw_eq h] at t
  exact t
theorem co_pla3 (h : Co_ M c ρ Z γ) : fX2_placeBy M c 3 = some (fX4_placeFor (ρ 39) (ρ 32)) := by
  have t := C_pla3 M c ρ Z γ
  rw [cw_eq h] at t
  exact t
theorem co_who (h : Co_ M c ρ Z γ) {f : Int32} (V : VR ρ) (hf : rg_ 9 f) : fX2_whose M c f = some (whoR ρ (1 - (ρ 2).toNatClampNeg / 2) f) := by
  obtain ⟨i, hi, e⟩ := V.2.2.1
  have k : ∀ t, fX2_whose (cw_ M c ρ Z γ) c f = some t → fX2_whose M c f = some t := fun t z => by
    rw [cw_eq h] at z
    exact z
  match i, hi, e with
  | 0, _, e => rw [e]; exact k _ (C_who0 M c ρ Z γ V hf e)
  | 1, _, e => rw [e]; exact k _ (C_who1 M c ρ Z γ V hf e)
  | 2, _, e => rw [e]; exact k _ (C_who2 M c ρ Z γ V hf e)
  | 3, _, e => rw [e]; exact k _ (C_who3 M c ρ Z γ V hf e)
theorem co_fal (h : Co_ M c ρ Z γ) {k cell : Int32} {q kn : Nat} {fg : Int32} (V : dr_ (ρ 3)) (hk8 : rg_ 8 k) (hc : rg_ 9 cell) (hZ : Z k.toNatClampNeg = some q) (hs : sk_ M q = some (kn, fg)) (hkn : Int32.ofNat kn = kS_r ρ k) : fX2_falls M c k cell = some (falR ρ k cell) := by
  unfold fX2_falls
  have t := C_str M c ρ Z γ hk8 hZ
  rw [cw_eq h] at t
  simp only [co_r0 h, t, co_i11 h, S_falls hs hc V, hkn, falR, Option.bind_some]
theorem co_str (h : Co_ M c ρ Z γ) {k : Int32} {q : Nat} (hk : rg_ 8 k) (hZ : Z k.toNatClampNeg = some q) : aR_ M (c + 1) 3 k = some q := by
  have t := C_str M c ρ Z γ hk hZ
  rw [cw_eq h] at t
  exact t
end COF
section ROF
variable {M : Mem_} {r g : Nat} {ρ γ : Rw_}
theorem ro_a0 (h : M r = some (eI_ 0 42 ρ)) : aI_ M r 0 0 = some (ρ 0) := aIof (i := 0) h (by decide)
theorem ro_s0 (h : M r = some (eI_ 0 42 ρ)) (v : Int32) : sI_ M r 0 0 v = some (ms_ M r (eI_ 0 42 (upd ρ 0 v))) := sIof (i := 0) h (by decide)
theorem ro_a1 (h : M r = some (eI_ 0 42 ρ)) : aI_ M r 0 1 = some (ρ 1) := aIof (i := 1) h (by decide)
theorem ro_s1 (h : M r = some (eI_ 0 42 ρ)) (v : Int32) : sI_ M r 0 1 v = some (ms_ M r (eI_ 0 42 (upd ρ 1 v))) := sIof (i := 1) h (by decide)
theorem ro_a2 (h : M r = some (eI_ 0 42 ρ)) : aI_ M r 0 2 = some (ρ 2) := aIof (i := 2) h (by decide)
theorem ro_s2 (h : M r = some (eI_ 0 42 ρ)) (v : Int32) : sI_ M r 0 2 v = some (ms_ M r (eI_ 0 42 (upd ρ 2 v))) := sIof (i := 2) h (by decide)
theorem ro_a3 (h : M r = some (eI_ 0 42 ρ)) : aI_ M r 0 3 = some (ρ 3) := aIof (i := 3) h (by decide)
theorem ro_s3 (h : M r = some (eI_ 0 42 ρ)) (v : Int32) : sI_ M r 0 3 v = some (ms_ M r (eI_ 0 42 (upd ρ 3 v))) := sIof (i := 3) h (by decide)
theorem ro_a20 (h : M r = some (eI_ 0 42 ρ)) : aI_ M r 0 20 = some (ρ 20) := aIof (i := 20) h (by decide)
theorem ro_s20 (h : M r = some (eI_ 0 42 ρ)) (v : Int32) : sI_ M r 0 20 v = some (ms_ M r (eI_ 0 42 (upd ρ 20 v))) := sIof (i := 20) h (by decide)
theorem ro_a21 (h : M r = some (eI_ 0 42 ρ)) : aI_ M r 0 21 = some (ρ 21) := aIof (i := 21) h (by decide)
theorem ro_s21 (h : M r = some (eI_ 0 42 ρ)) (v : Int32) : sI_ M r 0 21 v = some (ms_ M r (eI_ 0 42 (upd ρ 21 v))) := sIof (i := 21) h (by decide)
theorem ro_a22 (h : M r = some (eI_ 0 42 ρ)) : aI_ M r 0 22 = some (ρ 22) := aIof (i := 22) h (by decide)
theorem ro_s22 (h : M r = some (eI_ 0 42 ρ)) (v : Int32) : sI_ M r 0 22 v = some (ms_ M r (eI_ 0 42 (upd ρ 22 v))) := sIof (i := 22) h (by decide)
theorem ro_a23 (h : M r = some (eI_ 0 42 ρ)) : aI_ M r 0 23 = some (ρ 23) := aIof (i := 23) h (by decide)
theorem ro_s23 (h : M r = some (eI_ 0 42 ρ)) (v : Int32) : sI_ M r 0 23 v = some (ms_ M r (eI_ 0 42 (upd ρ 23 v))) := sIof (i := 23) h (by decide)
theorem ro_a24 (h : M r = some (eI_ 0 42 ρ)) : aI_ M r 0 24 = some (ρ 24) := aIof (i := 24) h (by decide)
theorem ro_s24 (h : M r = some (eI_ 0 42 ρ)) (v : Int32) : sI_ M r 0 24 v = some (ms_ M r (eI_ 0 42 (upd ρ 24 v))) := sIof (i := 24) h (by decide)
theorem ro_a25 (h : M r = some (eI_ 0 42 ρ)) : aI_ M r 0 25 = some (ρ 25) := aIof (i := 25) h (by decide)
theorem ro_s25 (h : M r = some (eI_ 0 42 ρ)) (v : Int32) : sI_ M r 0 25 v = some (ms_ M r (eI_ 0 42 (upd ρ 25 v))) := sIof (i := 25) h (by decide)
theorem ro_a26 (h : M r = some (eI_ 0 42 ρ)) : aI_ M r 0 26 = some (ρ 26) := aIof (i := 26) h (by decide)
theorem ro_s26 (h : M r = some (eI_ 0 42 ρ)) (v : Int32) : sI_ M r 0 26 v = some (ms_ M r (eI_ 0 42 (upd ρ 26 v))) := sIof (i := 26) h (by decide)
theorem ro_a27 (h : M r = some (eI_ 0 42 ρ)) : aI_ M r 0 27 = some (ρ 27) := aIof (i := 27) h (by decide)
theorem ro_s27 (h : M r = some (eI_ 0 42 ρ)) (v : Int32) : sI_ M r 0 27 v = some (ms_ M r (eI_ 0 42 (upd ρ 27 v))) := sIof (i := 27) h (by decide)
theorem ro_a28 (h : M r = some (eI_ 0 42 ρ)) : aI_ M r 0 28 = some (ρ 28) := aIof (i := 28) h (by decide)
theorem ro_s28 (h : M r = some (eI_ 0 42 ρ)) (v : Int32) : sI_ M r 0 28 v = some (ms_ M r (eI_ 0 42 (upd ρ 28 v))) := sIof (i := 28) h (by decide)
theorem ro_a29 (h : M r = some (eI_ 0 42 ρ)) : aI_ M r 0 29 = some (ρ 29) := aIof (i := 29) h (by decide)
theorem ro_s29 (h : M r = some (eI_ 0 42 ρ)) (v : Int32) : sI_ M r 0 29 v = some (ms_ M r (eI_ 0 42 (upd ρ 29 v))) := sIof (i := 29) h (by decide)
theorem ro_a30 (h : M r = some (eI_ 0 42 ρ)) : aI_ M r 0 30 = some (ρ 30) := aIof (i := 30) h (by decide)
theorem ro_s30 (h : M r = some (eI_ 0 42 ρ)) (v : Int32) : sI_ M r 0 30 v = some (ms_ M r (eI_ 0 42 (upd ρ 30 v))) := sIof (i := 30) h (by decide)
theorem ro_a31 (h : M r = some (eI_ 0 42 ρ)) : aI_ M r 0 31 = some (ρ 31) := aIof (i := 31) h (by decide)
theorem ro_s31 (h : M r = some (eI_ 0 42 ρ)) (v : Int32) : sI_ M r 0 31 v = some (ms_ M r (eI_ 0 42 (upd ρ 31 v))) := sIof (i := 31) h (by decide)
theorem ro_a32 (h : M r = some (eI_ 0 42 ρ)) : aI_ M r 0 32 = some (ρ 32) := aIof (i := 32) h (by decide)
theorem ro_s32 (h : M r = some (eI_ 0 42 ρ)) (v : Int32) : sI_ M r 0 32 v = some (ms_ M r (eI_ 0 42 (upd ρ 32 v))) := sIof (i := 32) h (by decide)
theorem ro_a33 (h : M r = some (eI_ 0 42 ρ)) : aI_ M r 0 33 = some (ρ 33) := aIof (i := 33) h (by decide)
theorem ro_s33 (h : M r = some (eI_ 0 42 ρ)) (v : Int32) : sI_ M r 0 33 v = some (ms_ M r (eI_ 0 42 (upd ρ 33 v))) := sIof (i := 33) h (by decide)
theorem ro_a34 (h : M r = some (eI_ 0 42 ρ)) : aI_ M r 0 34 = some (ρ 34) := aIof (i := 34) h (by decide)
theorem ro_s34 (h : M r = some (eI_ 0 42 ρ)) (v : Int32) : sI_ M r 0 34 v = some (ms_ M r (eI_ 0 42 (upd ρ 34 v))) := sIof (i := 34) h (by decide)
theorem ro_a35 (h : M r = some (eI_ 0 42 ρ)) : aI_ M r 0 35 = some (ρ 35) := aIof (i := 35) h (by decide)
theorem ro_s35 (h : M r = some (eI_ 0 42 ρ)) (v : Int32) : sI_ M r 0 35 v = some (ms_ M r (eI_ 0 42 (upd ρ 35 v))) := sIof (i := 35) h (by decide)
theorem ro_a36 (h : M r = some (eI_ 0 42 ρ)) : aI_ M r 0 36 = some (ρ 36) := aIof (i := 36) h (by decide)
theorem ro_s36 (h : M r = some (eI_ 0 42 ρ)) (v : Int32) : sI_ M r 0 36 v = some (ms_ M r (eI_ 0 42 (upd ρ 36 v))) := sIof (i := 36) h (by decide)
theorem ro_a37 (h : M r = some (eI_ 0 42 ρ)) : aI_ M r 0 37 = some (ρ 37) := aIof (i := 37) h (by decide)
theorem ro_s37 (h : M r = some (eI_ 0 42 ρ)) (v : Int32) : sI_ M r 0 37 v = some (ms_ M r (eI_ 0 42 (upd ρ 37 v))) := sIof (i := 37) h (by decide)
theorem ro_a38 (h : M r = some (eI_ 0 42 ρ)) : aI_ M r 0 38 = some (ρ 38) := aIof (i := 38) h (by decide)
theorem ro_s38 (h : M r = some (eI_ 0 42 ρ)) (v : Int32) : sI_ M r 0 38 v = some (ms_ M r (eI_ 0 42 (upd ρ 38 v))) := sIof (i := 38) h (by decide)
theorem ro_a39 (h : M r = some (eI_ 0 42 ρ)) : aI_ M r 0 39 = some (ρ 39) := aIof (i := 39) h (by decide)
theorem ro_s39 (h : M r = some (eI_ 0 42 ρ)) (v : Int32) : sI_ M r 0 39 v = some (ms_ M r (eI_ 0 42 (upd ρ 39 v))) := sIof (i := 39) h (by decide)
theorem ro_a40 (h : M r = some (eI_ 0 42 ρ)) : aI_ M r 0 40 = some (ρ 40) := aIof (i := 40) h (by decide)
theorem ro_s40 (h : M r = some (eI_ 0 42 ρ)) (v : Int32) : sI_ M r 0 40 v = some (ms_ M r (eI_ 0 42 (upd ρ 40 v))) := sIof (i := 40) h (by decide)
theorem ro_a41 (h : M r = some (eI_ 0 42 ρ)) : aI_ M r 0 41 = some (ρ 41) := aIof (i := 41) h (by decide)
theorem ro_s41 (h : M r = some (eI_ 0 42 ρ)) (v : Int32) : sI_ M r 0 41 v = some (ms_ M r (eI_ 0 42 (upd ρ 41 v))) := sIof (i := 41) h (by decide)
theorem ro_S0 (h : M r = some (eI_ 0 42 ρ)) (h2 : M g = some (eI_ 0 4 γ)) {k : Int32} (hk : rg_ 8 k) : aI_ M r 0 (fX4_ofS k 0) = some (kS_r ρ k) := by
  have t := (twS M r g ρ γ hk).1
  rw [tw_eq h h2] at t
  exact t
theorem ro_S1 (h : M r = some (eI_ 0 42 ρ)) (h2 : M g = some (eI_ 0 4 γ)) {k : Int32} (hk : rg_ 8 k) : aI_ M r 0 (fX4_ofS k 1) = some (fS_r ρ k) := by
  have t := (twS M r g ρ γ hk).2
  rw [tw_eq h h2] at t
  exact t
theorem ro_fal (h : M r = some (eI_ 0 42 ρ)) (h2 : M g = some (eI_ 0 4 γ)) {k : Int32} (cell : Int32) (hk : rg_ 8 k) : fX4_fallsIn M r k cell = some (falR ρ k cell) := by
  have t := T_fal M r g ρ γ cell hk
  rw [tw_eq h h2] at t
  exact t
theorem ro_who0 (h : M r = some (eI_ 0 42 ρ)) (h2 : M g = some (eI_ 0 4 γ)) (f : Int32) : fX4_whoseIn M r 0 f = some (whoR ρ 0 f) := by
  have t := T_who0 M r g ρ γ f
  rw [tw_eq h h2] at t
  exact t
theorem ro_who1 (h : M r = some (eI_ 0 42 ρ)) (h2 : M g = some (eI_ 0 4 γ)) (f : Int32) : fX4_whoseIn M r 1 f = some (whoR ρ 1 f) := by
  have t := T_who1 M r g ρ γ f
  rw [tw_eq h h2] at t
  exact t
theorem ro_stp0 (h : M r = some (eI_ 0 42 ρ)) (h2 : M g = some (eI_ 0 4 γ)) (t : Int32) : fX4_stepsIn M r 0 t = some (stpR ρ 0 t) := by
  have t := T_stp0 M r g ρ γ t
  rw [tw_eq h h2] at t
  exact t
theorem ro_stp1 (h : M r = some (eI_ 0 42 ρ)) (h2 : M g = some (eI_ 0 4 γ)) (t : Int32) : fX4_stepsIn M r 1 t = some (stpR ρ 1 t) := by
  have t := T_stp1 M r g ρ γ t
  rw [tw_eq h h2] at t
  exact t
theorem ro_stp2 (h : M r = some (eI_ 0 42 ρ)) (h2 : M g = some (eI_ 0 4 γ)) (t : Int32) : fX4_stepsIn M r 2 t = some (stpR ρ 2 t) := by
  have t := T_stp2 M r g ρ γ t
  rw [tw_eq h h2] at t
  exact t
theorem ro_stp3 (h : M r = some (eI_ 0 42 ρ)) (h2 : M g = some (eI_ 0 4 γ)) (t : Int32) : fX4_stepsIn M r 3 t = some (stpR ρ 3 t) := by
  have t := T_stp3 M r g ρ γ t
  rw [tw_eq h h2] at t
  exact t
end ROF
