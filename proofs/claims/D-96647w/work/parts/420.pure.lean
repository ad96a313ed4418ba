/-! the twin's functions of a row -/
set_option maxRecDepth 100000
section TWF
variable (M : Mem_) (r g : Nat) (ρ γ : Rw_)
theorem twS {k : Int32} (hk : rg_ 8 k) : aI_ (tw_ M r g ρ γ) r 0 (fX4_ofS k 0) = some (kS_r ρ k) ∧ aI_ (tw_ M r g ρ γ) r 0 (fX4_ofS k 1) = some (fS_r ρ k) := by
  have e0 : (fX4_ofS k 0).toNatClampNeg = 4 + 2 * k.toNatClampNeg ∧ ¬ ((fX4_ofS k 0) < 0 ∨ 42 ≤ (fX4_ofS k 0).toNatClampNeg) := rg_all1 (P := fun k => (fX4_ofS k 0).toNatClampNeg = 4 + 2 * k.toNatClampNeg ∧ ¬ ((fX4_ofS k 0) < 0 ∨ 42 ≤ (fX4_ofS k 0).toNatClampNeg)) (by decide +kernel) hk
  have e1 : (fX4_ofS k 1).toNatClampNeg = 5 + 2 * k.toNatClampNeg ∧ ¬ ((fX4_ofS k 1) < 0 ∨ 42 ≤ (fX4_ofS k 1).toNatClampNeg) := rg_all1 (P := fun k => (fX4_ofS k 1).toNatClampNeg = 5 + 2 * k.toNatClampNeg ∧ ¬ ((fX4_ofS k 1) < 0 ∨ 42 ≤ (fX4_ofS k 1).toNatClampNeg)) (by decide +kernel) hk
  refine ⟨(tw_a M r g ρ γ e0.2).trans ?_, (tw_a M r g ρ γ e1.2).trans ?_⟩
  · rw [e0.1]
  · rw [e1.1]
theorem T_fal {k : Int32} (cell : Int32) (hk : rg_ 8 k) : fX4_fallsIn (tw_ M r g ρ γ) r k cell = some (falR ρ k cell) := by
  unfold fX4_fallsIn falR fal_
  simp only [lt_, tw_a3, (twS M r g ρ γ hk).1, Option.bind_some]
  repeat' split
  all_goals rfl
theorem T_tim {k : Int32} (f : Int32) (hk : rg_ 8 k) : fX4_timeIn (tw_ M r g ρ γ) r k f = some (fX4_timeBy (kS_r ρ k) (fS_r ρ k) f) := by
  unfold fX4_timeIn
  simp only [lt_, (twS M r g ρ γ hk).1, (twS M r g ρ γ hk).2, Option.bind_some]
theorem T_who0 (f : Int32) : fX4_whoseIn (tw_ M r g ρ γ) r 0 f = some (whoR ρ 0 f) := by
  unfold fX4_whoseIn whoR
  simp [lt_, fX4_ofP, fX4_ofSide, tw_a0, tw_s0, tw_a1, tw_s1, tw_a2, tw_s2, tw_a3, tw_s3, tw_a20, tw_s20, tw_a21, tw_s21, tw_a22, tw_s22, tw_a23, tw_s23, tw_a24, tw_s24, tw_a25, tw_s25, tw_a26, tw_s26, tw_a27, tw_s27, tw_a28, tw_s28, tw_a29, tw_s29, tw_a30, tw_s30, tw_a31, tw_s31, tw_a32, tw_s32, tw_a33, tw_s33, tw_a34, tw_s34, tw_a35, tw_s35, tw_a36, tw_s36, tw_a37, tw_s37, tw_a38, tw_s38, tw_a39, tw_s39, tw_a40, tw_s40, tw_a41, tw_s41]
  repeat' split
  all_goals first | rfl | simp_all
theorem T_bot0 (f : Int32) : fX4_isBoths (tw_ M r g ρ γ) r 0 f = some (botR ρ 0 f) := by
  unfold fX4_isBoths botR
  simp [lt_, fX4_ofP, fX4_ofSide, tw_a0, tw_s0, tw_a1, tw_s1, tw_a2, tw_s2, tw_a3, tw_s3, tw_a20, tw_s20, tw_a21, tw_s21, tw_a22, tw_s22, tw_a23, tw_s23, tw_a24, tw_s24, tw_a25, tw_s25, tw_a26, tw_s26, tw_a27, tw_s27, tw_a28, tw_s28, tw_a29, tw_s29, tw_a30, tw_s30, tw_a31, tw_s31, tw_a32, tw_s32, tw_a33, tw_s33, tw_a34, tw_s34, tw_a35, tw_s35, tw_a36, tw_s36, tw_a37, tw_s37, tw_a38, tw_s38, tw_a39, tw_s39, tw_a40, tw_s40, tw_a41, tw_s41]
  repeat' split
  all_goals first | rfl | simp_all
theorem T_who1 (f : Int32) : fX4_whoseIn (tw_ M r g ρ γ) r 1 f = some (whoR ρ 1 f) := by
  unfold fX4_whoseIn whoR
  simp [lt_, fX4_ofP, fX4_ofSide, tw_a0, tw_s0, tw_a1, tw_s1, tw_a2, tw_s2, tw_a3, tw_s3, tw_a20, tw_s20, tw_a21, tw_s21, tw_a22, tw_s22, tw_a23, tw_s23, tw_a24, tw_s24, tw_a25, tw_s25, tw_a26, tw_s26, tw_a27, tw_s27, tw_a28, tw_s28, tw_a29, tw_s29, tw_a30, tw_s30, tw_a31, tw_s31, tw_a32, tw_s32, tw_a33, tw_s33, tw_a34, tw_s34, tw_a35, tw_s35, tw_a36, tw_s36, tw_a37, tw_s37, tw_a38, tw_s38, tw_a39, tw_s39, tw_a40, tw_s40, tw_a41, tw_s41]
  repeat' split
  all_goals first | rfl | simp_all
theorem T_bot1 (f : Int32) : fX4_isBoths (tw_ M r g ρ γ) r 1 f = some (botR ρ 1 f) := by
  unfold fX4_isBoths botR
  simp [lt_, fX4_ofP, fX4_ofSide, tw_a0, tw_s0, tw_a1, tw_s1, tw_a2, tw_s2, tw_a3, tw_s3, tw_a20, tw_s20, tw_a21, tw_s21, tw_a22, tw_s22, tw_a23, tw_s23, tw_a24, tw_s24, tw_a25, tw_s25, tw_a26, tw_s26, tw_a27, tw_s27, tw_a28, tw_s28, tw_a29, tw_s29, tw_a30, tw_s30, tw_a31, tw_s31, tw_a32, tw_s32, tw_a33, tw_s33, tw_a34, tw_s34, tw_a35, tw_s35, tw_a36, tw_s36, tw_a37, tw_s37, tw_a38, tw_s38, tw_a39, tw_s39, tw_a40, tw_s40, tw_a41, tw_s41]
  repeat' split
  all_goals first | rfl | simp_all
theorem T_tir0 (v : Int32) : fX4_isTired (tw_ M r g ρ γ) r 0 v = some (tw_ M r g (tirR ρ 0 v) γ) := by
  unfold fX4_isTired tirR
  simp [lt_, fX4_ofP, tw_a0, tw_s0, tw_a1, tw_s1, tw_a2, tw_s2, tw_a3, tw_s3, tw_a20, tw_s20, tw_a21, tw_s21, tw_a22, tw_s22, tw_a23, tw_s23, tw_a24, tw_s24, tw_a25, tw_s25, tw_a26, tw_s26, tw_a27, tw_s27, tw_a28, tw_s28, tw_a29, tw_s29, tw_a30, tw_s30, tw_a31, tw_s31, tw_a32, tw_s32, tw_a33, tw_s33, tw_a34, tw_s34, tw_a35, tw_s35, tw_a36, tw_s36, tw_a37, tw_s37, tw_a38, tw_s38, tw_a39, tw_s39, tw_a40, tw_s40, tw_a41, tw_s41]
theorem T_stp0 (t : Int32) : fX4_stepsIn (tw_ M r g ρ γ) r 0 t = some (stpR ρ 0 t) := by
  unfold fX4_stepsIn stpR stp_
  simp only [lt_, fX4_ofP, Int32.reduceMul, Int32.reduceAdd, tw_a0, tw_s0, tw_a1, tw_s1, tw_a2, tw_s2, tw_a3, tw_s3, tw_a20, tw_s20, tw_a21, tw_s21, tw_a22, tw_s22, tw_a23, tw_s23, tw_a24, tw_s24, tw_a25, tw_s25, tw_a26, tw_s26, tw_a27, tw_s27, tw_a28, tw_s28, tw_a29, tw_s29, tw_a30, tw_s30, tw_a31, tw_s31, tw_a32, tw_s32, tw_a33, tw_s33, tw_a34, tw_s34, tw_a35, tw_s35, tw_a36, tw_s36, tw_a37, tw_s37, tw_a38, tw_s38, tw_a39, tw_s39, tw_a40, tw_s40, tw_a41, tw_s41, Option.bind_some]
  repeat' split
  all_goals rfl
theorem T_mov0 {t : Nat} {fs : List Value} (hg : g ≠ r) (h1 : t ≠ r) (h2 : t ≠ g) (hM : M t = some (eO_ 3 fs)) (hfs : fs[4]? = some (.ref g)) (v : Int32) : fX4_moves (tw_ M r g ρ γ) t r 0 v = some (tw_ M r g (upd ρ 20 v) (upd γ 0 (γ 0 + fX4_wayOf (ρ 20) v))) := by
  unfold fX4_moves
  have e : gR_ (tw_ M r g ρ γ) t 3 4 = some g := gRof ((tw_o h1 h2).trans hM) hfs
  simp only [e, lt_, fX4_ofP, Int32.reduceMul, Int32.reduceAdd, Option.bind_some, tw_a0, tw_s0, tw_a1, tw_s1, tw_a2, tw_s2, tw_a3, tw_s3, tw_a20, tw_s20, tw_a21, tw_s21, tw_a22, tw_s22, tw_a23, tw_s23, tw_a24, tw_s24, tw_a25, tw_s25, tw_a26, tw_s26, tw_a27, tw_s27, tw_a28, tw_s28, tw_a29, tw_s29, tw_a30, tw_s30, tw_a31, tw_s31, tw_a32, tw_s32, tw_a33, tw_s33, tw_a34, tw_s34, tw_a35, tw_s35, tw_a36, tw_s36, tw_a37, tw_s37, tw_a38, tw_s38, tw_a39, tw_s39, tw_a40, tw_s40, tw_a41, tw_s41, tw_ga0 _ _ _ _ _ hg, tw_gs0 _ _ _ _ _ hg, tw_ga1 _ _ _ _ _ hg, tw_gs1 _ _ _ _ _ hg, tw_ga2 _ _ _ _ _ hg, tw_gs2 _ _ _ _ _ hg, tw_ga3 _ _ _ _ _ hg, tw_gs3 _ _ _ _ _ hg]
theorem T_tir1 (v : Int32) : fX4_isTired (tw_ M r g ρ γ) r 1 v = some (tw_ M r g (tirR ρ 1 v) γ) := by
  unfold fX4_isTired tirR
  simp [lt_, fX4_ofP, tw_a0, tw_s0, tw_a1, tw_s1, tw_a2, tw_s2, tw_a3, tw_s3, tw_a20, tw_s20, tw_a21, tw_s21, tw_a22, tw_s22, tw_a23, tw_s23, tw_a24, tw_s24, tw_a25, tw_s25, tw_a26, tw_s26, tw_a27, tw_s27, tw_a28, tw_s28, tw_a29, tw_s29, tw_a30, tw_s30, tw_a31, tw_s31, tw_a32, tw_s32, tw_a33, tw_s33, tw_a34, tw_s34, tw_a35, tw_s35, tw_a36, tw_s36, tw_a37, tw_s37, tw_a38, tw_s38, tw_a39, tw_s39, tw_a40, tw_s40, tw_a41, tw_s41]
theorem T_stp1 (t : Int32) : fX4_stepsIn (tw_ M r g ρ γ) r 1 t = some (stpR ρ 1 t) := by
  unfold fX4_stepsIn stpR stp_
  simp only [lt_, fX4_ofP, Int32.reduceMul, Int32.reduceAdd, tw_a0, tw_s0, tw_a1, tw_s1, tw_a2, tw_s2, tw_a3, tw_s3, tw_a20, tw_s20, tw_a21, tw_s21, tw_a22, tw_s22, tw_a23, tw_s23, tw_a24, tw_s24, tw_a25, tw_s25, tw_a26, tw_s26, tw_a27, tw_s27, tw_a28, tw_s28, tw_a29, tw_s29, tw_a30, tw_s30, tw_a31, tw_s31, tw_a32, tw_s32, tw_a33, tw_s33, tw_a34, tw_s34, tw_a35, tw_s35, tw_a36, tw_s36, tw_a37, tw_s37, tw_a38, tw_s38, tw_a39, tw_s39, tw_a40, tw_s40, tw_a41, tw_s41, Option.bind_some]
  repeat' split
  all_goals rfl
theorem T_mov1 {t : Nat} {fs : List Value} (hg : g ≠ r) (h1 : t ≠ r) (h2 : t ≠ g) (hM : M t = some (eO_ 3 fs)) (hfs : fs[4]? = some (.ref g)) (v : Int32) : fX4_moves (tw_ M r g ρ γ) t r 1 v = some (tw_ M r g (upd ρ 24 v) (upd γ 1 (γ 1 + fX4_wayOf (ρ 24) v))) := by
  unfold fX4_moves
  have e : gR_ (tw_ M r g ρ γ) t 3 4 = some g := gRof ((tw_o h1 h2).trans hM) hfs
  simp only [e, lt_, fX4_ofP, Int32.reduceMul, Int32.reduceAdd, Option.bind_some, tw_a0, tw_s0, tw_a1, tw_s1, tw_a2, tw_s2, tw_a3, tw_s3, tw_a20, tw_s20, tw_a21, tw_s21, tw_a22, tw_s22, tw_a23, tw_s23, tw_a24, tw_s24, tw_a25, tw_s25, tw_a26, tw_s26, tw_a27, tw_s27, tw_a28, tw_s28, tw_a29, tw_s29, tw_a30, tw_s30, tw_a31, tw_s31, tw_a32, tw_s32, tw_a33, tw_s33, tw_a34, tw_s34, tw_a35, tw_s35, tw_a36, tw_s36, tw_a37, tw_s37, tw_a38, tw_s38, tw_a39, tw_s39, tw_a40, tw_s40, tw_a41, tw_s41, tw_ga0 _ _ _ _ _ hg, tw_gs0 _ _ _ _ _ hg, tw_ga1 _ _ _ _ _ hg, tw_gs1 _ _ _ _ _ hg, tw_ga2 _ _ _ _ _ hg, tw_gs2 _ _ _ _ _ hg, tw_ga3 _ _ _ _ _ hg, tw_gs3 _ _ _ _ _ hg]
theorem T_tir2 (v : Int32) : fX4_isTired (tw_ M r g ρ γ) r 2 v = some (tw_ M r g (tirR ρ 2 v) γ) := by
  unfold fX4_isTired tirR
  simp [lt_, fX4_ofP, tw_a0, tw_s0, tw_a1, tw_s1, tw_a2, tw_s2, tw_a3, tw_s3, tw_a20, tw_s20, tw_a21, tw_s21, tw_a22, tw_s22, tw_a23, tw_s23, tw_a24, tw_s24, tw_a25, tw_s25, tw_a26, tw_s26, tw_a27, tw_s27, tw_a28, tw_s28, tw_a29, tw_s29, tw_a30, tw_s30, tw_a31, tw_s31, tw_a32, tw_s32, tw_a33, tw_s33, tw_a34, tw_s34, tw_a35, tw_s35, tw_a36, tw_s36, tw_a37, tw_s37, tw_a38, tw_s38, tw_a39, tw_s39, tw_a40, tw_s40, tw_a41, tw_s41]
theorem T_stp2 (t : Int32) : fX4_stepsIn (tw_ M r g ρ γ) r 2 t = some (stpR ρ 2 t) := by
  unfold fX4_stepsIn stpR stp_
  simp only [lt_, fX4_ofP, Int32.reduceMul, Int32.reduceAdd, tw_a0, tw_s0, tw_a1, tw_s1, tw_a2, tw_s2, tw_a3, tw_s3, tw_a20, tw_s20, tw_a21, tw_s21, tw_a22, tw_s22, tw_a23, tw_s23, tw_a24, tw_s24, tw_a25, tw_s25, tw_a26, tw_s26, tw_a27, tw_s27, tw_a28, tw_s28, tw_a29, tw_s29, tw_a30, tw_s30, tw_a31, tw_s31, tw_a32, tw_s32, tw_a33, tw_s33, tw_a34, tw_s34, tw_a35, tw_s35, tw_a36, tw_s36, tw_a37, tw_s37, tw_a38, tw_s38, tw_a39, tw_s39, tw_a40, tw_s40, tw_a41, tw_s41, Option.bind_some]
  repeat' split
  all_goals rfl
theorem T_mov2 {t : Nat} {fs : List Value} (hg : g ≠ r) (h1 : t ≠ r) (h2 : t ≠ g) (hM : M t = some (eO_ 3 fs)) (hfs : fs[4]? = some (.ref g)) (v : Int32) : fX4_moves (tw_ M r g ρ γ) t r 2 v = some (tw_ M r g (upd ρ 28 v) (upd γ 2 (γ 2 + fX4_wayOf (ρ 28) v))) := by
  unfold fX4_moves
  have e : gR_ (tw_ M r g ρ γ) t 3 4 = some g := gRof ((tw_o h1 h2).trans hM) hfs
  simp only [e, lt_, fX4_ofP, Int32.reduceMul, Int32.reduceAdd, Option.bind_some, tw_a0, tw_s0, tw_a1, tw_s1, tw_a2, tw_s2, tw_a3, tw_s3, tw_a20, tw_s20, tw_a21, tw_s21, tw_a22, tw_s22, tw_a23, tw_s23, tw_a24, tw_s24, tw_a25, tw_s25, tw_a26, tw_s26, tw_a27, tw_s27, tw_a28, tw_s28, tw_a29, tw_s29, tw_a30, tw_s30, tw_a31, tw_s31, tw_a32, tw_s32, tw_a33, tw_s33, tw_a34, tw_s34, tw_a35, tw_s35, tw_a36, tw_s36, tw_a37, tw_s37, tw_a38, tw_s38, tw_a39, tw_s39, tw_a40, tw_s40, tw_a41, tw_s41, tw_ga0 _ _ _ _ _ hg, tw_gs0 _ _ _ _ _ hg, tw_ga1 _ _ _ _ _ hg, tw_gs1 _ _ _ _ _ hg, tw_ga2 _ _ _ _ _ hg, tw_gs2 _ _ _ _ _ hg, tw_ga3 _ _ _ _ _ hg, tw_gs3 _ _ _ _ _ hg]
theorem T_tir3 (v : Int32) : fX4_isTired (tw_ M r g ρ γ) r 3 v = some (tw_ M r g (tirR ρ 3 v) γ) := by
  unfold fX4_isTired tirR
  simp [lt_, fX4_ofP, tw_a0, tw_s0, tw_a1, tw_s1, tw_a2, tw_s2, tw_a3, tw_s3, tw_a20, tw_s20, tw_a21, tw_s21, tw_a22, tw_s22, tw_a23, tw_s23, tw_a24, tw_s24, tw_a25, tw_s25, tw_a26, tw_s26, tw_a27, tw_s27, tw_a28, tw_s28, tw_a29, tw_s29, tw_a30, tw_s30, tw_a31, tw_s31, tw_a32, tw_s32, tw_a33, tw_s33, tw_a34, tw_s34, tw_a35, tw_s35, tw_a36, tw_s36, tw_a37, tw_s37, tw_a38, tw_s38, tw_a39, tw_s39, tw_a40, tw_s40, tw_a41, tw_s41]
theorem T_stp3 (t : Int32) : fX4_stepsIn (tw_ M r g ρ γ) r 3 t = some (stpR ρ 3 t) := by
  unfold fX4_stepsIn stpR stp_
  simp only [lt_, fX4_ofP, Int32.reduceMul, Int32.reduceAdd, tw_a0, tw_s0, tw_a1, tw_s1, tw_a2, tw_s2, tw_a3, tw_s3, tw_a20, tw_s20, tw_a21, tw_s21, tw_a22, tw_s22, tw_a23, tw_s23, tw_a24, tw_s24, tw_a25, tw_s25, tw_a26, tw_s26, tw_a27, tw_s27, tw_a28, tw_s28, tw_a29, tw_s29, tw_a30, tw_s30, tw_a31, tw_s31, tw_a32, tw_s32, tw_a33, tw_s33, tw_a34, tw_s34, tw_a35, tw_s35, tw_a36, tw_s36, tw_a37, tw_s37, tw_a38, tw_s38, tw_a39, tw_s39, tw_a40, tw_s40, tw_a41, tw_s41, Option.bind_some]
  repeat' split
  all_goals rfl
theorem T_mov3 {t : Nat} {fs : List Value} (hg : g ≠ r) (h1 : t ≠ r) (h2 : t ≠ g) (hM : M t = some (eO_ 3 fs)) (hfs : fs[4]? = some (.ref g)) (v : Int32) : fX4_moves (tw_ M r g ρ γ) t r 3 v = some (tw_ M r g (upd ρ 32 v) (upd γ 3 (γ 3 + fX4_wayOf (ρ 32) v))) := by
  unfold fX4_moves
  have e : gR_ (tw_ M r g ρ γ) t 3 4 = some g := gRof ((tw_o h1 h2).trans hM) hfs
  simp only [e, lt_, fX4_ofP, Int32.reduceMul, Int32.reduceAdd, Option.bind_some, tw_a0, tw_s0, tw_a1, tw_s1, tw_a2, tw_s2, tw_a3, tw_s3, tw_a20, tw_s20, tw_a21, tw_s21, tw_a22, tw_s22, tw_a23, tw_s23, tw_a24, tw_s24, tw_a25, tw_s25, tw_a26, tw_s26, tw_a27, tw_s27, tw_a28, tw_s28, tw_a29, tw_s29, tw_a30, tw_s30, tw_a31, tw_s31, tw_a32, tw_s32, tw_a33, tw_s33, tw_a34, tw_s34, tw_a35, tw_s35, tw_a36, tw_s36, tw_a37, tw_s37, tw_a38, tw_s38, tw_a39, tw_s39, tw_a40, tw_s40, tw_a41, tw_s41, tw_ga0 _ _ _ _ _ hg, tw_gs0 _ _ _ _ _ hg, tw_ga1 _ _ _ _ _ hg, tw_gs1 _ _ _ _ _ hg, tw_ga2 _ _ _ _ _ hg, tw_gs2 _ _ _ _ _ hg, tw_ga3 _ _ _ _ _ hg, tw_gs3 _ _ _ _ _ hg]
end TWF
