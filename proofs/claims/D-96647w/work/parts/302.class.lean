set_option maxRecDepth 100000
def fX2_wins (M : Mem_) (a0 : Nat) (a1 : Int32) : Option Mem_ :=
  (gR_ M a0 1 6).bind fun v1 =>
  (aI_ M v1 0 a1).bind fun v2 =>
  (sI_ M v1 0 a1 (v2 + 1)).bind fun M3 =>
  lt_ ((2 * a1)) fun v4 =>
  (pF_ M3 a0 1 10 (.int v4)).bind fun M5 =>
  some M5
theorem kdX2_wins : yX2_wins.cls ≠ "java/lang/invoke/MethodHandle" ∧ yX2_wins.cls ≠ "java/lang/invoke/VarHandle" ∧ (parseMethodDescriptor yX2_wins.desc).map (fun d => d.parameters.length) = some 1 := by decide +kernel
set_option maxHeartbeats 4000000 in
theorem mX2_wins (l : Launch) (G : GT_) (M : Mem_) (n : Nat) (a0 : Nat) (a1 : Int32) (M1 : Mem_) (hf : fX2_wins M a0 a1 = some M1) : Ct_ G l yX2_wins (ws_ yX2_wins cX2_wins 2 none) ({ frames := 0, cells := 0, slots := 0, locals := 0 }) 0 0 [.ref a0, .int a1] M n (none) M1 n := by
  refine en_ (by decide) (Nat.le_of_ble_eq_true rfl) ?_
  intro p e s m below meth c hx hb hr hlk hml hown hts hname hKn hH ls hl
  have hown : s.vm.findClass RX2 = some m.cls := hown
  have hl : lv_has ls 2 [(0, .ref a0), (1, .int a1)] := hl
  unfold fX2_wins at hf
  generalize s.heap = H at hH ⊢
  refine lv_aload_n hx hb dX2_wins_0 rfl (lv_at hl 0 rfl) ?_
  obtain ⟨v1, ev1, hf⟩ := bs_ hf
  refine mg_gR hx hb hts hown hKn hH ev1 in_X2 rfl (by decide) (hts _ q883) (fun _ h9 => h9) dX2_wins_1 ?_
  refine lv_iload_n hx hb dX2_wins_4 rfl (lv_at hl 1 rfl) ?_
  refine lv_dup2_11 hx hb dX2_wins_5 rfl rfl ?_
  obtain ⟨v2, ev2, hf⟩ := bs_ hf
  refine mg_iald hx hb hKn hH ev2 dX2_wins_6 ?_
  refine lv_iconst (v := 1) hx hb dX2_wins_7 (by decide) ?_
  refine lv_iadd hx hb dX2_wins_8 ?_
  obtain ⟨M3, eM3, hf⟩ := bs_ hf
  refine mg_iast hx hb hKn hH eM3 dX2_wins_9 (fun H locs hH => ?_)
  refine lv_aload_n hx hb dX2_wins_10 rfl (lv_at hl 0 rfl) ?_
  refine lv_iconst (v := 2) hx hb dX2_wins_11 (by decide) ?_
  refine lv_iload_n hx hb dX2_wins_12 rfl (lv_at hl 1 rfl) ?_
  refine lv_imul hx hb dX2_wins_13 ?_
  refine lv_topi (fun v4 ev4 => ?_)
  have hf := lu_ ev4 hf
  obtain ⟨M5, eM5, hf⟩ := bs_ hf
  refine mg_pF hx hb hts hown hKn hH eM5 in_X2 tyX2_ok nmX2 rfl (by decide) (hts _ q891) (fun _ h9 => h9) rfl rfl rfl dX2_wins_14 (fun H locs hH => ?_)
  cases hf
  exact rt_v hx hb hr hlk hH dX2_wins_17
def fX2_placeBy (M : Mem_) (a0 : Nat) (a1 : Int32) : Option Int32 :=
  (gR_ M a0 1 1).bind fun v1 =>
  (aI_ M v1 0 a1).bind fun v2 =>
  lt_ (fX1_columnOf v2) fun r3 =>
  (gR_ M a0 1 4).bind fun v4 =>
  (aI_ M v4 0 (a1 / 2)).bind fun v5 =>
  if v5 = 0 then
    some (5 - r3)
  else
    (gR_ M a0 1 1).bind fun v6 =>
    (aI_ M v6 0 a1).bind fun v7 =>
    lt_ (fX1_rowOf v7) fun r8 =>
    some ((3 * (2 - r8)) + 1)
theorem kdX2_placeBy : yX2_placeBy.cls ≠ "java/lang/invoke/MethodHandle" ∧ yX2_placeBy.cls ≠ "java/lang/invoke/VarHandle" ∧ (parseMethodDescriptor yX2_placeBy.desc).map (fun d => d.parameters.length) = some 1 := by decide +kernel
set_option maxHeartbeats 4000000 in
theorem mX2_placeBy (l : Launch) (G : GT_) (M : Mem_) (n : Nat) (a0 : Nat) (a1 : Int32) (r : Int32) (hf : fX2_placeBy M a0 a1 = some r) : Ct_ G l yX2_placeBy (ws_ yX2_placeBy cX2_placeBy 3 (some .int)) ({ frames := 1, cells := 0, slots := 0, locals := 20 }) 0 0 [.ref a0, .int a1] M n (some (.int r)) M n := by
  refine en_ (by decide) (Nat.le_of_ble_eq_true rfl) ?_
  intro p e s m below meth c hx hb hr hlk hml hown hts hname hKn hH ls hl
  have hown : s.vm.findClass RX2 = some m.cls := hown
  have hl : lv_has ls 3 [(0, .ref a0), (1, .int a1)] := hl
  unfold fX2_placeBy at hf
  generalize s.heap = H at hH ⊢
  refine lv_aload_n hx hb dX2_placeBy_0 rfl (lv_at hl 0 rfl) ?_
  obtain ⟨v1, ev1, hf⟩ := bs_ hf
  refine mg_gR hx hb hts hown hKn hH ev1 in_X2 rfl (by decide) (hts _ q873) (fun _ h9 => h9) dX2_placeBy_1 ?_
  refine lv_iload_n hx hb dX2_placeBy_4 rfl (lv_at hl 1 rfl) ?_
  obtain ⟨v2, ev2, hf⟩ := bs_ hf
  refine mg_iald hx hb hKn hH ev2 dX2_placeBy_5 ?_
  obtain ⟨r3, er3⟩ : ∃ z, z = fX1_columnOf v2 := ⟨_, rfl⟩
  have hf := lu_ er3 hf
  refine cl_i0 hH (rn_SN ⟨hx, hb, hml, hown, hts⟩ hKn hH (mX1_columnOf l G M n v2 r3 er3.symm) ⟨va_cnB 1 hts (lw_meth q442) rfl rfl rfl (hKn.2.1 _ (List.mem_of_getElem? (i := 9) rfl)) (hts _ q67) kdX1_columnOf ⟨Nat.le_of_ble_eq_true rfl, Nat.le_of_ble_eq_true rfl⟩, hts _ q441, trivial⟩ rfl hl.1 (Nat.le_of_ble_eq_true rfl) dX2_placeBy_6 ⟨(Nat.le_of_ble_eq_true rfl), (Nat.le_of_ble_eq_true rfl)⟩ rfl) (fun H locs hH => ?_)
  refine lv_istore_n (lv' := [(2, .int r3), (0, .ref a0), (1, .int a1)]) hx hb dX2_placeBy_9 rfl hl (by decide) rfl (fun ls hl => ?_)
  refine lv_aload_n hx hb dX2_placeBy_10 rfl (lv_at hl 1 rfl) ?_
  obtain ⟨v4, ev4, hf⟩ := bs_ hf
  refine mg_gR hx hb hts hown hKn hH ev4 in_X2 rfl (by decide) (hts _ q879) (fun _ h9 => h9) dX2_placeBy_11 ?_
  refine lv_iload_n hx hb dX2_placeBy_14 rfl (lv_at hl 2 rfl) ?_
  refine lv_iconst (v := 2) hx hb dX2_placeBy_15 (by decide) ?_
  refine lv_idiv hx hb dX2_placeBy_16 (by decide) ?_
  obtain ⟨v5, ev5, hf⟩ := bs_ hf
  refine mg_iald hx hb hKn hH ev5 dX2_placeBy_17 ?_
  refine lv_if_ne (tgt := 27) hx hb dX2_placeBy_18 (by decide) (fun c9 => ?_) (fun c9 => ?_)
  · have hf := in_ c9 hf
    refine lv_iconst (v := 3) hx hb dX2_placeBy_27 (by decide) ?_
    refine lv_iconst (v := 2) hx hb dX2_placeBy_28 (by decide) ?_
    refine lv_aload_n hx hb dX2_placeBy_29 rfl (lv_at hl 1 rfl) ?_
    obtain ⟨v6, ev6, hf⟩ := bs_ hf
    refine mg_gR hx hb hts hown hKn hH ev6 in_X2 rfl (by decide) (hts _ q873) (fun _ h9 => h9) dX2_placeBy_30 ?_
    refine lv_iload_n hx hb dX2_placeBy_33 rfl (lv_at hl 2 rfl) ?_
    obtain ⟨v7, ev7, hf⟩ := bs_ hf
    refine mg_iald hx hb hKn hH ev7 dX2_placeBy_34 ?_
    obtain ⟨r8, er8⟩ : ∃ z, z = fX1_rowOf v7 := ⟨_, rfl⟩
    have hf := lu_ er8 hf
    refine cl_i0 hH (rn_SN ⟨hx, hb, hml, hown, hts⟩ hKn hH (mX1_rowOf l G M n v7 r8 er8.symm) ⟨va_cnB 1 hts (lw_meth q429) rfl rfl rfl (hKn.2.1 _ (List.mem_of_getElem? (i := 10) rfl)) (hts _ q67) kdX1_rowOf ⟨Nat.le_of_ble_eq_true rfl, Nat.le_of_ble_eq_true rfl⟩, hts _ q428, trivial⟩ rfl hl.1 (Nat.le_of_ble_eq_true rfl) dX2_placeBy_35 ⟨(Nat.le_of_ble_eq_true rfl), (Nat.le_of_ble_eq_true rfl)⟩ rfl) (fun H locs hH => ?_)
    refine lv_isub hx hb dX2_placeBy_38 ?_
    refine lv_imul hx hb dX2_placeBy_39 ?_
    refine lv_iconst (v := 1) hx hb dX2_placeBy_40 (by decide) ?_
    refine lv_iadd hx hb dX2_placeBy_41 ?_
    cases hf
    exact rt_i hx hb hr hlk hH dX2_placeBy_42
  · have hf := ip_ c9 hf
    refine lv_iconst (v := 5) hx hb dX2_placeBy_21 (by decide) ?_
    refine lv_iload_n hx hb dX2_placeBy_22 rfl (lv_at hl 0 rfl) ?_
    refine lv_isub hx hb dX2_placeBy_23 ?_
    refine lv_goto (tgt := 42) hx hb dX2_placeBy_24 (by decide) ?_
    cases hf
    exact rt_i hx hb hr hlk hH dX2_placeBy_42
def fX2_stepsIn (M : Mem_) (a0 : Nat) (a1 : Int32) (a2 : Int32) (a3 : Int32) : Option Mem_ :=
  (gR_ M a0 1 1).bind fun v1 =>
  (aI_ M v1 0 a1).bind fun v2 =>
  lt_ (fX1_rowOf v2) fun r3 =>
  (gR_ M a0 1 1).bind fun v4 =>
  (aI_ M v4 0 a1).bind fun v5 =>
  lt_ (fX1_columnOf v5) fun r6 =>
  lt_ (fX1_columnOf a2) fun r7 =>
  lt_ ((r7 - r6)) fun v8 =>
  lt_ (if 0 ≤ v8 then v8 else 0 - v8) fun v9 =>
  lt_ (if v9 < a3 then v9 else a3) fun v10 =>
  lt_ (fJ7_compare v8 0) fun r11 =>
  lt_ ((r6 + (r11 * v10))) fun v12 =>
  lt_ (fX1_rowOf a2) fun r13 =>
  lt_ ((r13 - r3)) fun v14 =>
  lt_ (if 0 ≤ v14 then v14 else 0 - v14) fun v15 =>
  lt_ (if v15 < (a3 - v10) then v15 else (a3 - v10)) fun v16 =>
  lt_ (fJ7_compare v14 0) fun r17 =>
  lt_ ((r3 + (r17 * v16))) fun v18 =>
  (gR_ M a0 1 1).bind fun v19 =>
  (sI_ M v19 0 a1 ((3 * v18) + v12)).bind fun M20 =>
  (gR_ M20 a0 1 7).bind fun v21 =>
  (aI_ M20 v21 0 a1).bind fun v22 =>
  (sI_ M20 v21 0 a1 (v22 + (v10 + v16))).bind fun M23 =>
  some M23
theorem kdX2_stepsIn : yX2_stepsIn.cls ≠ "java/lang/invoke/MethodHandle" ∧ yX2_stepsIn.cls ≠ "java/lang/invoke/VarHandle" ∧ (parseMethodDescriptor yX2_stepsIn.desc).map (fun d => d.parameters.length) = some 3 := by decide +kernel
set_option maxHeartbeats 4000000 in
theorem mX2_stepsIn (l : Launch) (G : GT_) (M : Mem_) (n : Nat) (a0 : Nat) (a1 : Int32) (a2 : Int32) (a3 : Int32) (M1 : Mem_) (hf : fX2_stepsIn M a0 a1 a2 a3 = some M1) : Ct_ G l yX2_stepsIn (ws_ yX2_stepsIn cX2_stepsIn 10 none) ({ frames := 1, cells := 0, slots := 0, locals := 21 }) 0 0 [.ref a0, .int a1, .int a2, .int a3] M n (none) M1 n := by
  refine en_ (by decide) (Nat.le_of_ble_eq_true rfl) ?_
  intro p e s m below meth c hx hb hr hlk hml hown hts hname hKn hH ls hl
  have hown : s.vm.findClass RX2 = some m.cls := hown
  have hl : lv_has ls 10 [(0, .ref a0), (1, .int a1), (2, .int a2), (3, .int a3)] := hl
  unfold fX2_stepsIn at hf
  generalize s.heap = H at hH ⊢
  refine lv_aload_n hx hb dX2_stepsIn_0 rfl (lv_at hl 0 rfl) ?_
  obtain ⟨v1, ev1, hf⟩ := bs_ hf
  refine mg_gR hx hb hts hown hKn hH ev1 in_X2 rfl (by decide) (hts _ q873) (fun _ h9 => h9) dX2_stepsIn_1 ?_
  refine lv_iload_n hx hb dX2_stepsIn_4 rfl (lv_at hl 1 rfl) ?_
  obtain ⟨v2, ev2, hf⟩ := bs_ hf
  refine mg_iald hx hb hKn hH ev2 dX2_stepsIn_5 ?_
  obtain ⟨r3, er3⟩ : ∃ z, z = fX1_rowOf v2 := ⟨_, rfl⟩
  have hf := lu_ er3 hf
  refine cl_i0 hH (rn_SN ⟨hx, hb, hml, hown, hts⟩ hKn hH (mX1_rowOf l G M n v2 r3 er3.symm) ⟨va_cnB 1 hts (lw_meth q429) rfl rfl rfl (hKn.2.1 _ (List.mem_of_getElem? (i := 10) rfl)) (hts _ q67) kdX1_rowOf ⟨Nat.le_of_ble_eq_true rfl, Nat.le_of_ble_eq_true rfl⟩, hts _ q428, trivial⟩ rfl hl.1 (Nat.le_of_ble_eq_true rfl) dX2_stepsIn_6 ⟨(Nat.le_of_ble_eq_true rfl), (Nat.le_of_ble_eq_true rfl)⟩ rfl) (fun H locs hH => ?_)
  refine lv_istore (lv' := [(4, .int r3), (0, .ref a0), (1, .int a1), (2, .int a2), (3, .int a3)]) hx hb dX2_stepsIn_9 hl (by decide) rfl (fun ls hl => ?_)
  refine lv_aload_n hx hb dX2_stepsIn_11 rfl (lv_at hl 1 rfl) ?_
  obtain ⟨v4, ev4, hf⟩ := bs_ hf
  refine mg_gR hx hb hts hown hKn hH ev4 in_X2 rfl (by decide) (hts _ q873) (fun _ h9 => h9) dX2_stepsIn_12 ?_
  refine lv_iload_n hx hb dX2_stepsIn_15 rfl (lv_at hl 2 rfl) ?_
  obtain ⟨v5, ev5, hf⟩ := bs_ hf
  refine mg_iald hx hb hKn hH ev5 dX2_stepsIn_16 ?_
  obtain ⟨r6, er6⟩ : ∃ z, z = fX1_columnOf v5 := ⟨_, rfl⟩
  have hf := lu_ er6 hf
  refine cl_i0 hH (rn_SN ⟨hx, hb, hml, hown, hts⟩ hKn hH (mX1_columnOf l G M n v5 r6 er6.symm) ⟨va_cnB 1 hts (lw_meth q442) rfl rfl rfl (hKn.2.1 _ (List.mem_of_getElem? (i := 9) rfl)) (hts _ q67) kdX1_columnOf ⟨Nat.le_of_ble_eq_true rfl, Nat.le_of_ble_eq_true rfl⟩, hts _ q441, trivial⟩ rfl hl.1 (Nat.le_of_ble_eq_true rfl) dX2_stepsIn_17 ⟨(Nat.le_of_ble_eq_true rfl), (Nat.le_of_ble_eq_true rfl)⟩ rfl) (fun H locs hH => ?_)
  refine lv_istore (lv' := [(5, .int r6), (4, .int r3), (0, .ref a0), (1, .int a1), (2, .int a2), (3, .int a3)]) hx hb dX2_stepsIn_20 hl (by decide) rfl (fun ls hl => ?_)
  refine lv_iload_n hx hb dX2_stepsIn_22 rfl (lv_at hl 4 rfl) ?_
  obtain ⟨r7, er7⟩ : ∃ z, z = fX1_columnOf a2 := ⟨_, rfl⟩
  have hf := lu_ er7 hf
  refine cl_i0 hH (rn_SN ⟨hx, hb, hml, hown, hts⟩ hKn hH (mX1_columnOf l G M n a2 r7 er7.symm) ⟨va_cnB 1 hts (lw_meth q442) rfl rfl rfl (hKn.2.1 _ (List.mem_of_getElem? (i := 9) rfl)) (hts _ q67) kdX1_columnOf ⟨Nat.le_of_ble_eq_true rfl, Nat.le_of_ble_eq_true rfl⟩, hts _ q441, trivial⟩ rfl hl.1 (Nat.le_of_ble_eq_true rfl) dX2_stepsIn_23 ⟨(Nat.le_of_ble_eq_true rfl), (Nat.le_of_ble_eq_true rfl)⟩ rfl) (fun H locs hH => ?_)
  refine lv_iload hx hb dX2_stepsIn_26 (lv_at hl 0 rfl) ?_
  refine lv_isub hx hb dX2_stepsIn_28 ?_
  refine lv_topi (fun v8 ev8 => ?_)
  have hf := lu_ ev8 hf
  refine lv_istore (lv' := [(6, .int v8), (5, .int r6), (4, .int r3), (0, .ref a0), (1, .int a1), (2, .int a2), (3, .int a3)]) hx hb dX2_stepsIn_29 hl (by decide) rfl (fun ls hl => ?_)
  refine lv_iload_n hx hb dX2_stepsIn_31 rfl (lv_at hl 6 rfl) ?_
  refine lv_iload hx hb dX2_stepsIn_32 (lv_at hl 0 rfl) ?_
  refine va_mabs hx hb (by rw [hml, hl.1]) hown (hts _ q555) (hts _ q517) (hts _ q89) (hts _ q518) (Nat.le_of_ble_eq_true rfl) (Nat.le_of_ble_eq_true rfl) (Nat.le_of_ble_eq_true rfl) (Nat.le_of_ble_eq_true rfl) dX2_stepsIn_34 ?_
  refine lv_topi (fun v9 ev9 => ?_)
  have hf := lu_ ev9 hf
  refine va_mmin hx hb (by rw [hml, hl.1]) hown (hts _ q507) (hts _ q444) (hts _ q89) (hts _ q445) (Nat.le_of_ble_eq_true rfl) (Nat.le_of_ble_eq_true rfl) (Nat.le_of_ble_eq_true rfl) (Nat.le_of_ble_eq_true rfl) dX2_stepsIn_37 ?_
  refine lv_topi (fun v10 ev10 => ?_)
  have hf := lu_ ev10 hf
  refine lv_istore (lv' := [(7, .int v10), (6, .int v8), (5, .int r6), (4, .int r3), (0, .ref a0), (1, .int a1), (2, .int a2), (3, .int a3)]) hx hb dX2_stepsIn_40 hl (by decide) rfl (fun ls hl => ?_)
  refine lv_iload hx hb dX2_stepsIn_42 (lv_at hl 2 rfl) ?_
  refine lv_iload hx hb dX2_stepsIn_44 (lv_at hl 1 rfl) ?_
  refine lv_iconst (v := 0) hx hb dX2_stepsIn_46 (by decide) ?_
  obtain ⟨r11, er11⟩ : ∃ z, z = fJ7_compare v8 0 := ⟨_, rfl⟩
  have hf := lu_ er11 hf
  refine cl_i0 hH (rn_S ⟨hx, hb, hml, hown, hts⟩ hKn hH (mJ7_compare l G M n v8 0 r11 er11.symm) (va_cwS 2 hts (lw_S q556 q557 q90 q558) rfl rfl rfl kdJ7_compare ⟨Nat.le_of_ble_eq_true rfl, Nat.le_of_ble_eq_true rfl⟩) rfl hl.1 (Nat.le_of_ble_eq_true rfl) dX2_stepsIn_47 ⟨(Nat.le_of_ble_eq_true rfl), (Nat.le_of_ble_eq_true rfl)⟩ rfl) (fun H locs hH => ?_)
  refine lv_iload hx hb dX2_stepsIn_50 (lv_at hl 0 rfl) ?_
  refine lv_imul hx hb dX2_stepsIn_52 ?_
  refine lv_iadd hx hb dX2_stepsIn_53 ?_
  refine lv_topi (fun v12 ev12 => ?_)
  have hf := lu_ ev12 hf
  refine lv_istore (lv' := [(5, .int v12), (7, .int v10), (6, .int v8), (4, .int r3), (0, .ref a0), (1, .int a1), (2, .int a2), (3, .int a3)]) hx hb dX2_stepsIn_54 hl (by decide) rfl (fun ls hl => ?_)
  refine lv_iload_n hx hb dX2_stepsIn_56 rfl (lv_at hl 6 rfl) ?_
  obtain ⟨r13, er13⟩ : ∃ z, z = fX1_rowOf a2 := ⟨_, rfl⟩
  have hf := lu_ er13 hf
  refine cl_i0 hH (rn_SN ⟨hx, hb, hml, hown, hts⟩ hKn hH (mX1_rowOf l G M n a2 r13 er13.symm) ⟨va_cnB 1 hts (lw_meth q429) rfl rfl rfl (hKn.2.1 _ (List.mem_of_getElem? (i := 10) rfl)) (hts _ q67) kdX1_rowOf ⟨Nat.le_of_ble_eq_true rfl, Nat.le_of_ble_eq_true rfl⟩, hts _ q428, trivial⟩ rfl hl.1 (Nat.le_of_ble_eq_true rfl) dX2_stepsIn_57 ⟨(Nat.le_of_ble_eq_true rfl), (Nat.le_of_ble_eq_true rfl)⟩ rfl) (fun H locs hH => ?_)
  refine lv_iload hx hb dX2_stepsIn_60 (lv_at hl 3 rfl) ?_
  refine lv_isub hx hb dX2_stepsIn_62 ?_
  refine lv_topi (fun v14 ev14 => ?_)
  have hf := lu_ ev14 hf
  refine lv_istore (lv' := [(8, .int v14), (5, .int v12), (7, .int v10), (6, .int v8), (4, .int r3), (0, .ref a0), (1, .int a1), (2, .int a2), (3, .int a3)]) hx hb dX2_stepsIn_63 hl (by decide) rfl (fun ls hl => ?_)
  refine lv_iload_n hx hb dX2_stepsIn_65 rfl (lv_at hl 8 rfl) ?_
  refine lv_iload hx hb dX2_stepsIn_66 (lv_at hl 2 rfl) ?_
  refine lv_isub hx hb dX2_stepsIn_68 ?_
  refine lv_iload hx hb dX2_stepsIn_69 (lv_at hl 0 rfl) ?_
  refine va_mabs hx hb (by rw [hml, hl.1]) hown (hts _ q555) (hts _ q517) (hts _ q89) (hts _ q518) (Nat.le_of_ble_eq_true rfl) (Nat.le_of_ble_eq_true rfl) (Nat.le_of_ble_eq_true rfl) (Nat.le_of_ble_eq_true rfl) dX2_stepsIn_71 ?_
  refine lv_topi (fun v15 ev15 => ?_)
  have hf := lu_ ev15 hf
  refine va_mmin hx hb (by rw [hml, hl.1]) hown (hts _ q507) (hts _ q444) (hts _ q89) (hts _ q445) (Nat.le_of_ble_eq_true rfl) (Nat.le_of_ble_eq_true rfl) (Nat.le_of_ble_eq_true rfl) (Nat.le_of_ble_eq_true rfl) dX2_stepsIn_74 ?_
  refine lv_topi (fun v16 ev16 => ?_)
  have hf := lu_ ev16 hf
  refine lv_istore (lv' := [(9, .int v16), (8, .int v14), (5, .int v12), (7, .int v10), (6, .int v8), (4, .int r3), (0, .ref a0), (1, .int a1), (2, .int a2), (3, .int a3)]) hx hb dX2_stepsIn_77 hl (by decide) rfl (fun ls hl => ?_)
  refine lv_iload hx hb dX2_stepsIn_79 (lv_at hl 5 rfl) ?_
  refine lv_iload hx hb dX2_stepsIn_81 (lv_at hl 1 rfl) ?_
  refine lv_iconst (v := 0) hx hb dX2_stepsIn_83 (by decide) ?_
  obtain ⟨r17, er17⟩ : ∃ z, z = fJ7_compare v14 0 := ⟨_, rfl⟩
  have hf := lu_ er17 hf
  refine cl_i0 hH (rn_S ⟨hx, hb, hml, hown, hts⟩ hKn hH (mJ7_compare l G M n v14 0 r17 er17.symm) (va_cwS 2 hts (lw_S q556 q557 q90 q558) rfl rfl rfl kdJ7_compare ⟨Nat.le_of_ble_eq_true rfl, Nat.le_of_ble_eq_true rfl⟩) rfl hl.1 (Nat.le_of_ble_eq_true rfl) dX2_stepsIn_84 ⟨(Nat.le_of_ble_eq_true rfl), (Nat.le_of_ble_eq_true rfl)⟩ rfl) (fun H locs hH => ?_)
  refine lv_iload hx hb dX2_stepsIn_87 (lv_at hl 0 rfl) ?_
  refine lv_imul hx hb dX2_stepsIn_89 ?_
  refine lv_iadd hx hb dX2_stepsIn_90 ?_
  refine lv_topi (fun v18 ev18 => ?_)
  have hf := lu_ ev18 hf
  refine lv_istore (lv' := [(4, .int v18), (9, .int v16), (8, .int v14), (5, .int v12), (7, .int v10), (6, .int v8), (0, .ref a0), (1, .int a1), (2, .int a2), (3, .int a3)]) hx hb dX2_stepsIn_91 hl (by decide) rfl (fun ls hl => ?_)
  refine lv_aload_n hx hb dX2_stepsIn_93 rfl (lv_at hl 6 rfl) ?_
  obtain ⟨v19, ev19, hf⟩ := bs_ hf
  refine mg_gR hx hb hts hown hKn hH ev19 in_X2 rfl (by decide) (hts _ q873) (fun _ h9 => h9) dX2_stepsIn_94 ?_
  refine lv_iload_n hx hb dX2_stepsIn_97 rfl (lv_at hl 7 rfl) ?_
  refine lv_iconst (v := 3) hx hb dX2_stepsIn_98 (by decide) ?_
  refine lv_iload hx hb dX2_stepsIn_99 (lv_at hl 0 rfl) ?_
  refine lv_imul hx hb dX2_stepsIn_101 ?_
  refine lv_iload hx hb dX2_stepsIn_102 (lv_at hl 3 rfl) ?_
  refine lv_iadd hx hb dX2_stepsIn_104 ?_
  obtain ⟨M20, eM20, hf⟩ := bs_ hf
  refine mg_iast hx hb hKn hH eM20 dX2_stepsIn_105 (fun H locs hH => ?_)
  refine lv_aload_n hx hb dX2_stepsIn_106 rfl (lv_at hl 6 rfl) ?_
  obtain ⟨v21, ev21, hf⟩ := bs_ hf
  refine mg_gR hx hb hts hown hKn hH ev21 in_X2 rfl (by decide) (hts _ q885) (fun _ h9 => h9) dX2_stepsIn_107 ?_
  refine lv_iload_n hx hb dX2_stepsIn_110 rfl (lv_at hl 7 rfl) ?_
  refine lv_dup2_11 hx hb dX2_stepsIn_111 rfl rfl ?_
  obtain ⟨v22, ev22, hf⟩ := bs_ hf
  refine mg_iald hx hb hKn hH ev22 dX2_stepsIn_112 ?_
  refine lv_iload hx hb dX2_stepsIn_113 (lv_at hl 4 rfl) ?_
  refine lv_iload hx hb dX2_stepsIn_115 (lv_at hl 1 rfl) ?_
  refine lv_iadd hx hb dX2_stepsIn_117 ?_
  refine lv_iadd hx hb dX2_stepsIn_118 ?_
  obtain ⟨M23, eM23, hf⟩ := bs_ hf
  refine mg_iast hx hb hKn hH eM23 dX2_stepsIn_119 (fun H locs hH => ?_)
  cases hf
  exact rt_v hx hb hr hlk hH dX2_stepsIn_120
def fX2_gets (M : Mem_) (a0 : Nat) (a1 : Int32) (a2 : Int32) (a3 : Int32) : Option Mem_ :=
  (gR_ M a0 1 1).bind fun v1 =>
  (aI_ M v1 0 a1).bind fun v2 =>
  lt_ (fX1_wayTo v2 a2) fun r3 =>
  (gR_ M a0 1 7).bind fun v4 =>
  (aI_ M v4 0 a1).bind fun v5 =>
  (sI_ M v4 0 a1 (v5 + r3)).bind fun M6 =>
  (gR_ M6 a0 1 1).bind fun v7 =>
  (sI_ M6 v7 0 a1 a2).bind fun M8 =>
  (ck_ M8 a0 1).bind fun u9 =>
  (fX2_tiresMore M8 a0 a1 r3).bind fun M11 =>
  (pF_ M11 a0 1 10 (.int a1)).bind fun M12 =>
  (ck_ M12 a0 1).bind fun u13 =>
  (fX2_placeBy M12 a0 a1).bind fun r14 =>
  (ck_ M12 a0 1).bind fun u15 =>
  (fX2_steps M12 a0 (a1 ^^^ 1) a3).bind fun r16 =>
  (ck_ M12 a0 1).bind fun u17 =>
  (fX2_stepsIn M12 a0 (a1 ^^^ 1) r14 r16).bind fun M19 =>
  some M19
theorem kdX2_gets : yX2_gets.cls ≠ "java/lang/invoke/MethodHandle" ∧ yX2_gets.cls ≠ "java/lang/invoke/VarHandle" ∧ (parseMethodDescriptor yX2_gets.desc).map (fun d => d.parameters.length) = some 3 := by decide +kernel
set_option maxHeartbeats 4000000 in
theorem mX2_gets (l : Launch) (G : GT_) (M : Mem_) (n : Nat) (a0 : Nat) (a1 : Int32) (a2 : Int32) (a3 : Int32) (M1 : Mem_) (hf : fX2_gets M a0 a1 a2 a3 = some M1) : Ct_ G l yX2_gets (ws_ yX2_gets cX2_gets 5 none) ({ frames := 2, cells := 0, slots := 0, locals := 50 }) 0 0 [.ref a0, .int a1, .int a2, .int a3] M n (none) M1 n := by
  refine en_ (by decide) (Nat.le_of_ble_eq_true rfl) ?_
  intro p e s m below meth c hx hb hr hlk hml hown hts hname hKn hH ls hl
  have hown : s.vm.findClass RX2 = some m.cls := hown
  have hl : lv_has ls 5 [(0, .ref a0), (1, .int a1), (2, .int a2), (3, .int a3)] := hl
  unfold fX2_gets at hf
  generalize s.heap = H at hH ⊢
  refine lv_aload_n hx hb dX2_gets_0 rfl (lv_at hl 0 rfl) ?_
  obtain ⟨v1, ev1, hf⟩ := bs_ hf
  refine mg_gR hx hb hts hown hKn hH ev1 in_X2 rfl (by decide) (hts _ q873) (fun _ h9 => h9) dX2_gets_1 ?_
  refine lv_iload_n hx hb dX2_gets_4 rfl (lv_at hl 1 rfl) ?_
  obtain ⟨v2, ev2, hf⟩ := bs_ hf
  refine mg_iald hx hb hKn hH ev2 dX2_gets_5 ?_
  refine lv_iload_n hx hb dX2_gets_6 rfl (lv_at hl 2 rfl) ?_
  obtain ⟨r3, er3⟩ : ∃ z, z = fX1_wayTo v2 a2 := ⟨_, rfl⟩
  have hf := lu_ er3 hf
  refine cl_i0 hH (rn_SN ⟨hx, hb, hml, hown, hts⟩ hKn hH (mX1_wayTo l G M n v2 a2 r3 er3.symm) ⟨va_cnB 2 hts (lw_meth q514) rfl rfl rfl (hKn.2.1 _ (List.mem_of_getElem? (i := 7) rfl)) (hts _ q67) kdX1_wayTo ⟨Nat.le_of_ble_eq_true rfl, Nat.le_of_ble_eq_true rfl⟩, hts _ q513, trivial⟩ rfl hl.1 (Nat.le_of_ble_eq_true rfl) dX2_gets_7 ⟨(Nat.le_of_ble_eq_true rfl), (Nat.le_of_ble_eq_true rfl)⟩ rfl) (fun H locs hH => ?_)
  refine lv_istore (lv' := [(4, .int r3), (0, .ref a0), (1, .int a1), (2, .int a2), (3, .int a3)]) hx hb dX2_gets_10 hl (by decide) rfl (fun ls hl => ?_)
  refine lv_aload_n hx hb dX2_gets_12 rfl (lv_at hl 1 rfl) ?_
  obtain ⟨v4, ev4, hf⟩ := bs_ hf
  refine mg_gR hx hb hts hown hKn hH ev4 in_X2 rfl (by decide) (hts _ q885) (fun _ h9 => h9) dX2_gets_13 ?_
  refine lv_iload_n hx hb dX2_gets_16 rfl (lv_at hl 2 rfl) ?_
  refine lv_dup2_11 hx hb dX2_gets_17 rfl rfl ?_
  obtain ⟨v5, ev5, hf⟩ := bs_ hf
  refine mg_iald hx hb hKn hH ev5 dX2_gets_18 ?_
  refine lv_iload hx hb dX2_gets_19 (lv_at hl 0 rfl) ?_
  refine lv_iadd hx hb dX2_gets_21 ?_
  obtain ⟨M6, eM6, hf⟩ := bs_ hf
  refine mg_iast hx hb hKn hH eM6 dX2_gets_22 (fun H locs hH => ?_)
  refine lv_aload_n hx hb dX2_gets_23 rfl (lv_at hl 1 rfl) ?_
  obtain ⟨v7, ev7, hf⟩ := bs_ hf
  refine mg_gR hx hb hts hown hKn hH ev7 in_X2 rfl (by decide) (hts _ q873) (fun _ h9 => h9) dX2_gets_24 ?_
  refine lv_iload_n hx hb dX2_gets_27 rfl (lv_at hl 2 rfl) ?_
  refine lv_iload_n hx hb dX2_gets_28 rfl (lv_at hl 3 rfl) ?_
  obtain ⟨M8, eM8, hf⟩ := bs_ hf
  refine mg_iast hx hb hKn hH eM8 dX2_gets_29 (fun H locs hH => ?_)
  refine lv_aload_n hx hb dX2_gets_30 rfl (lv_at hl 1 rfl) ?_
  refine lv_iload_n hx hb dX2_gets_31 rfl (lv_at hl 2 rfl) ?_
  refine lv_iload hx hb dX2_gets_32 (lv_at hl 0 rfl) ?_
  obtain ⟨u9, eu9, hf⟩ := bs_ hf
  obtain ⟨M11, er10, hf⟩ := bs_ hf
  refine cl_v0 hH (rn_V ⟨hx, hb, hml, hown, hts⟩ hKn hH (mX2_tiresMore l G M8 n a0 a1 r3 M11 er10) (cwV 2 hts (lw_V q503 q504 q505 q68 q506) rfl rfl rfl ⟨rfl, kdX2_tiresMore⟩ ⟨Nat.le_of_ble_eq_true rfl, Nat.le_of_ble_eq_true rfl⟩) eu9 rfl rfl hl.1 (Nat.le_of_ble_eq_true rfl) dX2_gets_34 ⟨(Nat.le_of_ble_eq_true rfl), (Nat.le_of_ble_eq_true rfl)⟩ rfl) (fun H locs hH => ?_)
  refine lv_aload_n hx hb dX2_gets_37 rfl (lv_at hl 1 rfl) ?_
  refine lv_iload_n hx hb dX2_gets_38 rfl (lv_at hl 2 rfl) ?_
  obtain ⟨M12, eM12, hf⟩ := bs_ hf
  refine mg_pF hx hb hts hown hKn hH eM12 in_X2 tyX2_ok nmX2 rfl (by decide) (hts _ q891) (fun _ h9 => h9) rfl rfl rfl dX2_gets_39 (fun H locs hH => ?_)
  refine lv_aload_n hx hb dX2_gets_42 rfl (lv_at hl 1 rfl) ?_
  refine lv_iload_n hx hb dX2_gets_43 rfl (lv_at hl 2 rfl) ?_
  refine lv_iconst (v := 1) hx hb dX2_gets_44 (by decide) ?_
  refine lv_ixor hx hb dX2_gets_45 ?_
  refine lv_aload_n hx hb dX2_gets_46 rfl (lv_at hl 1 rfl) ?_
  refine lv_iload_n hx hb dX2_gets_47 rfl (lv_at hl 2 rfl) ?_
  obtain ⟨u13, eu13, hf⟩ := bs_ hf
  obtain ⟨r14, er14, hf⟩ := bs_ hf
  refine cl_i0 hH (rn_V ⟨hx, hb, hml, hown, hts⟩ hKn hH (mX2_placeBy l G M12 n a0 a1 r14 er14) (cwV 1 hts (lw_V q545 q547 qs16 q68 q548) rfl rfl rfl ⟨rfl, kdX2_placeBy⟩ ⟨Nat.le_of_ble_eq_true rfl, Nat.le_of_ble_eq_true rfl⟩) eu13 rfl rfl hl.1 (Nat.le_of_ble_eq_true rfl) dX2_gets_48 ⟨(Nat.le_of_ble_eq_true rfl), (Nat.le_of_ble_eq_true rfl)⟩ rfl) (fun H locs hH => ?_)
  refine lv_aload_n hx hb dX2_gets_51 rfl (lv_at hl 1 rfl) ?_
  refine lv_iload_n hx hb dX2_gets_52 rfl (lv_at hl 2 rfl) ?_
  refine lv_iconst (v := 1) hx hb dX2_gets_53 (by decide) ?_
  refine lv_ixor hx hb dX2_gets_54 ?_
  refine lv_iload_n hx hb dX2_gets_55 rfl (lv_at hl 4 rfl) ?_
  obtain ⟨u15, eu15, hf⟩ := bs_ hf
  obtain ⟨r16, er16, hf⟩ := bs_ hf
  refine cl_i0 hH (rn_V ⟨hx, hb, hml, hown, hts⟩ hKn hH (mX2_steps l G M12 n a0 (a1 ^^^ 1) a3 r16 er16) (cwV 2 hts (lw_V q532 q533 q534 q68 q535) rfl rfl rfl ⟨rfl, kdX2_steps⟩ ⟨Nat.le_of_ble_eq_true rfl, Nat.le_of_ble_eq_true rfl⟩) eu15 rfl rfl hl.1 (Nat.le_of_ble_eq_true rfl) dX2_gets_56 ⟨(Nat.le_of_ble_eq_true rfl), (Nat.le_of_ble_eq_true rfl)⟩ rfl) (fun H locs hH => ?_)
  obtain ⟨u17, eu17, hf⟩ := bs_ hf
  obtain ⟨M19, er18, hf⟩ := bs_ hf
  refine cl_v0 hH (rn_V ⟨hx, hb, hml, hown, hts⟩ hKn hH (mX2_stepsIn l G M12 n a0 (a1 ^^^ 1) r14 r16 M19 er18) (cwV 3 hts (lw_V q551 q553 qs17 q68 q554) rfl rfl rfl ⟨rfl, kdX2_stepsIn⟩ ⟨Nat.le_of_ble_eq_true rfl, Nat.le_of_ble_eq_true rfl⟩) eu17 rfl rfl hl.1 (Nat.le_of_ble_eq_true rfl) dX2_gets_59 ⟨(Nat.le_of_ble_eq_true rfl), (Nat.le_of_ble_eq_true rfl)⟩ rfl) (fun H locs hH => ?_)
  cases hf
  exact rt_v hx hb hr hlk hH dX2_gets_62
def fX2_hits (M : Mem_) (a0 : Nat) (a1 : Int32) (a2 : Int32) : Option (Bool × Mem_) :=
  (ck_ M a0 1).bind fun u1 =>
  (fX2_turn M a0).bind fun r2 =>
  (ck_ M a0 1).bind fun u3 =>
  (fX2_falls M a0 a1 a2).bind fun r4 =>
  (gR_ M a0 1 0).bind fun v5 =>
  (aR_ M v5 3 a1).bind fun v6 =>
  (s_time M v6 r4).bind fun r7 =>
  (gI_ M a0 1 12).bind fun v8 =>
  lt_ ((v8 + 1)) fun v9 =>
  (pF_ M a0 1 12 (.int v9)).bind fun M10 =>
  (gI_ M10 a0 1 10).bind fun v11 =>
  (gR_ M10 a0 1 0).bind fun v12 =>
  (aR_ M10 v12 3 a1).bind fun v13 =>
  (s_tires M10 v13).bind fun r14 =>
  (ck_ M10 a0 1).bind fun u15 =>
  (fX2_tiresMore M10 a0 v11 r14).bind fun M17 =>
  (ck_ M17 a0 1).bind fun u18 =>
  (fX2_whose M17 a0 r4).bind fun r19 =>
  (ck_ M17 a0 1).bind fun u20 =>
  (fX2_isClash M17 a0 r4).bind fun r21 =>
  if (b2_ r21) = 0 then
    if r19 = 9 then
      (ck_ M17 a0 1).bind fun u22 =>
      (fX2_wins M17 a0 r2).bind fun M24 =>
      some (true, M24)
    else
      (gR_ M17 a0 1 1).bind fun v25 =>
      (aI_ M17 v25 0 r19).bind fun v26 =>
      lt_ (fX1_wayTo v26 r4) fun r27 =>
      (ck_ M17 a0 1).bind fun u28 =>
      (fX2_steps M17 a0 r19 r7).bind fun r29 =>
      if r27 ≤ r29 then
        (ck_ M17 a0 1).bind fun u30 =>
        (fX2_gets M17 a0 r19 r4 r7).bind fun M32 =>
        some (false, M32)
      else
        (ck_ M17 a0 1).bind fun u33 =>
        (fX2_wins M17 a0 r2).bind fun M35 =>
        some (true, M35)
  else
    (ck_ M17 a0 1).bind fun u38 =>
    (fX2_tiresMore M17 a0 (2 - (2 * r2)) 3).bind fun M40 =>
    (ck_ M40 a0 1).bind fun u41 =>
    (fX2_tiresMore M40 a0 (3 - (2 * r2)) 3).bind fun M43 =>
    if r19 = 9 then
      (ck_ M43 a0 1).bind fun u44 =>
      (fX2_wins M43 a0 r2).bind fun M46 =>
      some (true, M46)
    else
      (gR_ M43 a0 1 1).bind fun v47 =>
      (aI_ M43 v47 0 r19).bind fun v48 =>
      lt_ (fX1_wayTo v48 r4) fun r49 =>
      (ck_ M43 a0 1).bind fun u50 =>
      (fX2_steps M43 a0 r19 r7).bind fun r51 =>
      if r49 ≤ r51 then
        (ck_ M43 a0 1).bind fun u52 =>
        (fX2_gets M43 a0 r19 r4 r7).bind fun M54 =>
        some (false, M54)
      else
        (ck_ M43 a0 1).bind fun u55 =>
        (fX2_wins M43 a0 r2).bind fun M57 =>
        some (true, M57)
theorem kdX2_hits : yX2_hits.cls ≠ "java/lang/invoke/MethodHandle" ∧ yX2_hits.cls ≠ "java/lang/invoke/VarHandle" ∧ (parseMethodDescriptor yX2_hits.desc).map (fun d => d.parameters.length) = some 2 := by decide +kernel
set_option maxHeartbeats 4000000 in
theorem mX2_hits (l : Launch) (G : GT_) (M : Mem_) (n : Nat) (a0 : Nat) (a1 : Int32) (a2 : Int32) (r : Bool) (M1 : Mem_) (hf : fX2_hits M a0 a1 a2 = some (r, M1)) : Ct_ G l yX2_hits (ws_ yX2_hits cX2_hits 7 (some .boolean)) ({ frames := 3, cells := 0, slots := 0, locals := 74 }) 0 0 [.ref a0, .int a1, .int a2] M n (some (.int (b2_ r))) M1 n := by
  refine en_ (by decide) (Nat.le_of_ble_eq_true rfl) ?_
  intro p e s m below meth c hx hb hr hlk hml hown hts hname hKn hH ls hl
  have hown : s.vm.findClass RX2 = some m.cls := hown
  have hl : lv_has ls 7 [(0, .ref a0), (1, .int a1), (2, .int a2)] := hl
  unfold fX2_hits at hf
  generalize s.heap = H at hH ⊢
  refine lv_aload_n hx hb dX2_hits_0 rfl (lv_at hl 0 rfl) ?_
  obtain ⟨u1, eu1, hf⟩ := bs_ hf
  obtain ⟨r2, er2, hf⟩ := bs_ hf
  refine cl_i0 hH (rn_V ⟨hx, hb, hml, hown, hts⟩ hKn hH (mX2_turn l G M n a0 r2 er2) (cwV 0 hts (lw_V q415 q416 q417 q68 q418) rfl rfl rfl ⟨rfl, kdX2_turn⟩ ⟨Nat.le_of_ble_eq_true rfl, Nat.le_of_ble_eq_true rfl⟩) eu1 rfl rfl hl.1 (Nat.le_of_ble_eq_true rfl) dX2_hits_1 ⟨(Nat.le_of_ble_eq_true rfl), (Nat.le_of_ble_eq_true rfl)⟩ rfl) (fun H locs hH => ?_)
  refine lv_istore_n (lv' := [(3, .int r2), (0, .ref a0), (1, .int a1), (2, .int a2)]) hx hb dX2_hits_4 rfl hl (by decide) rfl (fun ls hl => ?_)
  refine lv_aload_n hx hb dX2_hits_5 rfl (lv_at hl 1 rfl) ?_
  refine lv_iload_n hx hb dX2_hits_6 rfl (lv_at hl 2 rfl) ?_
  refine lv_iload_n hx hb dX2_hits_7 rfl (lv_at hl 3 rfl) ?_
  obtain ⟨u3, eu3, hf⟩ := bs_ hf
  obtain ⟨r4, er4, hf⟩ := bs_ hf
  refine cl_i0 hH (rn_V ⟨hx, hb, hml, hown, hts⟩ hKn hH (mX2_falls l G M n a0 a1 a2 r4 er4) (cwV 2 hts (lw_V q419 q420 q421 q68 q422) rfl rfl rfl ⟨rfl, kdX2_falls⟩ ⟨Nat.le_of_ble_eq_true rfl, Nat.le_of_ble_eq_true rfl⟩) eu3 rfl rfl hl.1 (Nat.le_of_ble_eq_true rfl) dX2_hits_8 ⟨(Nat.le_of_ble_eq_true rfl), (Nat.le_of_ble_eq_true rfl)⟩ rfl) (fun H locs hH => ?_)
  refine lv_istore (lv' := [(4, .int r4), (3, .int r2), (0, .ref a0), (1, .int a1), (2, .int a2)]) hx hb dX2_hits_11 hl (by decide) rfl (fun ls hl => ?_)
  refine lv_aload_n hx hb dX2_hits_13 rfl (lv_at hl 2 rfl) ?_
  obtain ⟨v5, ev5, hf⟩ := bs_ hf
  refine mg_gR hx hb hts hown hKn hH ev5 in_X2 rfl (by decide) (hts _ q871) (fun _ h9 => h9) dX2_hits_14 ?_
  refine lv_iload_n hx hb dX2_hits_17 rfl (lv_at hl 3 rfl) ?_
  obtain ⟨v6, ev6, hf⟩ := bs_ hf
  refine mg_aald3 hx hb hKn hH ev6 dX2_hits_18 ?_
  refine lv_iload hx hb dX2_hits_19 (lv_at hl 0 rfl) ?_
  obtain ⟨r7, er7, hf⟩ := bs_ hf
  refine cl_i0 hH (rs_time ⟨hx, hb, hml, hown, hts⟩ hKn hH er7 (hts _ q452) ⟨Nat.le_of_ble_eq_true rfl, Nat.le_of_ble_eq_true rfl⟩ hl.1 (Nat.le_of_ble_eq_true rfl) dX2_hits_21 ⟨(Nat.le_of_ble_eq_true rfl), (Nat.le_of_ble_eq_true rfl)⟩ rfl) (fun H locs hH => ?_)
  refine lv_istore (lv' := [(5, .int r7), (4, .int r4), (3, .int r2), (0, .ref a0), (1, .int a1), (2, .int a2)]) hx hb dX2_hits_24 hl (by decide) rfl (fun ls hl => ?_)
  refine lv_aload_n hx hb dX2_hits_26 rfl (lv_at hl 3 rfl) ?_
  refine lv_dup hx hb dX2_hits_27 rfl ?_
  obtain ⟨v8, ev8, hf⟩ := bs_ hf
  refine mg_gI hx hb hts hown hKn hH ev8 in_X2 rfl (by decide) (hts _ q895) (fun _ h9 => h9) dX2_hits_28 ?_
  refine lv_iconst (v := 1) hx hb dX2_hits_31 (by decide) ?_
  refine lv_iadd hx hb dX2_hits_32 ?_
  refine lv_topi (fun v9 ev9 => ?_)
  have hf := lu_ ev9 hf
  obtain ⟨M10, eM10, hf⟩ := bs_ hf
  refine mg_pF hx hb hts hown hKn hH eM10 in_X2 tyX2_ok nmX2 rfl (by decide) (hts _ q895) (fun _ h9 => h9) rfl rfl rfl dX2_hits_33 (fun H locs hH => ?_)
  refine lv_aload_n hx hb dX2_hits_36 rfl (lv_at hl 3 rfl) ?_
  refine lv_aload_n hx hb dX2_hits_37 rfl (lv_at hl 3 rfl) ?_
  obtain ⟨v11, ev11, hf⟩ := bs_ hf
  refine mg_gI hx hb hts hown hKn hH ev11 in_X2 rfl (by decide) (hts _ q891) (fun _ h9 => h9) dX2_hits_38 ?_
  refine lv_aload_n hx hb dX2_hits_41 rfl (lv_at hl 3 rfl) ?_
  obtain ⟨v12, ev12, hf⟩ := bs_ hf
  refine mg_gR hx hb hts hown hKn hH ev12 in_X2 rfl (by decide) (hts _ q871) (fun _ h9 => h9) dX2_hits_42 ?_
  refine lv_iload_n hx hb dX2_hits_45 rfl (lv_at hl 4 rfl) ?_
  obtain ⟨v13, ev13, hf⟩ := bs_ hf
  refine mg_aald3 hx hb hKn hH ev13 dX2_hits_46 ?_
  obtain ⟨r14, er14, hf⟩ := bs_ hf
  refine cl_i0 hH (rs_tires ⟨hx, hb, hml, hown, hts⟩ hKn hH er14 (va_Nw.use rfl (hKn.2.2.2.2.2.2.1 _ (List.mem_of_getElem? (i := 2) rfl))) ⟨Nat.le_of_ble_eq_true rfl, Nat.le_of_ble_eq_true rfl⟩ hl.1 (Nat.le_of_ble_eq_true rfl) dX2_hits_47 ⟨(Nat.le_of_ble_eq_true rfl), (Nat.le_of_ble_eq_true rfl)⟩ rfl) (fun H locs hH => ?_)
  obtain ⟨u15, eu15, hf⟩ := bs_ hf
  obtain ⟨M17, er16, hf⟩ := bs_ hf
  refine cl_v0 hH (rn_V ⟨hx, hb, hml, hown, hts⟩ hKn hH (mX2_tiresMore l G M10 n a0 v11 r14 M17 er16) (cwV 2 hts (lw_V q503 q504 q505 q68 q506) rfl rfl rfl ⟨rfl, kdX2_tiresMore⟩ ⟨Nat.le_of_ble_eq_true rfl, Nat.le_of_ble_eq_true rfl⟩) eu15 rfl rfl hl.1 (Nat.le_of_ble_eq_true rfl) dX2_hits_50 ⟨(Nat.le_of_ble_eq_true rfl), (Nat.le_of_ble_eq_true rfl)⟩ rfl) (fun H locs hH => ?_)
  refine lv_aload_n hx hb dX2_hits_53 rfl (lv_at hl 3 rfl) ?_
  refine lv_iload hx hb dX2_hits_54 (lv_at hl 1 rfl) ?_
  obtain ⟨u18, eu18, hf⟩ := bs_ hf
  obtain ⟨r19, er19, hf⟩ := bs_ hf
  refine cl_i0 hH (rn_V ⟨hx, hb, hml, hown, hts⟩ hKn hH (mX2_whose l G M17 n a0 r4 r19 er19) (cwV 1 hts (lw_V q508 q509 q510 q68 q511) rfl rfl rfl ⟨rfl, kdX2_whose⟩ ⟨Nat.le_of_ble_eq_true rfl, Nat.le_of_ble_eq_true rfl⟩) eu18 rfl rfl hl.1 (Nat.le_of_ble_eq_true rfl) dX2_hits_56 ⟨(Nat.le_of_ble_eq_true rfl), (Nat.le_of_ble_eq_true rfl)⟩ rfl) (fun H locs hH => ?_)
  refine lv_istore (lv' := [(6, .int r19), (5, .int r7), (4, .int r4), (3, .int r2), (0, .ref a0), (1, .int a1), (2, .int a2)]) hx hb dX2_hits_59 hl (by decide) rfl (fun ls hl => ?_)
  refine lv_aload_n hx hb dX2_hits_61 rfl (lv_at hl 4 rfl) ?_
  refine lv_iload hx hb dX2_hits_62 (lv_at hl 2 rfl) ?_
  obtain ⟨u20, eu20, hf⟩ := bs_ hf
  obtain ⟨r21, er21, hf⟩ := bs_ hf
  refine cl_i0 hH (rn_V ⟨hx, hb, hml, hown, hts⟩ hKn hH (mX2_isClash l G M17 n a0 r4 r21 er21) (cwV 1 hts (lw_V q528 q530 qs13 q68 q531) rfl rfl rfl ⟨rfl, kdX2_isClash⟩ ⟨Nat.le_of_ble_eq_true rfl, Nat.le_of_ble_eq_true rfl⟩) eu20 rfl rfl hl.1 (Nat.le_of_ble_eq_true rfl) dX2_hits_64 ⟨(Nat.le_of_ble_eq_true rfl), (Nat.le_of_ble_eq_true rfl)⟩ rfl) (fun H locs hH => ?_)
  refine lv_if_eq (tgt := 90) hx hb dX2_hits_67 (by decide) (fun c60 => ?_) (fun c60 => ?_)
  · have hf := ip_ c60 hf
    refine lv_iload hx hb dX2_hits_90 (lv_at hl 0 rfl) ?_
    refine lv_bipush (v := 9) hx hb dX2_hits_92 (by decide) ?_
    refine lv_icmp_eq (tgt := 120) hx hb dX2_hits_94 (by decide) (fun c37 => ?_) (fun c37 => ?_)
    · have hf := ip_ c37 hf
      refine lv_aload_n hx hb dX2_hits_120 rfl (lv_at hl 4 rfl) ?_
      refine lv_iload_n hx hb dX2_hits_121 rfl (lv_at hl 3 rfl) ?_
      obtain ⟨u22, eu22, hf⟩ := bs_ hf
      obtain ⟨M24, er23, hf⟩ := bs_ hf
      refine cl_v0 hH (rn_V ⟨hx, hb, hml, hown, hts⟩ hKn hH (mX2_wins l G M17 n a0 r2 M24 er23) (cwV 1 hts (lw_V q537 q539 qs14 q68 q540) rfl rfl rfl ⟨rfl, kdX2_wins⟩ ⟨Nat.le_of_ble_eq_true rfl, Nat.le_of_ble_eq_true rfl⟩) eu22 rfl rfl hl.1 (Nat.le_of_ble_eq_true rfl) dX2_hits_122 ⟨(Nat.le_of_ble_eq_true rfl), (Nat.le_of_ble_eq_true rfl)⟩ rfl) (fun H locs hH => ?_)
      refine lv_iconst (v := 1) hx hb dX2_hits_125 (by decide) ?_
      cases hf
      exact rt_b (b := true) hx hb hr hlk hH dX2_hits_126
    · have hf := in_ c37 hf
      refine lv_aload_n hx hb dX2_hits_97 rfl (lv_at hl 4 rfl) ?_
      obtain ⟨v25, ev25, hf⟩ := bs_ hf
      refine mg_gR hx hb hts hown hKn hH ev25 in_X2 rfl (by decide) (hts _ q873) (fun _ h9 => h9) dX2_hits_98 ?_
      refine lv_iload hx hb dX2_hits_101 (lv_at hl 0 rfl) ?_
      obtain ⟨v26, ev26, hf⟩ := bs_ hf
      refine mg_iald hx hb hKn hH ev26 dX2_hits_103 ?_
      refine lv_iload hx hb dX2_hits_104 (lv_at hl 2 rfl) ?_
      obtain ⟨r27, er27⟩ : ∃ z, z = fX1_wayTo v26 r4 := ⟨_, rfl⟩
      have hf := lu_ er27 hf
      refine cl_i0 hH (rn_SN ⟨hx, hb, hml, hown, hts⟩ hKn hH (mX1_wayTo l G M17 n v26 r4 r27 er27.symm) ⟨va_cnB 2 hts (lw_meth q514) rfl rfl rfl (hKn.2.1 _ (List.mem_of_getElem? (i := 7) rfl)) (hts _ q67) kdX1_wayTo ⟨Nat.le_of_ble_eq_true rfl, Nat.le_of_ble_eq_true rfl⟩, hts _ q513, trivial⟩ rfl hl.1 (Nat.le_of_ble_eq_true rfl) dX2_hits_106 ⟨(Nat.le_of_ble_eq_true rfl), (Nat.le_of_ble_eq_true rfl)⟩ rfl) (fun H locs hH => ?_)
      refine lv_aload_n hx hb dX2_hits_109 rfl (lv_at hl 4 rfl) ?_
      refine lv_iload hx hb dX2_hits_110 (lv_at hl 0 rfl) ?_
      refine lv_iload hx hb dX2_hits_112 (lv_at hl 1 rfl) ?_
      obtain ⟨u28, eu28, hf⟩ := bs_ hf
      obtain ⟨r29, er29, hf⟩ := bs_ hf
      refine cl_i0 hH (rn_V ⟨hx, hb, hml, hown, hts⟩ hKn hH (mX2_steps l G M17 n a0 r19 r7 r29 er29) (cwV 2 hts (lw_V q532 q533 q534 q68 q535) rfl rfl rfl ⟨rfl, kdX2_steps⟩ ⟨Nat.le_of_ble_eq_true rfl, Nat.le_of_ble_eq_true rfl⟩) eu28 rfl rfl hl.1 (Nat.le_of_ble_eq_true rfl) dX2_hits_114 ⟨(Nat.le_of_ble_eq_true rfl), (Nat.le_of_ble_eq_true rfl)⟩ rfl) (fun H locs hH => ?_)
      refine lv_icmp_le (tgt := 127) hx hb dX2_hits_117 (by decide) (fun c36 => ?_) (fun c36 => ?_)
      · have hf := ip_ c36 hf
        refine lv_aload_n hx hb dX2_hits_127 rfl (lv_at hl 4 rfl) ?_
        refine lv_iload hx hb dX2_hits_128 (lv_at hl 0 rfl) ?_
        refine lv_iload hx hb dX2_hits_130 (lv_at hl 2 rfl) ?_
        refine lv_iload hx hb dX2_hits_132 (lv_at hl 1 rfl) ?_
        obtain ⟨u30, eu30, hf⟩ := bs_ hf
        obtain ⟨M32, er31, hf⟩ := bs_ hf
        refine cl_v0 hH (rn_V ⟨hx, hb, hml, hown, hts⟩ hKn hH (mX2_gets l G M17 n a0 r19 r4 r7 M32 er31) (cwV 3 hts (lw_V q541 q543 qs15 q68 q544) rfl rfl rfl ⟨rfl, kdX2_gets⟩ ⟨Nat.le_of_ble_eq_true rfl, Nat.le_of_ble_eq_true rfl⟩) eu30 rfl rfl hl.1 (Nat.le_of_ble_eq_true rfl) dX2_hits_134 ⟨(Nat.le_of_ble_eq_true rfl), (Nat.le_of_ble_eq_true rfl)⟩ rfl) (fun H locs hH => ?_)
        refine lv_iconst (v := 0) hx hb dX2_hits_137 (by decide) ?_
        cases hf
        exact rt_b (b := false) hx hb hr hlk hH dX2_hits_138
      · have hf := in_ c36 hf
        refine lv_aload_n hx hb dX2_hits_120 rfl (lv_at hl 4 rfl) ?_
        refine lv_iload_n hx hb dX2_hits_121 rfl (lv_at hl 3 rfl) ?_
        obtain ⟨u33, eu33, hf⟩ := bs_ hf
        obtain ⟨M35, er34, hf⟩ := bs_ hf
        refine cl_v0 hH (rn_V ⟨hx, hb, hml, hown, hts⟩ hKn hH (mX2_wins l G M17 n a0 r2 M35 er34) (cwV 1 hts (lw_V q537 q539 qs14 q68 q540) rfl rfl rfl ⟨rfl, kdX2_wins⟩ ⟨Nat.le_of_ble_eq_true rfl, Nat.le_of_ble_eq_true rfl⟩) eu33 rfl rfl hl.1 (Nat.le_of_ble_eq_true rfl) dX2_hits_122 ⟨(Nat.le_of_ble_eq_true rfl), (Nat.le_of_ble_eq_true rfl)⟩ rfl) (fun H locs hH => ?_)
        refine lv_iconst (v := 1) hx hb dX2_hits_125 (by decide) ?_
        cases hf
        exact rt_b (b := true) hx hb hr hlk hH dX2_hits_126
  · have hf := in_ c60 hf
    refine lv_aload_n hx hb dX2_hits_70 rfl (lv_at hl 4 rfl) ?_
    refine lv_iconst (v := 2) hx hb dX2_hits_71 (by decide) ?_
    refine lv_iconst (v := 2) hx hb dX2_hits_72 (by decide) ?_
    refine lv_iload_n hx hb dX2_hits_73 rfl (lv_at hl 3 rfl) ?_
    refine lv_imul hx hb dX2_hits_74 ?_
    refine lv_isub hx hb dX2_hits_75 ?_
    refine lv_iconst (v := 3) hx hb dX2_hits_76 (by decide) ?_
    obtain ⟨u38, eu38, hf⟩ := bs_ hf
    obtain ⟨M40, er39, hf⟩ := bs_ hf
    refine cl_v0 hH (rn_V ⟨hx, hb, hml, hown, hts⟩ hKn hH (mX2_tiresMore l G M17 n a0 (2 - (2 * r2)) 3 M40 er39) (cwV 2 hts (lw_V q503 q504 q505 q68 q506) rfl rfl rfl ⟨rfl, kdX2_tiresMore⟩ ⟨Nat.le_of_ble_eq_true rfl, Nat.le_of_ble_eq_true rfl⟩) eu38 rfl rfl hl.1 (Nat.le_of_ble_eq_true rfl) dX2_hits_77 ⟨(Nat.le_of_ble_eq_true rfl), (Nat.le_of_ble_eq_true rfl)⟩ rfl) (fun H locs hH => ?_)
    refine lv_aload_n hx hb dX2_hits_80 rfl (lv_at hl 4 rfl) ?_
    refine lv_iconst (v := 3) hx hb dX2_hits_81 (by decide) ?_
    refine lv_iconst (v := 2) hx hb dX2_hits_82 (by decide) ?_
    refine lv_iload_n hx hb dX2_hits_83 rfl (lv_at hl 3 rfl) ?_
    refine lv_imul hx hb dX2_hits_84 ?_
    refine lv_isub hx hb dX2_hits_85 ?_
    refine lv_iconst (v := 3) hx hb dX2_hits_86 (by decide) ?_
    obtain ⟨u41, eu41, hf⟩ := bs_ hf
    obtain ⟨M43, er42, hf⟩ := bs_ hf
    refine cl_v0 hH (rn_V ⟨hx, hb, hml, hown, hts⟩ hKn hH (mX2_tiresMore l G M40 n a0 (3 - (2 * r2)) 3 M43 er42) (cwV 2 hts (lw_V q503 q504 q505 q68 q506) rfl rfl rfl ⟨rfl, kdX2_tiresMore⟩ ⟨Nat.le_of_ble_eq_true rfl, Nat.le_of_ble_eq_true rfl⟩) eu41 rfl rfl hl.1 (Nat.le_of_ble_eq_true rfl) dX2_hits_87 ⟨(Nat.le_of_ble_eq_true rfl), (Nat.le_of_ble_eq_true rfl)⟩ rfl) (fun H locs hH => ?_)
    refine lv_iload hx hb dX2_hits_90 (lv_at hl 0 rfl) ?_
    refine lv_bipush (v := 9) hx hb dX2_hits_92 (by decide) ?_
    refine lv_icmp_eq (tgt := 120) hx hb dX2_hits_94 (by decide) (fun c59 => ?_) (fun c59 => ?_)
    · have hf := ip_ c59 hf
      refine lv_aload_n hx hb dX2_hits_120 rfl (lv_at hl 4 rfl) ?_
      refine lv_iload_n hx hb dX2_hits_121 rfl (lv_at hl 3 rfl) ?_
      obtain ⟨u44, eu44, hf⟩ := bs_ hf
      obtain ⟨M46, er45, hf⟩ := bs_ hf
      refine cl_v0 hH (rn_V ⟨hx, hb, hml, hown, hts⟩ hKn hH (mX2_wins l G M43 n a0 r2 M46 er45) (cwV 1 hts (lw_V q537 q539 qs14 q68 q540) rfl rfl rfl ⟨rfl, kdX2_wins⟩ ⟨Nat.le_of_ble_eq_true rfl, Nat.le_of_ble_eq_true rfl⟩) eu44 rfl rfl hl.1 (Nat.le_of_ble_eq_true rfl) dX2_hits_122 ⟨(Nat.le_of_ble_eq_true rfl), (Nat.le_of_ble_eq_true rfl)⟩ rfl) (fun H locs hH => ?_)
      refine lv_iconst (v := 1) hx hb dX2_hits_125 (by decide) ?_
      cases hf
      exact rt_b (b := true) hx hb hr hlk hH dX2_hits_126
    · have hf := in_ c59 hf
      refine lv_aload_n hx hb dX2_hits_97 rfl (lv_at hl 4 rfl) ?_
      obtain ⟨v47, ev47, hf⟩ := bs_ hf
      refine mg_gR hx hb hts hown hKn hH ev47 in_X2 rfl (by decide) (hts _ q873) (fun _ h9 => h9) dX2_hits_98 ?_
      refine lv_iload hx hb dX2_hits_101 (lv_at hl 0 rfl) ?_
      obtain ⟨v48, ev48, hf⟩ := bs_ hf
      refine mg_iald hx hb hKn hH ev48 dX2_hits_103 ?_
      refine lv_iload hx hb dX2_hits_104 (lv_at hl 2 rfl) ?_
      obtain ⟨r49, er49⟩ : ∃ z, z = fX1_wayTo v48 r4 := ⟨_, rfl⟩
      have hf := lu_ er49 hf
      refine cl_i0 hH (rn_SN ⟨hx, hb, hml, hown, hts⟩ hKn hH (mX1_wayTo l G M43 n v48 r4 r49 er49.symm) ⟨va_cnB 2 hts (lw_meth q514) rfl rfl rfl (hKn.2.1 _ (List.mem_of_getElem? (i := 7) rfl)) (hts _ q67) kdX1_wayTo ⟨Nat.le_of_ble_eq_true rfl, Nat.le_of_ble_eq_true rfl⟩, hts _ q513, trivial⟩ rfl hl.1 (Nat.le_of_ble_eq_true rfl) dX2_hits_106 ⟨(Nat.le_of_ble_eq_true rfl), (Nat.le_of_ble_eq_true rfl)⟩ rfl) (fun H locs hH => ?_)
      refine lv_aload_n hx hb dX2_hits_109 rfl (lv_at hl 4 rfl) ?_
      refine lv_iload hx hb dX2_hits_110 (lv_at hl 0 rfl) ?_
      refine lv_iload hx hb dX2_hits_112 (lv_at hl 1 rfl) ?_
      obtain ⟨u50, eu50, hf⟩ := bs_ hf
      obtain ⟨r51, er51, hf⟩ := bs_ hf
      refine cl_i0 hH (rn_V ⟨hx, hb, hml, hown, hts⟩ hKn hH (mX2_steps l G M43 n a0 r19 r7 r51 er51) (cwV 2 hts (lw_V q532 q533 q534 q68 q535) rfl rfl rfl ⟨rfl, kdX2_steps⟩ ⟨Nat.le_of_ble_eq_true rfl, Nat.le_of_ble_eq_true rfl⟩) eu50 rfl rfl hl.1 (Nat.le_of_ble_eq_true rfl) dX2_hits_114 ⟨(Nat.le_of_ble_eq_true rfl), (Nat.le_of_ble_eq_true rfl)⟩ rfl) (fun H locs hH => ?_)
      refine lv_icmp_le (tgt := 127) hx hb dX2_hits_117 (by decide) (fun c58 => ?_) (fun c58 => ?_)
      · have hf := ip_ c58 hf
        refine lv_aload_n hx hb dX2_hits_127 rfl (lv_at hl 4 rfl) ?_
        refine lv_iload hx hb dX2_hits_128 (lv_at hl 0 rfl) ?_
        refine lv_iload hx hb dX2_hits_130 (lv_at hl 2 rfl) ?_
        refine lv_iload hx hb dX2_hits_132 (lv_at hl 1 rfl) ?_
        obtain ⟨u52, eu52, hf⟩ := bs_ hf
        obtain ⟨M54, er53, hf⟩ := bs_ hf
        refine cl_v0 hH (rn_V ⟨hx, hb, hml, hown, hts⟩ hKn hH (mX2_gets l G M43 n a0 r19 r4 r7 M54 er53) (cwV 3 hts (lw_V q541 q543 qs15 q68 q544) rfl rfl rfl ⟨rfl, kdX2_gets⟩ ⟨Nat.le_of_ble_eq_true rfl, Nat.le_of_ble_eq_true rfl⟩) eu52 rfl rfl hl.1 (Nat.le_of_ble_eq_true rfl) dX2_hits_134 ⟨(Nat.le_of_ble_eq_true rfl), (Nat.le_of_ble_eq_true rfl)⟩ rfl) (fun H locs hH => ?_)
        refine lv_iconst (v := 0) hx hb dX2_hits_137 (by decide) ?_
        cases hf
        exact rt_b (b := false) hx hb hr hlk hH dX2_hits_138
      · have hf := in_ c58 hf
        refine lv_aload_n hx hb dX2_hits_120 rfl (lv_at hl 4 rfl) ?_
        refine lv_iload_n hx hb dX2_hits_121 rfl (lv_at hl 3 rfl) ?_
        obtain ⟨u55, eu55, hf⟩ := bs_ hf
        obtain ⟨M57, er56, hf⟩ := bs_ hf
        refine cl_v0 hH (rn_V ⟨hx, hb, hml, hown, hts⟩ hKn hH (mX2_wins l G M43 n a0 r2 M57 er56) (cwV 1 hts (lw_V q537 q539 qs14 q68 q540) rfl rfl rfl ⟨rfl, kdX2_wins⟩ ⟨Nat.le_of_ble_eq_true rfl, Nat.le_of_ble_eq_true rfl⟩) eu55 rfl rfl hl.1 (Nat.le_of_ble_eq_true rfl) dX2_hits_122 ⟨(Nat.le_of_ble_eq_true rfl), (Nat.le_of_ble_eq_true rfl)⟩ rfl) (fun H locs hH => ?_)
        refine lv_iconst (v := 1) hx hb dX2_hits_125 (by decide) ?_
        cases hf
        exact rt_b (b := true) hx hb hr hlk hH dX2_hits_126
def fX1_comesHit (M : Mem_) (a0 : Nat) (a1 : Int32) (a2 : Int32) : Option (Bool × Mem_) :=
  (gR_ M a0 0 2).bind fun v1 =>
  (ck_ M v1 1).bind fun u2 =>
  (fX2_isStroke M v1 a1).bind fun r3 =>
  if (b2_ r3) = 0 then
    some (false, M)
  else
    lt_ (fX1_isCell a2) fun r4 =>
    if (b2_ r4) = 0 then
      some (false, M)
    else
      (gR_ M a0 0 2).bind fun v5 =>
      (fX1_canHit M v5).bind fun r6 =>
      if (b2_ r6) = 0 then
        some (false, M)
      else
        (gR_ M a0 0 2).bind fun v7 =>
        (ck_ M v7 1).bind fun u8 =>
        bw_ (fX2_hits M v7 a1 a2) fun r9 M10 =>
        some (true, M10)
theorem kdX1_comesHit : yX1_comesHit.cls ≠ "java/lang/invoke/MethodHandle" ∧ yX1_comesHit.cls ≠ "java/lang/invoke/VarHandle" ∧ (parseMethodDescriptor yX1_comesHit.desc).map (fun d => d.parameters.length) = some 2 := by decide +kernel
set_option maxHeartbeats 4000000 in
theorem mX1_comesHit (l : Launch) (G : GT_) (M : Mem_) (n : Nat) (a0 : Nat) (a1 : Int32) (a2 : Int32) (r : Bool) (M1 : Mem_) (hf : fX1_comesHit M a0 a1 a2 = some (r, M1)) : Ct_ G l yX1_comesHit (ws_ yX1_comesHit cX1_comesHit 3 (some .boolean)) ({ frames := 4, cells := 0, slots := 0, locals := 100 }) 0 0 [.ref a0, .int a1, .int a2] M n (some (.int (b2_ r))) M1 n := by
  refine en_ (by decide) (Nat.le_of_ble_eq_true rfl) ?_
  intro p e s m below meth c hx hb hr hlk hml hown hts hname hKn hH ls hl
  have hown : s.vm.findClass RX1 = some m.cls := hown
  have hl : lv_has ls 3 [(0, .ref a0), (1, .int a1), (2, .int a2)] := hl
  unfold fX1_comesHit at hf
  generalize s.heap = H at hH ⊢
  refine lv_aload_n hx hb dX1_comesHit_0 rfl (lv_at hl 0 rfl) ?_
  obtain ⟨v1, ev1, hf⟩ := bs_ hf
  refine mg_gR hx hb hts hown hKn hH ev1 in_X1 rfl (by decide) (hts _ q939) (fun _ h9 => h9) dX1_comesHit_1 ?_
  refine lv_iload_n hx hb dX1_comesHit_4 rfl (lv_at hl 1 rfl) ?_
  obtain ⟨u2, eu2, hf⟩ := bs_ hf
  obtain ⟨r3, er3, hf⟩ := bs_ hf
  refine cl_i0 hH (rn_V ⟨hx, hb, hml, hown, hts⟩ hKn hH (mX2_isStroke l G M n v1 a1 r3 er3) (cwV 1 hts (lw_V q400 q401 q402 q68 q403) rfl rfl rfl ⟨rfl, kdX2_isStroke⟩ ⟨Nat.le_of_ble_eq_true rfl, Nat.le_of_ble_eq_true rfl⟩) eu2 rfl rfl hl.1 (Nat.le_of_ble_eq_true rfl) dX1_comesHit_5 ⟨(Nat.le_of_ble_eq_true rfl), (Nat.le_of_ble_eq_true rfl)⟩ rfl) (fun H locs hH => ?_)
  refine lv_if_eq (tgt := 28) hx hb dX1_comesHit_8 (by decide) (fun c13 => ?_) (fun c13 => ?_)
  · have hf := ip_ c13 hf
    refine lv_iconst (v := 0) hx hb dX1_comesHit_28 (by decide) ?_
    cases hf
    exact rt_b (b := false) hx hb hr hlk hH dX1_comesHit_29
  · have hf := in_ c13 hf
    refine lv_iload_n hx hb dX1_comesHit_11 rfl (lv_at hl 2 rfl) ?_
    obtain ⟨r4, er4⟩ : ∃ z, z = fX1_isCell a2 := ⟨_, rfl⟩
    have hf := lu_ er4 hf
    refine cl_i0 hH (rn_S ⟨hx, hb, hml, hown, hts⟩ hKn hH (mX1_isCell l G M n a2 r4 er4.symm) (va_cwS 1 hts (lw_S q405 q406 q67 q407) rfl rfl rfl kdX1_isCell ⟨Nat.le_of_ble_eq_true rfl, Nat.le_of_ble_eq_true rfl⟩) rfl hl.1 (Nat.le_of_ble_eq_true rfl) dX1_comesHit_12 ⟨(Nat.le_of_ble_eq_true rfl), (Nat.le_of_ble_eq_true rfl)⟩ rfl) (fun H locs hH => ?_)
    refine lv_if_eq (tgt := 28) hx hb dX1_comesHit_15 (by decide) (fun c12 => ?_) (fun c12 => ?_)
    · have hf := ip_ c12 hf
      refine lv_iconst (v := 0) hx hb dX1_comesHit_28 (by decide) ?_
      cases hf
      exact rt_b (b := false) hx hb hr hlk hH dX1_comesHit_29
    · have hf := in_ c12 hf
      refine lv_aload_n hx hb dX1_comesHit_18 rfl (lv_at hl 0 rfl) ?_
      obtain ⟨v5, ev5, hf⟩ := bs_ hf
      refine mg_gR hx hb hts hown hKn hH ev5 in_X1 rfl (by decide) (hts _ q939) (fun _ h9 => h9) dX1_comesHit_19 ?_
      obtain ⟨r6, er6, hf⟩ := bs_ hf
      refine cl_i0 hH (rn_S ⟨hx, hb, hml, hown, hts⟩ hKn hH (mX1_canHit l G M n v5 r6 er6) (va_cwS 1 hts (lw_S q408 q409 q67 q410) rfl rfl rfl kdX1_canHit ⟨Nat.le_of_ble_eq_true rfl, Nat.le_of_ble_eq_true rfl⟩) rfl hl.1 (Nat.le_of_ble_eq_true rfl) dX1_comesHit_22 ⟨(Nat.le_of_ble_eq_true rfl), (Nat.le_of_ble_eq_true rfl)⟩ rfl) (fun H locs hH => ?_)
      refine lv_if_ne (tgt := 30) hx hb dX1_comesHit_25 (by decide) (fun c11 => ?_) (fun c11 => ?_)
      · have hf := in_ c11 hf
        refine lv_aload_n hx hb dX1_comesHit_30 rfl (lv_at hl 0 rfl) ?_
        obtain ⟨v7, ev7, hf⟩ := bs_ hf
        refine mg_gR hx hb hts hown hKn hH ev7 in_X1 rfl (by decide) (hts _ q939) (fun _ h9 => h9) dX1_comesHit_31 ?_
        refine lv_iload_n hx hb dX1_comesHit_34 rfl (lv_at hl 1 rfl) ?_
        refine lv_iload_n hx hb dX1_comesHit_35 rfl (lv_at hl 2 rfl) ?_
        obtain ⟨u8, eu8, hf⟩ := bs_ hf
        obtain ⟨r9, M10, er9, hf⟩ := bws_ hf
        refine cl_i0 hH (rn_V ⟨hx, hb, hml, hown, hts⟩ hKn hH (mX2_hits l G M n v7 a1 a2 r9 M10 er9) (cwV 2 hts (lw_V q411 q412 q413 q68 q414) rfl rfl rfl ⟨rfl, kdX2_hits⟩ ⟨Nat.le_of_ble_eq_true rfl, Nat.le_of_ble_eq_true rfl⟩) eu8 rfl rfl hl.1 (Nat.le_of_ble_eq_true rfl) dX1_comesHit_36 ⟨(Nat.le_of_ble_eq_true rfl), (Nat.le_of_ble_eq_true rfl)⟩ rfl) (fun H locs hH => ?_)
        refine lv_pop hx hb dX1_comesHit_39 rfl ?_
        refine lv_iconst (v := 1) hx hb dX1_comesHit_40 (by decide) ?_
        cases hf
        exact rt_b (b := true) hx hb hr hlk hH dX1_comesHit_41
      · have hf := ip_ c11 hf
        refine lv_iconst (v := 0) hx hb dX1_comesHit_28 (by decide) ?_
        cases hf
        exact rt_b (b := false) hx hb hr hlk hH dX1_comesHit_29
def fX1_isPlayer (a0 : Int32) : Bool :=
  lt_ (fX1_isIn a0 0 3) fun r1 =>
  r1
theorem kdX1_isPlayer : yX1_isPlayer.cls ≠ "java/lang/invoke/MethodHandle" ∧ yX1_isPlayer.cls ≠ "java/lang/invoke/VarHandle" ∧ (parseMethodDescriptor yX1_isPlayer.desc).map (fun d => d.parameters.length) = some 1 := by decide +kernel
set_option maxHeartbeats 4000000 in
theorem mX1_isPlayer (l : Launch) (G : GT_) (M : Mem_) (n : Nat) (a0 : Int32) (r : Bool) (hf : fX1_isPlayer a0 = r) : Ct_ G l yX1_isPlayer (ws_ yX1_isPlayer cX1_isPlayer 1 (some .boolean)) ({ frames := 1, cells := 0, slots := 0, locals := 22 }) 0 0 [.int a0] M n (some (.int (b2_ r))) M n := by
  refine en_ (by decide) (Nat.le_of_ble_eq_true rfl) ?_
  intro p e s m below meth c hx hb hr hlk hml hown hts hname hKn hH ls hl
  have hown : s.vm.findClass RX1 = some m.cls := hown
  have hl : lv_has ls 1 [(0, .int a0)] := hl
  unfold fX1_isPlayer at hf
  generalize s.heap = H at hH ⊢
  refine lv_iload_n hx hb dX1_isPlayer_0 rfl (lv_at hl 0 rfl) ?_
  refine lv_iconst (v := 0) hx hb dX1_isPlayer_1 (by decide) ?_
  refine lv_iconst (v := 3) hx hb dX1_isPlayer_2 (by decide) ?_
  obtain ⟨r1, er1⟩ : ∃ z, z = fX1_isIn a0 0 3 := ⟨_, rfl⟩
  have hf := lu_ er1 hf
  refine cl_i0 hH (rn_S ⟨hx, hb, hml, hown, hts⟩ hKn hH (mX1_isIn l G M n a0 0 3 r1 er1.symm) (va_cwS 3 hts (lw_S q199 q200 q67 q201) rfl rfl rfl kdX1_isIn ⟨Nat.le_of_ble_eq_true rfl, Nat.le_of_ble_eq_true rfl⟩) rfl hl.1 (Nat.le_of_ble_eq_true rfl) dX1_isPlayer_3 ⟨(Nat.le_of_ble_eq_true rfl), (Nat.le_of_ble_eq_true rfl)⟩ rfl) (fun H locs hH => ?_)
  subst hf
  exact rt_b (b := _) hx hb hr hlk hH dX1_isPlayer_6
def fX1_comesPlace (M : Mem_) (a0 : Nat) (a1 : Int32) (a2 : Int32) (a3 : Int32) : Option (Bool × Mem_) :=
  lt_ (fX1_isCell a2) fun r1 =>
  if (b2_ r1) = 0 then
    some (false, M)
  else
    lt_ (fX1_isIn a3 1 4) fun r2 =>
    if (b2_ r2) = 0 then
      some (false, M)
    else
      (gR_ M a0 0 2).bind fun v3 =>
      (gR_ M v3 1 1).bind fun v4 =>
      (sI_ M v4 0 a1 a2).bind fun M5 =>
      (gR_ M5 a0 0 2).bind fun v6 =>
      (gR_ M5 v6 1 2).bind fun v7 =>
      (sI_ M5 v7 0 a1 a3).bind fun M8 =>
      some (true, M8)
theorem kdX1_comesPlace : yX1_comesPlace.cls ≠ "java/lang/invoke/MethodHandle" ∧ yX1_comesPlace.cls ≠ "java/lang/invoke/VarHandle" ∧ (parseMethodDescriptor yX1_comesPlace.desc).map (fun d => d.parameters.length) = some 3 := by decide +kernel
set_option maxHeartbeats 4000000 in
theorem mX1_comesPlace (l : Launch) (G : GT_) (M : Mem_) (n : Nat) (a0 : Nat) (a1 : Int32) (a2 : Int32) (a3 : Int32) (r : Bool) (M1 : Mem_) (hf : fX1_comesPlace M a0 a1 a2 a3 = some (r, M1)) : Ct_ G l yX1_comesPlace (ws_ yX1_comesPlace cX1_comesPlace 4 (some .boolean)) ({ frames := 2, cells := 0, slots := 0, locals := 42 }) 0 0 [.ref a0, .int a1, .int a2, .int a3] M n (some (.int (b2_ r))) M1 n := by
  refine en_ (by decide) (Nat.le_of_ble_eq_true rfl) ?_
  intro p e s m below meth c hx hb hr hlk hml hown hts hname hKn hH ls hl
  have hown : s.vm.findClass RX1 = some m.cls := hown
  have hl : lv_has ls 4 [(0, .ref a0), (1, .int a1), (2, .int a2), (3, .int a3)] := hl
  unfold fX1_comesPlace at hf
  generalize s.heap = H at hH ⊢
  refine lv_iload_n hx hb dX1_comesPlace_0 rfl (lv_at hl 2 rfl) ?_
  obtain ⟨r1, er1⟩ : ∃ z, z = fX1_isCell a2 := ⟨_, rfl⟩
  have hf := lu_ er1 hf
  refine cl_i0 hH (rn_S ⟨hx, hb, hml, hown, hts⟩ hKn hH (mX1_isCell l G M n a2 r1 er1.symm) (va_cwS 1 hts (lw_S q405 q406 q67 q407) rfl rfl rfl kdX1_isCell ⟨Nat.le_of_ble_eq_true rfl, Nat.le_of_ble_eq_true rfl⟩) rfl hl.1 (Nat.le_of_ble_eq_true rfl) dX1_comesPlace_1 ⟨(Nat.le_of_ble_eq_true rfl), (Nat.le_of_ble_eq_true rfl)⟩ rfl) (fun H locs hH => ?_)
  refine lv_if_eq (tgt := 16) hx hb dX1_comesPlace_4 (by decide) (fun c10 => ?_) (fun c10 => ?_)
  · have hf := ip_ c10 hf
    refine lv_iconst (v := 0) hx hb dX1_comesPlace_16 (by decide) ?_
    cases hf
    exact rt_b (b := false) hx hb hr hlk hH dX1_comesPlace_17
  · have hf := in_ c10 hf
    refine lv_iload_n hx hb dX1_comesPlace_7 rfl (lv_at hl 3 rfl) ?_
    refine lv_iconst (v := 1) hx hb dX1_comesPlace_8 (by decide) ?_
    refine lv_iconst (v := 4) hx hb dX1_comesPlace_9 (by decide) ?_
    obtain ⟨r2, er2⟩ : ∃ z, z = fX1_isIn a3 1 4 := ⟨_, rfl⟩
    have hf := lu_ er2 hf
    refine cl_i0 hH (rn_S ⟨hx, hb, hml, hown, hts⟩ hKn hH (mX1_isIn l G M n a3 1 4 r2 er2.symm) (va_cwS 3 hts (lw_S q199 q200 q67 q201) rfl rfl rfl kdX1_isIn ⟨Nat.le_of_ble_eq_true rfl, Nat.le_of_ble_eq_true rfl⟩) rfl hl.1 (Nat.le_of_ble_eq_true rfl) dX1_comesPlace_10 ⟨(Nat.le_of_ble_eq_true rfl), (Nat.le_of_ble_eq_true rfl)⟩ rfl) (fun H locs hH => ?_)
    refine lv_if_ne (tgt := 18) hx hb dX1_comesPlace_13 (by decide) (fun c9 => ?_) (fun c9 => ?_)
    · have hf := in_ c9 hf
      refine lv_aload_n hx hb dX1_comesPlace_18 rfl (lv_at hl 0 rfl) ?_
      obtain ⟨v3, ev3, hf⟩ := bs_ hf
      refine mg_gR hx hb hts hown hKn hH ev3 in_X1 rfl (by decide) (hts _ q939) (fun _ h9 => h9) dX1_comesPlace_19 ?_
      obtain ⟨v4, ev4, hf⟩ := bs_ hf
      refine mg_gR hx hb hts hown hKn hH ev4 in_X2 rfl (by decide) (hts _ q874) (fun _ h9 => h9) dX1_comesPlace_22 ?_
      refine lv_iload_n hx hb dX1_comesPlace_25 rfl (lv_at hl 1 rfl) ?_
      refine lv_iload_n hx hb dX1_comesPlace_26 rfl (lv_at hl 2 rfl) ?_
      obtain ⟨M5, eM5, hf⟩ := bs_ hf
      refine mg_iast hx hb hKn hH eM5 dX1_comesPlace_27 (fun H locs hH => ?_)
      refine lv_aload_n hx hb dX1_comesPlace_28 rfl (lv_at hl 0 rfl) ?_
      obtain ⟨v6, ev6, hf⟩ := bs_ hf
      refine mg_gR hx hb hts hown hKn hH ev6 in_X1 rfl (by decide) (hts _ q939) (fun _ h9 => h9) dX1_comesPlace_29 ?_
      obtain ⟨v7, ev7, hf⟩ := bs_ hf
      refine mg_gR hx hb hts hown hKn hH ev7 in_X2 rfl (by decide) (hts _ q876) (fun _ h9 => h9) dX1_comesPlace_32 ?_
      refine lv_iload_n hx hb dX1_comesPlace_35 rfl (lv_at hl 1 rfl) ?_
      refine lv_iload_n hx hb dX1_comesPlace_36 rfl (lv_at hl 3 rfl) ?_
      obtain ⟨M8, eM8, hf⟩ := bs_ hf
      refine mg_iast hx hb hKn hH eM8 dX1_comesPlace_37 (fun H locs hH => ?_)
      refine lv_iconst (v := 1) hx hb dX1_comesPlace_38 (by decide) ?_
      cases hf
      exact rt_b (b := true) hx hb hr hlk hH dX1_comesPlace_39
    · have hf := ip_ c9 hf
      refine lv_iconst (v := 0) hx hb dX1_comesPlace_16 (by decide) ?_
      cases hf
      exact rt_b (b := false) hx hb hr hlk hH dX1_comesPlace_17
def fX1_comesPlayer (M : Mem_) (a0 : Nat) (a1 : Nat) : Option (Bool × Mem_) :=
  (gR_ M a1 5 2).bind fun v1 =>
  (aI_ M v1 0 0).bind fun v2 =>
  lt_ (fX1_isPlayer v2) fun r3 =>
  if (b2_ r3) = 0 then
    some (false, M)
  else
    (gI_ M a1 5 0).bind fun v4 =>
    if v4 = 116 then
      (gR_ M a0 0 2).bind fun v18 =>
      (gR_ M v18 1 3).bind fun v19 =>
      (aI_ M v1 0 0).bind fun v20 =>
      (aI_ M v1 0 1).bind fun v21 =>
      (sI_ M v19 0 v20 v21).bind fun M22 =>
      some (true, M22)
    else
      (gI_ M a1 5 0).bind fun v5 =>
      if v5 = 108 then
        (gR_ M a0 0 2).bind fun v12 =>
        (gI_ M v12 1 8).bind fun v13 =>
        (aI_ M v1 0 0).bind fun v14 =>
        lt_ ((v13 ^^^ (1 <<< (v14 &&& 31)))) fun v15 =>
        (pF_ M v12 1 8 (.int v15)).bind fun M16 =>
        some (true, M16)
      else
        (aI_ M v1 0 0).bind fun v6 =>
        (aI_ M v1 0 1).bind fun v7 =>
        (aI_ M v1 0 2).bind fun v8 =>
        (ck_ M a0 0).bind fun u9 =>
        bw_ (fX1_comesPlace M a0 v6 v7 v8) fun r10 M11 =>
        some (r10, M11)
theorem kdX1_comesPlayer : yX1_comesPlayer.cls ≠ "java/lang/invoke/MethodHandle" ∧ yX1_comesPlayer.cls ≠ "java/lang/invoke/VarHandle" ∧ (parseMethodDescriptor yX1_comesPlayer.desc).map (fun d => d.parameters.length) = some 1 := by decide +kernel
set_option maxHeartbeats 4000000 in
theorem mX1_comesPlayer (l : Launch) (G : GT_) (M : Mem_) (n : Nat) (a0 : Nat) (a1 : Nat) (r : Bool) (M1 : Mem_) (hf : fX1_comesPlayer M a0 a1 = some (r, M1)) : Ct_ G l yX1_comesPlayer (ws_ yX1_comesPlayer cX1_comesPlayer 3 (some .boolean)) ({ frames := 3, cells := 0, slots := 0, locals := 65 }) 0 0 [.ref a0, .ref a1] M n (some (.int (b2_ r))) M1 n := by
  refine en_ (by decide) (Nat.le_of_ble_eq_true rfl) ?_
  intro p e s m below meth c hx hb hr hlk hml hown hts hname hKn hH ls hl
  have hown : s.vm.findClass RX1 = some m.cls := hown
  have hl : lv_has ls 3 [(0, .ref a0), (1, .ref a1)] := hl
  unfold fX1_comesPlayer at hf
  generalize s.heap = H at hH ⊢
  refine lv_aload_n hx hb dX1_comesPlayer_0 rfl (lv_at hl 1 rfl) ?_
  obtain ⟨v1, ev1, hf⟩ := bs_ hf
  refine mg_gR hx hb hts hown hKn hH ev1 in_X6 rfl (by decide) (hts _ q244) (fun _ h9 => h9) dX1_comesPlayer_1 ?_
  refine lv_astore_n (lv' := [(2, .ref v1), (0, .ref a0), (1, .ref a1)]) hx hb dX1_comesPlayer_4 rfl hl (by decide) rfl (fun ls hl => ?_)
  refine lv_aload_n hx hb dX1_comesPlayer_5 rfl (lv_at hl 0 rfl) ?_
  refine lv_iconst (v := 0) hx hb dX1_comesPlayer_6 (by decide) ?_
  obtain ⟨v2, ev2, hf⟩ := bs_ hf
  refine mg_iald hx hb hKn hH ev2 dX1_comesPlayer_7 ?_
  obtain ⟨r3, er3⟩ : ∃ z, z = fX1_isPlayer v2 := ⟨_, rfl⟩
  have hf := lu_ er3 hf
  refine cl_i0 hH (rn_S ⟨hx, hb, hml, hown, hts⟩ hKn hH (mX1_isPlayer l G M n v2 r3 er3.symm) (va_cwS 1 hts (lw_S q563 q564 q67 q565) rfl rfl rfl kdX1_isPlayer ⟨Nat.le_of_ble_eq_true rfl, Nat.le_of_ble_eq_true rfl⟩) rfl hl.1 (Nat.le_of_ble_eq_true rfl) dX1_comesPlayer_8 ⟨(Nat.le_of_ble_eq_true rfl), (Nat.le_of_ble_eq_true rfl)⟩ rfl) (fun H locs hH => ?_)
  refine lv_if_ne (tgt := 16) hx hb dX1_comesPlayer_11 (by decide) (fun c24 => ?_) (fun c24 => ?_)
  · have hf := in_ c24 hf
    refine lv_aload_n hx hb dX1_comesPlayer_16 rfl (lv_at hl 2 rfl) ?_
    obtain ⟨v4, ev4, hf⟩ := bs_ hf
    refine mg_gI hx hb hts hown hKn hH ev4 in_X6 rfl (by decide) (hts _ q240) (fun _ h9 => h9) dX1_comesPlayer_17 ?_
    refine lv_bipush (v := 116) hx hb dX1_comesPlayer_20 (by decide) ?_
    refine lv_icmp_ne (tgt := 42) hx hb dX1_comesPlayer_22 (by decide) (fun c23 => ?_) (fun c23 => ?_)
    · have hf := in_ c23 hf
      refine lv_aload_n hx hb dX1_comesPlayer_42 rfl (lv_at hl 2 rfl) ?_
      obtain ⟨v5, ev5, hf⟩ := bs_ hf
      refine mg_gI hx hb hts hown hKn hH ev5 in_X6 rfl (by decide) (hts _ q240) (fun _ h9 => h9) dX1_comesPlayer_43 ?_
      refine lv_bipush (v := 108) hx hb dX1_comesPlayer_46 (by decide) ?_
      refine lv_icmp_ne (tgt := 71) hx hb dX1_comesPlayer_48 (by decide) (fun c17 => ?_) (fun c17 => ?_)
      · have hf := in_ c17 hf
        refine lv_aload_n hx hb dX1_comesPlayer_71 rfl (lv_at hl 1 rfl) ?_
        refine lv_aload_n hx hb dX1_comesPlayer_72 rfl (lv_at hl 0 rfl) ?_
        refine lv_iconst (v := 0) hx hb dX1_comesPlayer_73 (by decide) ?_
        obtain ⟨v6, ev6, hf⟩ := bs_ hf
        refine mg_iald hx hb hKn hH ev6 dX1_comesPlayer_74 ?_
        refine lv_aload_n hx hb dX1_comesPlayer_75 rfl (lv_at hl 0 rfl) ?_
        refine lv_iconst (v := 1) hx hb dX1_comesPlayer_76 (by decide) ?_
        obtain ⟨v7, ev7, hf⟩ := bs_ hf
        refine mg_iald hx hb hKn hH ev7 dX1_comesPlayer_77 ?_
        refine lv_aload_n hx hb dX1_comesPlayer_78 rfl (lv_at hl 0 rfl) ?_
        refine lv_iconst (v := 2) hx hb dX1_comesPlayer_79 (by decide) ?_
        obtain ⟨v8, ev8, hf⟩ := bs_ hf
        refine mg_iald hx hb hKn hH ev8 dX1_comesPlayer_80 ?_
        obtain ⟨u9, eu9, hf⟩ := bs_ hf
        obtain ⟨r10, M11, er10, hf⟩ := bws_ hf
        refine cl_i0 hH (rn_V ⟨hx, hb, hml, hown, hts⟩ hKn hH (mX1_comesPlace l G M n a0 v6 v7 v8 r10 M11 er10) (cwV 3 hts (lw_V q566 q568 qs19 q67 q569) rfl rfl rfl ⟨rfl, kdX1_comesPlace⟩ ⟨Nat.le_of_ble_eq_true rfl, Nat.le_of_ble_eq_true rfl⟩) eu9 rfl rfl hl.1 (Nat.le_of_ble_eq_true rfl) dX1_comesPlayer_81 ⟨(Nat.le_of_ble_eq_true rfl), (Nat.le_of_ble_eq_true rfl)⟩ rfl) (fun H locs hH => ?_)
        cases hf
        exact rt_b (b := _) hx hb hr hlk hH dX1_comesPlayer_84
      · have hf := ip_ c17 hf
        refine lv_aload_n hx hb dX1_comesPlayer_51 rfl (lv_at hl 1 rfl) ?_
        obtain ⟨v12, ev12, hf⟩ := bs_ hf
        refine mg_gR hx hb hts hown hKn hH ev12 in_X1 rfl (by decide) (hts _ q939) (fun _ h9 => h9) dX1_comesPlayer_52 ?_
        refine lv_dup hx hb dX1_comesPlayer_55 rfl ?_
        obtain ⟨v13, ev13, hf⟩ := bs_ hf
        refine mg_gI hx hb hts hown hKn hH ev13 in_X2 rfl (by decide) (hts _ q888) (fun _ h9 => h9) dX1_comesPlayer_56 ?_
        refine lv_iconst (v := 1) hx hb dX1_comesPlayer_59 (by decide) ?_
        refine lv_aload_n hx hb dX1_comesPlayer_60 rfl (lv_at hl 0 rfl) ?_
        refine lv_iconst (v := 0) hx hb dX1_comesPlayer_61 (by decide) ?_
        obtain ⟨v14, ev14, hf⟩ := bs_ hf
        refine mg_iald hx hb hKn hH ev14 dX1_comesPlayer_62 ?_
        refine lv_ishl hx hb dX1_comesPlayer_63 ?_
        refine lv_ixor hx hb dX1_comesPlayer_64 ?_
        refine lv_topi (fun v15 ev15 => ?_)
        have hf := lu_ ev15 hf
        obtain ⟨M16, eM16, hf⟩ := bs_ hf
        refine mg_pF hx hb hts hown hKn hH eM16 in_X2 tyX2_ok nmX2 rfl (by decide) (hts _ q888) (fun _ h9 => h9) rfl rfl rfl dX1_comesPlayer_65 (fun H locs hH => ?_)
        refine lv_goto (tgt := 85) hx hb dX1_comesPlayer_68 (by decide) ?_
        refine lv_iconst (v := 1) hx hb dX1_comesPlayer_85 (by decide) ?_
        cases hf
        exact rt_b (b := true) hx hb hr hlk hH dX1_comesPlayer_86
    · have hf := ip_ c23 hf
      refine lv_aload_n hx hb dX1_comesPlayer_25 rfl (lv_at hl 1 rfl) ?_
      obtain ⟨v18, ev18, hf⟩ := bs_ hf
      refine mg_gR hx hb hts hown hKn hH ev18 in_X1 rfl (by decide) (hts _ q939) (fun _ h9 => h9) dX1_comesPlayer_26 ?_
      obtain ⟨v19, ev19, hf⟩ := bs_ hf
      refine mg_gR hx hb hts hown hKn hH ev19 in_X2 rfl (by decide) (hts _ q878) (fun _ h9 => h9) dX1_comesPlayer_29 ?_
      refine lv_aload_n hx hb dX1_comesPlayer_32 rfl (lv_at hl 0 rfl) ?_
      refine lv_iconst (v := 0) hx hb dX1_comesPlayer_33 (by decide) ?_
      obtain ⟨v20, ev20, hf⟩ := bs_ hf
      refine mg_iald hx hb hKn hH ev20 dX1_comesPlayer_34 ?_
      refine lv_aload_n hx hb dX1_comesPlayer_35 rfl (lv_at hl 0 rfl) ?_
      refine lv_iconst (v := 1) hx hb dX1_comesPlayer_36 (by decide) ?_
      obtain ⟨v21, ev21, hf⟩ := bs_ hf
      refine mg_iald hx hb hKn hH ev21 dX1_comesPlayer_37 ?_
      obtain ⟨M22, eM22, hf⟩ := bs_ hf
      refine mg_iast hx hb hKn hH eM22 dX1_comesPlayer_38 (fun H locs hH => ?_)
      refine lv_goto (tgt := 85) hx hb dX1_comesPlayer_39 (by decide) ?_
      refine lv_iconst (v := 1) hx hb dX1_comesPlayer_85 (by decide) ?_
      cases hf
      exact rt_b (b := true) hx hb hr hlk hH dX1_comesPlayer_86
  · have hf := ip_ c24 hf
    refine lv_iconst (v := 0) hx hb dX1_comesPlayer_14 (by decide) ?_
    cases hf
    exact rt_b (b := false) hx hb hr hlk hH dX1_comesPlayer_15
def fX1_comes (M : Mem_) (n : Nat) (a0 : Nat) (a1 : Nat) : Option (Bool × Mem_ × Nat) :=
  (gR_ M a1 5 2).bind fun v1 =>
  (gI_ M a1 5 0).bind fun v2 =>
  if v2 = 98 then
    (aI_ M v1 0 0).bind fun v4 =>
    if 8 ≤ v4 then
      some (false, M, n)
    else
      (gR_ M a0 0 2).bind fun v5 =>
      (gI_ M v5 1 9).bind fun v6 =>
      if v6 = 8 then
        some (false, M, n)
      else
        (gR_ M a0 0 2).bind fun v7 =>
        (aI_ M v1 0 0).bind fun v8 =>
        (aI_ M v1 0 1).bind fun v9 =>
        ba_ (fX1_strokeOf M n v8 v9) fun r10 M11 n12 =>
        (ck_ M11 v7 1).bind fun u13 =>
        bw_ (fX2_learns M11 v7 r10) fun r14 M15 =>
        some (true, M15, n12)
  else
    if v2 = 100 then
      (gR_ M a0 0 2).bind fun v19 =>
      (aI_ M v1 0 0).bind fun v20 =>
      lt_ ((v20 - 1)) fun v21 =>
      (pF_ M v19 1 11 (.int v21)).bind fun M22 =>
      (aI_ M22 v1 0 0).bind fun v23 =>
      if 2 < v23 then
        some (false, M22, n)
      else
        some (true, M22, n)
    else
      if v2 = 102 then
        (aI_ M v1 0 0).bind fun v26 =>
        if 1 < v26 then
          some (false, M, n)
        else
          (aI_ M v1 0 1).bind fun v27 =>
          if v27 ≤ 1 then
            (gR_ M a0 0 2).bind fun v28 =>
            (gR_ M v28 1 4).bind fun v29 =>
            (aI_ M v1 0 0).bind fun v30 =>
            (aI_ M v1 0 1).bind fun v31 =>
            (sI_ M v29 0 v30 v31).bind fun M32 =>
            some (true, M32, n)
          else
            some (false, M, n)
      else
        if v2 = 104 then
          (aI_ M v1 0 0).bind fun v36 =>
          if 1 < v36 then
            some (false, M, n)
          else
            (aI_ M v1 0 1).bind fun v37 =>
            if v37 ≤ 3 then
              (gR_ M a0 0 2).bind fun v38 =>
              (gR_ M v38 1 5).bind fun v39 =>
              (aI_ M v1 0 0).bind fun v40 =>
              (aI_ M v1 0 1).bind fun v41 =>
              (sI_ M v39 0 v40 v41).bind fun M42 =>
              some (true, M42, n)
            else
              some (false, M, n)
        else
          if v2 = 120 then
            (aI_ M v1 0 0).bind fun v46 =>
            (aI_ M v1 0 1).bind fun v47 =>
            (ck_ M a0 0).bind fun u48 =>
            bw_ (fX1_comesHit M a0 v46 v47) fun r49 M50 =>
            some (r49, M50, n)
          else
            (ck_ M a0 0).bind fun u51 =>
            bw_ (fX1_comesPlayer M a0 a1) fun r52 M53 =>
            some (r52, M53, n)
theorem kdX1_comes : yX1_comes.cls ≠ "java/lang/invoke/MethodHandle" ∧ yX1_comes.cls ≠ "java/lang/invoke/VarHandle" ∧ (parseMethodDescriptor yX1_comes.desc).map (fun d => d.parameters.length) = some 1 := by decide +kernel
set_option maxHeartbeats 4000000 in
theorem mX1_comes (l : Launch) (G : GT_) (M : Mem_) (n : Nat) (a0 : Nat) (a1 : Nat) (r : Bool) (M1 : Mem_) (n1 : Nat) (hf : fX1_comes M n a0 a1 = some (r, M1, n1)) : Ct_ G l yX1_comes (ws_ yX1_comes cX1_comes 3 (some .boolean)) ({ frames := 5, cells := 1, slots := 1, locals := 122 }) 1 1 [.ref a0, .ref a1] M n (some (.int (b2_ r))) M1 n1 := by
  refine en_ (by decide) (Nat.le_of_ble_eq_true rfl) ?_
  intro p e s m below meth c hx hb hr hlk hml hown hts hname hKn hH ls hl
  have hown : s.vm.findClass RX1 = some m.cls := hown
  have hl : lv_has ls 3 [(0, .ref a0), (1, .ref a1)] := hl
  unfold fX1_comes at hf
  generalize s.heap = H at hH ⊢
  refine lv_aload_n hx hb dX1_comes_0 rfl (lv_at hl 1 rfl) ?_
  obtain ⟨v1, ev1, hf⟩ := bs_ hf
  refine mg_gR hx hb hts hown hKn hH ev1 in_X6 rfl (by decide) (hts _ q244) (fun _ h9 => h9) dX1_comes_1 ?_
  refine lv_astore_n (lv' := [(2, .ref v1), (0, .ref a0), (1, .ref a1)]) hx hb dX1_comes_4 rfl hl (by decide) rfl (fun ls hl => ?_)
  refine lv_aload_n hx hb dX1_comes_5 rfl (lv_at hl 2 rfl) ?_
  obtain ⟨v2, ev2, hf⟩ := bs_ hf
  refine mg_gI hx hb hts hown hKn hH ev2 in_X6 rfl (by decide) (hts _ q240) (fun _ h9 => h9) dX1_comes_6 ?_
  by_cases c3 : v2 = 98
  · have hf := ip_ c3 hf
    refine sw_L (off := 51) (tgt := 60) hx hb dX1_comes_9 c3 (by decide) (by decide) (by decide) ?_
    refine lv_aload_n hx hb dX1_comes_60 rfl (lv_at hl 0 rfl) ?_
    refine lv_iconst (v := 0) hx hb dX1_comes_61 (by decide) ?_
    obtain ⟨v4, ev4, hf⟩ := bs_ hf
    refine mg_iald hx hb hKn hH ev4 dX1_comes_62 ?_
    refine lv_bipush (v := 8) hx hb dX1_comes_63 (by decide) ?_
    refine lv_icmp_ge (tgt := 80) hx hb dX1_comes_65 (by decide) (fun c17 => ?_) (fun c17 => ?_)
    · have hf := ip_ c17 hf
      refine lv_iconst (v := 0) hx hb dX1_comes_80 (by decide) ?_
      cases hf
      refine W.widen (k := 1) (n := 1) (Nat.le_of_ble_eq_true rfl) (Nat.le_of_ble_eq_true rfl) ?_
      exact rt_b (b := false) hx hb hr hlk hH dX1_comes_81
    · have hf := in_ c17 hf
      refine lv_aload_n hx hb dX1_comes_68 rfl (lv_at hl 1 rfl) ?_
      obtain ⟨v5, ev5, hf⟩ := bs_ hf
      refine mg_gR hx hb hts hown hKn hH ev5 in_X1 rfl (by decide) (hts _ q939) (fun _ h9 => h9) dX1_comes_69 ?_
      obtain ⟨v6, ev6, hf⟩ := bs_ hf
      refine mg_gI hx hb hts hown hKn hH ev6 in_X2 rfl (by decide) (hts _ q890) (fun _ h9 => h9) dX1_comes_72 ?_
      refine lv_bipush (v := 8) hx hb dX1_comes_75 (by decide) ?_
      refine lv_icmp_ne (tgt := 82) hx hb dX1_comes_77 (by decide) (fun c16 => ?_) (fun c16 => ?_)
      · have hf := in_ c16 hf
        refine lv_aload_n hx hb dX1_comes_82 rfl (lv_at hl 1 rfl) ?_
        obtain ⟨v7, ev7, hf⟩ := bs_ hf
        refine mg_gR hx hb hts hown hKn hH ev7 in_X1 rfl (by decide) (hts _ q939) (fun _ h9 => h9) dX1_comes_83 ?_
        refine lv_aload_n hx hb dX1_comes_86 rfl (lv_at hl 0 rfl) ?_
        refine lv_iconst (v := 0) hx hb dX1_comes_87 (by decide) ?_
        obtain ⟨v8, ev8, hf⟩ := bs_ hf
        refine mg_iald hx hb hKn hH ev8 dX1_comes_88 ?_
        refine lv_aload_n hx hb dX1_comes_89 rfl (lv_at hl 0 rfl) ?_
        refine lv_iconst (v := 1) hx hb dX1_comes_90 (by decide) ?_
        obtain ⟨v9, ev9, hf⟩ := bs_ hf
        refine mg_iald hx hb hKn hH ev9 dX1_comes_91 ?_
        obtain ⟨r10, M11, n12, er10, hf⟩ := bas_ hf
        refine cl_r hH (rn_S ⟨hx, hb, hml, hown, hts⟩ hKn hH (mX1_strokeOf l G M n v8 v9 r10 M11 n12 er10) (va_cwS 2 hts (lw_S q316 q317 q67 q318) rfl rfl rfl kdX1_strokeOf ⟨Nat.le_of_ble_eq_true rfl, Nat.le_of_ble_eq_true rfl⟩) rfl hl.1 (Nat.le_of_ble_eq_true rfl) dX1_comes_92 ⟨(Nat.le_of_ble_eq_true rfl), (Nat.le_of_ble_eq_true rfl)⟩ rfl) (fun H locs hH => ?_)
        refine W.widen (k := 1) (n := 1) (Nat.le_of_ble_eq_true rfl) (Nat.le_of_ble_eq_true rfl) ?_
        obtain ⟨u13, eu13, hf⟩ := bs_ hf
        obtain ⟨r14, M15, er14, hf⟩ := bws_ hf
        refine cl_i0 hH (rn_V ⟨hx, hb, hml, hown, hts⟩ hKn hH (mX2_learns l G M11 n12 v7 r10 r14 M15 er14) (cwV 1 hts (lw_V q392 q393 q394 q68 q395) rfl rfl rfl ⟨rfl, kdX2_learns⟩ ⟨Nat.le_of_ble_eq_true rfl, Nat.le_of_ble_eq_true rfl⟩) eu13 rfl rfl hl.1 (Nat.le_of_ble_eq_true rfl) dX1_comes_95 ⟨(Nat.le_of_ble_eq_true rfl), (Nat.le_of_ble_eq_true rfl)⟩ rfl) (fun H locs hH => ?_)
        refine lv_pop hx hb dX1_comes_98 rfl ?_
        refine lv_iconst (v := 1) hx hb dX1_comes_99 (by decide) ?_
        cases hf
        refine W.widen (k := 1) (n := 1) (Nat.le_of_ble_eq_true rfl) (Nat.le_of_ble_eq_true rfl) ?_
        exact rt_b (b := true) hx hb hr hlk hH dX1_comes_100
      · have hf := ip_ c16 hf
        refine lv_iconst (v := 0) hx hb dX1_comes_80 (by decide) ?_
        cases hf
        refine W.widen (k := 1) (n := 1) (Nat.le_of_ble_eq_true rfl) (Nat.le_of_ble_eq_true rfl) ?_
        exact rt_b (b := false) hx hb hr hlk hH dX1_comes_81
  · have hf := in_ c3 hf
    by_cases c18 : v2 = 100
    · have hf := ip_ c18 hf
      refine sw_L (off := 156) (tgt := 165) hx hb dX1_comes_9 c18 (by decide) (by decide) (by decide) ?_
      refine lv_aload_n hx hb dX1_comes_165 rfl (lv_at hl 1 rfl) ?_
      obtain ⟨v19, ev19, hf⟩ := bs_ hf
      refine mg_gR hx hb hts hown hKn hH ev19 in_X1 rfl (by decide) (hts _ q939) (fun _ h9 => h9) dX1_comes_166 ?_
      refine lv_aload_n hx hb dX1_comes_169 rfl (lv_at hl 0 rfl) ?_
      refine lv_iconst (v := 0) hx hb dX1_comes_170 (by decide) ?_
      obtain ⟨v20, ev20, hf⟩ := bs_ hf
      refine mg_iald hx hb hKn hH ev20 dX1_comes_171 ?_
      refine lv_iconst (v := 1) hx hb dX1_comes_172 (by decide) ?_
      refine lv_isub hx hb dX1_comes_173 ?_
      refine lv_topi (fun v21 ev21 => ?_)
      have hf := lu_ ev21 hf
      obtain ⟨M22, eM22, hf⟩ := bs_ hf
      refine mg_pF hx hb hts hown hKn hH eM22 in_X2 tyX2_ok nmX2 rfl (by decide) (hts _ q894) (fun _ h9 => h9) rfl rfl rfl dX1_comes_174 (fun H locs hH => ?_)
      refine lv_aload_n hx hb dX1_comes_177 rfl (lv_at hl 0 rfl) ?_
      refine lv_iconst (v := 0) hx hb dX1_comes_178 (by decide) ?_
      obtain ⟨v23, ev23, hf⟩ := bs_ hf
      refine mg_iald hx hb hKn hH ev23 dX1_comes_179 ?_
      refine lv_iconst (v := 2) hx hb dX1_comes_180 (by decide) ?_
      refine lv_icmp_gt (tgt := 188) hx hb dX1_comes_181 (by decide) (fun c24 => ?_) (fun c24 => ?_)
      · have hf := ip_ c24 hf
        refine lv_iconst (v := 0) hx hb dX1_comes_188 (by decide) ?_
        cases hf
        refine W.widen (k := 1) (n := 1) (Nat.le_of_ble_eq_true rfl) (Nat.le_of_ble_eq_true rfl) ?_
        exact rt_b (b := false) hx hb hr hlk hH dX1_comes_189
      · have hf := in_ c24 hf
        refine lv_iconst (v := 1) hx hb dX1_comes_184 (by decide) ?_
        refine lv_goto (tgt := 189) hx hb dX1_comes_185 (by decide) ?_
        cases hf
        refine W.widen (k := 1) (n := 1) (Nat.le_of_ble_eq_true rfl) (Nat.le_of_ble_eq_true rfl) ?_
        exact rt_b (b := true) hx hb hr hlk hH dX1_comes_189
    · have hf := in_ c18 hf
      by_cases c25 : v2 = 102
      · have hf := ip_ c25 hf
        refine sw_L (off := 92) (tgt := 101) hx hb dX1_comes_9 c25 (by decide) (by decide) (by decide) ?_
        refine lv_aload_n hx hb dX1_comes_101 rfl (lv_at hl 0 rfl) ?_
        refine lv_iconst (v := 0) hx hb dX1_comes_102 (by decide) ?_
        obtain ⟨v26, ev26, hf⟩ := bs_ hf
        refine mg_iald hx hb hKn hH ev26 dX1_comes_103 ?_
        refine lv_iconst (v := 1) hx hb dX1_comes_104 (by decide) ?_
        refine lv_icmp_gt (tgt := 115) hx hb dX1_comes_105 (by decide) (fun c34 => ?_) (fun c34 => ?_)
        · have hf := ip_ c34 hf
          refine lv_iconst (v := 0) hx hb dX1_comes_115 (by decide) ?_
          cases hf
          refine W.widen (k := 1) (n := 1) (Nat.le_of_ble_eq_true rfl) (Nat.le_of_ble_eq_true rfl) ?_
          exact rt_b (b := false) hx hb hr hlk hH dX1_comes_116
        · have hf := in_ c34 hf
          refine lv_aload_n hx hb dX1_comes_108 rfl (lv_at hl 0 rfl) ?_
          refine lv_iconst (v := 1) hx hb dX1_comes_109 (by decide) ?_
          obtain ⟨v27, ev27, hf⟩ := bs_ hf
          refine mg_iald hx hb hKn hH ev27 dX1_comes_110 ?_
          refine lv_iconst (v := 1) hx hb dX1_comes_111 (by decide) ?_
          refine lv_icmp_le (tgt := 117) hx hb dX1_comes_112 (by decide) (fun c33 => ?_) (fun c33 => ?_)
          · have hf := ip_ c33 hf
            refine lv_aload_n hx hb dX1_comes_117 rfl (lv_at hl 1 rfl) ?_
            obtain ⟨v28, ev28, hf⟩ := bs_ hf
            refine mg_gR hx hb hts hown hKn hH ev28 in_X1 rfl (by decide) (hts _ q939) (fun _ h9 => h9) dX1_comes_118 ?_
            obtain ⟨v29, ev29, hf⟩ := bs_ hf
            refine mg_gR hx hb hts hown hKn hH ev29 in_X2 rfl (by decide) (hts _ q880) (fun _ h9 => h9) dX1_comes_121 ?_
            refine lv_aload_n hx hb dX1_comes_124 rfl (lv_at hl 0 rfl) ?_
            refine lv_iconst (v := 0) hx hb dX1_comes_125 (by decide) ?_
            obtain ⟨v30, ev30, hf⟩ := bs_ hf
            refine mg_iald hx hb hKn hH ev30 dX1_comes_126 ?_
            refine lv_aload_n hx hb dX1_comes_127 rfl (lv_at hl 0 rfl) ?_
            refine lv_iconst (v := 1) hx hb dX1_comes_128 (by decide) ?_
            obtain ⟨v31, ev31, hf⟩ := bs_ hf
            refine mg_iald hx hb hKn hH ev31 dX1_comes_129 ?_
            obtain ⟨M32, eM32, hf⟩ := bs_ hf
            refine mg_iast hx hb hKn hH eM32 dX1_comes_130 (fun H locs hH => ?_)
            refine lv_iconst (v := 1) hx hb dX1_comes_131 (by decide) ?_
            cases hf
            refine W.widen (k := 1) (n := 1) (Nat.le_of_ble_eq_true rfl) (Nat.le_of_ble_eq_true rfl) ?_
            exact rt_b (b := true) hx hb hr hlk hH dX1_comes_132
          · have hf := in_ c33 hf
            refine lv_iconst (v := 0) hx hb dX1_comes_115 (by decide) ?_
            cases hf
            refine W.widen (k := 1) (n := 1) (Nat.le_of_ble_eq_true rfl) (Nat.le_of_ble_eq_true rfl) ?_
            exact rt_b (b := false) hx hb hr hlk hH dX1_comes_116
      · have hf := in_ c25 hf
        by_cases c35 : v2 = 104
        · have hf := ip_ c35 hf
          refine sw_L (off := 124) (tgt := 133) hx hb dX1_comes_9 c35 (by decide) (by decide) (by decide) ?_
          refine lv_aload_n hx hb dX1_comes_133 rfl (lv_at hl 0 rfl) ?_
          refine lv_iconst (v := 0) hx hb dX1_comes_134 (by decide) ?_
          obtain ⟨v36, ev36, hf⟩ := bs_ hf
          refine mg_iald hx hb hKn hH ev36 dX1_comes_135 ?_
          refine lv_iconst (v := 1) hx hb dX1_comes_136 (by decide) ?_
          refine lv_icmp_gt (tgt := 147) hx hb dX1_comes_137 (by decide) (fun c44 => ?_) (fun c44 => ?_)
          · have hf := ip_ c44 hf
            refine lv_iconst (v := 0) hx hb dX1_comes_147 (by decide) ?_
            cases hf
            refine W.widen (k := 1) (n := 1) (Nat.le_of_ble_eq_true rfl) (Nat.le_of_ble_eq_true rfl) ?_
            exact rt_b (b := false) hx hb hr hlk hH dX1_comes_148
          · have hf := in_ c44 hf
            refine lv_aload_n hx hb dX1_comes_140 rfl (lv_at hl 0 rfl) ?_
            refine lv_iconst (v := 1) hx hb dX1_comes_141 (by decide) ?_
            obtain ⟨v37, ev37, hf⟩ := bs_ hf
            refine mg_iald hx hb hKn hH ev37 dX1_comes_142 ?_
            refine lv_iconst (v := 3) hx hb dX1_comes_143 (by decide) ?_
            refine lv_icmp_le (tgt := 149) hx hb dX1_comes_144 (by decide) (fun c43 => ?_) (fun c43 => ?_)
            · have hf := ip_ c43 hf
              refine lv_aload_n hx hb dX1_comes_149 rfl (lv_at hl 1 rfl) ?_
              obtain ⟨v38, ev38, hf⟩ := bs_ hf
              refine mg_gR hx hb hts hown hKn hH ev38 in_X1 rfl (by decide) (hts _ q939) (fun _ h9 => h9) dX1_comes_150 ?_
              obtain ⟨v39, ev39, hf⟩ := bs_ hf
              refine mg_gR hx hb hts hown hKn hH ev39 in_X2 rfl (by decide) (hts _ q882) (fun _ h9 => h9) dX1_comes_153 ?_
              refine lv_aload_n hx hb dX1_comes_156 rfl (lv_at hl 0 rfl) ?_
              refine lv_iconst (v := 0) hx hb dX1_comes_157 (by decide) ?_
              obtain ⟨v40, ev40, hf⟩ := bs_ hf
              refine mg_iald hx hb hKn hH ev40 dX1_comes_158 ?_
              refine lv_aload_n hx hb dX1_comes_159 rfl (lv_at hl 0 rfl) ?_
              refine lv_iconst (v := 1) hx hb dX1_comes_160 (by decide) ?_
              obtain ⟨v41, ev41, hf⟩ := bs_ hf
              refine mg_iald hx hb hKn hH ev41 dX1_comes_161 ?_
              obtain ⟨M42, eM42, hf⟩ := bs_ hf
              refine mg_iast hx hb hKn hH eM42 dX1_comes_162 (fun H locs hH => ?_)
              refine lv_iconst (v := 1) hx hb dX1_comes_163 (by decide) ?_
              cases hf
              refine W.widen (k := 1) (n := 1) (Nat.le_of_ble_eq_true rfl) (Nat.le_of_ble_eq_true rfl) ?_
              exact rt_b (b := true) hx hb hr hlk hH dX1_comes_164
            · have hf := in_ c43 hf
              refine lv_iconst (v := 0) hx hb dX1_comes_147 (by decide) ?_
              cases hf
              refine W.widen (k := 1) (n := 1) (Nat.le_of_ble_eq_true rfl) (Nat.le_of_ble_eq_true rfl) ?_
              exact rt_b (b := false) hx hb hr hlk hH dX1_comes_148
        · have hf := in_ c35 hf
          by_cases c45 : v2 = 120
          · have hf := ip_ c45 hf
            refine sw_L (off := 181) (tgt := 190) hx hb dX1_comes_9 c45 (by decide) (by decide) (by decide) ?_
            refine lv_aload_n hx hb dX1_comes_190 rfl (lv_at hl 1 rfl) ?_
            refine lv_aload_n hx hb dX1_comes_191 rfl (lv_at hl 0 rfl) ?_
            refine lv_iconst (v := 0) hx hb dX1_comes_192 (by decide) ?_
            obtain ⟨v46, ev46, hf⟩ := bs_ hf
            refine mg_iald hx hb hKn hH ev46 dX1_comes_193 ?_
            refine lv_aload_n hx hb dX1_comes_194 rfl (lv_at hl 0 rfl) ?_
            refine lv_iconst (v := 1) hx hb dX1_comes_195 (by decide) ?_
            obtain ⟨v47, ev47, hf⟩ := bs_ hf
            refine mg_iald hx hb hKn hH ev47 dX1_comes_196 ?_
            obtain ⟨u48, eu48, hf⟩ := bs_ hf
            obtain ⟨r49, M50, er49, hf⟩ := bws_ hf
            refine cl_i0 hH (rn_V ⟨hx, hb, hml, hown, hts⟩ hKn hH (mX1_comesHit l G M n a0 v46 v47 r49 M50 er49) (cwV 2 hts (lw_V q396 q398 qs11 q67 q399) rfl rfl rfl ⟨rfl, kdX1_comesHit⟩ ⟨Nat.le_of_ble_eq_true rfl, Nat.le_of_ble_eq_true rfl⟩) eu48 rfl rfl hl.1 (Nat.le_of_ble_eq_true rfl) dX1_comes_197 ⟨(Nat.le_of_ble_eq_true rfl), (Nat.le_of_ble_eq_true rfl)⟩ rfl) (fun H locs hH => ?_)
            cases hf
            refine W.widen (k := 1) (n := 1) (Nat.le_of_ble_eq_true rfl) (Nat.le_of_ble_eq_true rfl) ?_
            exact rt_b (b := _) hx hb hr hlk hH dX1_comes_200
          · have hf := in_ c45 hf
            refine lv_lookup (off := 192) (tgt := 201) hx hb dX1_comes_9 (by decide) ((lv_osw c3 (by decide)).trans ((lv_osw c18 (by decide)).trans ((lv_osw c25 (by decide)).trans ((lv_osw c35 (by decide)).trans ((lv_osw c45 (by decide)).trans rfl))))) (by decide) ?_
            refine lv_aload_n hx hb dX1_comes_201 rfl (lv_at hl 1 rfl) ?_
            refine lv_aload_n hx hb dX1_comes_202 rfl (lv_at hl 2 rfl) ?_
            obtain ⟨u51, eu51, hf⟩ := bs_ hf
            obtain ⟨r52, M53, er52, hf⟩ := bws_ hf
            refine cl_i0 hH (rn_V ⟨hx, hb, hml, hown, hts⟩ hKn hH (mX1_comesPlayer l G M n a0 a1 r52 M53 er52) (cwV 1 hts (lw_V q559 q561 qs18 q67 q562) rfl rfl rfl ⟨rfl, kdX1_comesPlayer⟩ ⟨Nat.le_of_ble_eq_true rfl, Nat.le_of_ble_eq_true rfl⟩) eu51 rfl rfl hl.1 (Nat.le_of_ble_eq_true rfl) dX1_comes_203 ⟨(Nat.le_of_ble_eq_true rfl), (Nat.le_of_ble_eq_true rfl)⟩ rfl) (fun H locs hH => ?_)
            cases hf
            refine W.widen (k := 1) (n := 1) (Nat.le_of_ble_eq_true rfl) (Nat.le_of_ble_eq_true rfl) ?_
            exact rt_b (b := _) hx hb hr hlk hH dX1_comes_206
def fX1_stroke (M : Mem_) (a0 : Nat) (a1 : Int32) (a2 : Int32) : Option Int32 :=
  (gR_ M a0 0 0).bind fun v1 =>
  (ck_ M v1 1).bind fun u2 =>
  (fX2_isStroke M v1 a1).bind fun r3 =>
  if (b2_ r3) = 0 then
    some (-1)
  else
    (gR_ M a0 0 0).bind fun v4 =>
    (gR_ M v4 1 0).bind fun v5 =>
    (aR_ M v5 3 a1).bind fun v6 =>
    if a2 = 0 then
      (s_kind M v6).bind fun r8 =>
      some r8
    else
      if a2 = 1 then
        (gF_ M v6).bind fun v10 =>
        some v10
      else
        if a2 = 2 then
          (s_tires M v6).bind fun r12 =>
          some r12
        else
          if a2 = 3 then
            (s_time M v6 0).bind fun r14 =>
            some r14
          else
            if a2 = 4 then
              (s_time M v6 8).bind fun r16 =>
              some r16
            else
              some (-1)
theorem kdX1_stroke : yX1_stroke.cls ≠ "java/lang/invoke/MethodHandle" ∧ yX1_stroke.cls ≠ "java/lang/invoke/VarHandle" ∧ (parseMethodDescriptor yX1_stroke.desc).map (fun d => d.parameters.length) = some 2 := by decide +kernel
set_option maxHeartbeats 4000000 in
theorem mX1_stroke (l : Launch) (G : GT_) (M : Mem_) (n : Nat) (a0 : Nat) (a1 : Int32) (a2 : Int32) (r : Int32) (hf : fX1_stroke M a0 a1 a2 = some r) : Ct_ G l yX1_stroke (ws_ yX1_stroke cX1_stroke 4 (some .int)) ({ frames := 3, cells := 0, slots := 0, locals := 63 }) 0 0 [.ref a0, .int a1, .int a2] M n (some (.int r)) M n := by
  refine en_ (by decide) (Nat.le_of_ble_eq_true rfl) ?_
  intro p e s m below meth c hx hb hr hlk hml hown hts hname hKn hH ls hl
  have hown : s.vm.findClass RX1 = some m.cls := hown
  have hl : lv_has ls 4 [(0, .ref a0), (1, .int a1), (2, .int a2)] := hl
  unfold fX1_stroke at hf
  generalize s.heap = H at hH ⊢
  refine lv_aload_n hx hb dX1_stroke_0 rfl (lv_at hl 0 rfl) ?_
  obtain ⟨v1, ev1, hf⟩ := bs_ hf
  refine mg_gR hx hb hts hown hKn hH ev1 in_X1 rfl (by decide) (hts _ q937) (fun _ h9 => h9) dX1_stroke_1 ?_
  refine lv_iload_n hx hb dX1_stroke_4 rfl (lv_at hl 1 rfl) ?_
  obtain ⟨u2, eu2, hf⟩ := bs_ hf
  obtain ⟨r3, er3, hf⟩ := bs_ hf
  refine cl_i0 hH (rn_V ⟨hx, hb, hml, hown, hts⟩ hKn hH (mX2_isStroke l G M n v1 a1 r3 er3) (cwV 1 hts (lw_V q400 q401 q402 q68 q403) rfl rfl rfl ⟨rfl, kdX2_isStroke⟩ ⟨Nat.le_of_ble_eq_true rfl, Nat.le_of_ble_eq_true rfl⟩) eu2 rfl rfl hl.1 (Nat.le_of_ble_eq_true rfl) dX1_stroke_5 ⟨(Nat.le_of_ble_eq_true rfl), (Nat.le_of_ble_eq_true rfl)⟩ rfl) (fun H locs hH => ?_)
  refine lv_if_ne (tgt := 13) hx hb dX1_stroke_8 (by decide) (fun c17 => ?_) (fun c17 => ?_)
  · have hf := in_ c17 hf
    refine lv_aload_n hx hb dX1_stroke_13 rfl (lv_at hl 0 rfl) ?_
    obtain ⟨v4, ev4, hf⟩ := bs_ hf
    refine mg_gR hx hb hts hown hKn hH ev4 in_X1 rfl (by decide) (hts _ q937) (fun _ h9 => h9) dX1_stroke_14 ?_
    obtain ⟨v5, ev5, hf⟩ := bs_ hf
    refine mg_gR hx hb hts hown hKn hH ev5 in_X2 rfl (by decide) (hts _ q872) (fun _ h9 => h9) dX1_stroke_17 ?_
    refine lv_iload_n hx hb dX1_stroke_20 rfl (lv_at hl 1 rfl) ?_
    obtain ⟨v6, ev6, hf⟩ := bs_ hf
    refine mg_aald3 hx hb hKn hH ev6 dX1_stroke_21 ?_
    refine lv_astore_n (lv' := [(3, .ref v6), (0, .ref a0), (1, .int a1), (2, .int a2)]) hx hb dX1_stroke_22 rfl hl (by decide) rfl (fun ls hl => ?_)
    refine lv_iload_n hx hb dX1_stroke_23 rfl (lv_at hl 3 rfl) ?_
    by_cases c7 : a2 = 0
    · have hf := ip_ c7 hf
      refine sw_I (off := 36) (tgt := 60) hx hb dX1_stroke_24 c7 (by decide) (by decide) (by decide) (by decide) ?_
      refine lv_aload_n hx hb dX1_stroke_60 rfl (lv_at hl 0 rfl) ?_
      obtain ⟨r8, er8, hf⟩ := bs_ hf
      refine cl_i0 hH (rs_kind ⟨hx, hb, hml, hown, hts⟩ hKn hH er8 (hts _ q575) ⟨Nat.le_of_ble_eq_true rfl, Nat.le_of_ble_eq_true rfl⟩ hl.1 (Nat.le_of_ble_eq_true rfl) dX1_stroke_61 ⟨(Nat.le_of_ble_eq_true rfl), (Nat.le_of_ble_eq_true rfl)⟩ rfl) (fun H locs hH => ?_)
      cases hf
      exact rt_i hx hb hr hlk hH dX1_stroke_64
    · have hf := in_ c7 hf
      by_cases c9 : a2 = 1
      · have hf := ip_ c9 hf
        refine sw_I (off := 41) (tgt := 65) hx hb dX1_stroke_24 c9 (by decide) (by decide) (by decide) (by decide) ?_
        refine lv_aload_n hx hb dX1_stroke_65 rfl (lv_at hl 0 rfl) ?_
        obtain ⟨v10, ev10, hf⟩ := bs_ hf
        refine mg_gF hx hb hts hown hKn hH ev10 (hts _ q332) (fun _ h9 => h9) dX1_stroke_66 ?_
        cases hf
        exact rt_i hx hb hr hlk hH dX1_stroke_69
      · have hf := in_ c9 hf
        by_cases c11 : a2 = 2
        · have hf := ip_ c11 hf
          refine sw_I (off := 46) (tgt := 70) hx hb dX1_stroke_24 c11 (by decide) (by decide) (by decide) (by decide) ?_
          refine lv_aload_n hx hb dX1_stroke_70 rfl (lv_at hl 0 rfl) ?_
          obtain ⟨r12, er12, hf⟩ := bs_ hf
          refine cl_i0 hH (rs_tires ⟨hx, hb, hml, hown, hts⟩ hKn hH er12 (va_Nw.use rfl (hKn.2.2.2.2.2.2.1 _ (List.mem_of_getElem? (i := 6) rfl))) ⟨Nat.le_of_ble_eq_true rfl, Nat.le_of_ble_eq_true rfl⟩ hl.1 (Nat.le_of_ble_eq_true rfl) dX1_stroke_71 ⟨(Nat.le_of_ble_eq_true rfl), (Nat.le_of_ble_eq_true rfl)⟩ rfl) (fun H locs hH => ?_)
          cases hf
          exact rt_i hx hb hr hlk hH dX1_stroke_74
        · have hf := in_ c11 hf
          by_cases c13 : a2 = 3
          · have hf := ip_ c13 hf
            refine sw_I (off := 51) (tgt := 75) hx hb dX1_stroke_24 c13 (by decide) (by decide) (by decide) (by decide) ?_
            refine lv_aload_n hx hb dX1_stroke_75 rfl (lv_at hl 0 rfl) ?_
            refine lv_iconst (v := 0) hx hb dX1_stroke_76 (by decide) ?_
            obtain ⟨r14, er14, hf⟩ := bs_ hf
            refine cl_i0 hH (rs_time ⟨hx, hb, hml, hown, hts⟩ hKn hH er14 (hts _ q601) ⟨Nat.le_of_ble_eq_true rfl, Nat.le_of_ble_eq_true rfl⟩ hl.1 (Nat.le_of_ble_eq_true rfl) dX1_stroke_77 ⟨(Nat.le_of_ble_eq_true rfl), (Nat.le_of_ble_eq_true rfl)⟩ rfl) (fun H locs hH => ?_)
            cases hf
            exact rt_i hx hb hr hlk hH dX1_stroke_80
          · have hf := in_ c13 hf
            by_cases c15 : a2 = 4
            · have hf := ip_ c15 hf
              refine sw_I (off := 57) (tgt := 81) hx hb dX1_stroke_24 c15 (by decide) (by decide) (by decide) (by decide) ?_
              refine lv_aload_n hx hb dX1_stroke_81 rfl (lv_at hl 0 rfl) ?_
              refine lv_bipush (v := 8) hx hb dX1_stroke_82 (by decide) ?_
              obtain ⟨r16, er16, hf⟩ := bs_ hf
              refine cl_i0 hH (rs_time ⟨hx, hb, hml, hown, hts⟩ hKn hH er16 (hts _ q601) ⟨Nat.le_of_ble_eq_true rfl, Nat.le_of_ble_eq_true rfl⟩ hl.1 (Nat.le_of_ble_eq_true rfl) dX1_stroke_84 ⟨(Nat.le_of_ble_eq_true rfl), (Nat.le_of_ble_eq_true rfl)⟩ rfl) (fun H locs hH => ?_)
              cases hf
              exact rt_i hx hb hr hlk hH dX1_stroke_87
            · have hf := in_ c15 hf
              refine sw_D (tgt := 88) hx hb dX1_stroke_24 [(0, 36), (1, 41), (2, 46), (3, 51), (4, 57)] (by decide) (by decide) (by decide) ⟨Or.inr (lv_neT c7 (by decide)), Or.inr (lv_neT c9 (by decide)), Or.inr (lv_neT c11 (by decide)), Or.inr (lv_neT c13 (by decide)), Or.inr (lv_neT c15 (by decide)), trivial⟩ (by decide) ?_
              refine lv_iconst (v := (-1)) hx hb dX1_stroke_88 (by decide) ?_
              cases hf
              exact rt_i hx hb hr hlk hH dX1_stroke_89
  · have hf := ip_ c17 hf
    refine lv_iconst (v := (-1)) hx hb dX1_stroke_11 (by decide) ?_
    cases hf
    exact rt_i hx hb hr hlk hH dX1_stroke_12
