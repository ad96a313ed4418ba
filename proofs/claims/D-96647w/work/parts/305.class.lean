set_option maxRecDepth 100000
def fX1_bestHabit (M : Mem_) (a0 : Nat) (a1 : Int32) (a2 : Int32) : Option (Int32 × Mem_) :=
  lt_ (fX1_isIn a1 0 1) fun r1 =>
  if (b2_ r1) = 0 then
    some ((-1), M)
  else
    lt_ (fX1_isIn a2 0 1) fun r2 =>
    if (b2_ r2) = 0 then
      some ((-1), M)
    else
      (gR_ M a0 0 0).bind fun v3 =>
      (gI_ M v3 1 9).bind fun v4 =>
      if v4 = 0 then
        some ((-3), M)
      else
        if a2 = 1 then
          (ck_ M a0 0).bind fun u8 =>
          bw_ (fX1_bestOf M a0 a1 1 4 1) fun r9 M10 =>
          some (r9, M10)
        else
          (ck_ M a0 0).bind fun u5 =>
          bw_ (fX1_bestOf M a0 a1 1 4 0) fun r6 M7 =>
          some (r6, M7)
theorem kdX1_bestHabit : yX1_bestHabit.cls ≠ "java/lang/invoke/MethodHandle" ∧ yX1_bestHabit.cls ≠ "java/lang/invoke/VarHandle" ∧ (parseMethodDescriptor yX1_bestHabit.desc).map (fun d => d.parameters.length) = some 2 := by decide +kernel
set_option maxHeartbeats 4000000 in
theorem mX1_bestHabit (l : Launch) (G : GT_) (M : Mem_) (n : Nat) (a0 : Nat) (a1 : Int32) (a2 : Int32) (r : Int32) (M1 : Mem_) (hf : fX1_bestHabit M a0 a1 a2 = some (r, M1)) : Ct_ G l yX1_bestHabit (ws_ yX1_bestHabit cX1_bestHabit 3 (some .int)) ({ frames := 7, cells := 0, slots := 0, locals := 173 }) 0 0 [.ref a0, .int a1, .int a2] M n (some (.int r)) M1 n := by
  refine en_ (by decide) (Nat.le_of_ble_eq_true rfl) ?_
  intro p e s m below meth c hx hb hr hlk hml hown hts hname hKn hH ls hl
  have hown : s.vm.findClass RX1 = some m.cls := hown
  have hl : lv_has ls 3 [(0, .ref a0), (1, .int a1), (2, .int a2)] := hl
  unfold fX1_bestHabit at hf
  generalize s.heap = H at hH ⊢
  refine lv_iload_n hx hb dX1_bestHabit_0 rfl (lv_at hl 1 rfl) ?_
  refine lv_iconst (v := 0) hx hb dX1_bestHabit_1 (by decide) ?_
  refine lv_iconst (v := 1) hx hb dX1_bestHabit_2 (by decide) ?_
  obtain ⟨r1, er1⟩ : ∃ z, z = fX1_isIn a1 0 1 := ⟨_, rfl⟩
  have hf := lu_ er1 hf
  refine cl_i0 hH (rn_S ⟨hx, hb, hml, hown, hts⟩ hKn hH (mX1_isIn l G M n a1 0 1 r1 er1.symm) (va_cwS 3 hts (lw_S q199 q200 q67 q201) rfl rfl rfl kdX1_isIn ⟨Nat.le_of_ble_eq_true rfl, Nat.le_of_ble_eq_true rfl⟩) rfl hl.1 (Nat.le_of_ble_eq_true rfl) dX1_bestHabit_3 ⟨(Nat.le_of_ble_eq_true rfl), (Nat.le_of_ble_eq_true rfl)⟩ rfl) (fun H locs hH => ?_)
  refine lv_if_eq (tgt := 18) hx hb dX1_bestHabit_6 (by decide) (fun c14 => ?_) (fun c14 => ?_)
  · have hf := ip_ c14 hf
    refine lv_iconst (v := (-1)) hx hb dX1_bestHabit_18 (by decide) ?_
    cases hf
    exact rt_i hx hb hr hlk hH dX1_bestHabit_19
  · have hf := in_ c14 hf
    refine lv_iload_n hx hb dX1_bestHabit_9 rfl (lv_at hl 2 rfl) ?_
    refine lv_iconst (v := 0) hx hb dX1_bestHabit_10 (by decide) ?_
    refine lv_iconst (v := 1) hx hb dX1_bestHabit_11 (by decide) ?_
    obtain ⟨r2, er2⟩ : ∃ z, z = fX1_isIn a2 0 1 := ⟨_, rfl⟩
    have hf := lu_ er2 hf
    refine cl_i0 hH (rn_S ⟨hx, hb, hml, hown, hts⟩ hKn hH (mX1_isIn l G M n a2 0 1 r2 er2.symm) (va_cwS 3 hts (lw_S q199 q200 q67 q201) rfl rfl rfl kdX1_isIn ⟨Nat.le_of_ble_eq_true rfl, Nat.le_of_ble_eq_true rfl⟩) rfl hl.1 (Nat.le_of_ble_eq_true rfl) dX1_bestHabit_12 ⟨(Nat.le_of_ble_eq_true rfl), (Nat.le_of_ble_eq_true rfl)⟩ rfl) (fun H locs hH => ?_)
    refine lv_if_ne (tgt := 20) hx hb dX1_bestHabit_15 (by decide) (fun c13 => ?_) (fun c13 => ?_)
    · have hf := in_ c13 hf
      refine lv_aload_n hx hb dX1_bestHabit_20 rfl (lv_at hl 0 rfl) ?_
      obtain ⟨v3, ev3, hf⟩ := bs_ hf
      refine mg_gR hx hb hts hown hKn hH ev3 in_X1 rfl (by decide) (hts _ q937) (fun _ h9 => h9) dX1_bestHabit_21 ?_
      obtain ⟨v4, ev4, hf⟩ := bs_ hf
      refine mg_gI hx hb hts hown hKn hH ev4 in_X2 rfl (by decide) (hts _ q890) (fun _ h9 => h9) dX1_bestHabit_24 ?_
      refine lv_if_ne (tgt := 35) hx hb dX1_bestHabit_27 (by decide) (fun c12 => ?_) (fun c12 => ?_)
      · have hf := in_ c12 hf
        refine lv_aload_n hx hb dX1_bestHabit_35 rfl (lv_at hl 0 rfl) ?_
        refine lv_iload_n hx hb dX1_bestHabit_36 rfl (lv_at hl 1 rfl) ?_
        refine lv_iconst (v := 1) hx hb dX1_bestHabit_37 (by decide) ?_
        refine lv_iconst (v := 4) hx hb dX1_bestHabit_38 (by decide) ?_
        refine lv_iload_n hx hb dX1_bestHabit_39 rfl (lv_at hl 2 rfl) ?_
        refine lv_iconst (v := 1) hx hb dX1_bestHabit_40 (by decide) ?_
        refine lv_icmp_ne (tgt := 48) hx hb dX1_bestHabit_41 (by decide) (fun c11 => ?_) (fun c11 => ?_)
        · have hf := in_ c11 hf
          refine lv_iconst (v := 0) hx hb dX1_bestHabit_48 (by decide) ?_
          obtain ⟨u5, eu5, hf⟩ := bs_ hf
          obtain ⟨r6, M7, er6, hf⟩ := bws_ hf
          refine cl_i0 hH (rn_V ⟨hx, hb, hml, hown, hts⟩ hKn hH (mX1_bestOf l G M n a0 a1 1 4 0 r6 M7 er6) (cwV 4 hts (lw_V q708 q710 qs26 q67 q711) rfl rfl rfl ⟨rfl, kdX1_bestOf⟩ ⟨Nat.le_of_ble_eq_true rfl, Nat.le_of_ble_eq_true rfl⟩) eu5 rfl rfl hl.1 (Nat.le_of_ble_eq_true rfl) dX1_bestHabit_49 ⟨(Nat.le_of_ble_eq_true rfl), (Nat.le_of_ble_eq_true rfl)⟩ rfl) (fun H locs hH => ?_)
          cases hf
          exact rt_i hx hb hr hlk hH dX1_bestHabit_52
        · have hf := ip_ c11 hf
          refine lv_iconst (v := 1) hx hb dX1_bestHabit_44 (by decide) ?_
          refine lv_goto (tgt := 49) hx hb dX1_bestHabit_45 (by decide) ?_
          obtain ⟨u8, eu8, hf⟩ := bs_ hf
          obtain ⟨r9, M10, er9, hf⟩ := bws_ hf
          refine cl_i0 hH (rn_V ⟨hx, hb, hml, hown, hts⟩ hKn hH (mX1_bestOf l G M n a0 a1 1 4 1 r9 M10 er9) (cwV 4 hts (lw_V q708 q710 qs26 q67 q711) rfl rfl rfl ⟨rfl, kdX1_bestOf⟩ ⟨Nat.le_of_ble_eq_true rfl, Nat.le_of_ble_eq_true rfl⟩) eu8 rfl rfl hl.1 (Nat.le_of_ble_eq_true rfl) dX1_bestHabit_49 ⟨(Nat.le_of_ble_eq_true rfl), (Nat.le_of_ble_eq_true rfl)⟩ rfl) (fun H locs hH => ?_)
          cases hf
          exact rt_i hx hb hr hlk hH dX1_bestHabit_52
      · have hf := ip_ c12 hf
        refine lv_bipush (v := (-3)) hx hb dX1_bestHabit_30 (by decide) ?_
        refine lv_goto (tgt := 52) hx hb dX1_bestHabit_32 (by decide) ?_
        cases hf
        exact rt_i hx hb hr hlk hH dX1_bestHabit_52
    · have hf := ip_ c13 hf
      refine lv_iconst (v := (-1)) hx hb dX1_bestHabit_18 (by decide) ?_
      cases hf
      exact rt_i hx hb hr hlk hH dX1_bestHabit_19
def fX1_change (M : Mem_) (a0 : Nat) (a1 : Int32) (a2 : Int32) (a3 : Int32) (a4 : Int32) : Option (Int32 × Mem_) :=
  (ck_ M a0 0).bind fun u1 =>
  (fX1_isHit M a0 a1 a2).bind fun r2 =>
  if (b2_ r2) = 0 then
    some ((-1), M)
  else
    lt_ (fX1_isPlayer a3) fun r3 =>
    if (b2_ r3) = 0 then
      some ((-1), M)
    else
      lt_ (fX1_isIn a4 0 1) fun r4 =>
      if (b2_ r4) = 0 then
        some ((-1), M)
      else
        (ck_ M a0 0).bind fun u5 =>
        bw_ (fX1_winsWith M a0 a1 a2) fun r6 M7 =>
        if a4 = 0 then
          (gR_ M7 a0 0 2).bind fun v11 =>
          (gR_ M7 v11 1 1).bind fun v12 =>
          (aI_ M7 v12 0 a3).bind fun v13 =>
          some (v13, M7)
        else
          (gR_ M7 a0 0 2).bind fun v8 =>
          (gR_ M7 v8 1 3).bind fun v9 =>
          (aI_ M7 v9 0 a3).bind fun v10 =>
          some (v10, M7)
theorem kdX1_change : yX1_change.cls ≠ "java/lang/invoke/MethodHandle" ∧ yX1_change.cls ≠ "java/lang/invoke/VarHandle" ∧ (parseMethodDescriptor yX1_change.desc).map (fun d => d.parameters.length) = some 4 := by decide +kernel
set_option maxHeartbeats 4000000 in
theorem mX1_change (l : Launch) (G : GT_) (M : Mem_) (n : Nat) (a0 : Nat) (a1 : Int32) (a2 : Int32) (a3 : Int32) (a4 : Int32) (r : Int32) (M1 : Mem_) (hf : fX1_change M a0 a1 a2 a3 a4 = some (r, M1)) : Ct_ G l yX1_change (ws_ yX1_change cX1_change 5 (some .int)) ({ frames := 5, cells := 0, slots := 0, locals := 122 }) 0 0 [.ref a0, .int a1, .int a2, .int a3, .int a4] M n (some (.int r)) M1 n := by
  refine en_ (by decide) (Nat.le_of_ble_eq_true rfl) ?_
  intro p e s m below meth c hx hb hr hlk hml hown hts hname hKn hH ls hl
  have hown : s.vm.findClass RX1 = some m.cls := hown
  have hl : lv_has ls 5 [(0, .ref a0), (1, .int a1), (2, .int a2), (3, .int a3), (4, .int a4)] := hl
  unfold fX1_change at hf
  generalize s.heap = H at hH ⊢
  refine lv_aload_n hx hb dX1_change_0 rfl (lv_at hl 0 rfl) ?_
  refine lv_iload_n hx hb dX1_change_1 rfl (lv_at hl 1 rfl) ?_
  refine lv_iload_n hx hb dX1_change_2 rfl (lv_at hl 2 rfl) ?_
  obtain ⟨u1, eu1, hf⟩ := bs_ hf
  obtain ⟨r2, er2, hf⟩ := bs_ hf
  refine cl_i0 hH (rn_V ⟨hx, hb, hml, hown, hts⟩ hKn hH (mX1_isHit l G M n a0 a1 a2 r2 er2) (cwV 2 hts (lw_V q644 q646 qs20 q67 q647) rfl rfl rfl ⟨rfl, kdX1_isHit⟩ ⟨Nat.le_of_ble_eq_true rfl, Nat.le_of_ble_eq_true rfl⟩) eu1 rfl rfl hl.1 (Nat.le_of_ble_eq_true rfl) dX1_change_3 ⟨(Nat.le_of_ble_eq_true rfl), (Nat.le_of_ble_eq_true rfl)⟩ rfl) (fun H locs hH => ?_)
  refine lv_if_eq (tgt := 26) hx hb dX1_change_6 (by decide) (fun c17 => ?_) (fun c17 => ?_)
  · have hf := ip_ c17 hf
    refine lv_iconst (v := (-1)) hx hb dX1_change_26 (by decide) ?_
    cases hf
    exact rt_i hx hb hr hlk hH dX1_change_27
  · have hf := in_ c17 hf
    refine lv_iload_n hx hb dX1_change_9 rfl (lv_at hl 3 rfl) ?_
    obtain ⟨r3, er3⟩ : ∃ z, z = fX1_isPlayer a3 := ⟨_, rfl⟩
    have hf := lu_ er3 hf
    refine cl_i0 hH (rn_S ⟨hx, hb, hml, hown, hts⟩ hKn hH (mX1_isPlayer l G M n a3 r3 er3.symm) (va_cwS 1 hts (lw_S q563 q564 q67 q565) rfl rfl rfl kdX1_isPlayer ⟨Nat.le_of_ble_eq_true rfl, Nat.le_of_ble_eq_true rfl⟩) rfl hl.1 (Nat.le_of_ble_eq_true rfl) dX1_change_10 ⟨(Nat.le_of_ble_eq_true rfl), (Nat.le_of_ble_eq_true rfl)⟩ rfl) (fun H locs hH => ?_)
    refine lv_if_eq (tgt := 26) hx hb dX1_change_13 (by decide) (fun c16 => ?_) (fun c16 => ?_)
    · have hf := ip_ c16 hf
      refine lv_iconst (v := (-1)) hx hb dX1_change_26 (by decide) ?_
      cases hf
      exact rt_i hx hb hr hlk hH dX1_change_27
    · have hf := in_ c16 hf
      refine lv_iload hx hb dX1_change_16 (lv_at hl 4 rfl) ?_
      refine lv_iconst (v := 0) hx hb dX1_change_18 (by decide) ?_
      refine lv_iconst (v := 1) hx hb dX1_change_19 (by decide) ?_
      obtain ⟨r4, er4⟩ : ∃ z, z = fX1_isIn a4 0 1 := ⟨_, rfl⟩
      have hf := lu_ er4 hf
      refine cl_i0 hH (rn_S ⟨hx, hb, hml, hown, hts⟩ hKn hH (mX1_isIn l G M n a4 0 1 r4 er4.symm) (va_cwS 3 hts (lw_S q199 q200 q67 q201) rfl rfl rfl kdX1_isIn ⟨Nat.le_of_ble_eq_true rfl, Nat.le_of_ble_eq_true rfl⟩) rfl hl.1 (Nat.le_of_ble_eq_true rfl) dX1_change_20 ⟨(Nat.le_of_ble_eq_true rfl), (Nat.le_of_ble_eq_true rfl)⟩ rfl) (fun H locs hH => ?_)
      refine lv_if_ne (tgt := 28) hx hb dX1_change_23 (by decide) (fun c15 => ?_) (fun c15 => ?_)
      · have hf := in_ c15 hf
        refine lv_aload_n hx hb dX1_change_28 rfl (lv_at hl 0 rfl) ?_
        refine lv_iload_n hx hb dX1_change_29 rfl (lv_at hl 1 rfl) ?_
        refine lv_iload_n hx hb dX1_change_30 rfl (lv_at hl 2 rfl) ?_
        obtain ⟨u5, eu5, hf⟩ := bs_ hf
        obtain ⟨r6, M7, er6, hf⟩ := bws_ hf
        refine cl_i0 hH (rn_V ⟨hx, hb, hml, hown, hts⟩ hKn hH (mX1_winsWith l G M n a0 a1 a2 r6 M7 er6) (cwV 2 hts (lw_V q658 q660 qs21 q67 q661) rfl rfl rfl ⟨rfl, kdX1_winsWith⟩ ⟨Nat.le_of_ble_eq_true rfl, Nat.le_of_ble_eq_true rfl⟩) eu5 rfl rfl hl.1 (Nat.le_of_ble_eq_true rfl) dX1_change_31 ⟨(Nat.le_of_ble_eq_true rfl), (Nat.le_of_ble_eq_true rfl)⟩ rfl) (fun H locs hH => ?_)
        refine lv_pop hx hb dX1_change_34 rfl ?_
        refine lv_iload hx hb dX1_change_35 (lv_at hl 4 rfl) ?_
        refine lv_if_ne (tgt := 52) hx hb dX1_change_37 (by decide) (fun c14 => ?_) (fun c14 => ?_)
        · have hf := in_ c14 hf
          refine lv_aload_n hx hb dX1_change_52 rfl (lv_at hl 0 rfl) ?_
          obtain ⟨v8, ev8, hf⟩ := bs_ hf
          refine mg_gR hx hb hts hown hKn hH ev8 in_X1 rfl (by decide) (hts _ q939) (fun _ h9 => h9) dX1_change_53 ?_
          obtain ⟨v9, ev9, hf⟩ := bs_ hf
          refine mg_gR hx hb hts hown hKn hH ev9 in_X2 rfl (by decide) (hts _ q878) (fun _ h9 => h9) dX1_change_56 ?_
          refine lv_iload_n hx hb dX1_change_59 rfl (lv_at hl 3 rfl) ?_
          obtain ⟨v10, ev10, hf⟩ := bs_ hf
          refine mg_iald hx hb hKn hH ev10 dX1_change_60 ?_
          cases hf
          exact rt_i hx hb hr hlk hH dX1_change_61
        · have hf := ip_ c14 hf
          refine lv_aload_n hx hb dX1_change_40 rfl (lv_at hl 0 rfl) ?_
          obtain ⟨v11, ev11, hf⟩ := bs_ hf
          refine mg_gR hx hb hts hown hKn hH ev11 in_X1 rfl (by decide) (hts _ q939) (fun _ h9 => h9) dX1_change_41 ?_
          obtain ⟨v12, ev12, hf⟩ := bs_ hf
          refine mg_gR hx hb hts hown hKn hH ev12 in_X2 rfl (by decide) (hts _ q874) (fun _ h9 => h9) dX1_change_44 ?_
          refine lv_iload_n hx hb dX1_change_47 rfl (lv_at hl 3 rfl) ?_
          obtain ⟨v13, ev13, hf⟩ := bs_ hf
          refine mg_iald hx hb hKn hH ev13 dX1_change_48 ?_
          refine lv_goto (tgt := 61) hx hb dX1_change_49 (by decide) ?_
          cases hf
          exact rt_i hx hb hr hlk hH dX1_change_61
      · have hf := ip_ c15 hf
        refine lv_iconst (v := (-1)) hx hb dX1_change_26 (by decide) ?_
        cases hf
        exact rt_i hx hb hr hlk hH dX1_change_27
def fX1_sortOf (M : Mem_) (a0 : Nat) : Option Int32 :=
  (tg_ M a0).bind fun t1 =>
  if (b2_ (decide (t1 = 1))) = 0 then
    (tg_ M a0).bind fun t2 =>
    if (b2_ (decide (t2 = 2))) = 0 then
      (tg_ M a0).bind fun t3 =>
      if (b2_ (decide (t3 = 0))) = 0 then
        some (-1)
      else
        some 2
    else
      some 1
  else
    some 0
theorem kdX1_sortOf : yX1_sortOf.cls ≠ "java/lang/invoke/MethodHandle" ∧ yX1_sortOf.cls ≠ "java/lang/invoke/VarHandle" ∧ (parseMethodDescriptor yX1_sortOf.desc).map (fun d => d.parameters.length) = some 1 := by decide +kernel
set_option maxHeartbeats 4000000 in
theorem mX1_sortOf (l : Launch) (G : GT_) (M : Mem_) (n : Nat) (a0 : Nat) (r : Int32) (hf : fX1_sortOf M a0 = some r) : Ct_ G l yX1_sortOf (ws_ yX1_sortOf cX1_sortOf 1 (some .int)) ({ frames := 0, cells := 0, slots := 0, locals := 0 }) 0 0 [.ref a0] M n (some (.int r)) M n := by
  refine en_ (by decide) (Nat.le_of_ble_eq_true rfl) ?_
  intro p e s m below meth c hx hb hr hlk hml hown hts hname hKn hH ls hl
  have hown : s.vm.findClass RX1 = some m.cls := hown
  have hl : lv_has ls 1 [(0, .ref a0)] := hl
  unfold fX1_sortOf at hf
  generalize s.heap = H at hH ⊢
  refine lv_aload_n hx hb dX1_sortOf_0 rfl (lv_at hl 0 rfl) ?_
  obtain ⟨t1, et1, hf⟩ := bs_ hf
  refine mg_inst (tag := 1) hx hb hown (by decide) (hts _ q202) hKn hH et1 dX1_sortOf_1 ?_
  refine lv_if_eq (tgt := 11) hx hb dX1_sortOf_4 (by decide) (fun c6 => ?_) (fun c6 => ?_)
  · have hf := ip_ c6 hf
    refine lv_aload_n hx hb dX1_sortOf_11 rfl (lv_at hl 0 rfl) ?_
    obtain ⟨t2, et2, hf⟩ := bs_ hf
    refine mg_inst (tag := 2) hx hb hown (by decide) (hts _ q743) hKn hH et2 dX1_sortOf_12 ?_
    refine lv_if_eq (tgt := 22) hx hb dX1_sortOf_15 (by decide) (fun c5 => ?_) (fun c5 => ?_)
    · have hf := ip_ c5 hf
      refine lv_aload_n hx hb dX1_sortOf_22 rfl (lv_at hl 0 rfl) ?_
      obtain ⟨t3, et3, hf⟩ := bs_ hf
      refine mg_inst (tag := 0) hx hb hown (by decide) (hts _ q744) hKn hH et3 dX1_sortOf_23 ?_
      refine lv_if_eq (tgt := 33) hx hb dX1_sortOf_26 (by decide) (fun c4 => ?_) (fun c4 => ?_)
      · have hf := ip_ c4 hf
        refine lv_iconst (v := (-1)) hx hb dX1_sortOf_33 (by decide) ?_
        cases hf
        exact rt_i hx hb hr hlk hH dX1_sortOf_34
      · have hf := in_ c4 hf
        refine lv_iconst (v := 2) hx hb dX1_sortOf_29 (by decide) ?_
        refine lv_goto (tgt := 34) hx hb dX1_sortOf_30 (by decide) ?_
        cases hf
        exact rt_i hx hb hr hlk hH dX1_sortOf_34
    · have hf := in_ c5 hf
      refine lv_iconst (v := 1) hx hb dX1_sortOf_18 (by decide) ?_
      refine lv_goto (tgt := 34) hx hb dX1_sortOf_19 (by decide) ?_
      cases hf
      exact rt_i hx hb hr hlk hH dX1_sortOf_34
  · have hf := in_ c6 hf
    refine lv_iconst (v := 0) hx hb dX1_sortOf_7 (by decide) ?_
    refine lv_goto (tgt := 34) hx hb dX1_sortOf_8 (by decide) ?_
    cases hf
    exact rt_i hx hb hr hlk hH dX1_sortOf_34
def fX1_notRow (M : Mem_) (a0 : Nat) (a1 : Int32) : Option Int32 :=
  (ck_ M a0 0).bind fun u1 =>
  lt_ (fX1_isShelf a0 a1) fun r2 =>
  if (b2_ r2) = 0 then
    some (-1)
  else
    (gR_ M a0 0 8).bind fun v3 =>
    (aR_ M v3 5 a1).bind fun v4 =>
    (gN_ M v4 2 0).bind fun v5 =>
    no_ v5 (
      some (-11)
    ) (fun o6 =>
      (fX1_sortOf M o6).bind fun r7 =>
      if r7 = (-1) then
        some (-12)
      else
        some 0
    )
theorem kdX1_notRow : yX1_notRow.cls ≠ "java/lang/invoke/MethodHandle" ∧ yX1_notRow.cls ≠ "java/lang/invoke/VarHandle" ∧ (parseMethodDescriptor yX1_notRow.desc).map (fun d => d.parameters.length) = some 1 := by decide +kernel
set_option maxHeartbeats 4000000 in
theorem mX1_notRow (l : Launch) (G : GT_) (M : Mem_) (n : Nat) (a0 : Nat) (a1 : Int32) (r : Int32) (hf : fX1_notRow M a0 a1 = some r) : Ct_ G l yX1_notRow (ws_ yX1_notRow cX1_notRow 3 (some .int)) ({ frames := 2, cells := 0, slots := 0, locals := 43 }) 0 0 [.ref a0, .int a1] M n (some (.int r)) M n := by
  refine en_ (by decide) (Nat.le_of_ble_eq_true rfl) ?_
  intro p e s m below meth c hx hb hr hlk hml hown hts hname hKn hH ls hl
  have hown : s.vm.findClass RX1 = some m.cls := hown
  have hl : lv_has ls 3 [(0, .ref a0), (1, .int a1)] := hl
  unfold fX1_notRow at hf
  generalize s.heap = H at hH ⊢
  refine lv_aload_n hx hb dX1_notRow_0 rfl (lv_at hl 0 rfl) ?_
  refine lv_iload_n hx hb dX1_notRow_1 rfl (lv_at hl 1 rfl) ?_
  obtain ⟨u1, eu1, hf⟩ := bs_ hf
  obtain ⟨r2, er2⟩ : ∃ z, z = fX1_isShelf a0 a1 := ⟨_, rfl⟩
  have hf := lu_ er2 hf
  refine cl_i0 hH (rn_V ⟨hx, hb, hml, hown, hts⟩ hKn hH (mX1_isShelf l G M n a0 a1 r2 er2.symm) (cwV 1 hts (lw_V q194 q196 qs2 q67 q198) rfl rfl rfl ⟨rfl, kdX1_isShelf⟩ ⟨Nat.le_of_ble_eq_true rfl, Nat.le_of_ble_eq_true rfl⟩) eu1 rfl rfl hl.1 (Nat.le_of_ble_eq_true rfl) dX1_notRow_2 ⟨(Nat.le_of_ble_eq_true rfl), (Nat.le_of_ble_eq_true rfl)⟩ rfl) (fun H locs hH => ?_)
  refine lv_if_ne (tgt := 10) hx hb dX1_notRow_5 (by decide) (fun c9 => ?_) (fun c9 => ?_)
  · have hf := in_ c9 hf
    refine lv_aload_n hx hb dX1_notRow_10 rfl (lv_at hl 0 rfl) ?_
    obtain ⟨v3, ev3, hf⟩ := bs_ hf
    refine mg_gR hx hb hts hown hKn hH ev3 in_X1 rfl (by decide) (hts _ q945) (fun _ h9 => h9) dX1_notRow_11 ?_
    refine lv_iload_n hx hb dX1_notRow_14 rfl (lv_at hl 1 rfl) ?_
    obtain ⟨v4, ev4, hf⟩ := bs_ hf
    refine mg_aald5 hx hb hKn hH ev4 dX1_notRow_15 ?_
    obtain ⟨v5, ev5, hf⟩ := bs_ hf
    refine mg_gN hx hb hts hown hKn hH ev5 in_X3 rfl (by decide) (hts _ q933) (fun _ h9 => h9) dX1_notRow_16 ?_
    cases v5 with
    | none =>
      have hf := noN_ hf
      have hl : lv_has ls 3 [(0, .ref a0), (1, .int a1)] := hl
      refine lv_astore_nN (lv' := [(2, .null), (0, .ref a0), (1, .int a1)]) hx hb dX1_notRow_19 rfl hl (by decide) rfl (fun ls hl => ?_)
      refine lv_aload_nN hx hb dX1_notRow_20 rfl (lv_at hl 0 rfl) ?_
      refine lv_ifnonnullN hx hb dX1_notRow_21 ?_
      refine lv_bipush (v := (-11)) hx hb dX1_notRow_24 (by decide) ?_
      refine lv_goto (tgt := 43) hx hb dX1_notRow_26 (by decide) ?_
      cases hf
      exact rt_i hx hb hr hlk hH dX1_notRow_43
    | some o6 =>
      have hf := noS_ hf
      have hl : lv_has ls 3 [(0, .ref a0), (1, .int a1)] := hl
      refine lv_astore_n (lv' := [(2, .ref o6), (0, .ref a0), (1, .int a1)]) hx hb dX1_notRow_19 rfl hl (by decide) rfl (fun ls hl => ?_)
      refine lv_aload_n hx hb dX1_notRow_20 rfl (lv_at hl 0 rfl) ?_
      refine lv_ifnonnull (tgt := 29) hx hb dX1_notRow_21 (by decide) ?_
      refine lv_aload_n hx hb dX1_notRow_29 rfl (lv_at hl 0 rfl) ?_
      obtain ⟨r7, er7, hf⟩ := bs_ hf
      refine cl_i0 hH (rn_S ⟨hx, hb, hml, hown, hts⟩ hKn hH (mX1_sortOf l G M n o6 r7 er7) (va_cwS 1 hts (lw_S q740 q741 q67 q742) rfl rfl rfl kdX1_sortOf ⟨Nat.le_of_ble_eq_true rfl, Nat.le_of_ble_eq_true rfl⟩) rfl hl.1 (Nat.le_of_ble_eq_true rfl) dX1_notRow_30 ⟨(Nat.le_of_ble_eq_true rfl), (Nat.le_of_ble_eq_true rfl)⟩ rfl) (fun H locs hH => ?_)
      refine lv_iconst (v := (-1)) hx hb dX1_notRow_33 (by decide) ?_
      refine lv_icmp_ne (tgt := 42) hx hb dX1_notRow_34 (by decide) (fun c8 => ?_) (fun c8 => ?_)
      · have hf := in_ c8 hf
        refine lv_iconst (v := 0) hx hb dX1_notRow_42 (by decide) ?_
        cases hf
        exact rt_i hx hb hr hlk hH dX1_notRow_43
      · have hf := ip_ c8 hf
        refine lv_bipush (v := (-12)) hx hb dX1_notRow_37 (by decide) ?_
        refine lv_goto (tgt := 43) hx hb dX1_notRow_39 (by decide) ?_
        cases hf
        exact rt_i hx hb hr hlk hH dX1_notRow_43
  · have hf := ip_ c9 hf
    refine lv_iconst (v := (-1)) hx hb dX1_notRow_8 (by decide) ?_
    cases hf
    exact rt_i hx hb hr hlk hH dX1_notRow_9
def fX1_sizeOf (M : Mem_) (a0 : Nat) : Option Int32 :=
  (tg_ M a0).bind fun t1 =>
  if (b2_ (decide (t1 = 1))) = 0 then
    (tg_ M a0).bind fun t2 =>
    if (b2_ (decide (t2 = 2))) = 0 then
      (cc_ M a0 0).bind fun u3 =>
      (lI_ M a0 0).bind fun v4 =>
      some v4
    else
      (cc_ M a0 2).bind fun u5 =>
      (lI_ M a0 2).bind fun v6 =>
      some v6
  else
    (cc_ M a0 1).bind fun u8 =>
    (lI_ M a0 1).bind fun v9 =>
    some v9
theorem kdX1_sizeOf : yX1_sizeOf.cls ≠ "java/lang/invoke/MethodHandle" ∧ yX1_sizeOf.cls ≠ "java/lang/invoke/VarHandle" ∧ (parseMethodDescriptor yX1_sizeOf.desc).map (fun d => d.parameters.length) = some 1 := by decide +kernel
set_option maxHeartbeats 4000000 in
theorem mX1_sizeOf (l : Launch) (G : GT_) (M : Mem_) (n : Nat) (a0 : Nat) (r : Int32) (hf : fX1_sizeOf M a0 = some r) : Ct_ G l yX1_sizeOf (ws_ yX1_sizeOf cX1_sizeOf 1 (some .int)) ({ frames := 0, cells := 0, slots := 0, locals := 0 }) 0 0 [.ref a0] M n (some (.int r)) M n := by
  refine en_ (by decide) (Nat.le_of_ble_eq_true rfl) ?_
  intro p e s m below meth c hx hb hr hlk hml hown hts hname hKn hH ls hl
  have hown : s.vm.findClass RX1 = some m.cls := hown
  have hl : lv_has ls 1 [(0, .ref a0)] := hl
  unfold fX1_sizeOf at hf
  generalize s.heap = H at hH ⊢
  refine lv_aload_n hx hb dX1_sizeOf_0 rfl (lv_at hl 0 rfl) ?_
  obtain ⟨t1, et1, hf⟩ := bs_ hf
  refine mg_inst (tag := 1) hx hb hown (by decide) (hts _ q202) hKn hH et1 dX1_sizeOf_1 ?_
  refine lv_if_eq (tgt := 15) hx hb dX1_sizeOf_4 (by decide) (fun c10 => ?_) (fun c10 => ?_)
  · have hf := ip_ c10 hf
    refine lv_aload_n hx hb dX1_sizeOf_15 rfl (lv_at hl 0 rfl) ?_
    obtain ⟨t2, et2, hf⟩ := bs_ hf
    refine mg_inst (tag := 2) hx hb hown (by decide) (hts _ q743) hKn hH et2 dX1_sizeOf_16 ?_
    refine lv_if_eq (tgt := 30) hx hb dX1_sizeOf_19 (by decide) (fun c7 => ?_) (fun c7 => ?_)
    · have hf := ip_ c7 hf
      refine lv_aload_n hx hb dX1_sizeOf_30 rfl (lv_at hl 0 rfl) ?_
      obtain ⟨u3, eu3, hf⟩ := bs_ hf
      refine mg_cast (tag := 0) hx hb hown (hts _ q744) hKn hH eu3 dX1_sizeOf_31 ?_
      obtain ⟨v4, ev4, hf⟩ := bs_ hf
      refine mg_len0 hx hb hKn hH ev4 dX1_sizeOf_34 ?_
      cases hf
      exact rt_i hx hb hr hlk hH dX1_sizeOf_35
    · have hf := in_ c7 hf
      refine lv_aload_n hx hb dX1_sizeOf_22 rfl (lv_at hl 0 rfl) ?_
      obtain ⟨u5, eu5, hf⟩ := bs_ hf
      refine mg_cast (tag := 2) hx hb hown (hts _ q743) hKn hH eu5 dX1_sizeOf_23 ?_
      obtain ⟨v6, ev6, hf⟩ := bs_ hf
      refine mg_len2 hx hb hKn hH ev6 dX1_sizeOf_26 ?_
      refine lv_goto (tgt := 35) hx hb dX1_sizeOf_27 (by decide) ?_
      cases hf
      exact rt_i hx hb hr hlk hH dX1_sizeOf_35
  · have hf := in_ c10 hf
    refine lv_aload_n hx hb dX1_sizeOf_7 rfl (lv_at hl 0 rfl) ?_
    obtain ⟨u8, eu8, hf⟩ := bs_ hf
    refine mg_cast (tag := 1) hx hb hown (hts _ q202) hKn hH eu8 dX1_sizeOf_8 ?_
    obtain ⟨v9, ev9, hf⟩ := bs_ hf
    refine mg_len1 hx hb hKn hH ev9 dX1_sizeOf_11 ?_
    refine lv_goto (tgt := 35) hx hb dX1_sizeOf_12 (by decide) ?_
    cases hf
    exact rt_i hx hb hr hlk hH dX1_sizeOf_35
def fX1_elementOf (M : Mem_) (a0 : Nat) (a1 : Int32) : Option Int32 :=
  (tg_ M a0).bind fun t1 =>
  if (b2_ (decide (t1 = 1))) = 0 then
    (tg_ M a0).bind fun t2 =>
    if (b2_ (decide (t2 = 2))) = 0 then
      (cc_ M a0 0).bind fun u3 =>
      (aI_ M a0 0 a1).bind fun v4 =>
      some v4
    else
      (cc_ M a0 2).bind fun u5 =>
      (aI_ M a0 2 a1).bind fun v6 =>
      some v6
  else
    (cc_ M a0 1).bind fun u8 =>
    (aI_ M a0 1 a1).bind fun v9 =>
    some v9
theorem kdX1_elementOf : yX1_elementOf.cls ≠ "java/lang/invoke/MethodHandle" ∧ yX1_elementOf.cls ≠ "java/lang/invoke/VarHandle" ∧ (parseMethodDescriptor yX1_elementOf.desc).map (fun d => d.parameters.length) = some 2 := by decide +kernel
set_option maxHeartbeats 4000000 in
theorem mX1_elementOf (l : Launch) (G : GT_) (M : Mem_) (n : Nat) (a0 : Nat) (a1 : Int32) (r : Int32) (hf : fX1_elementOf M a0 a1 = some r) : Ct_ G l yX1_elementOf (ws_ yX1_elementOf cX1_elementOf 2 (some .int)) ({ frames := 0, cells := 0, slots := 0, locals := 0 }) 0 0 [.ref a0, .int a1] M n (some (.int r)) M n := by
  refine en_ (by decide) (Nat.le_of_ble_eq_true rfl) ?_
  intro p e s m below meth c hx hb hr hlk hml hown hts hname hKn hH ls hl
  have hown : s.vm.findClass RX1 = some m.cls := hown
  have hl : lv_has ls 2 [(0, .ref a0), (1, .int a1)] := hl
  unfold fX1_elementOf at hf
  generalize s.heap = H at hH ⊢
  refine lv_aload_n hx hb dX1_elementOf_0 rfl (lv_at hl 0 rfl) ?_
  obtain ⟨t1, et1, hf⟩ := bs_ hf
  refine mg_inst (tag := 1) hx hb hown (by decide) (hts _ q202) hKn hH et1 dX1_elementOf_1 ?_
  refine lv_if_eq (tgt := 16) hx hb dX1_elementOf_4 (by decide) (fun c10 => ?_) (fun c10 => ?_)
  · have hf := ip_ c10 hf
    refine lv_aload_n hx hb dX1_elementOf_16 rfl (lv_at hl 0 rfl) ?_
    obtain ⟨t2, et2, hf⟩ := bs_ hf
    refine mg_inst (tag := 2) hx hb hown (by decide) (hts _ q743) hKn hH et2 dX1_elementOf_17 ?_
    refine lv_if_eq (tgt := 32) hx hb dX1_elementOf_20 (by decide) (fun c7 => ?_) (fun c7 => ?_)
    · have hf := ip_ c7 hf
      refine lv_aload_n hx hb dX1_elementOf_32 rfl (lv_at hl 0 rfl) ?_
      obtain ⟨u3, eu3, hf⟩ := bs_ hf
      refine mg_cast (tag := 0) hx hb hown (hts _ q744) hKn hH eu3 dX1_elementOf_33 ?_
      refine lv_iload_n hx hb dX1_elementOf_36 rfl (lv_at hl 1 rfl) ?_
      obtain ⟨v4, ev4, hf⟩ := bs_ hf
      refine mg_iald hx hb hKn hH ev4 dX1_elementOf_37 ?_
      cases hf
      exact rt_i hx hb hr hlk hH dX1_elementOf_38
    · have hf := in_ c7 hf
      refine lv_aload_n hx hb dX1_elementOf_23 rfl (lv_at hl 0 rfl) ?_
      obtain ⟨u5, eu5, hf⟩ := bs_ hf
      refine mg_cast (tag := 2) hx hb hown (hts _ q743) hKn hH eu5 dX1_elementOf_24 ?_
      refine lv_iload_n hx hb dX1_elementOf_27 rfl (lv_at hl 1 rfl) ?_
      obtain ⟨v6, ev6, hf⟩ := bs_ hf
      refine mg_sald hx hb hKn hH ev6 dX1_elementOf_28 ?_
      refine lv_goto (tgt := 38) hx hb dX1_elementOf_29 (by decide) ?_
      cases hf
      exact rt_i hx hb hr hlk hH dX1_elementOf_38
  · have hf := in_ c10 hf
    refine lv_aload_n hx hb dX1_elementOf_7 rfl (lv_at hl 0 rfl) ?_
    obtain ⟨u8, eu8, hf⟩ := bs_ hf
    refine mg_cast (tag := 1) hx hb hown (hts _ q202) hKn hH eu8 dX1_elementOf_8 ?_
    refine lv_iload_n hx hb dX1_elementOf_11 rfl (lv_at hl 1 rfl) ?_
    obtain ⟨v9, ev9, hf⟩ := bs_ hf
    refine mg_bald hx hb hKn hH ev9 dX1_elementOf_12 ?_
    refine lv_goto (tgt := 38) hx hb dX1_elementOf_13 (by decide) ?_
    cases hf
    exact rt_i hx hb hr hlk hH dX1_elementOf_38
def fX1_notHits_L25 : Nat → Mem_ → Nat → Int32 → Int32 → Nat → Int32 → Option Int32
  | 0, _, _, _, _, _, _ => none
  | fuel + 1, M, x0, x1, x2, x3, x4 =>
    (fX1_sizeOf M x3).bind fun r7 =>
    if r7 ≤ ((2 * x4) + 1) then
      (fX1_sizeOf M x3).bind fun r8 =>
      if (r8 - r8 / 2 * 2) = 1 then
        some (-13)
      else
        some 0
    else
      (fX1_elementOf M x3 (2 * x4)).bind fun r10 =>
      (fX1_elementOf M x3 ((2 * x4) + 1)).bind fun r11 =>
      (ck_ M x0 0).bind fun u12 =>
      (fX1_isHit M x0 r10 r11).bind fun r13 =>
      if (b2_ r13) = 0 then
        some (-13)
      else
        lt_ (x4 + 1) fun v14 =>
        fX1_notHits_L25 fuel M x0 x1 x2 x3 v14
def fX1_notHits (M : Mem_) (a0 : Nat) (a1 : Int32) : Option Int32 :=
  (ck_ M a0 0).bind fun u1 =>
  (fX1_notRow M a0 a1).bind fun r2 =>
  if r2 = 0 then
    (gR_ M a0 0 8).bind fun v3 =>
    (aR_ M v3 5 a1).bind fun v4 =>
    (gR_ M v4 2 0).bind fun v5 =>
    fX1_notHits_L25 1000 M a0 a1 r2 v5 0
  else
    some r2
theorem kdX1_notHits : yX1_notHits.cls ≠ "java/lang/invoke/MethodHandle" ∧ yX1_notHits.cls ≠ "java/lang/invoke/VarHandle" ∧ (parseMethodDescriptor yX1_notHits.desc).map (fun d => d.parameters.length) = some 1 := by decide +kernel
set_option maxHeartbeats 4000000 in
theorem mX1_notHits (l : Launch) (G : GT_) (M : Mem_) (n : Nat) (a0 : Nat) (a1 : Int32) (r : Int32) (hf : fX1_notHits M a0 a1 = some r) : Ct_ G l yX1_notHits (ws_ yX1_notHits cX1_notHits 5 (some .int)) ({ frames := 3, cells := 0, slots := 0, locals := 65 }) 0 0 [.ref a0, .int a1] M n (some (.int r)) M n := by
  refine en_ (by decide) (Nat.le_of_ble_eq_true rfl) ?_
  intro p e s m below meth c hx hb hr hlk hml hown hts hname hKn hH ls hl
  have hown : s.vm.findClass RX1 = some m.cls := hown
  have hl : lv_has ls 5 [(0, .ref a0), (1, .int a1)] := hl
  have w25 : ∀ (fuel : Nat), ∀ (M : Mem_) (x0 : Nat) (x1 : Int32) (x2 : Int32) (x3 : Nat) (x4 : Int32) (H : Heap) (locs : List Loc) (ls : Array Slot), St_ G n M s H locs → lv_has ls 5 [(0, .ref x0), (1, .int x1), (2, .int x2), (3, .ref x3), (4, .int x4)] → fX1_notHits_L25 fuel M x0 x1 x2 x3 x4 = some r → W p l e ({ frames := 3, cells := 0, slots := 0, locals := 65 } : Room) s m ([.ref a0, .int a1] : List Value).toArray below meth c H locs 0 0 (MQ below (Qc_ G (some (.int r)) M n) ([.ref a0, .int a1] : List Value).toArray s 0 0 (fun q => G.1 ≤ q)) (F0 m 25 ls []) := by
    intro fuel
    induction fuel with
    | zero =>
      intro M x0 x1 x2 x3 x4 H locs ls hH hl hf
      cases hf
    | succ fuel ih =>
      intro M x0 x1 x2 x3 x4 H locs ls hH hl hf
      unfold fX1_notHits_L25 at hf
      refine lv_iconst (v := 2) hx hb dX1_notHits_25 (by decide) ?_
      refine lv_iload hx hb dX1_notHits_26 (lv_at hl 4 rfl) ?_
      refine lv_imul hx hb dX1_notHits_28 ?_
      refine lv_iconst (v := 1) hx hb dX1_notHits_29 (by decide) ?_
      refine lv_iadd hx hb dX1_notHits_30 ?_
      refine lv_aload_n hx hb dX1_notHits_31 rfl (lv_at hl 3 rfl) ?_
      obtain ⟨r7, er7, hf⟩ := bs_ hf
      refine cl_i0 hH (rn_S ⟨hx, hb, hml, hown, hts⟩ hKn hH (mX1_sizeOf l G M n x3 r7 er7) (va_cwS 1 hts (lw_S q745 q746 q67 q747) rfl rfl rfl kdX1_sizeOf ⟨Nat.le_of_ble_eq_true rfl, Nat.le_of_ble_eq_true rfl⟩) rfl hl.1 (Nat.le_of_ble_eq_true rfl) dX1_notHits_32 ⟨(Nat.le_of_ble_eq_true rfl), (Nat.le_of_ble_eq_true rfl)⟩ rfl) (fun H locs hH => ?_)
      refine lv_icmp_ge (tgt := 72) hx hb dX1_notHits_35 (by decide) (fun c16 => ?_) (fun c16 => ?_)
      · have hf := ip_ c16 hf
        refine lv_aload_n hx hb dX1_notHits_72 rfl (lv_at hl 3 rfl) ?_
        obtain ⟨r8, er8, hf⟩ := bs_ hf
        refine cl_i0 hH (rn_S ⟨hx, hb, hml, hown, hts⟩ hKn hH (mX1_sizeOf l G M n x3 r8 er8) (va_cwS 1 hts (lw_S q745 q746 q67 q747) rfl rfl rfl kdX1_sizeOf ⟨Nat.le_of_ble_eq_true rfl, Nat.le_of_ble_eq_true rfl⟩) rfl hl.1 (Nat.le_of_ble_eq_true rfl) dX1_notHits_73 ⟨(Nat.le_of_ble_eq_true rfl), (Nat.le_of_ble_eq_true rfl)⟩ rfl) (fun H locs hH => ?_)
        refine lv_iconst (v := 2) hx hb dX1_notHits_76 (by decide) ?_
        refine lv_irem hx hb dX1_notHits_77 (by decide) ?_
        refine lv_iconst (v := 1) hx hb dX1_notHits_78 (by decide) ?_
        refine lv_icmp_ne (tgt := 87) hx hb dX1_notHits_79 (by decide) (fun c9 => ?_) (fun c9 => ?_)
        · have hf := in_ c9 hf
          refine lv_iconst (v := 0) hx hb dX1_notHits_87 (by decide) ?_
          cases hf
          exact rt_i hx hb hr hlk hH dX1_notHits_88
        · have hf := ip_ c9 hf
          refine lv_bipush (v := (-13)) hx hb dX1_notHits_82 (by decide) ?_
          refine lv_goto (tgt := 88) hx hb dX1_notHits_84 (by decide) ?_
          cases hf
          exact rt_i hx hb hr hlk hH dX1_notHits_88
      · have hf := in_ c16 hf
        refine lv_aload_n hx hb dX1_notHits_38 rfl (lv_at hl 0 rfl) ?_
        refine lv_aload_n hx hb dX1_notHits_39 rfl (lv_at hl 3 rfl) ?_
        refine lv_iconst (v := 2) hx hb dX1_notHits_40 (by decide) ?_
        refine lv_iload hx hb dX1_notHits_41 (lv_at hl 4 rfl) ?_
        refine lv_imul hx hb dX1_notHits_43 ?_
        obtain ⟨r10, er10, hf⟩ := bs_ hf
        refine cl_i0 hH (rn_S ⟨hx, hb, hml, hown, hts⟩ hKn hH (mX1_elementOf l G M n x3 (2 * x4) r10 er10) (va_cwS 2 hts (lw_S q748 q749 q67 q750) rfl rfl rfl kdX1_elementOf ⟨Nat.le_of_ble_eq_true rfl, Nat.le_of_ble_eq_true rfl⟩) rfl hl.1 (Nat.le_of_ble_eq_true rfl) dX1_notHits_44 ⟨(Nat.le_of_ble_eq_true rfl), (Nat.le_of_ble_eq_true rfl)⟩ rfl) (fun H locs hH => ?_)
        refine lv_aload_n hx hb dX1_notHits_47 rfl (lv_at hl 3 rfl) ?_
        refine lv_iconst (v := 2) hx hb dX1_notHits_48 (by decide) ?_
        refine lv_iload hx hb dX1_notHits_49 (lv_at hl 4 rfl) ?_
        refine lv_imul hx hb dX1_notHits_51 ?_
        refine lv_iconst (v := 1) hx hb dX1_notHits_52 (by decide) ?_
        refine lv_iadd hx hb dX1_notHits_53 ?_
        obtain ⟨r11, er11, hf⟩ := bs_ hf
        refine cl_i0 hH (rn_S ⟨hx, hb, hml, hown, hts⟩ hKn hH (mX1_elementOf l G M n x3 ((2 * x4) + 1) r11 er11) (va_cwS 2 hts (lw_S q748 q749 q67 q750) rfl rfl rfl kdX1_elementOf ⟨Nat.le_of_ble_eq_true rfl, Nat.le_of_ble_eq_true rfl⟩) rfl hl.1 (Nat.le_of_ble_eq_true rfl) dX1_notHits_54 ⟨(Nat.le_of_ble_eq_true rfl), (Nat.le_of_ble_eq_true rfl)⟩ rfl) (fun H locs hH => ?_)
        obtain ⟨u12, eu12, hf⟩ := bs_ hf
        obtain ⟨r13, er13, hf⟩ := bs_ hf
        refine cl_i0 hH (rn_V ⟨hx, hb, hml, hown, hts⟩ hKn hH (mX1_isHit l G M n x0 r10 r11 r13 er13) (cwV 2 hts (lw_V q644 q646 qs20 q67 q647) rfl rfl rfl ⟨rfl, kdX1_isHit⟩ ⟨Nat.le_of_ble_eq_true rfl, Nat.le_of_ble_eq_true rfl⟩) eu12 rfl rfl hl.1 (Nat.le_of_ble_eq_true rfl) dX1_notHits_57 ⟨(Nat.le_of_ble_eq_true rfl), (Nat.le_of_ble_eq_true rfl)⟩ rfl) (fun H locs hH => ?_)
        refine lv_if_ne (tgt := 66) hx hb dX1_notHits_60 (by decide) (fun c15 => ?_) (fun c15 => ?_)
        · have hf := in_ c15 hf
          obtain ⟨v14, ev14⟩ : ∃ z : Int32, z = x4 + 1 := ⟨_, rfl⟩
          have hf := lu_ ev14 hf
          refine lv_iinc (v := v14) (lv' := [(4, .int v14), (0, .ref x0), (1, .int x1), (2, .int x2), (3, .ref x3)]) hx hb dX1_notHits_66 hl (k := 4) rfl (by rw [ev14]; rfl) (by decide) rfl (fun ls hl => ?_)
          refine lv_goto (tgt := 25) hx hb dX1_notHits_69 (by decide) ?_
          exact ih M x0 x1 x2 x3 v14 _ _ ls hH (lv_sub hl [1, 2, 3, 4, 0] rfl) hf
        · have hf := ip_ c15 hf
          refine lv_bipush (v := (-13)) hx hb dX1_notHits_63 (by decide) ?_
          cases hf
          exact rt_i hx hb hr hlk hH dX1_notHits_65
  unfold fX1_notHits at hf
  refine lv_aload_n hx hb dX1_notHits_0 rfl (lv_at hl 0 rfl) ?_
  refine lv_iload_n hx hb dX1_notHits_1 rfl (lv_at hl 1 rfl) ?_
  obtain ⟨u1, eu1, hf⟩ := bs_ hf
  obtain ⟨r2, er2, hf⟩ := bs_ hf
  refine cl_i0 hH (rn_V ⟨hx, hb, hml, hown, hts⟩ hKn hH (mX1_notRow l G M n a0 a1 r2 er2) (cwV 1 hts (lw_V q736 q738 qs30 q67 q739) rfl rfl rfl ⟨rfl, kdX1_notRow⟩ ⟨Nat.le_of_ble_eq_true rfl, Nat.le_of_ble_eq_true rfl⟩) eu1 rfl rfl hl.1 (Nat.le_of_ble_eq_true rfl) dX1_notHits_2 ⟨(Nat.le_of_ble_eq_true rfl), (Nat.le_of_ble_eq_true rfl)⟩ rfl) (fun H locs hH => ?_)
  refine lv_istore_n (lv' := [(2, .int r2), (0, .ref a0), (1, .int a1)]) hx hb dX1_notHits_5 rfl hl (by decide) rfl (fun ls hl => ?_)
  refine lv_iload_n hx hb dX1_notHits_6 rfl (lv_at hl 0 rfl) ?_
  refine lv_if_eq (tgt := 12) hx hb dX1_notHits_7 (by decide) (fun c6 => ?_) (fun c6 => ?_)
  · have hf := ip_ c6 hf
    refine lv_aload_n hx hb dX1_notHits_12 rfl (lv_at hl 1 rfl) ?_
    obtain ⟨v3, ev3, hf⟩ := bs_ hf
    refine mg_gR hx hb hts hown hKn hH ev3 in_X1 rfl (by decide) (hts _ q945) (fun _ h9 => h9) dX1_notHits_13 ?_
    refine lv_iload_n hx hb dX1_notHits_16 rfl (lv_at hl 2 rfl) ?_
    obtain ⟨v4, ev4, hf⟩ := bs_ hf
    refine mg_aald5 hx hb hKn hH ev4 dX1_notHits_17 ?_
    obtain ⟨v5, ev5, hf⟩ := bs_ hf
    refine mg_gR hx hb hts hown hKn hH ev5 in_X3 rfl (by decide) (hts _ q933) (fun _ h9 => h9) dX1_notHits_18 ?_
    refine lv_astore_n (lv' := [(3, .ref v5), (2, .int r2), (0, .ref a0), (1, .int a1)]) hx hb dX1_notHits_21 rfl hl (by decide) rfl (fun ls hl => ?_)
    refine lv_iconst (v := 0) hx hb dX1_notHits_22 (by decide) ?_
    refine lv_istore (lv' := [(4, .int 0), (3, .ref v5), (2, .int r2), (0, .ref a0), (1, .int a1)]) hx hb dX1_notHits_23 hl (by decide) rfl (fun ls hl => ?_)
    exact w25 1000 M a0 a1 r2 v5 0 _ _ ls hH (lv_sub hl [3, 4, 2, 1, 0] rfl) hf
  · have hf := in_ c6 hf
    refine lv_iload_n hx hb dX1_notHits_10 rfl (lv_at hl 0 rfl) ?_
    cases hf
    exact rt_i hx hb hr hlk hH dX1_notHits_11
def fX1_rallies_L11 : Nat → Mem_ → Nat → Nat → Int32 → Option (Int32 × Mem_)
  | 0, _, _, _, _ => none
  | fuel + 1, M, x0, x1, x2 =>
    (fX1_sizeOf M x1).bind fun r5 =>
    if r5 ≤ (2 * x2) then
      (fX1_sizeOf M x1).bind fun r6 =>
      some ((r6 / 2), M)
    else
      (gR_ M x0 0 2).bind fun v7 =>
      (ck_ M v7 1).bind fun u8 =>
      (fX2_turn M v7).bind fun r9 =>
      (gR_ M x0 0 2).bind fun v10 =>
      (fX1_elementOf M x1 (2 * x2)).bind fun r11 =>
      (fX1_elementOf M x1 ((2 * x2) + 1)).bind fun r12 =>
      (ck_ M v10 1).bind fun u13 =>
      bw_ (fX2_hits M v10 r11 r12) fun r14 M15 =>
      if (b2_ r14) = 0 then
        lt_ (x2 + 1) fun v17 =>
        fX1_rallies_L11 fuel M15 x0 x1 v17
      else
        (pF_ M15 x0 0 6 (.int r9)).bind fun M16 =>
        some ((x2 + 1), M16)
def fX1_rallies (M : Mem_) (a0 : Nat) (a1 : Nat) : Option (Int32 × Mem_) :=
  (ck_ M a0 0).bind fun u1 =>
  (fX1_minds M a0).bind fun M3 =>
  (pF_ M3 a0 0 6 (.int 2)).bind fun M4 =>
  fX1_rallies_L11 1000 M4 a0 a1 0
theorem kdX1_rallies : yX1_rallies.cls ≠ "java/lang/invoke/MethodHandle" ∧ yX1_rallies.cls ≠ "java/lang/invoke/VarHandle" ∧ (parseMethodDescriptor yX1_rallies.desc).map (fun d => d.parameters.length) = some 1 := by decide +kernel
set_option maxHeartbeats 4000000 in
theorem mX1_rallies (l : Launch) (G : GT_) (M : Mem_) (n : Nat) (a0 : Nat) (a1 : Nat) (r : Int32) (M1 : Mem_) (hf : fX1_rallies M a0 a1 = some (r, M1)) : Ct_ G l yX1_rallies (ws_ yX1_rallies cX1_rallies 4 (some .int)) ({ frames := 4, cells := 0, slots := 0, locals := 100 }) 0 0 [.ref a0, .ref a1] M n (some (.int r)) M1 n := by
  refine en_ (by decide) (Nat.le_of_ble_eq_true rfl) ?_
  intro p e s m below meth c hx hb hr hlk hml hown hts hname hKn hH ls hl
  have hown : s.vm.findClass RX1 = some m.cls := hown
  have hl : lv_has ls 4 [(0, .ref a0), (1, .ref a1)] := hl
  have w11 : ∀ (fuel : Nat), ∀ (M : Mem_) (x0 : Nat) (x1 : Nat) (x2 : Int32) (H : Heap) (locs : List Loc) (ls : Array Slot), St_ G n M s H locs → lv_has ls 4 [(0, .ref x0), (1, .ref x1), (2, .int x2)] → fX1_rallies_L11 fuel M x0 x1 x2 = some (r, M1) → W p l e ({ frames := 4, cells := 0, slots := 0, locals := 100 } : Room) s m ([.ref a0, .ref a1] : List Value).toArray below meth c H locs 0 0 (MQ below (Qc_ G (some (.int r)) M1 n) ([.ref a0, .ref a1] : List Value).toArray s 0 0 (fun q => G.1 ≤ q)) (F0 m 11 ls []) := by
    intro fuel
    induction fuel with
    | zero =>
      intro M x0 x1 x2 H locs ls hH hl hf
      cases hf
    | succ fuel ih =>
      intro M x0 x1 x2 H locs ls hH hl hf
      unfold fX1_rallies_L11 at hf
      refine lv_iconst (v := 2) hx hb dX1_rallies_11 (by decide) ?_
      refine lv_iload_n hx hb dX1_rallies_12 rfl (lv_at hl 2 rfl) ?_
      refine lv_imul hx hb dX1_rallies_13 ?_
      refine lv_aload_n hx hb dX1_rallies_14 rfl (lv_at hl 1 rfl) ?_
      obtain ⟨r5, er5, hf⟩ := bs_ hf
      refine cl_i0 hH (rn_S ⟨hx, hb, hml, hown, hts⟩ hKn hH (mX1_sizeOf l G M n x1 r5 er5) (va_cwS 1 hts (lw_S q745 q746 q67 q747) rfl rfl rfl kdX1_sizeOf ⟨Nat.le_of_ble_eq_true rfl, Nat.le_of_ble_eq_true rfl⟩) rfl hl.1 (Nat.le_of_ble_eq_true rfl) dX1_rallies_15 ⟨(Nat.le_of_ble_eq_true rfl), (Nat.le_of_ble_eq_true rfl)⟩ rfl) (fun H locs hH => ?_)
      refine lv_icmp_ge (tgt := 73) hx hb dX1_rallies_18 (by decide) (fun c19 => ?_) (fun c19 => ?_)
      · have hf := ip_ c19 hf
        refine lv_aload_n hx hb dX1_rallies_73 rfl (lv_at hl 1 rfl) ?_
        obtain ⟨r6, er6, hf⟩ := bs_ hf
        refine cl_i0 hH (rn_S ⟨hx, hb, hml, hown, hts⟩ hKn hH (mX1_sizeOf l G M n x1 r6 er6) (va_cwS 1 hts (lw_S q745 q746 q67 q747) rfl rfl rfl kdX1_sizeOf ⟨Nat.le_of_ble_eq_true rfl, Nat.le_of_ble_eq_true rfl⟩) rfl hl.1 (Nat.le_of_ble_eq_true rfl) dX1_rallies_74 ⟨(Nat.le_of_ble_eq_true rfl), (Nat.le_of_ble_eq_true rfl)⟩ rfl) (fun H locs hH => ?_)
        refine lv_iconst (v := 2) hx hb dX1_rallies_77 (by decide) ?_
        refine lv_idiv hx hb dX1_rallies_78 (by decide) ?_
        cases hf
        exact rt_i hx hb hr hlk hH dX1_rallies_79
      · have hf := in_ c19 hf
        refine lv_aload_n hx hb dX1_rallies_21 rfl (lv_at hl 0 rfl) ?_
        obtain ⟨v7, ev7, hf⟩ := bs_ hf
        refine mg_gR hx hb hts hown hKn hH ev7 in_X1 rfl (by decide) (hts _ q939) (fun _ h9 => h9) dX1_rallies_22 ?_
        obtain ⟨u8, eu8, hf⟩ := bs_ hf
        obtain ⟨r9, er9, hf⟩ := bs_ hf
        refine cl_i0 hH (rn_V ⟨hx, hb, hml, hown, hts⟩ hKn hH (mX2_turn l G M n v7 r9 er9) (cwV 0 hts (lw_V q611 q416 q417 q68 q418) rfl rfl rfl ⟨rfl, kdX2_turn⟩ ⟨Nat.le_of_ble_eq_true rfl, Nat.le_of_ble_eq_true rfl⟩) eu8 rfl rfl hl.1 (Nat.le_of_ble_eq_true rfl) dX1_rallies_25 ⟨(Nat.le_of_ble_eq_true rfl), (Nat.le_of_ble_eq_true rfl)⟩ rfl) (fun H locs hH => ?_)
        refine lv_istore_n (lv' := [(3, .int r9), (0, .ref x0), (1, .ref x1), (2, .int x2)]) hx hb dX1_rallies_28 rfl hl (by decide) rfl (fun ls hl => ?_)
        refine lv_aload_n hx hb dX1_rallies_29 rfl (lv_at hl 1 rfl) ?_
        obtain ⟨v10, ev10, hf⟩ := bs_ hf
        refine mg_gR hx hb hts hown hKn hH ev10 in_X1 rfl (by decide) (hts _ q939) (fun _ h9 => h9) dX1_rallies_30 ?_
        refine lv_aload_n hx hb dX1_rallies_33 rfl (lv_at hl 2 rfl) ?_
        refine lv_iconst (v := 2) hx hb dX1_rallies_34 (by decide) ?_
        refine lv_iload_n hx hb dX1_rallies_35 rfl (lv_at hl 3 rfl) ?_
        refine lv_imul hx hb dX1_rallies_36 ?_
        obtain ⟨r11, er11, hf⟩ := bs_ hf
        refine cl_i0 hH (rn_S ⟨hx, hb, hml, hown, hts⟩ hKn hH (mX1_elementOf l G M n x1 (2 * x2) r11 er11) (va_cwS 2 hts (lw_S q748 q749 q67 q750) rfl rfl rfl kdX1_elementOf ⟨Nat.le_of_ble_eq_true rfl, Nat.le_of_ble_eq_true rfl⟩) rfl hl.1 (Nat.le_of_ble_eq_true rfl) dX1_rallies_37 ⟨(Nat.le_of_ble_eq_true rfl), (Nat.le_of_ble_eq_true rfl)⟩ rfl) (fun H locs hH => ?_)
        refine lv_aload_n hx hb dX1_rallies_40 rfl (lv_at hl 2 rfl) ?_
        refine lv_iconst (v := 2) hx hb dX1_rallies_41 (by decide) ?_
        refine lv_iload_n hx hb dX1_rallies_42 rfl (lv_at hl 3 rfl) ?_
        refine lv_imul hx hb dX1_rallies_43 ?_
        refine lv_iconst (v := 1) hx hb dX1_rallies_44 (by decide) ?_
        refine lv_iadd hx hb dX1_rallies_45 ?_
        obtain ⟨r12, er12, hf⟩ := bs_ hf
        refine cl_i0 hH (rn_S ⟨hx, hb, hml, hown, hts⟩ hKn hH (mX1_elementOf l G M n x1 ((2 * x2) + 1) r12 er12) (va_cwS 2 hts (lw_S q748 q749 q67 q750) rfl rfl rfl kdX1_elementOf ⟨Nat.le_of_ble_eq_true rfl, Nat.le_of_ble_eq_true rfl⟩) rfl hl.1 (Nat.le_of_ble_eq_true rfl) dX1_rallies_46 ⟨(Nat.le_of_ble_eq_true rfl), (Nat.le_of_ble_eq_true rfl)⟩ rfl) (fun H locs hH => ?_)
        obtain ⟨u13, eu13, hf⟩ := bs_ hf
        obtain ⟨r14, M15, er14, hf⟩ := bws_ hf
        refine cl_i0 hH (rn_V ⟨hx, hb, hml, hown, hts⟩ hKn hH (mX2_hits l G M n v10 r11 r12 r14 M15 er14) (cwV 2 hts (lw_V q411 q412 q413 q68 q414) rfl rfl rfl ⟨rfl, kdX2_hits⟩ ⟨Nat.le_of_ble_eq_true rfl, Nat.le_of_ble_eq_true rfl⟩) eu13 rfl rfl hl.1 (Nat.le_of_ble_eq_true rfl) dX1_rallies_49 ⟨(Nat.le_of_ble_eq_true rfl), (Nat.le_of_ble_eq_true rfl)⟩ rfl) (fun H locs hH => ?_)
        refine lv_if_ne (tgt := 58) hx hb dX1_rallies_52 (by decide) (fun c18 => ?_) (fun c18 => ?_)
        · have hf := in_ c18 hf
          refine lv_aload_n hx hb dX1_rallies_58 rfl (lv_at hl 1 rfl) ?_
          refine lv_iload_n hx hb dX1_rallies_59 rfl (lv_at hl 0 rfl) ?_
          obtain ⟨M16, eM16, hf⟩ := bs_ hf
          refine mg_pF hx hb hts hown hKn hH eM16 in_X1 tyX1_ok nmX1 rfl (by decide) (hts _ q943) (fun _ h9 => h9) rfl rfl rfl dX1_rallies_60 (fun H locs hH => ?_)
          refine lv_iload_n hx hb dX1_rallies_63 rfl (lv_at hl 3 rfl) ?_
          refine lv_iconst (v := 1) hx hb dX1_rallies_64 (by decide) ?_
          refine lv_iadd hx hb dX1_rallies_65 ?_
          cases hf
          exact rt_i hx hb hr hlk hH dX1_rallies_66
        · have hf := ip_ c18 hf
          refine lv_goto (tgt := 67) hx hb dX1_rallies_55 (by decide) ?_
          obtain ⟨v17, ev17⟩ : ∃ z : Int32, z = x2 + 1 := ⟨_, rfl⟩
          have hf := lu_ ev17 hf
          refine lv_iinc (v := v17) (lv' := [(2, .int v17), (3, .int r9), (0, .ref x0), (1, .ref x1)]) hx hb dX1_rallies_67 hl (k := 3) rfl (by rw [ev17]; rfl) (by decide) rfl (fun ls hl => ?_)
          refine lv_goto (tgt := 11) hx hb dX1_rallies_70 (by decide) ?_
          exact ih M15 x0 x1 v17 _ _ ls hH (lv_sub hl [2, 3, 0] rfl) hf
  unfold fX1_rallies at hf
  refine lv_aload_n hx hb dX1_rallies_0 rfl (lv_at hl 0 rfl) ?_
  obtain ⟨u1, eu1, hf⟩ := bs_ hf
  obtain ⟨M3, er2, hf⟩ := bs_ hf
  refine cl_v0 hH (rn_V ⟨hx, hb, hml, hown, hts⟩ hKn hH (mX1_minds l G M n a0 M3 er2) (cwV 0 hts (lw_V q662 q664 qs22 q67 q665) rfl rfl rfl ⟨rfl, kdX1_minds⟩ ⟨Nat.le_of_ble_eq_true rfl, Nat.le_of_ble_eq_true rfl⟩) eu1 rfl rfl hl.1 (Nat.le_of_ble_eq_true rfl) dX1_rallies_1 ⟨(Nat.le_of_ble_eq_true rfl), (Nat.le_of_ble_eq_true rfl)⟩ rfl) (fun H locs hH => ?_)
  refine lv_aload_n hx hb dX1_rallies_4 rfl (lv_at hl 0 rfl) ?_
  refine lv_iconst (v := 2) hx hb dX1_rallies_5 (by decide) ?_
  obtain ⟨M4, eM4, hf⟩ := bs_ hf
  refine mg_pF hx hb hts hown hKn hH eM4 in_X1 tyX1_ok nmX1 rfl (by decide) (hts _ q943) (fun _ h9 => h9) rfl rfl rfl dX1_rallies_6 (fun H locs hH => ?_)
  refine lv_iconst (v := 0) hx hb dX1_rallies_9 (by decide) ?_
  refine lv_istore_n (lv' := [(2, .int 0), (0, .ref a0), (1, .ref a1)]) hx hb dX1_rallies_10 rfl hl (by decide) rfl (fun ls hl => ?_)
  exact w11 1000 M4 a0 a1 0 _ _ ls hH (lv_sub hl [1, 2, 0] rfl) hf
def fX1_rally (M : Mem_) (a0 : Nat) (a1 : Int32) (a2 : Int32) : Option (Int32 × Mem_) :=
  lt_ (fX1_isIn a2 0 1) fun r1 =>
  if (b2_ r1) = 0 then
    some ((-1), M)
  else
    (ck_ M a0 0).bind fun u3 =>
    (fX1_notHits M a0 a1).bind fun r4 =>
    if r4 = 0 then
      (gR_ M a0 0 8).bind fun v5 =>
      (aR_ M v5 5 a1).bind fun v6 =>
      (gR_ M v6 2 0).bind fun v7 =>
      (ck_ M a0 0).bind fun u8 =>
      bw_ (fX1_rallies M a0 v7) fun r9 M10 =>
      if a2 = 0 then
        some (r9, M10)
      else
        (gI_ M10 a0 0 6).bind fun v11 =>
        some (v11, M10)
    else
      some (r4, M)
theorem kdX1_rally : yX1_rally.cls ≠ "java/lang/invoke/MethodHandle" ∧ yX1_rally.cls ≠ "java/lang/invoke/VarHandle" ∧ (parseMethodDescriptor yX1_rally.desc).map (fun d => d.parameters.length) = some 2 := by decide +kernel
set_option maxHeartbeats 4000000 in
theorem mX1_rally (l : Launch) (G : GT_) (M : Mem_) (n : Nat) (a0 : Nat) (a1 : Int32) (a2 : Int32) (r : Int32) (M1 : Mem_) (hf : fX1_rally M a0 a1 a2 = some (r, M1)) : Ct_ G l yX1_rally (ws_ yX1_rally cX1_rally 5 (some .int)) ({ frames := 5, cells := 0, slots := 0, locals := 123 }) 0 0 [.ref a0, .int a1, .int a2] M n (some (.int r)) M1 n := by
  refine en_ (by decide) (Nat.le_of_ble_eq_true rfl) ?_
  intro p e s m below meth c hx hb hr hlk hml hown hts hname hKn hH ls hl
  have hown : s.vm.findClass RX1 = some m.cls := hown
  have hl : lv_has ls 5 [(0, .ref a0), (1, .int a1), (2, .int a2)] := hl
  unfold fX1_rally at hf
  generalize s.heap = H at hH ⊢
  refine lv_iload_n hx hb dX1_rally_0 rfl (lv_at hl 2 rfl) ?_
  refine lv_iconst (v := 0) hx hb dX1_rally_1 (by decide) ?_
  refine lv_iconst (v := 1) hx hb dX1_rally_2 (by decide) ?_
  obtain ⟨r1, er1⟩ : ∃ z, z = fX1_isIn a2 0 1 := ⟨_, rfl⟩
  have hf := lu_ er1 hf
  refine cl_i0 hH (rn_S ⟨hx, hb, hml, hown, hts⟩ hKn hH (mX1_isIn l G M n a2 0 1 r1 er1.symm) (va_cwS 3 hts (lw_S q199 q200 q67 q201) rfl rfl rfl kdX1_isIn ⟨Nat.le_of_ble_eq_true rfl, Nat.le_of_ble_eq_true rfl⟩) rfl hl.1 (Nat.le_of_ble_eq_true rfl) dX1_rally_3 ⟨(Nat.le_of_ble_eq_true rfl), (Nat.le_of_ble_eq_true rfl)⟩ rfl) (fun H locs hH => ?_)
  refine lv_if_eq (tgt := 17) hx hb dX1_rally_6 (by decide) (fun c14 => ?_) (fun c14 => ?_)
  · have hf := ip_ c14 hf
    refine lv_iconst (v := (-1)) hx hb dX1_rally_17 (by decide) ?_
    refine lv_istore_n (lv' := [(3, .int (-1)), (0, .ref a0), (1, .int a1), (2, .int a2)]) hx hb dX1_rally_18 rfl hl (by decide) rfl (fun ls hl => ?_)
    refine lv_iload_n hx hb dX1_rally_19 rfl (lv_at hl 0 rfl) ?_
    refine lv_if_eq (tgt := 25) hx hb dX1_rally_20 (by decide) (fun c2 => ?_) (fun c2 => ?_)
    · exact absurd c2 (by decide)
    · refine lv_iload_n hx hb dX1_rally_23 rfl (lv_at hl 0 rfl) ?_
      cases hf
      exact rt_i hx hb hr hlk hH dX1_rally_24
  · have hf := in_ c14 hf
    refine lv_aload_n hx hb dX1_rally_9 rfl (lv_at hl 0 rfl) ?_
    refine lv_iload_n hx hb dX1_rally_10 rfl (lv_at hl 1 rfl) ?_
    obtain ⟨u3, eu3, hf⟩ := bs_ hf
    obtain ⟨r4, er4, hf⟩ := bs_ hf
    refine cl_i0 hH (rn_V ⟨hx, hb, hml, hown, hts⟩ hKn hH (mX1_notHits l G M n a0 a1 r4 er4) (cwV 1 hts (lw_V q732 q734 qs29 q67 q735) rfl rfl rfl ⟨rfl, kdX1_notHits⟩ ⟨Nat.le_of_ble_eq_true rfl, Nat.le_of_ble_eq_true rfl⟩) eu3 rfl rfl hl.1 (Nat.le_of_ble_eq_true rfl) dX1_rally_11 ⟨(Nat.le_of_ble_eq_true rfl), (Nat.le_of_ble_eq_true rfl)⟩ rfl) (fun H locs hH => ?_)
    refine lv_goto (tgt := 18) hx hb dX1_rally_14 (by decide) ?_
    refine lv_istore_n (lv' := [(3, .int r4), (0, .ref a0), (1, .int a1), (2, .int a2)]) hx hb dX1_rally_18 rfl hl (by decide) rfl (fun ls hl => ?_)
    refine lv_iload_n hx hb dX1_rally_19 rfl (lv_at hl 0 rfl) ?_
    refine lv_if_eq (tgt := 25) hx hb dX1_rally_20 (by decide) (fun c13 => ?_) (fun c13 => ?_)
    · have hf := ip_ c13 hf
      refine lv_aload_n hx hb dX1_rally_25 rfl (lv_at hl 1 rfl) ?_
      refine lv_aload_n hx hb dX1_rally_26 rfl (lv_at hl 1 rfl) ?_
      obtain ⟨v5, ev5, hf⟩ := bs_ hf
      refine mg_gR hx hb hts hown hKn hH ev5 in_X1 rfl (by decide) (hts _ q945) (fun _ h9 => h9) dX1_rally_27 ?_
      refine lv_iload_n hx hb dX1_rally_30 rfl (lv_at hl 2 rfl) ?_
      obtain ⟨v6, ev6, hf⟩ := bs_ hf
      refine mg_aald5 hx hb hKn hH ev6 dX1_rally_31 ?_
      obtain ⟨v7, ev7, hf⟩ := bs_ hf
      refine mg_gR hx hb hts hown hKn hH ev7 in_X3 rfl (by decide) (hts _ q933) (fun _ h9 => h9) dX1_rally_32 ?_
      obtain ⟨u8, eu8, hf⟩ := bs_ hf
      obtain ⟨r9, M10, er9, hf⟩ := bws_ hf
      refine cl_i0 hH (rn_V ⟨hx, hb, hml, hown, hts⟩ hKn hH (mX1_rallies l G M n a0 v7 r9 M10 er9) (cwV 1 hts (lw_V q751 q753 qs31 q67 q754) rfl rfl rfl ⟨rfl, kdX1_rallies⟩ ⟨Nat.le_of_ble_eq_true rfl, Nat.le_of_ble_eq_true rfl⟩) eu8 rfl rfl hl.1 (Nat.le_of_ble_eq_true rfl) dX1_rally_35 ⟨(Nat.le_of_ble_eq_true rfl), (Nat.le_of_ble_eq_true rfl)⟩ rfl) (fun H locs hH => ?_)
      refine lv_istore (lv' := [(4, .int r9), (3, .int r4), (0, .ref a0), (1, .int a1), (2, .int a2)]) hx hb dX1_rally_38 hl (by decide) rfl (fun ls hl => ?_)
      refine lv_iload_n hx hb dX1_rally_40 rfl (lv_at hl 4 rfl) ?_
      refine lv_if_ne (tgt := 49) hx hb dX1_rally_41 (by decide) (fun c12 => ?_) (fun c12 => ?_)
      · have hf := in_ c12 hf
        refine lv_aload_n hx hb dX1_rally_49 rfl (lv_at hl 2 rfl) ?_
        obtain ⟨v11, ev11, hf⟩ := bs_ hf
        refine mg_gI hx hb hts hown hKn hH ev11 in_X1 rfl (by decide) (hts _ q943) (fun _ h9 => h9) dX1_rally_50 ?_
        cases hf
        exact rt_i hx hb hr hlk hH dX1_rally_53
      · have hf := ip_ c12 hf
        refine lv_iload hx hb dX1_rally_44 (lv_at hl 0 rfl) ?_
        refine lv_goto (tgt := 53) hx hb dX1_rally_46 (by decide) ?_
        cases hf
        exact rt_i hx hb hr hlk hH dX1_rally_53
    · have hf := in_ c13 hf
      refine lv_iload_n hx hb dX1_rally_23 rfl (lv_at hl 0 rfl) ?_
      cases hf
      exact rt_i hx hb hr hlk hH dX1_rally_24
def fX1_ways (M : Mem_) (a0 : Nat) (a1 : Int32) (a2 : Int32) : Option (Int32 × Mem_) :=
  lt_ (fX1_isPlayer a2) fun r1 =>
  if (b2_ r1) = 0 then
    some ((-1), M)
  else
    (ck_ M a0 0).bind fun u3 =>
    (fX1_notHits M a0 a1).bind fun r4 =>
    if r4 = 0 then
      (gR_ M a0 0 8).bind fun v5 =>
      (aR_ M v5 5 a1).bind fun v6 =>
      (gR_ M v6 2 0).bind fun v7 =>
      (ck_ M a0 0).bind fun u8 =>
      bw_ (fX1_rallies M a0 v7) fun r9 M10 =>
      (gR_ M10 a0 0 2).bind fun v11 =>
      (gR_ M10 v11 1 7).bind fun v12 =>
      (aI_ M10 v12 0 a2).bind fun v13 =>
      some (v13, M10)
    else
      some (r4, M)
theorem kdX1_ways : yX1_ways.cls ≠ "java/lang/invoke/MethodHandle" ∧ yX1_ways.cls ≠ "java/lang/invoke/VarHandle" ∧ (parseMethodDescriptor yX1_ways.desc).map (fun d => d.parameters.length) = some 2 := by decide +kernel
set_option maxHeartbeats 4000000 in
theorem mX1_ways (l : Launch) (G : GT_) (M : Mem_) (n : Nat) (a0 : Nat) (a1 : Int32) (a2 : Int32) (r : Int32) (M1 : Mem_) (hf : fX1_ways M a0 a1 a2 = some (r, M1)) : Ct_ G l yX1_ways (ws_ yX1_ways cX1_ways 4 (some .int)) ({ frames := 5, cells := 0, slots := 0, locals := 123 }) 0 0 [.ref a0, .int a1, .int a2] M n (some (.int r)) M1 n := by
  refine en_ (by decide) (Nat.le_of_ble_eq_true rfl) ?_
  intro p e s m below meth c hx hb hr hlk hml hown hts hname hKn hH ls hl
  have hown : s.vm.findClass RX1 = some m.cls := hown
  have hl : lv_has ls 4 [(0, .ref a0), (1, .int a1), (2, .int a2)] := hl
  unfold fX1_ways at hf
  generalize s.heap = H at hH ⊢
  refine lv_iload_n hx hb dX1_ways_0 rfl (lv_at hl 2 rfl) ?_
  obtain ⟨r1, er1⟩ : ∃ z, z = fX1_isPlayer a2 := ⟨_, rfl⟩
  have hf := lu_ er1 hf
  refine cl_i0 hH (rn_S ⟨hx, hb, hml, hown, hts⟩ hKn hH (mX1_isPlayer l G M n a2 r1 er1.symm) (va_cwS 1 hts (lw_S q563 q564 q67 q565) rfl rfl rfl kdX1_isPlayer ⟨Nat.le_of_ble_eq_true rfl, Nat.le_of_ble_eq_true rfl⟩) rfl hl.1 (Nat.le_of_ble_eq_true rfl) dX1_ways_1 ⟨(Nat.le_of_ble_eq_true rfl), (Nat.le_of_ble_eq_true rfl)⟩ rfl) (fun H locs hH => ?_)
  refine lv_if_eq (tgt := 15) hx hb dX1_ways_4 (by decide) (fun c15 => ?_) (fun c15 => ?_)
  · have hf := ip_ c15 hf
    refine lv_iconst (v := (-1)) hx hb dX1_ways_15 (by decide) ?_
    refine lv_istore_n (lv' := [(3, .int (-1)), (0, .ref a0), (1, .int a1), (2, .int a2)]) hx hb dX1_ways_16 rfl hl (by decide) rfl (fun ls hl => ?_)
    refine lv_iload_n hx hb dX1_ways_17 rfl (lv_at hl 0 rfl) ?_
    refine lv_if_eq (tgt := 23) hx hb dX1_ways_18 (by decide) (fun c2 => ?_) (fun c2 => ?_)
    · exact absurd c2 (by decide)
    · refine lv_iload_n hx hb dX1_ways_21 rfl (lv_at hl 0 rfl) ?_
      cases hf
      exact rt_i hx hb hr hlk hH dX1_ways_22
  · have hf := in_ c15 hf
    refine lv_aload_n hx hb dX1_ways_7 rfl (lv_at hl 0 rfl) ?_
    refine lv_iload_n hx hb dX1_ways_8 rfl (lv_at hl 1 rfl) ?_
    obtain ⟨u3, eu3, hf⟩ := bs_ hf
    obtain ⟨r4, er4, hf⟩ := bs_ hf
    refine cl_i0 hH (rn_V ⟨hx, hb, hml, hown, hts⟩ hKn hH (mX1_notHits l G M n a0 a1 r4 er4) (cwV 1 hts (lw_V q732 q734 qs29 q67 q735) rfl rfl rfl ⟨rfl, kdX1_notHits⟩ ⟨Nat.le_of_ble_eq_true rfl, Nat.le_of_ble_eq_true rfl⟩) eu3 rfl rfl hl.1 (Nat.le_of_ble_eq_true rfl) dX1_ways_9 ⟨(Nat.le_of_ble_eq_true rfl), (Nat.le_of_ble_eq_true rfl)⟩ rfl) (fun H locs hH => ?_)
    refine lv_goto (tgt := 16) hx hb dX1_ways_12 (by decide) ?_
    refine lv_istore_n (lv' := [(3, .int r4), (0, .ref a0), (1, .int a1), (2, .int a2)]) hx hb dX1_ways_16 rfl hl (by decide) rfl (fun ls hl => ?_)
    refine lv_iload_n hx hb dX1_ways_17 rfl (lv_at hl 0 rfl) ?_
    refine lv_if_eq (tgt := 23) hx hb dX1_ways_18 (by decide) (fun c14 => ?_) (fun c14 => ?_)
    · have hf := ip_ c14 hf
      refine lv_aload_n hx hb dX1_ways_23 rfl (lv_at hl 1 rfl) ?_
      refine lv_aload_n hx hb dX1_ways_24 rfl (lv_at hl 1 rfl) ?_
      obtain ⟨v5, ev5, hf⟩ := bs_ hf
      refine mg_gR hx hb hts hown hKn hH ev5 in_X1 rfl (by decide) (hts _ q945) (fun _ h9 => h9) dX1_ways_25 ?_
      refine lv_iload_n hx hb dX1_ways_28 rfl (lv_at hl 2 rfl) ?_
      obtain ⟨v6, ev6, hf⟩ := bs_ hf
      refine mg_aald5 hx hb hKn hH ev6 dX1_ways_29 ?_
      obtain ⟨v7, ev7, hf⟩ := bs_ hf
      refine mg_gR hx hb hts hown hKn hH ev7 in_X3 rfl (by decide) (hts _ q933) (fun _ h9 => h9) dX1_ways_30 ?_
      obtain ⟨u8, eu8, hf⟩ := bs_ hf
      obtain ⟨r9, M10, er9, hf⟩ := bws_ hf
      refine cl_i0 hH (rn_V ⟨hx, hb, hml, hown, hts⟩ hKn hH (mX1_rallies l G M n a0 v7 r9 M10 er9) (cwV 1 hts (lw_V q751 q753 qs31 q67 q754) rfl rfl rfl ⟨rfl, kdX1_rallies⟩ ⟨Nat.le_of_ble_eq_true rfl, Nat.le_of_ble_eq_true rfl⟩) eu8 rfl rfl hl.1 (Nat.le_of_ble_eq_true rfl) dX1_ways_33 ⟨(Nat.le_of_ble_eq_true rfl), (Nat.le_of_ble_eq_true rfl)⟩ rfl) (fun H locs hH => ?_)
      refine lv_pop hx hb dX1_ways_36 rfl ?_
      refine lv_aload_n hx hb dX1_ways_37 rfl (lv_at hl 1 rfl) ?_
      obtain ⟨v11, ev11, hf⟩ := bs_ hf
      refine mg_gR hx hb hts hown hKn hH ev11 in_X1 rfl (by decide) (hts _ q939) (fun _ h9 => h9) dX1_ways_38 ?_
      obtain ⟨v12, ev12, hf⟩ := bs_ hf
      refine mg_gR hx hb hts hown hKn hH ev12 in_X2 rfl (by decide) (hts _ q886) (fun _ h9 => h9) dX1_ways_41 ?_
      refine lv_iload_n hx hb dX1_ways_44 rfl (lv_at hl 3 rfl) ?_
      obtain ⟨v13, ev13, hf⟩ := bs_ hf
      refine mg_iald hx hb hKn hH ev13 dX1_ways_45 ?_
      cases hf
      exact rt_i hx hb hr hlk hH dX1_ways_46
    · have hf := in_ c14 hf
      refine lv_iload_n hx hb dX1_ways_21 rfl (lv_at hl 0 rfl) ?_
      cases hf
      exact rt_i hx hb hr hlk hH dX1_ways_22
def fX1_spent_L31 : Nat → Mem_ → Nat → Int32 → Int32 → Int32 → Int32 → Option (Int32 × Mem_)
  | 0, _, _, _, _, _, _ => none
  | fuel + 1, M, x0, x1, x2, x3, x4 =>
    if 4 ≤ x4 then
      some (x3, M)
    else
      (gR_ M x0 0 2).bind fun v10 =>
      (gR_ M v10 1 3).bind fun v11 =>
      (aI_ M v11 0 x4).bind fun v12 =>
      (gR_ M x0 0 2).bind fun v13 =>
      (gR_ M v13 1 3).bind fun v14 =>
      (aI_ M v14 0 x3).bind fun v15 =>
      if v12 ≤ v15 then
        lt_ (x4 + 1) fun v16 =>
        fX1_spent_L31 fuel M x0 x1 x2 x3 v16
      else
        lt_ (x4 + 1) fun v17 =>
        fX1_spent_L31 fuel M x0 x1 x2 x4 v17
def fX1_spent (M : Mem_) (a0 : Nat) (a1 : Int32) : Option (Int32 × Mem_) :=
  (ck_ M a0 0).bind fun u1 =>
  (fX1_notHits M a0 a1).bind fun r2 =>
  if r2 = 0 then
    (gR_ M a0 0 8).bind fun v3 =>
    (aR_ M v3 5 a1).bind fun v4 =>
    (gR_ M v4 2 0).bind fun v5 =>
    (ck_ M a0 0).bind fun u6 =>
    bw_ (fX1_rallies M a0 v5) fun r7 M8 =>
    fX1_spent_L31 1000 M8 a0 a1 r2 0 1
  else
    some (r2, M)
theorem kdX1_spent : yX1_spent.cls ≠ "java/lang/invoke/MethodHandle" ∧ yX1_spent.cls ≠ "java/lang/invoke/VarHandle" ∧ (parseMethodDescriptor yX1_spent.desc).map (fun d => d.parameters.length) = some 1 := by decide +kernel
set_option maxHeartbeats 4000000 in
theorem mX1_spent (l : Launch) (G : GT_) (M : Mem_) (n : Nat) (a0 : Nat) (a1 : Int32) (r : Int32) (M1 : Mem_) (hf : fX1_spent M a0 a1 = some (r, M1)) : Ct_ G l yX1_spent (ws_ yX1_spent cX1_spent 5 (some .int)) ({ frames := 5, cells := 0, slots := 0, locals := 123 }) 0 0 [.ref a0, .int a1] M n (some (.int r)) M1 n := by
  refine en_ (by decide) (Nat.le_of_ble_eq_true rfl) ?_
  intro p e s m below meth c hx hb hr hlk hml hown hts hname hKn hH ls hl
  have hown : s.vm.findClass RX1 = some m.cls := hown
  have hl : lv_has ls 5 [(0, .ref a0), (1, .int a1)] := hl
  have w31 : ∀ (fuel : Nat), ∀ (M : Mem_) (x0 : Nat) (x1 : Int32) (x2 : Int32) (x3 : Int32) (x4 : Int32) (H : Heap) (locs : List Loc) (ls : Array Slot), St_ G n M s H locs → lv_has ls 5 [(0, .ref x0), (1, .int x1), (2, .int x2), (3, .int x3), (4, .int x4)] → fX1_spent_L31 fuel M x0 x1 x2 x3 x4 = some (r, M1) → W p l e ({ frames := 5, cells := 0, slots := 0, locals := 123 } : Room) s m ([.ref a0, .int a1] : List Value).toArray below meth c H locs 0 0 (MQ below (Qc_ G (some (.int r)) M1 n) ([.ref a0, .int a1] : List Value).toArray s 0 0 (fun q => G.1 ≤ q)) (F0 m 31 ls []) := by
    intro fuel
    induction fuel with
    | zero =>
      intro M x0 x1 x2 x3 x4 H locs ls hH hl hf
      cases hf
    | succ fuel ih =>
      intro M x0 x1 x2 x3 x4 H locs ls hH hl hf
      unfold fX1_spent_L31 at hf
      refine lv_iload hx hb dX1_spent_31 (lv_at hl 4 rfl) ?_
      refine lv_iconst (v := 4) hx hb dX1_spent_33 (by decide) ?_
      refine lv_icmp_ge (tgt := 72) hx hb dX1_spent_34 (by decide) (fun c19 => ?_) (fun c19 => ?_)
      · have hf := ip_ c19 hf
        refine lv_iload_n hx hb dX1_spent_72 rfl (lv_at hl 3 rfl) ?_
        cases hf
        exact rt_i hx hb hr hlk hH dX1_spent_73
      · have hf := in_ c19 hf
        refine lv_aload_n hx hb dX1_spent_37 rfl (lv_at hl 0 rfl) ?_
        obtain ⟨v10, ev10, hf⟩ := bs_ hf
        refine mg_gR hx hb hts hown hKn hH ev10 in_X1 rfl (by decide) (hts _ q939) (fun _ h9 => h9) dX1_spent_38 ?_
        obtain ⟨v11, ev11, hf⟩ := bs_ hf
        refine mg_gR hx hb hts hown hKn hH ev11 in_X2 rfl (by decide) (hts _ q878) (fun _ h9 => h9) dX1_spent_41 ?_
        refine lv_iload hx hb dX1_spent_44 (lv_at hl 4 rfl) ?_
        obtain ⟨v12, ev12, hf⟩ := bs_ hf
        refine mg_iald hx hb hKn hH ev12 dX1_spent_46 ?_
        refine lv_aload_n hx hb dX1_spent_47 rfl (lv_at hl 0 rfl) ?_
        obtain ⟨v13, ev13, hf⟩ := bs_ hf
        refine mg_gR hx hb hts hown hKn hH ev13 in_X1 rfl (by decide) (hts _ q939) (fun _ h9 => h9) dX1_spent_48 ?_
        obtain ⟨v14, ev14, hf⟩ := bs_ hf
        refine mg_gR hx hb hts hown hKn hH ev14 in_X2 rfl (by decide) (hts _ q878) (fun _ h9 => h9) dX1_spent_51 ?_
        refine lv_iload_n hx hb dX1_spent_54 rfl (lv_at hl 3 rfl) ?_
        obtain ⟨v15, ev15, hf⟩ := bs_ hf
        refine mg_iald hx hb hKn hH ev15 dX1_spent_55 ?_
        refine lv_icmp_le (tgt := 64) hx hb dX1_spent_56 (by decide) (fun c18 => ?_) (fun c18 => ?_)
        · have hf := ip_ c18 hf
          refine lv_iload_n hx hb dX1_spent_64 rfl (lv_at hl 3 rfl) ?_
          refine lv_istore_n (lv' := [(3, .int x3), (0, .ref x0), (1, .int x1), (2, .int x2), (4, .int x4)]) hx hb dX1_spent_65 rfl hl (by decide) rfl (fun ls hl => ?_)
          obtain ⟨v16, ev16⟩ : ∃ z : Int32, z = x4 + 1 := ⟨_, rfl⟩
          have hf := lu_ ev16 hf
          refine lv_iinc (v := v16) (lv' := [(4, .int v16), (3, .int x3), (0, .ref x0), (1, .int x1), (2, .int x2)]) hx hb dX1_spent_66 hl (k := 4) rfl (by rw [ev16]; rfl) (by decide) rfl (fun ls hl => ?_)
          refine lv_goto (tgt := 31) hx hb dX1_spent_69 (by decide) ?_
          exact ih M x0 x1 x2 x3 v16 _ _ ls hH (lv_sub hl [2, 3, 4, 1, 0] rfl) hf
        · have hf := in_ c18 hf
          refine lv_iload hx hb dX1_spent_59 (lv_at hl 4 rfl) ?_
          refine lv_goto (tgt := 65) hx hb dX1_spent_61 (by decide) ?_
          refine lv_istore_n (lv' := [(3, .int x4), (0, .ref x0), (1, .int x1), (2, .int x2), (4, .int x4)]) hx hb dX1_spent_65 rfl hl (by decide) rfl (fun ls hl => ?_)
          obtain ⟨v17, ev17⟩ : ∃ z : Int32, z = x4 + 1 := ⟨_, rfl⟩
          have hf := lu_ ev17 hf
          refine lv_iinc (v := v17) (lv' := [(4, .int v17), (3, .int x4), (0, .ref x0), (1, .int x1), (2, .int x2)]) hx hb dX1_spent_66 hl (k := 4) rfl (by rw [ev17]; rfl) (by decide) rfl (fun ls hl => ?_)
          refine lv_goto (tgt := 31) hx hb dX1_spent_69 (by decide) ?_
          exact ih M x0 x1 x2 x4 v17 _ _ ls hH (lv_sub hl [2, 3, 4, 1, 0] rfl) hf
  unfold fX1_spent at hf
  refine lv_aload_n hx hb dX1_spent_0 rfl (lv_at hl 0 rfl) ?_
  refine lv_iload_n hx hb dX1_spent_1 rfl (lv_at hl 1 rfl) ?_
  obtain ⟨u1, eu1, hf⟩ := bs_ hf
  obtain ⟨r2, er2, hf⟩ := bs_ hf
  refine cl_i0 hH (rn_V ⟨hx, hb, hml, hown, hts⟩ hKn hH (mX1_notHits l G M n a0 a1 r2 er2) (cwV 1 hts (lw_V q732 q734 qs29 q67 q735) rfl rfl rfl ⟨rfl, kdX1_notHits⟩ ⟨Nat.le_of_ble_eq_true rfl, Nat.le_of_ble_eq_true rfl⟩) eu1 rfl rfl hl.1 (Nat.le_of_ble_eq_true rfl) dX1_spent_2 ⟨(Nat.le_of_ble_eq_true rfl), (Nat.le_of_ble_eq_true rfl)⟩ rfl) (fun H locs hH => ?_)
  refine lv_istore_n (lv' := [(2, .int r2), (0, .ref a0), (1, .int a1)]) hx hb dX1_spent_5 rfl hl (by decide) rfl (fun ls hl => ?_)
  refine lv_iload_n hx hb dX1_spent_6 rfl (lv_at hl 0 rfl) ?_
  refine lv_if_eq (tgt := 12) hx hb dX1_spent_7 (by decide) (fun c9 => ?_) (fun c9 => ?_)
  · have hf := ip_ c9 hf
    refine lv_aload_n hx hb dX1_spent_12 rfl (lv_at hl 1 rfl) ?_
    refine lv_aload_n hx hb dX1_spent_13 rfl (lv_at hl 1 rfl) ?_
    obtain ⟨v3, ev3, hf⟩ := bs_ hf
    refine mg_gR hx hb hts hown hKn hH ev3 in_X1 rfl (by decide) (hts _ q945) (fun _ h9 => h9) dX1_spent_14 ?_
    refine lv_iload_n hx hb dX1_spent_17 rfl (lv_at hl 2 rfl) ?_
    obtain ⟨v4, ev4, hf⟩ := bs_ hf
    refine mg_aald5 hx hb hKn hH ev4 dX1_spent_18 ?_
    obtain ⟨v5, ev5, hf⟩ := bs_ hf
    refine mg_gR hx hb hts hown hKn hH ev5 in_X3 rfl (by decide) (hts _ q933) (fun _ h9 => h9) dX1_spent_19 ?_
    obtain ⟨u6, eu6, hf⟩ := bs_ hf
    obtain ⟨r7, M8, er7, hf⟩ := bws_ hf
    refine cl_i0 hH (rn_V ⟨hx, hb, hml, hown, hts⟩ hKn hH (mX1_rallies l G M n a0 v5 r7 M8 er7) (cwV 1 hts (lw_V q751 q753 qs31 q67 q754) rfl rfl rfl ⟨rfl, kdX1_rallies⟩ ⟨Nat.le_of_ble_eq_true rfl, Nat.le_of_ble_eq_true rfl⟩) eu6 rfl rfl hl.1 (Nat.le_of_ble_eq_true rfl) dX1_spent_22 ⟨(Nat.le_of_ble_eq_true rfl), (Nat.le_of_ble_eq_true rfl)⟩ rfl) (fun H locs hH => ?_)
    refine lv_pop hx hb dX1_spent_25 rfl ?_
    refine lv_iconst (v := 0) hx hb dX1_spent_26 (by decide) ?_
    refine lv_istore_n (lv' := [(3, .int 0), (2, .int r2), (0, .ref a0), (1, .int a1)]) hx hb dX1_spent_27 rfl hl (by decide) rfl (fun ls hl => ?_)
    refine lv_iconst (v := 1) hx hb dX1_spent_28 (by decide) ?_
    refine lv_istore (lv' := [(4, .int 1), (3, .int 0), (2, .int r2), (0, .ref a0), (1, .int a1)]) hx hb dX1_spent_29 hl (by decide) rfl (fun ls hl => ?_)
    exact w31 1000 M8 a0 a1 r2 0 1 _ _ ls hH (lv_sub hl [3, 4, 2, 1, 0] rfl) hf
  · have hf := in_ c9 hf
    refine lv_iload_n hx hb dX1_spent_10 rfl (lv_at hl 0 rfl) ?_
    cases hf
    exact rt_i hx hb hr hlk hH dX1_spent_11
def fX1_notNine (M : Mem_) (a0 : Nat) (a1 : Int32) : Option Int32 :=
  (ck_ M a0 0).bind fun u1 =>
  (fX1_notRow M a0 a1).bind fun r2 =>
  if r2 = 0 then
    (gR_ M a0 0 8).bind fun v3 =>
    (aR_ M v3 5 a1).bind fun v4 =>
    (gR_ M v4 2 0).bind fun v5 =>
    (fX1_sizeOf M v5).bind fun r6 =>
    if r6 ≤ 9 then
      some 0
    else
      some (-13)
  else
    some r2
theorem kdX1_notNine : yX1_notNine.cls ≠ "java/lang/invoke/MethodHandle" ∧ yX1_notNine.cls ≠ "java/lang/invoke/VarHandle" ∧ (parseMethodDescriptor yX1_notNine.desc).map (fun d => d.parameters.length) = some 1 := by decide +kernel
set_option maxHeartbeats 4000000 in
theorem mX1_notNine (l : Launch) (G : GT_) (M : Mem_) (n : Nat) (a0 : Nat) (a1 : Int32) (r : Int32) (hf : fX1_notNine M a0 a1 = some r) : Ct_ G l yX1_notNine (ws_ yX1_notNine cX1_notNine 3 (some .int)) ({ frames := 3, cells := 0, slots := 0, locals := 65 }) 0 0 [.ref a0, .int a1] M n (some (.int r)) M n := by
  refine en_ (by decide) (Nat.le_of_ble_eq_true rfl) ?_
  intro p e s m below meth c hx hb hr hlk hml hown hts hname hKn hH ls hl
  have hown : s.vm.findClass RX1 = some m.cls := hown
  have hl : lv_has ls 3 [(0, .ref a0), (1, .int a1)] := hl
  unfold fX1_notNine at hf
  generalize s.heap = H at hH ⊢
  refine lv_aload_n hx hb dX1_notNine_0 rfl (lv_at hl 0 rfl) ?_
  refine lv_iload_n hx hb dX1_notNine_1 rfl (lv_at hl 1 rfl) ?_
  obtain ⟨u1, eu1, hf⟩ := bs_ hf
  obtain ⟨r2, er2, hf⟩ := bs_ hf
  refine cl_i0 hH (rn_V ⟨hx, hb, hml, hown, hts⟩ hKn hH (mX1_notRow l G M n a0 a1 r2 er2) (cwV 1 hts (lw_V q736 q738 qs30 q67 q739) rfl rfl rfl ⟨rfl, kdX1_notRow⟩ ⟨Nat.le_of_ble_eq_true rfl, Nat.le_of_ble_eq_true rfl⟩) eu1 rfl rfl hl.1 (Nat.le_of_ble_eq_true rfl) dX1_notNine_2 ⟨(Nat.le_of_ble_eq_true rfl), (Nat.le_of_ble_eq_true rfl)⟩ rfl) (fun H locs hH => ?_)
  refine lv_istore_n (lv' := [(2, .int r2), (0, .ref a0), (1, .int a1)]) hx hb dX1_notNine_5 rfl hl (by decide) rfl (fun ls hl => ?_)
  refine lv_iload_n hx hb dX1_notNine_6 rfl (lv_at hl 0 rfl) ?_
  refine lv_if_eq (tgt := 14) hx hb dX1_notNine_7 (by decide) (fun c8 => ?_) (fun c8 => ?_)
  · have hf := ip_ c8 hf
    refine lv_aload_n hx hb dX1_notNine_14 rfl (lv_at hl 1 rfl) ?_
    obtain ⟨v3, ev3, hf⟩ := bs_ hf
    refine mg_gR hx hb hts hown hKn hH ev3 in_X1 rfl (by decide) (hts _ q945) (fun _ h9 => h9) dX1_notNine_15 ?_
    refine lv_iload_n hx hb dX1_notNine_18 rfl (lv_at hl 2 rfl) ?_
    obtain ⟨v4, ev4, hf⟩ := bs_ hf
    refine mg_aald5 hx hb hKn hH ev4 dX1_notNine_19 ?_
    obtain ⟨v5, ev5, hf⟩ := bs_ hf
    refine mg_gR hx hb hts hown hKn hH ev5 in_X3 rfl (by decide) (hts _ q933) (fun _ h9 => h9) dX1_notNine_20 ?_
    obtain ⟨r6, er6, hf⟩ := bs_ hf
    refine cl_i0 hH (rn_S ⟨hx, hb, hml, hown, hts⟩ hKn hH (mX1_sizeOf l G M n v5 r6 er6) (va_cwS 1 hts (lw_S q745 q746 q67 q747) rfl rfl rfl kdX1_sizeOf ⟨Nat.le_of_ble_eq_true rfl, Nat.le_of_ble_eq_true rfl⟩) rfl hl.1 (Nat.le_of_ble_eq_true rfl) dX1_notNine_23 ⟨(Nat.le_of_ble_eq_true rfl), (Nat.le_of_ble_eq_true rfl)⟩ rfl) (fun H locs hH => ?_)
    refine lv_bipush (v := 9) hx hb dX1_notNine_26 (by decide) ?_
    refine lv_icmp_le (tgt := 36) hx hb dX1_notNine_28 (by decide) (fun c7 => ?_) (fun c7 => ?_)
    · have hf := ip_ c7 hf
      refine lv_iconst (v := 0) hx hb dX1_notNine_36 (by decide) ?_
      cases hf
      exact rt_i hx hb hr hlk hH dX1_notNine_37
    · have hf := in_ c7 hf
      refine lv_bipush (v := (-13)) hx hb dX1_notNine_31 (by decide) ?_
      refine lv_goto (tgt := 37) hx hb dX1_notNine_33 (by decide) ?_
      cases hf
      exact rt_i hx hb hr hlk hH dX1_notNine_37
  · have hf := in_ c8 hf
    refine lv_iload_n hx hb dX1_notNine_10 rfl (lv_at hl 0 rfl) ?_
    refine lv_goto (tgt := 37) hx hb dX1_notNine_11 (by decide) ?_
    cases hf
    exact rt_i hx hb hr hlk hH dX1_notNine_37
def fX1_leastElement (M : Mem_) (a0 : Nat) : Option Int32 :=
  (tg_ M a0).bind fun t1 =>
  if (b2_ (decide (t1 = 1))) = 0 then
    (tg_ M a0).bind fun t2 =>
    if (b2_ (decide (t2 = 2))) = 0 then
      some (-2147483648)
    else
      some (-32768)
  else
    some (-128)
theorem kdX1_leastElement : yX1_leastElement.cls ≠ "java/lang/invoke/MethodHandle" ∧ yX1_leastElement.cls ≠ "java/lang/invoke/VarHandle" ∧ (parseMethodDescriptor yX1_leastElement.desc).map (fun d => d.parameters.length) = some 1 := by decide +kernel
set_option maxHeartbeats 4000000 in
theorem mX1_leastElement (l : Launch) (G : GT_) (M : Mem_) (n : Nat) (a0 : Nat) (r : Int32) (hf : fX1_leastElement M a0 = some r) : Ct_ G l yX1_leastElement (ws_ yX1_leastElement cX1_leastElement 1 (some .int)) ({ frames := 0, cells := 0, slots := 0, locals := 0 }) 0 0 [.ref a0] M n (some (.int r)) M n := by
  refine en_ (by decide) (Nat.le_of_ble_eq_true rfl) ?_
  intro p e s m below meth c hx hb hr hlk hml hown hts hname hKn hH ls hl
  have hown : s.vm.findClass RX1 = some m.cls := hown
  have hl : lv_has ls 1 [(0, .ref a0)] := hl
  unfold fX1_leastElement at hf
  generalize s.heap = H at hH ⊢
  refine lv_aload_n hx hb dX1_leastElement_0 rfl (lv_at hl 0 rfl) ?_
  obtain ⟨t1, et1, hf⟩ := bs_ hf
  refine mg_inst (tag := 1) hx hb hown (by decide) (hts _ q202) hKn hH et1 dX1_leastElement_1 ?_
  refine lv_if_eq (tgt := 12) hx hb dX1_leastElement_4 (by decide) (fun c4 => ?_) (fun c4 => ?_)
  · have hf := ip_ c4 hf
    refine lv_aload_n hx hb dX1_leastElement_12 rfl (lv_at hl 0 rfl) ?_
    obtain ⟨t2, et2, hf⟩ := bs_ hf
    refine mg_inst (tag := 2) hx hb hown (by decide) (hts _ q743) hKn hH et2 dX1_leastElement_13 ?_
    refine lv_if_eq (tgt := 25) hx hb dX1_leastElement_16 (by decide) (fun c3 => ?_) (fun c3 => ?_)
    · have hf := ip_ c3 hf
      refine lv_ldcw hx hb hown (hts _ q781) dX1_leastElement_25 ?_
      cases hf
      exact rt_i hx hb hr hlk hH dX1_leastElement_28
    · have hf := in_ c3 hf
      refine lv_sipush (v := (-32768)) hx hb dX1_leastElement_19 (by decide) ?_
      refine lv_goto (tgt := 28) hx hb dX1_leastElement_22 (by decide) ?_
      cases hf
      exact rt_i hx hb hr hlk hH dX1_leastElement_28
  · have hf := in_ c4 hf
    refine lv_bipush (v := (-128)) hx hb dX1_leastElement_7 (by decide) ?_
    refine lv_goto (tgt := 28) hx hb dX1_leastElement_9 (by decide) ?_
    cases hf
    exact rt_i hx hb hr hlk hH dX1_leastElement_28
def fX1_isSkipped (M : Mem_) (a0 : Nat) (a1 : Int32) : Option Bool :=
  (fX1_elementOf M a0 a1).bind fun r1 =>
  (fX1_leastElement M a0).bind fun r2 =>
  if r1 = r2 then
    some true
  else
    some false
theorem kdX1_isSkipped : yX1_isSkipped.cls ≠ "java/lang/invoke/MethodHandle" ∧ yX1_isSkipped.cls ≠ "java/lang/invoke/VarHandle" ∧ (parseMethodDescriptor yX1_isSkipped.desc).map (fun d => d.parameters.length) = some 2 := by decide +kernel
set_option maxHeartbeats 4000000 in
theorem mX1_isSkipped (l : Launch) (G : GT_) (M : Mem_) (n : Nat) (a0 : Nat) (a1 : Int32) (r : Bool) (hf : fX1_isSkipped M a0 a1 = some r) : Ct_ G l yX1_isSkipped (ws_ yX1_isSkipped cX1_isSkipped 2 (some .boolean)) ({ frames := 1, cells := 0, slots := 0, locals := 21 }) 0 0 [.ref a0, .int a1] M n (some (.int (b2_ r))) M n := by
  refine en_ (by decide) (Nat.le_of_ble_eq_true rfl) ?_
  intro p e s m below meth c hx hb hr hlk hml hown hts hname hKn hH ls hl
  have hown : s.vm.findClass RX1 = some m.cls := hown
  have hl : lv_has ls 2 [(0, .ref a0), (1, .int a1)] := hl
  unfold fX1_isSkipped at hf
  generalize s.heap = H at hH ⊢
  refine lv_aload_n hx hb dX1_isSkipped_0 rfl (lv_at hl 0 rfl) ?_
  refine lv_iload_n hx hb dX1_isSkipped_1 rfl (lv_at hl 1 rfl) ?_
  obtain ⟨r1, er1, hf⟩ := bs_ hf
  refine cl_i0 hH (rn_S ⟨hx, hb, hml, hown, hts⟩ hKn hH (mX1_elementOf l G M n a0 a1 r1 er1) (va_cwS 2 hts (lw_S q748 q749 q67 q750) rfl rfl rfl kdX1_elementOf ⟨Nat.le_of_ble_eq_true rfl, Nat.le_of_ble_eq_true rfl⟩) rfl hl.1 (Nat.le_of_ble_eq_true rfl) dX1_isSkipped_2 ⟨(Nat.le_of_ble_eq_true rfl), (Nat.le_of_ble_eq_true rfl)⟩ rfl) (fun H locs hH => ?_)
  refine lv_aload_n hx hb dX1_isSkipped_5 rfl (lv_at hl 0 rfl) ?_
  obtain ⟨r2, er2, hf⟩ := bs_ hf
  refine cl_i0 hH (rn_S ⟨hx, hb, hml, hown, hts⟩ hKn hH (mX1_leastElement l G M n a0 r2 er2) (va_cwS 1 hts (lw_S q778 q779 q67 q780) rfl rfl rfl kdX1_leastElement ⟨Nat.le_of_ble_eq_true rfl, Nat.le_of_ble_eq_true rfl⟩) rfl hl.1 (Nat.le_of_ble_eq_true rfl) dX1_isSkipped_6 ⟨(Nat.le_of_ble_eq_true rfl), (Nat.le_of_ble_eq_true rfl)⟩ rfl) (fun H locs hH => ?_)
  refine lv_icmp_ne (tgt := 16) hx hb dX1_isSkipped_9 (by decide) (fun c3 => ?_) (fun c3 => ?_)
  · have hf := in_ c3 hf
    refine lv_iconst (v := 0) hx hb dX1_isSkipped_16 (by decide) ?_
    cases hf
    exact rt_b (b := false) hx hb hr hlk hH dX1_isSkipped_17
  · have hf := ip_ c3 hf
    refine lv_iconst (v := 1) hx hb dX1_isSkipped_12 (by decide) ?_
    refine lv_goto (tgt := 17) hx hb dX1_isSkipped_13 (by decide) ?_
    cases hf
    exact rt_b (b := true) hx hb hr hlk hH dX1_isSkipped_17
def fX1_fellSo_L3 : Nat → Mem_ → Nat → Nat → Nat → Int32 → Int32 → Option Bool
  | 0, _, _, _, _, _, _ => none
  | fuel + 1, M, x0, x1, x2, x3, x4 =>
    (fX1_sizeOf M x1).bind fun r1 =>
    if r1 ≤ x4 then
      some true
    else
      (fX1_isSkipped M x1 x4).bind fun r2 =>
      if (b2_ r2) = 0 then
        (fX1_elementOf M x1 x4).bind fun r4 =>
        (s_falls M x2 x4 x3).bind fun r5 =>
        if r4 = r5 then
          lt_ (x4 + 1) fun v6 =>
          fX1_fellSo_L3 fuel M x0 x1 x2 x3 v6
        else
          some false
      else
        lt_ (x4 + 1) fun v3 =>
        fX1_fellSo_L3 fuel M x0 x1 x2 x3 v3
def fX1_fellSo (M : Mem_) (a0 : Nat) (a1 : Nat) (a2 : Nat) (a3 : Int32) : Option Bool :=
  fX1_fellSo_L3 1000 M a0 a1 a2 a3 0
theorem kdX1_fellSo : yX1_fellSo.cls ≠ "java/lang/invoke/MethodHandle" ∧ yX1_fellSo.cls ≠ "java/lang/invoke/VarHandle" ∧ (parseMethodDescriptor yX1_fellSo.desc).map (fun d => d.parameters.length) = some 3 := by decide +kernel
set_option maxHeartbeats 4000000 in
theorem mX1_fellSo (l : Launch) (G : GT_) (M : Mem_) (n : Nat) (a0 : Nat) (a1 : Nat) (a2 : Nat) (a3 : Int32) (r : Bool) (hf : fX1_fellSo M a0 a1 a2 a3 = some r) : Ct_ G l yX1_fellSo (ws_ yX1_fellSo cX1_fellSo 5 (some .boolean)) ({ frames := 2, cells := 0, slots := 0, locals := 42 }) 0 0 [.ref a0, .ref a1, .ref a2, .int a3] M n (some (.int (b2_ r))) M n := by
  refine en_ (by decide) (Nat.le_of_ble_eq_true rfl) ?_
  intro p e s m below meth c hx hb hr hlk hml hown hts hname hKn hH ls hl
  have hown : s.vm.findClass RX1 = some m.cls := hown
  have hl : lv_has ls 5 [(0, .ref a0), (1, .ref a1), (2, .ref a2), (3, .int a3)] := hl
  have w3 : ∀ (fuel : Nat), ∀ (M : Mem_) (x0 : Nat) (x1 : Nat) (x2 : Nat) (x3 : Int32) (x4 : Int32) (H : Heap) (locs : List Loc) (ls : Array Slot), St_ G n M s H locs → lv_has ls 5 [(0, .ref x0), (1, .ref x1), (2, .ref x2), (3, .int x3), (4, .int x4)] → fX1_fellSo_L3 fuel M x0 x1 x2 x3 x4 = some r → W p l e ({ frames := 2, cells := 0, slots := 0, locals := 42 } : Room) s m ([.ref a0, .ref a1, .ref a2, .int a3] : List Value).toArray below meth c H locs 0 0 (MQ below (Qc_ G (some (.int (b2_ r))) M n) ([.ref a0, .ref a1, .ref a2, .int a3] : List Value).toArray s 0 0 (fun q => G.1 ≤ q)) (F0 m 3 ls []) := by
    intro fuel
    induction fuel with
    | zero =>
      intro M x0 x1 x2 x3 x4 H locs ls hH hl hf
      cases hf
    | succ fuel ih =>
      intro M x0 x1 x2 x3 x4 H locs ls hH hl hf
      unfold fX1_fellSo_L3 at hf
      refine lv_iload hx hb dX1_fellSo_3 (lv_at hl 4 rfl) ?_
      refine lv_aload_n hx hb dX1_fellSo_5 rfl (lv_at hl 1 rfl) ?_
      obtain ⟨r1, er1, hf⟩ := bs_ hf
      refine cl_i0 hH (rn_S ⟨hx, hb, hml, hown, hts⟩ hKn hH (mX1_sizeOf l G M n x1 r1 er1) (va_cwS 1 hts (lw_S q745 q746 q67 q747) rfl rfl rfl kdX1_sizeOf ⟨Nat.le_of_ble_eq_true rfl, Nat.le_of_ble_eq_true rfl⟩) rfl hl.1 (Nat.le_of_ble_eq_true rfl) dX1_fellSo_6 ⟨(Nat.le_of_ble_eq_true rfl), (Nat.le_of_ble_eq_true rfl)⟩ rfl) (fun H locs hH => ?_)
      refine lv_icmp_ge (tgt := 45) hx hb dX1_fellSo_9 (by decide) (fun c9 => ?_) (fun c9 => ?_)
      · have hf := ip_ c9 hf
        refine lv_iconst (v := 1) hx hb dX1_fellSo_45 (by decide) ?_
        cases hf
        exact rt_b (b := true) hx hb hr hlk hH dX1_fellSo_46
      · have hf := in_ c9 hf
        refine lv_aload_n hx hb dX1_fellSo_12 rfl (lv_at hl 1 rfl) ?_
        refine lv_iload hx hb dX1_fellSo_13 (lv_at hl 4 rfl) ?_
        obtain ⟨r2, er2, hf⟩ := bs_ hf
        refine cl_i0 hH (rn_S ⟨hx, hb, hml, hown, hts⟩ hKn hH (mX1_isSkipped l G M n x1 x4 r2 er2) (va_cwS 2 hts (lw_S q775 q776 q67 q777) rfl rfl rfl kdX1_isSkipped ⟨Nat.le_of_ble_eq_true rfl, Nat.le_of_ble_eq_true rfl⟩) rfl hl.1 (Nat.le_of_ble_eq_true rfl) dX1_fellSo_15 ⟨(Nat.le_of_ble_eq_true rfl), (Nat.le_of_ble_eq_true rfl)⟩ rfl) (fun H locs hH => ?_)
        refine lv_if_ne (tgt := 39) hx hb dX1_fellSo_18 (by decide) (fun c8 => ?_) (fun c8 => ?_)
        · have hf := in_ c8 hf
          obtain ⟨v3, ev3⟩ : ∃ z : Int32, z = x4 + 1 := ⟨_, rfl⟩
          have hf := lu_ ev3 hf
          refine lv_iinc (v := v3) (lv' := [(4, .int v3), (0, .ref x0), (1, .ref x1), (2, .ref x2), (3, .int x3)]) hx hb dX1_fellSo_39 hl (k := 4) rfl (by rw [ev3]; rfl) (by decide) rfl (fun ls hl => ?_)
          refine lv_goto (tgt := 3) hx hb dX1_fellSo_42 (by decide) ?_
          exact ih M x0 x1 x2 x3 v3 _ _ ls hH (lv_sub hl [1, 2, 3, 4, 0] rfl) hf
        · have hf := ip_ c8 hf
          refine lv_aload_n hx hb dX1_fellSo_21 rfl (lv_at hl 1 rfl) ?_
          refine lv_iload hx hb dX1_fellSo_22 (lv_at hl 4 rfl) ?_
          obtain ⟨r4, er4, hf⟩ := bs_ hf
          refine cl_i0 hH (rn_S ⟨hx, hb, hml, hown, hts⟩ hKn hH (mX1_elementOf l G M n x1 x4 r4 er4) (va_cwS 2 hts (lw_S q748 q749 q67 q750) rfl rfl rfl kdX1_elementOf ⟨Nat.le_of_ble_eq_true rfl, Nat.le_of_ble_eq_true rfl⟩) rfl hl.1 (Nat.le_of_ble_eq_true rfl) dX1_fellSo_24 ⟨(Nat.le_of_ble_eq_true rfl), (Nat.le_of_ble_eq_true rfl)⟩ rfl) (fun H locs hH => ?_)
          refine lv_aload_n hx hb dX1_fellSo_27 rfl (lv_at hl 2 rfl) ?_
          refine lv_iload hx hb dX1_fellSo_28 (lv_at hl 4 rfl) ?_
          refine lv_iload_n hx hb dX1_fellSo_30 rfl (lv_at hl 3 rfl) ?_
          obtain ⟨r5, er5, hf⟩ := bs_ hf
          refine cl_i0 hH (rs_falls ⟨hx, hb, hml, hown, hts⟩ hKn hH er5 (va_Nw.use rfl (hKn.2.2.2.2.2.2.1 _ (List.mem_of_getElem? (i := 7) rfl))) ⟨Nat.le_of_ble_eq_true rfl, Nat.le_of_ble_eq_true rfl⟩ hl.1 (Nat.le_of_ble_eq_true rfl) dX1_fellSo_31 ⟨(Nat.le_of_ble_eq_true rfl), (Nat.le_of_ble_eq_true rfl)⟩ rfl) (fun H locs hH => ?_)
          refine lv_icmp_eq (tgt := 39) hx hb dX1_fellSo_34 (by decide) (fun c7 => ?_) (fun c7 => ?_)
          · have hf := ip_ c7 hf
            obtain ⟨v6, ev6⟩ : ∃ z : Int32, z = x4 + 1 := ⟨_, rfl⟩
            have hf := lu_ ev6 hf
            refine lv_iinc (v := v6) (lv' := [(4, .int v6), (0, .ref x0), (1, .ref x1), (2, .ref x2), (3, .int x3)]) hx hb dX1_fellSo_39 hl (k := 4) rfl (by rw [ev6]; rfl) (by decide) rfl (fun ls hl => ?_)
            refine lv_goto (tgt := 3) hx hb dX1_fellSo_42 (by decide) ?_
            exact ih M x0 x1 x2 x3 v6 _ _ ls hH (lv_sub hl [1, 2, 3, 4, 0] rfl) hf
          · have hf := in_ c7 hf
            refine lv_iconst (v := 0) hx hb dX1_fellSo_37 (by decide) ?_
            cases hf
            exact rt_b (b := false) hx hb hr hlk hH dX1_fellSo_38
  unfold fX1_fellSo at hf
  refine lv_iconst (v := 0) hx hb dX1_fellSo_0 (by decide) ?_
  refine lv_istore (lv' := [(4, .int 0), (0, .ref a0), (1, .ref a1), (2, .ref a2), (3, .int a3)]) hx hb dX1_fellSo_1 hl (by decide) rfl (fun ls hl => ?_)
  exact w3 1000 M a0 a1 a2 a3 0 _ _ ls hH (lv_sub hl [1, 2, 3, 4, 0] rfl) hf
