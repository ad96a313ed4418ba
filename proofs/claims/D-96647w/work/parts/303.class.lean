set_option maxRecDepth 100000
def fX1_player (M : Mem_) (a0 : Nat) (a1 : Int32) (a2 : Int32) : Option Int32 :=
  lt_ (fX1_isPlayer a1) fun r1 =>
  if (b2_ r1) = 0 then
    some (-1)
  else
    if a2 = 0 then
      (gR_ M a0 0 0).bind fun v3 =>
      (gR_ M v3 1 1).bind fun v4 =>
      (aI_ M v4 0 a1).bind fun v5 =>
      some v5
    else
      if a2 = 1 then
        (gR_ M a0 0 0).bind fun v7 =>
        (gR_ M v7 1 2).bind fun v8 =>
        (aI_ M v8 0 a1).bind fun v9 =>
        some v9
      else
        if a2 = 2 then
          (gR_ M a0 0 0).bind fun v11 =>
          (gR_ M v11 1 3).bind fun v12 =>
          (aI_ M v12 0 a1).bind fun v13 =>
          some v13
        else
          if a2 = 3 then
            (gR_ M a0 0 0).bind fun v15 =>
            (gI_ M v15 1 8).bind fun v16 =>
            some ((v16 >>> (a1 &&& 31)) &&& 1)
          else
            if a2 = 4 then
              (gR_ M a0 0 0).bind fun v18 =>
              (ck_ M v18 1).bind fun u19 =>
              (fX2_steps M v18 a1 1).bind fun r20 =>
              some r20
            else
              some (-1)
theorem kdX1_player : yX1_player.cls ≠ "java/lang/invoke/MethodHandle" ∧ yX1_player.cls ≠ "java/lang/invoke/VarHandle" ∧ (parseMethodDescriptor yX1_player.desc).map (fun d => d.parameters.length) = some 2 := by decide +kernel
set_option maxHeartbeats 4000000 in
theorem mX1_player (l : Launch) (G : GT_) (M : Mem_) (n : Nat) (a0 : Nat) (a1 : Int32) (a2 : Int32) (r : Int32) (hf : fX1_player M a0 a1 a2 = some r) : Ct_ G l yX1_player (ws_ yX1_player cX1_player 3 (some .int)) ({ frames := 2, cells := 0, slots := 0, locals := 42 }) 0 0 [.ref a0, .int a1, .int a2] M n (some (.int r)) M n := by
  refine en_ (by decide) (Nat.le_of_ble_eq_true rfl) ?_
  intro p e s m below meth c hx hb hr hlk hml hown hts hname hKn hH ls hl
  have hown : s.vm.findClass RX1 = some m.cls := hown
  have hl : lv_has ls 3 [(0, .ref a0), (1, .int a1), (2, .int a2)] := hl
  unfold fX1_player at hf
  generalize s.heap = H at hH ⊢
  refine lv_iload_n hx hb dX1_player_0 rfl (lv_at hl 1 rfl) ?_
  obtain ⟨r1, er1⟩ : ∃ z, z = fX1_isPlayer a1 := ⟨_, rfl⟩
  have hf := lu_ er1 hf
  refine cl_i0 hH (rn_S ⟨hx, hb, hml, hown, hts⟩ hKn hH (mX1_isPlayer l G M n a1 r1 er1.symm) (va_cwS 1 hts (lw_S q563 q564 q67 q565) rfl rfl rfl kdX1_isPlayer ⟨Nat.le_of_ble_eq_true rfl, Nat.le_of_ble_eq_true rfl⟩) rfl hl.1 (Nat.le_of_ble_eq_true rfl) dX1_player_1 ⟨(Nat.le_of_ble_eq_true rfl), (Nat.le_of_ble_eq_true rfl)⟩ rfl) (fun H locs hH => ?_)
  refine lv_if_ne (tgt := 9) hx hb dX1_player_4 (by decide) (fun c21 => ?_) (fun c21 => ?_)
  · have hf := in_ c21 hf
    refine lv_iload_n hx hb dX1_player_9 rfl (lv_at hl 2 rfl) ?_
    by_cases c2 : a2 = 0
    · have hf := ip_ c2 hf
      refine sw_I (off := 34) (tgt := 44) hx hb dX1_player_10 c2 (by decide) (by decide) (by decide) (by decide) ?_
      refine lv_aload_n hx hb dX1_player_44 rfl (lv_at hl 0 rfl) ?_
      obtain ⟨v3, ev3, hf⟩ := bs_ hf
      refine mg_gR hx hb hts hown hKn hH ev3 in_X1 rfl (by decide) (hts _ q937) (fun _ h9 => h9) dX1_player_45 ?_
      obtain ⟨v4, ev4, hf⟩ := bs_ hf
      refine mg_gR hx hb hts hown hKn hH ev4 in_X2 rfl (by decide) (hts _ q874) (fun _ h9 => h9) dX1_player_48 ?_
      refine lv_iload_n hx hb dX1_player_51 rfl (lv_at hl 1 rfl) ?_
      obtain ⟨v5, ev5, hf⟩ := bs_ hf
      refine mg_iald hx hb hKn hH ev5 dX1_player_52 ?_
      cases hf
      exact rt_i hx hb hr hlk hH dX1_player_53
    · have hf := in_ c2 hf
      by_cases c6 : a2 = 1
      · have hf := ip_ c6 hf
        refine sw_I (off := 44) (tgt := 54) hx hb dX1_player_10 c6 (by decide) (by decide) (by decide) (by decide) ?_
        refine lv_aload_n hx hb dX1_player_54 rfl (lv_at hl 0 rfl) ?_
        obtain ⟨v7, ev7, hf⟩ := bs_ hf
        refine mg_gR hx hb hts hown hKn hH ev7 in_X1 rfl (by decide) (hts _ q937) (fun _ h9 => h9) dX1_player_55 ?_
        obtain ⟨v8, ev8, hf⟩ := bs_ hf
        refine mg_gR hx hb hts hown hKn hH ev8 in_X2 rfl (by decide) (hts _ q876) (fun _ h9 => h9) dX1_player_58 ?_
        refine lv_iload_n hx hb dX1_player_61 rfl (lv_at hl 1 rfl) ?_
        obtain ⟨v9, ev9, hf⟩ := bs_ hf
        refine mg_iald hx hb hKn hH ev9 dX1_player_62 ?_
        cases hf
        exact rt_i hx hb hr hlk hH dX1_player_63
      · have hf := in_ c6 hf
        by_cases c10 : a2 = 2
        · have hf := ip_ c10 hf
          refine sw_I (off := 54) (tgt := 64) hx hb dX1_player_10 c10 (by decide) (by decide) (by decide) (by decide) ?_
          refine lv_aload_n hx hb dX1_player_64 rfl (lv_at hl 0 rfl) ?_
          obtain ⟨v11, ev11, hf⟩ := bs_ hf
          refine mg_gR hx hb hts hown hKn hH ev11 in_X1 rfl (by decide) (hts _ q937) (fun _ h9 => h9) dX1_player_65 ?_
          obtain ⟨v12, ev12, hf⟩ := bs_ hf
          refine mg_gR hx hb hts hown hKn hH ev12 in_X2 rfl (by decide) (hts _ q878) (fun _ h9 => h9) dX1_player_68 ?_
          refine lv_iload_n hx hb dX1_player_71 rfl (lv_at hl 1 rfl) ?_
          obtain ⟨v13, ev13, hf⟩ := bs_ hf
          refine mg_iald hx hb hKn hH ev13 dX1_player_72 ?_
          cases hf
          exact rt_i hx hb hr hlk hH dX1_player_73
        · have hf := in_ c10 hf
          by_cases c14 : a2 = 3
          · have hf := ip_ c14 hf
            refine sw_I (off := 64) (tgt := 74) hx hb dX1_player_10 c14 (by decide) (by decide) (by decide) (by decide) ?_
            refine lv_aload_n hx hb dX1_player_74 rfl (lv_at hl 0 rfl) ?_
            obtain ⟨v15, ev15, hf⟩ := bs_ hf
            refine mg_gR hx hb hts hown hKn hH ev15 in_X1 rfl (by decide) (hts _ q937) (fun _ h9 => h9) dX1_player_75 ?_
            obtain ⟨v16, ev16, hf⟩ := bs_ hf
            refine mg_gI hx hb hts hown hKn hH ev16 in_X2 rfl (by decide) (hts _ q888) (fun _ h9 => h9) dX1_player_78 ?_
            refine lv_iload_n hx hb dX1_player_81 rfl (lv_at hl 1 rfl) ?_
            refine lv_ishr hx hb dX1_player_82 ?_
            refine lv_iconst (v := 1) hx hb dX1_player_83 (by decide) ?_
            refine lv_iand hx hb dX1_player_84 ?_
            cases hf
            exact rt_i hx hb hr hlk hH dX1_player_85
          · have hf := in_ c14 hf
            by_cases c17 : a2 = 4
            · have hf := ip_ c17 hf
              refine sw_I (off := 76) (tgt := 86) hx hb dX1_player_10 c17 (by decide) (by decide) (by decide) (by decide) ?_
              refine lv_aload_n hx hb dX1_player_86 rfl (lv_at hl 0 rfl) ?_
              obtain ⟨v18, ev18, hf⟩ := bs_ hf
              refine mg_gR hx hb hts hown hKn hH ev18 in_X1 rfl (by decide) (hts _ q937) (fun _ h9 => h9) dX1_player_87 ?_
              refine lv_iload_n hx hb dX1_player_90 rfl (lv_at hl 1 rfl) ?_
              refine lv_iconst (v := 1) hx hb dX1_player_91 (by decide) ?_
              obtain ⟨u19, eu19, hf⟩ := bs_ hf
              obtain ⟨r20, er20, hf⟩ := bs_ hf
              refine cl_i0 hH (rn_V ⟨hx, hb, hml, hown, hts⟩ hKn hH (mX2_steps l G M n v18 a1 1 r20 er20) (cwV 2 hts (lw_V q606 q533 q534 q68 q535) rfl rfl rfl ⟨rfl, kdX2_steps⟩ ⟨Nat.le_of_ble_eq_true rfl, Nat.le_of_ble_eq_true rfl⟩) eu19 rfl rfl hl.1 (Nat.le_of_ble_eq_true rfl) dX1_player_92 ⟨(Nat.le_of_ble_eq_true rfl), (Nat.le_of_ble_eq_true rfl)⟩ rfl) (fun H locs hH => ?_)
              cases hf
              exact rt_i hx hb hr hlk hH dX1_player_95
            · have hf := in_ c17 hf
              refine sw_D (tgt := 96) hx hb dX1_player_10 [(0, 34), (1, 44), (2, 54), (3, 64), (4, 76)] (by decide) (by decide) (by decide) ⟨Or.inr (lv_neT c2 (by decide)), Or.inr (lv_neT c6 (by decide)), Or.inr (lv_neT c10 (by decide)), Or.inr (lv_neT c14 (by decide)), Or.inr (lv_neT c17 (by decide)), trivial⟩ (by decide) ?_
              refine lv_iconst (v := (-1)) hx hb dX1_player_96 (by decide) ?_
              cases hf
              exact rt_i hx hb hr hlk hH dX1_player_97
  · have hf := ip_ c21 hf
    refine lv_iconst (v := (-1)) hx hb dX1_player_7 (by decide) ?_
    cases hf
    exact rt_i hx hb hr hlk hH dX1_player_8
def fX2_outOfPlace (M : Mem_) (a0 : Nat) (a1 : Int32) : Option Int32 :=
  (gR_ M a0 1 1).bind fun v1 =>
  (aI_ M v1 0 (a1 ^^^ 1)).bind fun v2 =>
  (ck_ M a0 1).bind fun u3 =>
  (fX2_placeBy M a0 a1).bind fun r4 =>
  lt_ (fX1_wayTo v2 r4) fun r5 =>
  some r5
theorem kdX2_outOfPlace : yX2_outOfPlace.cls ≠ "java/lang/invoke/MethodHandle" ∧ yX2_outOfPlace.cls ≠ "java/lang/invoke/VarHandle" ∧ (parseMethodDescriptor yX2_outOfPlace.desc).map (fun d => d.parameters.length) = some 1 := by decide +kernel
set_option maxHeartbeats 4000000 in
theorem mX2_outOfPlace (l : Launch) (G : GT_) (M : Mem_) (n : Nat) (a0 : Nat) (a1 : Int32) (r : Int32) (hf : fX2_outOfPlace M a0 a1 = some r) : Ct_ G l yX2_outOfPlace (ws_ yX2_outOfPlace cX2_outOfPlace 2 (some .int)) ({ frames := 2, cells := 0, slots := 0, locals := 42 }) 0 0 [.ref a0, .int a1] M n (some (.int r)) M n := by
  refine en_ (by decide) (Nat.le_of_ble_eq_true rfl) ?_
  intro p e s m below meth c hx hb hr hlk hml hown hts hname hKn hH ls hl
  have hown : s.vm.findClass RX2 = some m.cls := hown
  have hl : lv_has ls 2 [(0, .ref a0), (1, .int a1)] := hl
  unfold fX2_outOfPlace at hf
  generalize s.heap = H at hH ⊢
  refine lv_aload_n hx hb dX2_outOfPlace_0 rfl (lv_at hl 0 rfl) ?_
  obtain ⟨v1, ev1, hf⟩ := bs_ hf
  refine mg_gR hx hb hts hown hKn hH ev1 in_X2 rfl (by decide) (hts _ q873) (fun _ h9 => h9) dX2_outOfPlace_1 ?_
  refine lv_iload_n hx hb dX2_outOfPlace_4 rfl (lv_at hl 1 rfl) ?_
  refine lv_iconst (v := 1) hx hb dX2_outOfPlace_5 (by decide) ?_
  refine lv_ixor hx hb dX2_outOfPlace_6 ?_
  obtain ⟨v2, ev2, hf⟩ := bs_ hf
  refine mg_iald hx hb hKn hH ev2 dX2_outOfPlace_7 ?_
  refine lv_aload_n hx hb dX2_outOfPlace_8 rfl (lv_at hl 0 rfl) ?_
  refine lv_iload_n hx hb dX2_outOfPlace_9 rfl (lv_at hl 1 rfl) ?_
  obtain ⟨u3, eu3, hf⟩ := bs_ hf
  obtain ⟨r4, er4, hf⟩ := bs_ hf
  refine cl_i0 hH (rn_V ⟨hx, hb, hml, hown, hts⟩ hKn hH (mX2_placeBy l G M n a0 a1 r4 er4) (cwV 1 hts (lw_V q545 q547 qs16 q68 q548) rfl rfl rfl ⟨rfl, kdX2_placeBy⟩ ⟨Nat.le_of_ble_eq_true rfl, Nat.le_of_ble_eq_true rfl⟩) eu3 rfl rfl hl.1 (Nat.le_of_ble_eq_true rfl) dX2_outOfPlace_10 ⟨(Nat.le_of_ble_eq_true rfl), (Nat.le_of_ble_eq_true rfl)⟩ rfl) (fun H locs hH => ?_)
  obtain ⟨r5, er5⟩ : ∃ z, z = fX1_wayTo v2 r4 := ⟨_, rfl⟩
  have hf := lu_ er5 hf
  refine cl_i0 hH (rn_SN ⟨hx, hb, hml, hown, hts⟩ hKn hH (mX1_wayTo l G M n v2 r4 r5 er5.symm) ⟨va_cnB 2 hts (lw_meth q514) rfl rfl rfl (hKn.2.1 _ (List.mem_of_getElem? (i := 7) rfl)) (hts _ q67) kdX1_wayTo ⟨Nat.le_of_ble_eq_true rfl, Nat.le_of_ble_eq_true rfl⟩, hts _ q513, trivial⟩ rfl hl.1 (Nat.le_of_ble_eq_true rfl) dX2_outOfPlace_13 ⟨(Nat.le_of_ble_eq_true rfl), (Nat.le_of_ble_eq_true rfl)⟩ rfl) (fun H locs hH => ?_)
  cases hf
  exact rt_i hx hb hr hlk hH dX2_outOfPlace_16
def fX1_side (M : Mem_) (a0 : Nat) (a1 : Int32) (a2 : Int32) : Option Int32 :=
  lt_ (fX1_isIn a1 0 1) fun r1 =>
  if (b2_ r1) = 0 then
    some (-1)
  else
    if a2 = 0 then
      (gR_ M a0 0 0).bind fun v3 =>
      (gR_ M v3 1 4).bind fun v4 =>
      (aI_ M v4 0 a1).bind fun v5 =>
      some v5
    else
      if a2 = 1 then
        (gR_ M a0 0 0).bind fun v7 =>
        (gR_ M v7 1 5).bind fun v8 =>
        (aI_ M v8 0 a1).bind fun v9 =>
        some v9
      else
        if a2 = 2 then
          (gR_ M a0 0 0).bind fun v11 =>
          (gR_ M v11 1 6).bind fun v12 =>
          (aI_ M v12 0 a1).bind fun v13 =>
          some v13
        else
          if a2 = 3 then
            (gR_ M a0 0 0).bind fun v15 =>
            (gR_ M a0 0 0).bind fun v16 =>
            (ck_ M v16 1).bind fun u17 =>
            (fX2_turn M v16).bind fun r18 =>
            if r18 = a1 then
              (gR_ M a0 0 0).bind fun v21 =>
              (gI_ M v21 1 10).bind fun v22 =>
              (ck_ M v15 1).bind fun u23 =>
              (fX2_outOfPlace M v15 v22).bind fun r24 =>
              some r24
            else
              (ck_ M v15 1).bind fun u19 =>
              (fX2_outOfPlace M v15 (2 * a1)).bind fun r20 =>
              some r20
          else
            some (-1)
theorem kdX1_side : yX1_side.cls ≠ "java/lang/invoke/MethodHandle" ∧ yX1_side.cls ≠ "java/lang/invoke/VarHandle" ∧ (parseMethodDescriptor yX1_side.desc).map (fun d => d.parameters.length) = some 2 := by decide +kernel
set_option maxHeartbeats 4000000 in
theorem mX1_side (l : Launch) (G : GT_) (M : Mem_) (n : Nat) (a0 : Nat) (a1 : Int32) (a2 : Int32) (r : Int32) (hf : fX1_side M a0 a1 a2 = some r) : Ct_ G l yX1_side (ws_ yX1_side cX1_side 3 (some .int)) ({ frames := 3, cells := 0, slots := 0, locals := 63 }) 0 0 [.ref a0, .int a1, .int a2] M n (some (.int r)) M n := by
  refine en_ (by decide) (Nat.le_of_ble_eq_true rfl) ?_
  intro p e s m below meth c hx hb hr hlk hml hown hts hname hKn hH ls hl
  have hown : s.vm.findClass RX1 = some m.cls := hown
  have hl : lv_has ls 3 [(0, .ref a0), (1, .int a1), (2, .int a2)] := hl
  unfold fX1_side at hf
  generalize s.heap = H at hH ⊢
  refine lv_iload_n hx hb dX1_side_0 rfl (lv_at hl 1 rfl) ?_
  refine lv_iconst (v := 0) hx hb dX1_side_1 (by decide) ?_
  refine lv_iconst (v := 1) hx hb dX1_side_2 (by decide) ?_
  obtain ⟨r1, er1⟩ : ∃ z, z = fX1_isIn a1 0 1 := ⟨_, rfl⟩
  have hf := lu_ er1 hf
  refine cl_i0 hH (rn_S ⟨hx, hb, hml, hown, hts⟩ hKn hH (mX1_isIn l G M n a1 0 1 r1 er1.symm) (va_cwS 3 hts (lw_S q199 q200 q67 q201) rfl rfl rfl kdX1_isIn ⟨Nat.le_of_ble_eq_true rfl, Nat.le_of_ble_eq_true rfl⟩) rfl hl.1 (Nat.le_of_ble_eq_true rfl) dX1_side_3 ⟨(Nat.le_of_ble_eq_true rfl), (Nat.le_of_ble_eq_true rfl)⟩ rfl) (fun H locs hH => ?_)
  refine lv_if_ne (tgt := 11) hx hb dX1_side_6 (by decide) (fun c26 => ?_) (fun c26 => ?_)
  · have hf := in_ c26 hf
    refine lv_iload_n hx hb dX1_side_11 rfl (lv_at hl 2 rfl) ?_
    by_cases c2 : a2 = 0
    · have hf := ip_ c2 hf
      refine sw_I (off := 32) (tgt := 44) hx hb dX1_side_12 c2 (by decide) (by decide) (by decide) (by decide) ?_
      refine lv_aload_n hx hb dX1_side_44 rfl (lv_at hl 0 rfl) ?_
      obtain ⟨v3, ev3, hf⟩ := bs_ hf
      refine mg_gR hx hb hts hown hKn hH ev3 in_X1 rfl (by decide) (hts _ q937) (fun _ h9 => h9) dX1_side_45 ?_
      obtain ⟨v4, ev4, hf⟩ := bs_ hf
      refine mg_gR hx hb hts hown hKn hH ev4 in_X2 rfl (by decide) (hts _ q880) (fun _ h9 => h9) dX1_side_48 ?_
      refine lv_iload_n hx hb dX1_side_51 rfl (lv_at hl 1 rfl) ?_
      obtain ⟨v5, ev5, hf⟩ := bs_ hf
      refine mg_iald hx hb hKn hH ev5 dX1_side_52 ?_
      cases hf
      exact rt_i hx hb hr hlk hH dX1_side_53
    · have hf := in_ c2 hf
      by_cases c6 : a2 = 1
      · have hf := ip_ c6 hf
        refine sw_I (off := 42) (tgt := 54) hx hb dX1_side_12 c6 (by decide) (by decide) (by decide) (by decide) ?_
        refine lv_aload_n hx hb dX1_side_54 rfl (lv_at hl 0 rfl) ?_
        obtain ⟨v7, ev7, hf⟩ := bs_ hf
        refine mg_gR hx hb hts hown hKn hH ev7 in_X1 rfl (by decide) (hts _ q937) (fun _ h9 => h9) dX1_side_55 ?_
        obtain ⟨v8, ev8, hf⟩ := bs_ hf
        refine mg_gR hx hb hts hown hKn hH ev8 in_X2 rfl (by decide) (hts _ q882) (fun _ h9 => h9) dX1_side_58 ?_
        refine lv_iload_n hx hb dX1_side_61 rfl (lv_at hl 1 rfl) ?_
        obtain ⟨v9, ev9, hf⟩ := bs_ hf
        refine mg_iald hx hb hKn hH ev9 dX1_side_62 ?_
        cases hf
        exact rt_i hx hb hr hlk hH dX1_side_63
      · have hf := in_ c6 hf
        by_cases c10 : a2 = 2
        · have hf := ip_ c10 hf
          refine sw_I (off := 52) (tgt := 64) hx hb dX1_side_12 c10 (by decide) (by decide) (by decide) (by decide) ?_
          refine lv_aload_n hx hb dX1_side_64 rfl (lv_at hl 0 rfl) ?_
          obtain ⟨v11, ev11, hf⟩ := bs_ hf
          refine mg_gR hx hb hts hown hKn hH ev11 in_X1 rfl (by decide) (hts _ q937) (fun _ h9 => h9) dX1_side_65 ?_
          obtain ⟨v12, ev12, hf⟩ := bs_ hf
          refine mg_gR hx hb hts hown hKn hH ev12 in_X2 rfl (by decide) (hts _ q884) (fun _ h9 => h9) dX1_side_68 ?_
          refine lv_iload_n hx hb dX1_side_71 rfl (lv_at hl 1 rfl) ?_
          obtain ⟨v13, ev13, hf⟩ := bs_ hf
          refine mg_iald hx hb hKn hH ev13 dX1_side_72 ?_
          cases hf
          exact rt_i hx hb hr hlk hH dX1_side_73
        · have hf := in_ c10 hf
          by_cases c14 : a2 = 3
          · have hf := ip_ c14 hf
            refine sw_I (off := 62) (tgt := 74) hx hb dX1_side_12 c14 (by decide) (by decide) (by decide) (by decide) ?_
            refine lv_aload_n hx hb dX1_side_74 rfl (lv_at hl 0 rfl) ?_
            obtain ⟨v15, ev15, hf⟩ := bs_ hf
            refine mg_gR hx hb hts hown hKn hH ev15 in_X1 rfl (by decide) (hts _ q937) (fun _ h9 => h9) dX1_side_75 ?_
            refine lv_aload_n hx hb dX1_side_78 rfl (lv_at hl 0 rfl) ?_
            obtain ⟨v16, ev16, hf⟩ := bs_ hf
            refine mg_gR hx hb hts hown hKn hH ev16 in_X1 rfl (by decide) (hts _ q937) (fun _ h9 => h9) dX1_side_79 ?_
            obtain ⟨u17, eu17, hf⟩ := bs_ hf
            obtain ⟨r18, er18, hf⟩ := bs_ hf
            refine cl_i0 hH (rn_V ⟨hx, hb, hml, hown, hts⟩ hKn hH (mX2_turn l G M n v16 r18 er18) (cwV 0 hts (lw_V q611 q416 q417 q68 q418) rfl rfl rfl ⟨rfl, kdX2_turn⟩ ⟨Nat.le_of_ble_eq_true rfl, Nat.le_of_ble_eq_true rfl⟩) eu17 rfl rfl hl.1 (Nat.le_of_ble_eq_true rfl) dX1_side_82 ⟨(Nat.le_of_ble_eq_true rfl), (Nat.le_of_ble_eq_true rfl)⟩ rfl) (fun H locs hH => ?_)
            refine lv_iload_n hx hb dX1_side_85 rfl (lv_at hl 1 rfl) ?_
            refine lv_icmp_ne (tgt := 99) hx hb dX1_side_86 (by decide) (fun c25 => ?_) (fun c25 => ?_)
            · have hf := in_ c25 hf
              refine lv_iconst (v := 2) hx hb dX1_side_99 (by decide) ?_
              refine lv_iload_n hx hb dX1_side_100 rfl (lv_at hl 1 rfl) ?_
              refine lv_imul hx hb dX1_side_101 ?_
              obtain ⟨u19, eu19, hf⟩ := bs_ hf
              obtain ⟨r20, er20, hf⟩ := bs_ hf
              refine cl_i0 hH (rn_V ⟨hx, hb, hml, hown, hts⟩ hKn hH (mX2_outOfPlace l G M n v15 (2 * a1) r20 er20) (cwV 1 hts (lw_V q612 q613 q614 q68 q615) rfl rfl rfl ⟨rfl, kdX2_outOfPlace⟩ ⟨Nat.le_of_ble_eq_true rfl, Nat.le_of_ble_eq_true rfl⟩) eu19 rfl rfl hl.1 (Nat.le_of_ble_eq_true rfl) dX1_side_102 ⟨(Nat.le_of_ble_eq_true rfl), (Nat.le_of_ble_eq_true rfl)⟩ rfl) (fun H locs hH => ?_)
              cases hf
              exact rt_i hx hb hr hlk hH dX1_side_105
            · have hf := ip_ c25 hf
              refine lv_aload_n hx hb dX1_side_89 rfl (lv_at hl 0 rfl) ?_
              obtain ⟨v21, ev21, hf⟩ := bs_ hf
              refine mg_gR hx hb hts hown hKn hH ev21 in_X1 rfl (by decide) (hts _ q937) (fun _ h9 => h9) dX1_side_90 ?_
              obtain ⟨v22, ev22, hf⟩ := bs_ hf
              refine mg_gI hx hb hts hown hKn hH ev22 in_X2 rfl (by decide) (hts _ q892) (fun _ h9 => h9) dX1_side_93 ?_
              refine lv_goto (tgt := 102) hx hb dX1_side_96 (by decide) ?_
              obtain ⟨u23, eu23, hf⟩ := bs_ hf
              obtain ⟨r24, er24, hf⟩ := bs_ hf
              refine cl_i0 hH (rn_V ⟨hx, hb, hml, hown, hts⟩ hKn hH (mX2_outOfPlace l G M n v15 v22 r24 er24) (cwV 1 hts (lw_V q612 q613 q614 q68 q615) rfl rfl rfl ⟨rfl, kdX2_outOfPlace⟩ ⟨Nat.le_of_ble_eq_true rfl, Nat.le_of_ble_eq_true rfl⟩) eu23 rfl rfl hl.1 (Nat.le_of_ble_eq_true rfl) dX1_side_102 ⟨(Nat.le_of_ble_eq_true rfl), (Nat.le_of_ble_eq_true rfl)⟩ rfl) (fun H locs hH => ?_)
              cases hf
              exact rt_i hx hb hr hlk hH dX1_side_105
          · have hf := in_ c14 hf
            refine sw_D (tgt := 106) hx hb dX1_side_12 [(0, 32), (1, 42), (2, 52), (3, 62)] (by decide) (by decide) (by decide) ⟨Or.inr (lv_neT c2 (by decide)), Or.inr (lv_neT c6 (by decide)), Or.inr (lv_neT c10 (by decide)), Or.inr (lv_neT c14 (by decide)), trivial⟩ (by decide) ?_
            refine lv_iconst (v := (-1)) hx hb dX1_side_106 (by decide) ?_
            cases hf
            exact rt_i hx hb hr hlk hH dX1_side_107
  · have hf := ip_ c26 hf
    refine lv_iconst (v := (-1)) hx hb dX1_side_9 (by decide) ?_
    cases hf
    exact rt_i hx hb hr hlk hH dX1_side_10
def fX1_stands (M : Mem_) (a0 : Nat) (a1 : Int32) (a2 : Int32) (a3 : Int32) : Option (Int32 × Mem_) :=
  lt_ (fX1_isPlayer a1) fun r1 =>
  if (b2_ r1) = 0 then
    some ((-1), M)
  else
    lt_ (fX1_isCell a2) fun r2 =>
    if (b2_ r2) = 0 then
      some ((-1), M)
    else
      lt_ (fX1_isIn a3 1 4) fun r3 =>
      if (b2_ r3) = 0 then
        some ((-1), M)
      else
        (gR_ M a0 0 0).bind fun v4 =>
        (gR_ M v4 1 1).bind fun v5 =>
        (aI_ M v5 0 a1).bind fun v6 =>
        (gR_ M a0 0 0).bind fun v7 =>
        (gR_ M v7 1 1).bind fun v8 =>
        (sI_ M v8 0 a1 a2).bind fun M9 =>
        (gR_ M9 a0 0 0).bind fun v10 =>
        (gR_ M9 v10 1 2).bind fun v11 =>
        (sI_ M9 v11 0 a1 a3).bind fun M12 =>
        some (v6, M12)
theorem kdX1_stands : yX1_stands.cls ≠ "java/lang/invoke/MethodHandle" ∧ yX1_stands.cls ≠ "java/lang/invoke/VarHandle" ∧ (parseMethodDescriptor yX1_stands.desc).map (fun d => d.parameters.length) = some 3 := by decide +kernel
set_option maxHeartbeats 4000000 in
theorem mX1_stands (l : Launch) (G : GT_) (M : Mem_) (n : Nat) (a0 : Nat) (a1 : Int32) (a2 : Int32) (a3 : Int32) (r : Int32) (M1 : Mem_) (hf : fX1_stands M a0 a1 a2 a3 = some (r, M1)) : Ct_ G l yX1_stands (ws_ yX1_stands cX1_stands 5 (some .int)) ({ frames := 2, cells := 0, slots := 0, locals := 42 }) 0 0 [.ref a0, .int a1, .int a2, .int a3] M n (some (.int r)) M1 n := by
  refine en_ (by decide) (Nat.le_of_ble_eq_true rfl) ?_
  intro p e s m below meth c hx hb hr hlk hml hown hts hname hKn hH ls hl
  have hown : s.vm.findClass RX1 = some m.cls := hown
  have hl : lv_has ls 5 [(0, .ref a0), (1, .int a1), (2, .int a2), (3, .int a3)] := hl
  unfold fX1_stands at hf
  generalize s.heap = H at hH ⊢
  refine lv_iload_n hx hb dX1_stands_0 rfl (lv_at hl 1 rfl) ?_
  obtain ⟨r1, er1⟩ : ∃ z, z = fX1_isPlayer a1 := ⟨_, rfl⟩
  have hf := lu_ er1 hf
  refine cl_i0 hH (rn_S ⟨hx, hb, hml, hown, hts⟩ hKn hH (mX1_isPlayer l G M n a1 r1 er1.symm) (va_cwS 1 hts (lw_S q563 q564 q67 q565) rfl rfl rfl kdX1_isPlayer ⟨Nat.le_of_ble_eq_true rfl, Nat.le_of_ble_eq_true rfl⟩) rfl hl.1 (Nat.le_of_ble_eq_true rfl) dX1_stands_1 ⟨(Nat.le_of_ble_eq_true rfl), (Nat.le_of_ble_eq_true rfl)⟩ rfl) (fun H locs hH => ?_)
  refine lv_if_eq (tgt := 23) hx hb dX1_stands_4 (by decide) (fun c15 => ?_) (fun c15 => ?_)
  · have hf := ip_ c15 hf
    refine lv_iconst (v := (-1)) hx hb dX1_stands_23 (by decide) ?_
    cases hf
    exact rt_i hx hb hr hlk hH dX1_stands_24
  · have hf := in_ c15 hf
    refine lv_iload_n hx hb dX1_stands_7 rfl (lv_at hl 2 rfl) ?_
    obtain ⟨r2, er2⟩ : ∃ z, z = fX1_isCell a2 := ⟨_, rfl⟩
    have hf := lu_ er2 hf
    refine cl_i0 hH (rn_S ⟨hx, hb, hml, hown, hts⟩ hKn hH (mX1_isCell l G M n a2 r2 er2.symm) (va_cwS 1 hts (lw_S q405 q406 q67 q407) rfl rfl rfl kdX1_isCell ⟨Nat.le_of_ble_eq_true rfl, Nat.le_of_ble_eq_true rfl⟩) rfl hl.1 (Nat.le_of_ble_eq_true rfl) dX1_stands_8 ⟨(Nat.le_of_ble_eq_true rfl), (Nat.le_of_ble_eq_true rfl)⟩ rfl) (fun H locs hH => ?_)
    refine lv_if_eq (tgt := 23) hx hb dX1_stands_11 (by decide) (fun c14 => ?_) (fun c14 => ?_)
    · have hf := ip_ c14 hf
      refine lv_iconst (v := (-1)) hx hb dX1_stands_23 (by decide) ?_
      cases hf
      exact rt_i hx hb hr hlk hH dX1_stands_24
    · have hf := in_ c14 hf
      refine lv_iload_n hx hb dX1_stands_14 rfl (lv_at hl 3 rfl) ?_
      refine lv_iconst (v := 1) hx hb dX1_stands_15 (by decide) ?_
      refine lv_iconst (v := 4) hx hb dX1_stands_16 (by decide) ?_
      obtain ⟨r3, er3⟩ : ∃ z, z = fX1_isIn a3 1 4 := ⟨_, rfl⟩
      have hf := lu_ er3 hf
      refine cl_i0 hH (rn_S ⟨hx, hb, hml, hown, hts⟩ hKn hH (mX1_isIn l G M n a3 1 4 r3 er3.symm) (va_cwS 3 hts (lw_S q199 q200 q67 q201) rfl rfl rfl kdX1_isIn ⟨Nat.le_of_ble_eq_true rfl, Nat.le_of_ble_eq_true rfl⟩) rfl hl.1 (Nat.le_of_ble_eq_true rfl) dX1_stands_17 ⟨(Nat.le_of_ble_eq_true rfl), (Nat.le_of_ble_eq_true rfl)⟩ rfl) (fun H locs hH => ?_)
      refine lv_if_ne (tgt := 25) hx hb dX1_stands_20 (by decide) (fun c13 => ?_) (fun c13 => ?_)
      · have hf := in_ c13 hf
        refine lv_aload_n hx hb dX1_stands_25 rfl (lv_at hl 0 rfl) ?_
        obtain ⟨v4, ev4, hf⟩ := bs_ hf
        refine mg_gR hx hb hts hown hKn hH ev4 in_X1 rfl (by decide) (hts _ q937) (fun _ h9 => h9) dX1_stands_26 ?_
        obtain ⟨v5, ev5, hf⟩ := bs_ hf
        refine mg_gR hx hb hts hown hKn hH ev5 in_X2 rfl (by decide) (hts _ q874) (fun _ h9 => h9) dX1_stands_29 ?_
        refine lv_iload_n hx hb dX1_stands_32 rfl (lv_at hl 1 rfl) ?_
        obtain ⟨v6, ev6, hf⟩ := bs_ hf
        refine mg_iald hx hb hKn hH ev6 dX1_stands_33 ?_
        refine lv_istore (lv' := [(4, .int v6), (0, .ref a0), (1, .int a1), (2, .int a2), (3, .int a3)]) hx hb dX1_stands_34 hl (by decide) rfl (fun ls hl => ?_)
        refine lv_aload_n hx hb dX1_stands_36 rfl (lv_at hl 1 rfl) ?_
        obtain ⟨v7, ev7, hf⟩ := bs_ hf
        refine mg_gR hx hb hts hown hKn hH ev7 in_X1 rfl (by decide) (hts _ q937) (fun _ h9 => h9) dX1_stands_37 ?_
        obtain ⟨v8, ev8, hf⟩ := bs_ hf
        refine mg_gR hx hb hts hown hKn hH ev8 in_X2 rfl (by decide) (hts _ q874) (fun _ h9 => h9) dX1_stands_40 ?_
        refine lv_iload_n hx hb dX1_stands_43 rfl (lv_at hl 2 rfl) ?_
        refine lv_iload_n hx hb dX1_stands_44 rfl (lv_at hl 3 rfl) ?_
        obtain ⟨M9, eM9, hf⟩ := bs_ hf
        refine mg_iast hx hb hKn hH eM9 dX1_stands_45 (fun H locs hH => ?_)
        refine lv_aload_n hx hb dX1_stands_46 rfl (lv_at hl 1 rfl) ?_
        obtain ⟨v10, ev10, hf⟩ := bs_ hf
        refine mg_gR hx hb hts hown hKn hH ev10 in_X1 rfl (by decide) (hts _ q937) (fun _ h9 => h9) dX1_stands_47 ?_
        obtain ⟨v11, ev11, hf⟩ := bs_ hf
        refine mg_gR hx hb hts hown hKn hH ev11 in_X2 rfl (by decide) (hts _ q876) (fun _ h9 => h9) dX1_stands_50 ?_
        refine lv_iload_n hx hb dX1_stands_53 rfl (lv_at hl 2 rfl) ?_
        refine lv_iload_n hx hb dX1_stands_54 rfl (lv_at hl 4 rfl) ?_
        obtain ⟨M12, eM12, hf⟩ := bs_ hf
        refine mg_iast hx hb hKn hH eM12 dX1_stands_55 (fun H locs hH => ?_)
        refine lv_iload hx hb dX1_stands_56 (lv_at hl 0 rfl) ?_
        cases hf
        exact rt_i hx hb hr hlk hH dX1_stands_58
      · have hf := ip_ c13 hf
        refine lv_iconst (v := (-1)) hx hb dX1_stands_23 (by decide) ?_
        cases hf
        exact rt_i hx hb hr hlk hH dX1_stands_24
def fX1_tires (M : Mem_) (a0 : Nat) (a1 : Int32) (a2 : Int32) : Option (Int32 × Mem_) :=
  lt_ (fX1_isPlayer a1) fun r1 =>
  if (b2_ r1) = 0 then
    some ((-1), M)
  else
    lt_ (fX1_isIn a2 0 99) fun r2 =>
    if (b2_ r2) = 0 then
      some ((-1), M)
    else
      (gR_ M a0 0 0).bind fun v3 =>
      (gR_ M v3 1 3).bind fun v4 =>
      (aI_ M v4 0 a1).bind fun v5 =>
      (gR_ M a0 0 0).bind fun v6 =>
      (gR_ M v6 1 3).bind fun v7 =>
      (sI_ M v7 0 a1 a2).bind fun M8 =>
      some (v5, M8)
theorem kdX1_tires : yX1_tires.cls ≠ "java/lang/invoke/MethodHandle" ∧ yX1_tires.cls ≠ "java/lang/invoke/VarHandle" ∧ (parseMethodDescriptor yX1_tires.desc).map (fun d => d.parameters.length) = some 2 := by decide +kernel
set_option maxHeartbeats 4000000 in
theorem mX1_tires (l : Launch) (G : GT_) (M : Mem_) (n : Nat) (a0 : Nat) (a1 : Int32) (a2 : Int32) (r : Int32) (M1 : Mem_) (hf : fX1_tires M a0 a1 a2 = some (r, M1)) : Ct_ G l yX1_tires (ws_ yX1_tires cX1_tires 4 (some .int)) ({ frames := 2, cells := 0, slots := 0, locals := 42 }) 0 0 [.ref a0, .int a1, .int a2] M n (some (.int r)) M1 n := by
  refine en_ (by decide) (Nat.le_of_ble_eq_true rfl) ?_
  intro p e s m below meth c hx hb hr hlk hml hown hts hname hKn hH ls hl
  have hown : s.vm.findClass RX1 = some m.cls := hown
  have hl : lv_has ls 4 [(0, .ref a0), (1, .int a1), (2, .int a2)] := hl
  unfold fX1_tires at hf
  generalize s.heap = H at hH ⊢
  refine lv_iload_n hx hb dX1_tires_0 rfl (lv_at hl 1 rfl) ?_
  obtain ⟨r1, er1⟩ : ∃ z, z = fX1_isPlayer a1 := ⟨_, rfl⟩
  have hf := lu_ er1 hf
  refine cl_i0 hH (rn_S ⟨hx, hb, hml, hown, hts⟩ hKn hH (mX1_isPlayer l G M n a1 r1 er1.symm) (va_cwS 1 hts (lw_S q563 q564 q67 q565) rfl rfl rfl kdX1_isPlayer ⟨Nat.le_of_ble_eq_true rfl, Nat.le_of_ble_eq_true rfl⟩) rfl hl.1 (Nat.le_of_ble_eq_true rfl) dX1_tires_1 ⟨(Nat.le_of_ble_eq_true rfl), (Nat.le_of_ble_eq_true rfl)⟩ rfl) (fun H locs hH => ?_)
  refine lv_if_eq (tgt := 17) hx hb dX1_tires_4 (by decide) (fun c10 => ?_) (fun c10 => ?_)
  · have hf := ip_ c10 hf
    refine lv_iconst (v := (-1)) hx hb dX1_tires_17 (by decide) ?_
    cases hf
    exact rt_i hx hb hr hlk hH dX1_tires_18
  · have hf := in_ c10 hf
    refine lv_iload_n hx hb dX1_tires_7 rfl (lv_at hl 2 rfl) ?_
    refine lv_iconst (v := 0) hx hb dX1_tires_8 (by decide) ?_
    refine lv_bipush (v := 99) hx hb dX1_tires_9 (by decide) ?_
    obtain ⟨r2, er2⟩ : ∃ z, z = fX1_isIn a2 0 99 := ⟨_, rfl⟩
    have hf := lu_ er2 hf
    refine cl_i0 hH (rn_S ⟨hx, hb, hml, hown, hts⟩ hKn hH (mX1_isIn l G M n a2 0 99 r2 er2.symm) (va_cwS 3 hts (lw_S q199 q200 q67 q201) rfl rfl rfl kdX1_isIn ⟨Nat.le_of_ble_eq_true rfl, Nat.le_of_ble_eq_true rfl⟩) rfl hl.1 (Nat.le_of_ble_eq_true rfl) dX1_tires_11 ⟨(Nat.le_of_ble_eq_true rfl), (Nat.le_of_ble_eq_true rfl)⟩ rfl) (fun H locs hH => ?_)
    refine lv_if_ne (tgt := 19) hx hb dX1_tires_14 (by decide) (fun c9 => ?_) (fun c9 => ?_)
    · have hf := in_ c9 hf
      refine lv_aload_n hx hb dX1_tires_19 rfl (lv_at hl 0 rfl) ?_
      obtain ⟨v3, ev3, hf⟩ := bs_ hf
      refine mg_gR hx hb hts hown hKn hH ev3 in_X1 rfl (by decide) (hts _ q937) (fun _ h9 => h9) dX1_tires_20 ?_
      obtain ⟨v4, ev4, hf⟩ := bs_ hf
      refine mg_gR hx hb hts hown hKn hH ev4 in_X2 rfl (by decide) (hts _ q878) (fun _ h9 => h9) dX1_tires_23 ?_
      refine lv_iload_n hx hb dX1_tires_26 rfl (lv_at hl 1 rfl) ?_
      obtain ⟨v5, ev5, hf⟩ := bs_ hf
      refine mg_iald hx hb hKn hH ev5 dX1_tires_27 ?_
      refine lv_istore_n (lv' := [(3, .int v5), (0, .ref a0), (1, .int a1), (2, .int a2)]) hx hb dX1_tires_28 rfl hl (by decide) rfl (fun ls hl => ?_)
      refine lv_aload_n hx hb dX1_tires_29 rfl (lv_at hl 1 rfl) ?_
      obtain ⟨v6, ev6, hf⟩ := bs_ hf
      refine mg_gR hx hb hts hown hKn hH ev6 in_X1 rfl (by decide) (hts _ q937) (fun _ h9 => h9) dX1_tires_30 ?_
      obtain ⟨v7, ev7, hf⟩ := bs_ hf
      refine mg_gR hx hb hts hown hKn hH ev7 in_X2 rfl (by decide) (hts _ q878) (fun _ h9 => h9) dX1_tires_33 ?_
      refine lv_iload_n hx hb dX1_tires_36 rfl (lv_at hl 2 rfl) ?_
      refine lv_iload_n hx hb dX1_tires_37 rfl (lv_at hl 3 rfl) ?_
      obtain ⟨M8, eM8, hf⟩ := bs_ hf
      refine mg_iast hx hb hKn hH eM8 dX1_tires_38 (fun H locs hH => ?_)
      refine lv_iload_n hx hb dX1_tires_39 rfl (lv_at hl 0 rfl) ?_
      cases hf
      exact rt_i hx hb hr hlk hH dX1_tires_40
    · have hf := ip_ c9 hf
      refine lv_iconst (v := (-1)) hx hb dX1_tires_17 (by decide) ?_
      cases hf
      exact rt_i hx hb hr hlk hH dX1_tires_18
def fX1_hands (M : Mem_) (a0 : Nat) (a1 : Int32) : Option (Int32 × Mem_) :=
  lt_ (fX1_isPlayer a1) fun r1 =>
  if (b2_ r1) = 0 then
    some ((-1), M)
  else
    (gR_ M a0 0 0).bind fun v2 =>
    (gI_ M v2 1 8).bind fun v3 =>
    lt_ ((v3 ^^^ (1 <<< (a1 &&& 31)))) fun v4 =>
    (pF_ M v2 1 8 (.int v4)).bind fun M5 =>
    (gR_ M5 a0 0 0).bind fun v6 =>
    (gI_ M5 v6 1 8).bind fun v7 =>
    some (((v7 >>> (a1 &&& 31)) &&& 1), M5)
theorem kdX1_hands : yX1_hands.cls ≠ "java/lang/invoke/MethodHandle" ∧ yX1_hands.cls ≠ "java/lang/invoke/VarHandle" ∧ (parseMethodDescriptor yX1_hands.desc).map (fun d => d.parameters.length) = some 1 := by decide +kernel
set_option maxHeartbeats 4000000 in
theorem mX1_hands (l : Launch) (G : GT_) (M : Mem_) (n : Nat) (a0 : Nat) (a1 : Int32) (r : Int32) (M1 : Mem_) (hf : fX1_hands M a0 a1 = some (r, M1)) : Ct_ G l yX1_hands (ws_ yX1_hands cX1_hands 2 (some .int)) ({ frames := 2, cells := 0, slots := 0, locals := 42 }) 0 0 [.ref a0, .int a1] M n (some (.int r)) M1 n := by
  refine en_ (by decide) (Nat.le_of_ble_eq_true rfl) ?_
  intro p e s m below meth c hx hb hr hlk hml hown hts hname hKn hH ls hl
  have hown : s.vm.findClass RX1 = some m.cls := hown
  have hl : lv_has ls 2 [(0, .ref a0), (1, .int a1)] := hl
  unfold fX1_hands at hf
  generalize s.heap = H at hH ⊢
  refine lv_iload_n hx hb dX1_hands_0 rfl (lv_at hl 1 rfl) ?_
  obtain ⟨r1, er1⟩ : ∃ z, z = fX1_isPlayer a1 := ⟨_, rfl⟩
  have hf := lu_ er1 hf
  refine cl_i0 hH (rn_S ⟨hx, hb, hml, hown, hts⟩ hKn hH (mX1_isPlayer l G M n a1 r1 er1.symm) (va_cwS 1 hts (lw_S q563 q564 q67 q565) rfl rfl rfl kdX1_isPlayer ⟨Nat.le_of_ble_eq_true rfl, Nat.le_of_ble_eq_true rfl⟩) rfl hl.1 (Nat.le_of_ble_eq_true rfl) dX1_hands_1 ⟨(Nat.le_of_ble_eq_true rfl), (Nat.le_of_ble_eq_true rfl)⟩ rfl) (fun H locs hH => ?_)
  refine lv_if_ne (tgt := 9) hx hb dX1_hands_4 (by decide) (fun c8 => ?_) (fun c8 => ?_)
  · have hf := in_ c8 hf
    refine lv_aload_n hx hb dX1_hands_9 rfl (lv_at hl 0 rfl) ?_
    obtain ⟨v2, ev2, hf⟩ := bs_ hf
    refine mg_gR hx hb hts hown hKn hH ev2 in_X1 rfl (by decide) (hts _ q937) (fun _ h9 => h9) dX1_hands_10 ?_
    refine lv_dup hx hb dX1_hands_13 rfl ?_
    obtain ⟨v3, ev3, hf⟩ := bs_ hf
    refine mg_gI hx hb hts hown hKn hH ev3 in_X2 rfl (by decide) (hts _ q888) (fun _ h9 => h9) dX1_hands_14 ?_
    refine lv_iconst (v := 1) hx hb dX1_hands_17 (by decide) ?_
    refine lv_iload_n hx hb dX1_hands_18 rfl (lv_at hl 1 rfl) ?_
    refine lv_ishl hx hb dX1_hands_19 ?_
    refine lv_ixor hx hb dX1_hands_20 ?_
    refine lv_topi (fun v4 ev4 => ?_)
    have hf := lu_ ev4 hf
    obtain ⟨M5, eM5, hf⟩ := bs_ hf
    refine mg_pF hx hb hts hown hKn hH eM5 in_X2 tyX2_ok nmX2 rfl (by decide) (hts _ q888) (fun _ h9 => h9) rfl rfl rfl dX1_hands_21 (fun H locs hH => ?_)
    refine lv_aload_n hx hb dX1_hands_24 rfl (lv_at hl 0 rfl) ?_
    obtain ⟨v6, ev6, hf⟩ := bs_ hf
    refine mg_gR hx hb hts hown hKn hH ev6 in_X1 rfl (by decide) (hts _ q937) (fun _ h9 => h9) dX1_hands_25 ?_
    obtain ⟨v7, ev7, hf⟩ := bs_ hf
    refine mg_gI hx hb hts hown hKn hH ev7 in_X2 rfl (by decide) (hts _ q888) (fun _ h9 => h9) dX1_hands_28 ?_
    refine lv_iload_n hx hb dX1_hands_31 rfl (lv_at hl 1 rfl) ?_
    refine lv_ishr hx hb dX1_hands_32 ?_
    refine lv_iconst (v := 1) hx hb dX1_hands_33 (by decide) ?_
    refine lv_iand hx hb dX1_hands_34 ?_
    cases hf
    exact rt_i hx hb hr hlk hH dX1_hands_35
  · have hf := ip_ c8 hf
    refine lv_iconst (v := (-1)) hx hb dX1_hands_7 (by decide) ?_
    cases hf
    exact rt_i hx hb hr hlk hH dX1_hands_8
def fX1_forms (M : Mem_) (a0 : Nat) (a1 : Int32) (a2 : Int32) (a3 : Int32) : Option (Int32 × Mem_) :=
  lt_ (fX1_isIn a1 0 1) fun r1 =>
  if (b2_ r1) = 0 then
    some ((-1), M)
  else
    lt_ (fX1_isIn a2 0 1) fun r2 =>
    if (b2_ r2) = 0 then
      some ((-1), M)
    else
      if a2 = 0 then
        lt_ (fX1_isIn a3 0 1) fun r14 =>
        if (b2_ r14) = 0 then
          some ((-1), M)
        else
          if a2 = 0 then
            (gR_ M a0 0 0).bind fun v19 =>
            (gR_ M v19 1 4).bind fun v20 =>
            (aI_ M v20 0 a1).bind fun v21 =>
            (sI_ M v20 0 a1 a3).bind fun M22 =>
            some (v21, M22)
          else
            (gR_ M a0 0 0).bind fun v15 =>
            (gR_ M v15 1 5).bind fun v16 =>
            (aI_ M v16 0 a1).bind fun v17 =>
            (sI_ M v16 0 a1 a3).bind fun M18 =>
            some (v17, M18)
      else
        lt_ (fX1_isIn a3 0 3) fun r3 =>
        if (b2_ r3) = 0 then
          some ((-1), M)
        else
          if a2 = 0 then
            (gR_ M a0 0 0).bind fun v8 =>
            (gR_ M v8 1 4).bind fun v9 =>
            (aI_ M v9 0 a1).bind fun v10 =>
            (sI_ M v9 0 a1 a3).bind fun M11 =>
            some (v10, M11)
          else
            (gR_ M a0 0 0).bind fun v4 =>
            (gR_ M v4 1 5).bind fun v5 =>
            (aI_ M v5 0 a1).bind fun v6 =>
            (sI_ M v5 0 a1 a3).bind fun M7 =>
            some (v6, M7)
theorem kdX1_forms : yX1_forms.cls ≠ "java/lang/invoke/MethodHandle" ∧ yX1_forms.cls ≠ "java/lang/invoke/VarHandle" ∧ (parseMethodDescriptor yX1_forms.desc).map (fun d => d.parameters.length) = some 3 := by decide +kernel
set_option maxHeartbeats 4000000 in
theorem mX1_forms (l : Launch) (G : GT_) (M : Mem_) (n : Nat) (a0 : Nat) (a1 : Int32) (a2 : Int32) (a3 : Int32) (r : Int32) (M1 : Mem_) (hf : fX1_forms M a0 a1 a2 a3 = some (r, M1)) : Ct_ G l yX1_forms (ws_ yX1_forms cX1_forms 6 (some .int)) ({ frames := 1, cells := 0, slots := 0, locals := 22 }) 0 0 [.ref a0, .int a1, .int a2, .int a3] M n (some (.int r)) M1 n := by
  refine en_ (by decide) (Nat.le_of_ble_eq_true rfl) ?_
  intro p e s m below meth c hx hb hr hlk hml hown hts hname hKn hH ls hl
  have hown : s.vm.findClass RX1 = some m.cls := hown
  have hl : lv_has ls 6 [(0, .ref a0), (1, .int a1), (2, .int a2), (3, .int a3)] := hl
  unfold fX1_forms at hf
  generalize s.heap = H at hH ⊢
  refine lv_iload_n hx hb dX1_forms_0 rfl (lv_at hl 1 rfl) ?_
  refine lv_iconst (v := 0) hx hb dX1_forms_1 (by decide) ?_
  refine lv_iconst (v := 1) hx hb dX1_forms_2 (by decide) ?_
  obtain ⟨r1, er1⟩ : ∃ z, z = fX1_isIn a1 0 1 := ⟨_, rfl⟩
  have hf := lu_ er1 hf
  refine cl_i0 hH (rn_S ⟨hx, hb, hml, hown, hts⟩ hKn hH (mX1_isIn l G M n a1 0 1 r1 er1.symm) (va_cwS 3 hts (lw_S q199 q200 q67 q201) rfl rfl rfl kdX1_isIn ⟨Nat.le_of_ble_eq_true rfl, Nat.le_of_ble_eq_true rfl⟩) rfl hl.1 (Nat.le_of_ble_eq_true rfl) dX1_forms_3 ⟨(Nat.le_of_ble_eq_true rfl), (Nat.le_of_ble_eq_true rfl)⟩ rfl) (fun H locs hH => ?_)
  refine lv_if_eq (tgt := 35) hx hb dX1_forms_6 (by decide) (fun c27 => ?_) (fun c27 => ?_)
  · have hf := ip_ c27 hf
    refine lv_iconst (v := (-1)) hx hb dX1_forms_35 (by decide) ?_
    cases hf
    exact rt_i hx hb hr hlk hH dX1_forms_36
  · have hf := in_ c27 hf
    refine lv_iload_n hx hb dX1_forms_9 rfl (lv_at hl 2 rfl) ?_
    refine lv_iconst (v := 0) hx hb dX1_forms_10 (by decide) ?_
    refine lv_iconst (v := 1) hx hb dX1_forms_11 (by decide) ?_
    obtain ⟨r2, er2⟩ : ∃ z, z = fX1_isIn a2 0 1 := ⟨_, rfl⟩
    have hf := lu_ er2 hf
    refine cl_i0 hH (rn_S ⟨hx, hb, hml, hown, hts⟩ hKn hH (mX1_isIn l G M n a2 0 1 r2 er2.symm) (va_cwS 3 hts (lw_S q199 q200 q67 q201) rfl rfl rfl kdX1_isIn ⟨Nat.le_of_ble_eq_true rfl, Nat.le_of_ble_eq_true rfl⟩) rfl hl.1 (Nat.le_of_ble_eq_true rfl) dX1_forms_12 ⟨(Nat.le_of_ble_eq_true rfl), (Nat.le_of_ble_eq_true rfl)⟩ rfl) (fun H locs hH => ?_)
    refine lv_if_eq (tgt := 35) hx hb dX1_forms_15 (by decide) (fun c26 => ?_) (fun c26 => ?_)
    · have hf := ip_ c26 hf
      refine lv_iconst (v := (-1)) hx hb dX1_forms_35 (by decide) ?_
      cases hf
      exact rt_i hx hb hr hlk hH dX1_forms_36
    · have hf := in_ c26 hf
      refine lv_iload_n hx hb dX1_forms_18 rfl (lv_at hl 3 rfl) ?_
      refine lv_iconst (v := 0) hx hb dX1_forms_19 (by decide) ?_
      refine lv_iload_n hx hb dX1_forms_20 rfl (lv_at hl 2 rfl) ?_
      refine lv_if_ne (tgt := 28) hx hb dX1_forms_21 (by decide) (fun c25 => ?_) (fun c25 => ?_)
      · have hf := in_ c25 hf
        refine lv_iconst (v := 3) hx hb dX1_forms_28 (by decide) ?_
        obtain ⟨r3, er3⟩ : ∃ z, z = fX1_isIn a3 0 3 := ⟨_, rfl⟩
        have hf := lu_ er3 hf
        refine cl_i0 hH (rn_S ⟨hx, hb, hml, hown, hts⟩ hKn hH (mX1_isIn l G M n a3 0 3 r3 er3.symm) (va_cwS 3 hts (lw_S q199 q200 q67 q201) rfl rfl rfl kdX1_isIn ⟨Nat.le_of_ble_eq_true rfl, Nat.le_of_ble_eq_true rfl⟩) rfl hl.1 (Nat.le_of_ble_eq_true rfl) dX1_forms_29 ⟨(Nat.le_of_ble_eq_true rfl), (Nat.le_of_ble_eq_true rfl)⟩ rfl) (fun H locs hH => ?_)
        refine lv_if_ne (tgt := 37) hx hb dX1_forms_32 (by decide) (fun c13 => ?_) (fun c13 => ?_)
        · have hf := in_ c13 hf
          refine lv_iload_n hx hb dX1_forms_37 rfl (lv_at hl 2 rfl) ?_
          refine lv_if_ne (tgt := 51) hx hb dX1_forms_38 (by decide) (fun c12 => ?_) (fun c12 => ?_)
          · have hf := in_ c12 hf
            refine lv_aload_n hx hb dX1_forms_51 rfl (lv_at hl 0 rfl) ?_
            obtain ⟨v4, ev4, hf⟩ := bs_ hf
            refine mg_gR hx hb hts hown hKn hH ev4 in_X1 rfl (by decide) (hts _ q937) (fun _ h9 => h9) dX1_forms_52 ?_
            obtain ⟨v5, ev5, hf⟩ := bs_ hf
            refine mg_gR hx hb hts hown hKn hH ev5 in_X2 rfl (by decide) (hts _ q882) (fun _ h9 => h9) dX1_forms_55 ?_
            refine lv_astore (lv' := [(4, .ref v5), (0, .ref a0), (1, .int a1), (2, .int a2), (3, .int a3)]) hx hb dX1_forms_58 hl (by decide) rfl (fun ls hl => ?_)
            refine lv_aload hx hb dX1_forms_60 (lv_at hl 0 rfl) ?_
            refine lv_iload_n hx hb dX1_forms_62 rfl (lv_at hl 2 rfl) ?_
            obtain ⟨v6, ev6, hf⟩ := bs_ hf
            refine mg_iald hx hb hKn hH ev6 dX1_forms_63 ?_
            refine lv_istore (lv' := [(5, .int v6), (4, .ref v5), (0, .ref a0), (1, .int a1), (2, .int a2), (3, .int a3)]) hx hb dX1_forms_64 hl (by decide) rfl (fun ls hl => ?_)
            refine lv_aload hx hb dX1_forms_66 (lv_at hl 1 rfl) ?_
            refine lv_iload_n hx hb dX1_forms_68 rfl (lv_at hl 3 rfl) ?_
            refine lv_iload_n hx hb dX1_forms_69 rfl (lv_at hl 5 rfl) ?_
            obtain ⟨M7, eM7, hf⟩ := bs_ hf
            refine mg_iast hx hb hKn hH eM7 dX1_forms_70 (fun H locs hH => ?_)
            refine lv_iload hx hb dX1_forms_71 (lv_at hl 0 rfl) ?_
            cases hf
            exact rt_i hx hb hr hlk hH dX1_forms_73
          · have hf := ip_ c12 hf
            refine lv_aload_n hx hb dX1_forms_41 rfl (lv_at hl 0 rfl) ?_
            obtain ⟨v8, ev8, hf⟩ := bs_ hf
            refine mg_gR hx hb hts hown hKn hH ev8 in_X1 rfl (by decide) (hts _ q937) (fun _ h9 => h9) dX1_forms_42 ?_
            obtain ⟨v9, ev9, hf⟩ := bs_ hf
            refine mg_gR hx hb hts hown hKn hH ev9 in_X2 rfl (by decide) (hts _ q880) (fun _ h9 => h9) dX1_forms_45 ?_
            refine lv_goto (tgt := 58) hx hb dX1_forms_48 (by decide) ?_
            refine lv_astore (lv' := [(4, .ref v9), (0, .ref a0), (1, .int a1), (2, .int a2), (3, .int a3)]) hx hb dX1_forms_58 hl (by decide) rfl (fun ls hl => ?_)
            refine lv_aload hx hb dX1_forms_60 (lv_at hl 0 rfl) ?_
            refine lv_iload_n hx hb dX1_forms_62 rfl (lv_at hl 2 rfl) ?_
            obtain ⟨v10, ev10, hf⟩ := bs_ hf
            refine mg_iald hx hb hKn hH ev10 dX1_forms_63 ?_
            refine lv_istore (lv' := [(5, .int v10), (4, .ref v9), (0, .ref a0), (1, .int a1), (2, .int a2), (3, .int a3)]) hx hb dX1_forms_64 hl (by decide) rfl (fun ls hl => ?_)
            refine lv_aload hx hb dX1_forms_66 (lv_at hl 1 rfl) ?_
            refine lv_iload_n hx hb dX1_forms_68 rfl (lv_at hl 3 rfl) ?_
            refine lv_iload_n hx hb dX1_forms_69 rfl (lv_at hl 5 rfl) ?_
            obtain ⟨M11, eM11, hf⟩ := bs_ hf
            refine mg_iast hx hb hKn hH eM11 dX1_forms_70 (fun H locs hH => ?_)
            refine lv_iload hx hb dX1_forms_71 (lv_at hl 0 rfl) ?_
            cases hf
            exact rt_i hx hb hr hlk hH dX1_forms_73
        · have hf := ip_ c13 hf
          refine lv_iconst (v := (-1)) hx hb dX1_forms_35 (by decide) ?_
          cases hf
          exact rt_i hx hb hr hlk hH dX1_forms_36
      · have hf := ip_ c25 hf
        refine lv_iconst (v := 1) hx hb dX1_forms_24 (by decide) ?_
        refine lv_goto (tgt := 29) hx hb dX1_forms_25 (by decide) ?_
        obtain ⟨r14, er14⟩ : ∃ z, z = fX1_isIn a3 0 1 := ⟨_, rfl⟩
        have hf := lu_ er14 hf
        refine cl_i0 hH (rn_S ⟨hx, hb, hml, hown, hts⟩ hKn hH (mX1_isIn l G M n a3 0 1 r14 er14.symm) (va_cwS 3 hts (lw_S q199 q200 q67 q201) rfl rfl rfl kdX1_isIn ⟨Nat.le_of_ble_eq_true rfl, Nat.le_of_ble_eq_true rfl⟩) rfl hl.1 (Nat.le_of_ble_eq_true rfl) dX1_forms_29 ⟨(Nat.le_of_ble_eq_true rfl), (Nat.le_of_ble_eq_true rfl)⟩ rfl) (fun H locs hH => ?_)
        refine lv_if_ne (tgt := 37) hx hb dX1_forms_32 (by decide) (fun c24 => ?_) (fun c24 => ?_)
        · have hf := in_ c24 hf
          refine lv_iload_n hx hb dX1_forms_37 rfl (lv_at hl 2 rfl) ?_
          refine lv_if_ne (tgt := 51) hx hb dX1_forms_38 (by decide) (fun c23 => ?_) (fun c23 => ?_)
          · have hf := in_ c23 hf
            refine lv_aload_n hx hb dX1_forms_51 rfl (lv_at hl 0 rfl) ?_
            obtain ⟨v15, ev15, hf⟩ := bs_ hf
            refine mg_gR hx hb hts hown hKn hH ev15 in_X1 rfl (by decide) (hts _ q937) (fun _ h9 => h9) dX1_forms_52 ?_
            obtain ⟨v16, ev16, hf⟩ := bs_ hf
            refine mg_gR hx hb hts hown hKn hH ev16 in_X2 rfl (by decide) (hts _ q882) (fun _ h9 => h9) dX1_forms_55 ?_
            refine lv_astore (lv' := [(4, .ref v16), (0, .ref a0), (1, .int a1), (2, .int a2), (3, .int a3)]) hx hb dX1_forms_58 hl (by decide) rfl (fun ls hl => ?_)
            refine lv_aload hx hb dX1_forms_60 (lv_at hl 0 rfl) ?_
            refine lv_iload_n hx hb dX1_forms_62 rfl (lv_at hl 2 rfl) ?_
            obtain ⟨v17, ev17, hf⟩ := bs_ hf
            refine mg_iald hx hb hKn hH ev17 dX1_forms_63 ?_
            refine lv_istore (lv' := [(5, .int v17), (4, .ref v16), (0, .ref a0), (1, .int a1), (2, .int a2), (3, .int a3)]) hx hb dX1_forms_64 hl (by decide) rfl (fun ls hl => ?_)
            refine lv_aload hx hb dX1_forms_66 (lv_at hl 1 rfl) ?_
            refine lv_iload_n hx hb dX1_forms_68 rfl (lv_at hl 3 rfl) ?_
            refine lv_iload_n hx hb dX1_forms_69 rfl (lv_at hl 5 rfl) ?_
            obtain ⟨M18, eM18, hf⟩ := bs_ hf
            refine mg_iast hx hb hKn hH eM18 dX1_forms_70 (fun H locs hH => ?_)
            refine lv_iload hx hb dX1_forms_71 (lv_at hl 0 rfl) ?_
            cases hf
            exact rt_i hx hb hr hlk hH dX1_forms_73
          · have hf := ip_ c23 hf
            refine lv_aload_n hx hb dX1_forms_41 rfl (lv_at hl 0 rfl) ?_
            obtain ⟨v19, ev19, hf⟩ := bs_ hf
            refine mg_gR hx hb hts hown hKn hH ev19 in_X1 rfl (by decide) (hts _ q937) (fun _ h9 => h9) dX1_forms_42 ?_
            obtain ⟨v20, ev20, hf⟩ := bs_ hf
            refine mg_gR hx hb hts hown hKn hH ev20 in_X2 rfl (by decide) (hts _ q880) (fun _ h9 => h9) dX1_forms_45 ?_
            refine lv_goto (tgt := 58) hx hb dX1_forms_48 (by decide) ?_
            refine lv_astore (lv' := [(4, .ref v20), (0, .ref a0), (1, .int a1), (2, .int a2), (3, .int a3)]) hx hb dX1_forms_58 hl (by decide) rfl (fun ls hl => ?_)
            refine lv_aload hx hb dX1_forms_60 (lv_at hl 0 rfl) ?_
            refine lv_iload_n hx hb dX1_forms_62 rfl (lv_at hl 2 rfl) ?_
            obtain ⟨v21, ev21, hf⟩ := bs_ hf
            refine mg_iald hx hb hKn hH ev21 dX1_forms_63 ?_
            refine lv_istore (lv' := [(5, .int v21), (4, .ref v20), (0, .ref a0), (1, .int a1), (2, .int a2), (3, .int a3)]) hx hb dX1_forms_64 hl (by decide) rfl (fun ls hl => ?_)
            refine lv_aload hx hb dX1_forms_66 (lv_at hl 1 rfl) ?_
            refine lv_iload_n hx hb dX1_forms_68 rfl (lv_at hl 3 rfl) ?_
            refine lv_iload_n hx hb dX1_forms_69 rfl (lv_at hl 5 rfl) ?_
            obtain ⟨M22, eM22, hf⟩ := bs_ hf
            refine mg_iast hx hb hKn hH eM22 dX1_forms_70 (fun H locs hH => ?_)
            refine lv_iload hx hb dX1_forms_71 (lv_at hl 0 rfl) ?_
            cases hf
            exact rt_i hx hb hr hlk hH dX1_forms_73
        · have hf := ip_ c24 hf
          refine lv_iconst (v := (-1)) hx hb dX1_forms_35 (by decide) ?_
          cases hf
          exact rt_i hx hb hr hlk hH dX1_forms_36
def fX1_blows (M : Mem_) (a0 : Nat) (a1 : Int32) : Option (Int32 × Mem_) :=
  lt_ (fX1_isIn a1 0 2) fun r1 =>
  if (b2_ r1) = 0 then
    some ((-1), M)
  else
    (gR_ M a0 0 0).bind fun v2 =>
    (gI_ M v2 1 11).bind fun v3 =>
    lt_ ((v3 + 1)) fun v4 =>
    (gR_ M a0 0 0).bind fun v5 =>
    lt_ ((a1 - 1)) fun v6 =>
    (pF_ M v5 1 11 (.int v6)).bind fun M7 =>
    some (v4, M7)
theorem kdX1_blows : yX1_blows.cls ≠ "java/lang/invoke/MethodHandle" ∧ yX1_blows.cls ≠ "java/lang/invoke/VarHandle" ∧ (parseMethodDescriptor yX1_blows.desc).map (fun d => d.parameters.length) = some 1 := by decide +kernel
set_option maxHeartbeats 4000000 in
theorem mX1_blows (l : Launch) (G : GT_) (M : Mem_) (n : Nat) (a0 : Nat) (a1 : Int32) (r : Int32) (M1 : Mem_) (hf : fX1_blows M a0 a1 = some (r, M1)) : Ct_ G l yX1_blows (ws_ yX1_blows cX1_blows 3 (some .int)) ({ frames := 1, cells := 0, slots := 0, locals := 22 }) 0 0 [.ref a0, .int a1] M n (some (.int r)) M1 n := by
  refine en_ (by decide) (Nat.le_of_ble_eq_true rfl) ?_
  intro p e s m below meth c hx hb hr hlk hml hown hts hname hKn hH ls hl
  have hown : s.vm.findClass RX1 = some m.cls := hown
  have hl : lv_has ls 3 [(0, .ref a0), (1, .int a1)] := hl
  unfold fX1_blows at hf
  generalize s.heap = H at hH ⊢
  refine lv_iload_n hx hb dX1_blows_0 rfl (lv_at hl 1 rfl) ?_
  refine lv_iconst (v := 0) hx hb dX1_blows_1 (by decide) ?_
  refine lv_iconst (v := 2) hx hb dX1_blows_2 (by decide) ?_
  obtain ⟨r1, er1⟩ : ∃ z, z = fX1_isIn a1 0 2 := ⟨_, rfl⟩
  have hf := lu_ er1 hf
  refine cl_i0 hH (rn_S ⟨hx, hb, hml, hown, hts⟩ hKn hH (mX1_isIn l G M n a1 0 2 r1 er1.symm) (va_cwS 3 hts (lw_S q199 q200 q67 q201) rfl rfl rfl kdX1_isIn ⟨Nat.le_of_ble_eq_true rfl, Nat.le_of_ble_eq_true rfl⟩) rfl hl.1 (Nat.le_of_ble_eq_true rfl) dX1_blows_3 ⟨(Nat.le_of_ble_eq_true rfl), (Nat.le_of_ble_eq_true rfl)⟩ rfl) (fun H locs hH => ?_)
  refine lv_if_ne (tgt := 11) hx hb dX1_blows_6 (by decide) (fun c8 => ?_) (fun c8 => ?_)
  · have hf := in_ c8 hf
    refine lv_aload_n hx hb dX1_blows_11 rfl (lv_at hl 0 rfl) ?_
    obtain ⟨v2, ev2, hf⟩ := bs_ hf
    refine mg_gR hx hb hts hown hKn hH ev2 in_X1 rfl (by decide) (hts _ q937) (fun _ h9 => h9) dX1_blows_12 ?_
    obtain ⟨v3, ev3, hf⟩ := bs_ hf
    refine mg_gI hx hb hts hown hKn hH ev3 in_X2 rfl (by decide) (hts _ q894) (fun _ h9 => h9) dX1_blows_15 ?_
    refine lv_iconst (v := 1) hx hb dX1_blows_18 (by decide) ?_
    refine lv_iadd hx hb dX1_blows_19 ?_
    refine lv_topi (fun v4 ev4 => ?_)
    have hf := lu_ ev4 hf
    refine lv_istore_n (lv' := [(2, .int v4), (0, .ref a0), (1, .int a1)]) hx hb dX1_blows_20 rfl hl (by decide) rfl (fun ls hl => ?_)
    refine lv_aload_n hx hb dX1_blows_21 rfl (lv_at hl 1 rfl) ?_
    obtain ⟨v5, ev5, hf⟩ := bs_ hf
    refine mg_gR hx hb hts hown hKn hH ev5 in_X1 rfl (by decide) (hts _ q937) (fun _ h9 => h9) dX1_blows_22 ?_
    refine lv_iload_n hx hb dX1_blows_25 rfl (lv_at hl 2 rfl) ?_
    refine lv_iconst (v := 1) hx hb dX1_blows_26 (by decide) ?_
    refine lv_isub hx hb dX1_blows_27 ?_
    refine lv_topi (fun v6 ev6 => ?_)
    have hf := lu_ ev6 hf
    obtain ⟨M7, eM7, hf⟩ := bs_ hf
    refine mg_pF hx hb hts hown hKn hH eM7 in_X2 tyX2_ok nmX2 rfl (by decide) (hts _ q894) (fun _ h9 => h9) rfl rfl rfl dX1_blows_28 (fun H locs hH => ?_)
    refine lv_iload_n hx hb dX1_blows_31 rfl (lv_at hl 0 rfl) ?_
    cases hf
    exact rt_i hx hb hr hlk hH dX1_blows_32
  · have hf := ip_ c8 hf
    refine lv_iconst (v := (-1)) hx hb dX1_blows_9 (by decide) ?_
    cases hf
    exact rt_i hx hb hr hlk hH dX1_blows_10
def fX1_isHit (M : Mem_) (a0 : Nat) (a1 : Int32) (a2 : Int32) : Option Bool :=
  (gR_ M a0 0 0).bind fun v1 =>
  (ck_ M v1 1).bind fun u2 =>
  (fX2_isStroke M v1 a1).bind fun r3 =>
  if (b2_ r3) = 0 then
    some false
  else
    lt_ (fX1_isCell a2) fun r4 =>
    if (b2_ r4) = 0 then
      some false
    else
      some true
theorem kdX1_isHit : yX1_isHit.cls ≠ "java/lang/invoke/MethodHandle" ∧ yX1_isHit.cls ≠ "java/lang/invoke/VarHandle" ∧ (parseMethodDescriptor yX1_isHit.desc).map (fun d => d.parameters.length) = some 2 := by decide +kernel
set_option maxHeartbeats 4000000 in
theorem mX1_isHit (l : Launch) (G : GT_) (M : Mem_) (n : Nat) (a0 : Nat) (a1 : Int32) (a2 : Int32) (r : Bool) (hf : fX1_isHit M a0 a1 a2 = some r) : Ct_ G l yX1_isHit (ws_ yX1_isHit cX1_isHit 3 (some .boolean)) ({ frames := 2, cells := 0, slots := 0, locals := 43 }) 0 0 [.ref a0, .int a1, .int a2] M n (some (.int (b2_ r))) M n := by
  refine en_ (by decide) (Nat.le_of_ble_eq_true rfl) ?_
  intro p e s m below meth c hx hb hr hlk hml hown hts hname hKn hH ls hl
  have hown : s.vm.findClass RX1 = some m.cls := hown
  have hl : lv_has ls 3 [(0, .ref a0), (1, .int a1), (2, .int a2)] := hl
  unfold fX1_isHit at hf
  generalize s.heap = H at hH ⊢
  refine lv_aload_n hx hb dX1_isHit_0 rfl (lv_at hl 0 rfl) ?_
  obtain ⟨v1, ev1, hf⟩ := bs_ hf
  refine mg_gR hx hb hts hown hKn hH ev1 in_X1 rfl (by decide) (hts _ q937) (fun _ h9 => h9) dX1_isHit_1 ?_
  refine lv_iload_n hx hb dX1_isHit_4 rfl (lv_at hl 1 rfl) ?_
  obtain ⟨u2, eu2, hf⟩ := bs_ hf
  obtain ⟨r3, er3, hf⟩ := bs_ hf
  refine cl_i0 hH (rn_V ⟨hx, hb, hml, hown, hts⟩ hKn hH (mX2_isStroke l G M n v1 a1 r3 er3) (cwV 1 hts (lw_V q400 q401 q402 q68 q403) rfl rfl rfl ⟨rfl, kdX2_isStroke⟩ ⟨Nat.le_of_ble_eq_true rfl, Nat.le_of_ble_eq_true rfl⟩) eu2 rfl rfl hl.1 (Nat.le_of_ble_eq_true rfl) dX1_isHit_5 ⟨(Nat.le_of_ble_eq_true rfl), (Nat.le_of_ble_eq_true rfl)⟩ rfl) (fun H locs hH => ?_)
  refine lv_if_eq (tgt := 22) hx hb dX1_isHit_8 (by decide) (fun c6 => ?_) (fun c6 => ?_)
  · have hf := ip_ c6 hf
    refine lv_iconst (v := 0) hx hb dX1_isHit_22 (by decide) ?_
    cases hf
    exact rt_b (b := false) hx hb hr hlk hH dX1_isHit_23
  · have hf := in_ c6 hf
    refine lv_iload_n hx hb dX1_isHit_11 rfl (lv_at hl 2 rfl) ?_
    obtain ⟨r4, er4⟩ : ∃ z, z = fX1_isCell a2 := ⟨_, rfl⟩
    have hf := lu_ er4 hf
    refine cl_i0 hH (rn_S ⟨hx, hb, hml, hown, hts⟩ hKn hH (mX1_isCell l G M n a2 r4 er4.symm) (va_cwS 1 hts (lw_S q405 q406 q67 q407) rfl rfl rfl kdX1_isCell ⟨Nat.le_of_ble_eq_true rfl, Nat.le_of_ble_eq_true rfl⟩) rfl hl.1 (Nat.le_of_ble_eq_true rfl) dX1_isHit_12 ⟨(Nat.le_of_ble_eq_true rfl), (Nat.le_of_ble_eq_true rfl)⟩ rfl) (fun H locs hH => ?_)
    refine lv_if_eq (tgt := 22) hx hb dX1_isHit_15 (by decide) (fun c5 => ?_) (fun c5 => ?_)
    · have hf := ip_ c5 hf
      refine lv_iconst (v := 0) hx hb dX1_isHit_22 (by decide) ?_
      cases hf
      exact rt_b (b := false) hx hb hr hlk hH dX1_isHit_23
    · have hf := in_ c5 hf
      refine lv_iconst (v := 1) hx hb dX1_isHit_18 (by decide) ?_
      refine lv_goto (tgt := 23) hx hb dX1_isHit_19 (by decide) ?_
      cases hf
      exact rt_b (b := true) hx hb hr hlk hH dX1_isHit_23
def fX1_hit (M : Mem_) (a0 : Nat) (a1 : Int32) (a2 : Int32) : Option (Int32 × Mem_) :=
  (ck_ M a0 0).bind fun u1 =>
  (fX1_isHit M a0 a1 a2).bind fun r2 =>
  if (b2_ r2) = 0 then
    some ((-1), M)
  else
    (gR_ M a0 0 0).bind fun v3 =>
    (fX1_canHit M v3).bind fun r4 =>
    if (b2_ r4) = 0 then
      some ((-3), M)
    else
      (gR_ M a0 0 0).bind fun v5 =>
      (ck_ M v5 1).bind fun u6 =>
      bw_ (fX2_hits M v5 a1 a2) fun r7 M8 =>
      (gR_ M8 a0 0 0).bind fun v9 =>
      (gI_ M8 v9 1 10).bind fun v10 =>
      some (v10, M8)
theorem kdX1_hit : yX1_hit.cls ≠ "java/lang/invoke/MethodHandle" ∧ yX1_hit.cls ≠ "java/lang/invoke/VarHandle" ∧ (parseMethodDescriptor yX1_hit.desc).map (fun d => d.parameters.length) = some 2 := by decide +kernel
set_option maxHeartbeats 4000000 in
theorem mX1_hit (l : Launch) (G : GT_) (M : Mem_) (n : Nat) (a0 : Nat) (a1 : Int32) (a2 : Int32) (r : Int32) (M1 : Mem_) (hf : fX1_hit M a0 a1 a2 = some (r, M1)) : Ct_ G l yX1_hit (ws_ yX1_hit cX1_hit 3 (some .int)) ({ frames := 4, cells := 0, slots := 0, locals := 100 }) 0 0 [.ref a0, .int a1, .int a2] M n (some (.int r)) M1 n := by
  refine en_ (by decide) (Nat.le_of_ble_eq_true rfl) ?_
  intro p e s m below meth c hx hb hr hlk hml hown hts hname hKn hH ls hl
  have hown : s.vm.findClass RX1 = some m.cls := hown
  have hl : lv_has ls 3 [(0, .ref a0), (1, .int a1), (2, .int a2)] := hl
  unfold fX1_hit at hf
  generalize s.heap = H at hH ⊢
  refine lv_aload_n hx hb dX1_hit_0 rfl (lv_at hl 0 rfl) ?_
  refine lv_iload_n hx hb dX1_hit_1 rfl (lv_at hl 1 rfl) ?_
  refine lv_iload_n hx hb dX1_hit_2 rfl (lv_at hl 2 rfl) ?_
  obtain ⟨u1, eu1, hf⟩ := bs_ hf
  obtain ⟨r2, er2, hf⟩ := bs_ hf
  refine cl_i0 hH (rn_V ⟨hx, hb, hml, hown, hts⟩ hKn hH (mX1_isHit l G M n a0 a1 a2 r2 er2) (cwV 2 hts (lw_V q644 q646 qs20 q67 q647) rfl rfl rfl ⟨rfl, kdX1_isHit⟩ ⟨Nat.le_of_ble_eq_true rfl, Nat.le_of_ble_eq_true rfl⟩) eu1 rfl rfl hl.1 (Nat.le_of_ble_eq_true rfl) dX1_hit_3 ⟨(Nat.le_of_ble_eq_true rfl), (Nat.le_of_ble_eq_true rfl)⟩ rfl) (fun H locs hH => ?_)
  refine lv_if_ne (tgt := 11) hx hb dX1_hit_6 (by decide) (fun c12 => ?_) (fun c12 => ?_)
  · have hf := in_ c12 hf
    refine lv_aload_n hx hb dX1_hit_11 rfl (lv_at hl 0 rfl) ?_
    obtain ⟨v3, ev3, hf⟩ := bs_ hf
    refine mg_gR hx hb hts hown hKn hH ev3 in_X1 rfl (by decide) (hts _ q937) (fun _ h9 => h9) dX1_hit_12 ?_
    obtain ⟨r4, er4, hf⟩ := bs_ hf
    refine cl_i0 hH (rn_S ⟨hx, hb, hml, hown, hts⟩ hKn hH (mX1_canHit l G M n v3 r4 er4) (va_cwS 1 hts (lw_S q408 q409 q67 q410) rfl rfl rfl kdX1_canHit ⟨Nat.le_of_ble_eq_true rfl, Nat.le_of_ble_eq_true rfl⟩) rfl hl.1 (Nat.le_of_ble_eq_true rfl) dX1_hit_15 ⟨(Nat.le_of_ble_eq_true rfl), (Nat.le_of_ble_eq_true rfl)⟩ rfl) (fun H locs hH => ?_)
    refine lv_if_ne (tgt := 24) hx hb dX1_hit_18 (by decide) (fun c11 => ?_) (fun c11 => ?_)
    · have hf := in_ c11 hf
      refine lv_aload_n hx hb dX1_hit_24 rfl (lv_at hl 0 rfl) ?_
      obtain ⟨v5, ev5, hf⟩ := bs_ hf
      refine mg_gR hx hb hts hown hKn hH ev5 in_X1 rfl (by decide) (hts _ q937) (fun _ h9 => h9) dX1_hit_25 ?_
      refine lv_iload_n hx hb dX1_hit_28 rfl (lv_at hl 1 rfl) ?_
      refine lv_iload_n hx hb dX1_hit_29 rfl (lv_at hl 2 rfl) ?_
      obtain ⟨u6, eu6, hf⟩ := bs_ hf
      obtain ⟨r7, M8, er7, hf⟩ := bws_ hf
      refine cl_i0 hH (rn_V ⟨hx, hb, hml, hown, hts⟩ hKn hH (mX2_hits l G M n v5 a1 a2 r7 M8 er7) (cwV 2 hts (lw_V q411 q412 q413 q68 q414) rfl rfl rfl ⟨rfl, kdX2_hits⟩ ⟨Nat.le_of_ble_eq_true rfl, Nat.le_of_ble_eq_true rfl⟩) eu6 rfl rfl hl.1 (Nat.le_of_ble_eq_true rfl) dX1_hit_30 ⟨(Nat.le_of_ble_eq_true rfl), (Nat.le_of_ble_eq_true rfl)⟩ rfl) (fun H locs hH => ?_)
      refine lv_pop hx hb dX1_hit_33 rfl ?_
      refine lv_aload_n hx hb dX1_hit_34 rfl (lv_at hl 0 rfl) ?_
      obtain ⟨v9, ev9, hf⟩ := bs_ hf
      refine mg_gR hx hb hts hown hKn hH ev9 in_X1 rfl (by decide) (hts _ q937) (fun _ h9 => h9) dX1_hit_35 ?_
      obtain ⟨v10, ev10, hf⟩ := bs_ hf
      refine mg_gI hx hb hts hown hKn hH ev10 in_X2 rfl (by decide) (hts _ q892) (fun _ h9 => h9) dX1_hit_38 ?_
      cases hf
      exact rt_i hx hb hr hlk hH dX1_hit_41
    · have hf := ip_ c11 hf
      refine lv_bipush (v := (-3)) hx hb dX1_hit_21 (by decide) ?_
      cases hf
      exact rt_i hx hb hr hlk hH dX1_hit_23
  · have hf := ip_ c12 hf
    refine lv_iconst (v := (-1)) hx hb dX1_hit_9 (by decide) ?_
    cases hf
    exact rt_i hx hb hr hlk hH dX1_hit_10
def fX1_whose (M : Mem_) (a0 : Nat) (a1 : Int32) (a2 : Int32) : Option Int32 :=
  (ck_ M a0 0).bind fun u1 =>
  (fX1_isHit M a0 a1 a2).bind fun r2 =>
  if (b2_ r2) = 0 then
    some (-1)
  else
    (gR_ M a0 0 0).bind fun v3 =>
    (gR_ M a0 0 0).bind fun v4 =>
    (ck_ M v4 1).bind fun u5 =>
    (fX2_falls M v4 a1 a2).bind fun r6 =>
    (ck_ M v3 1).bind fun u7 =>
    (fX2_whose M v3 r6).bind fun r8 =>
    some r8
theorem kdX1_whose : yX1_whose.cls ≠ "java/lang/invoke/MethodHandle" ∧ yX1_whose.cls ≠ "java/lang/invoke/VarHandle" ∧ (parseMethodDescriptor yX1_whose.desc).map (fun d => d.parameters.length) = some 2 := by decide +kernel
set_option maxHeartbeats 4000000 in
theorem mX1_whose (l : Launch) (G : GT_) (M : Mem_) (n : Nat) (a0 : Nat) (a1 : Int32) (a2 : Int32) (r : Int32) (hf : fX1_whose M a0 a1 a2 = some r) : Ct_ G l yX1_whose (ws_ yX1_whose cX1_whose 3 (some .int)) ({ frames := 3, cells := 0, slots := 0, locals := 68 }) 0 0 [.ref a0, .int a1, .int a2] M n (some (.int r)) M n := by
  refine en_ (by decide) (Nat.le_of_ble_eq_true rfl) ?_
  intro p e s m below meth c hx hb hr hlk hml hown hts hname hKn hH ls hl
  have hown : s.vm.findClass RX1 = some m.cls := hown
  have hl : lv_has ls 3 [(0, .ref a0), (1, .int a1), (2, .int a2)] := hl
  unfold fX1_whose at hf
  generalize s.heap = H at hH ⊢
  refine lv_aload_n hx hb dX1_whose_0 rfl (lv_at hl 0 rfl) ?_
  refine lv_iload_n hx hb dX1_whose_1 rfl (lv_at hl 1 rfl) ?_
  refine lv_iload_n hx hb dX1_whose_2 rfl (lv_at hl 2 rfl) ?_
  obtain ⟨u1, eu1, hf⟩ := bs_ hf
  obtain ⟨r2, er2, hf⟩ := bs_ hf
  refine cl_i0 hH (rn_V ⟨hx, hb, hml, hown, hts⟩ hKn hH (mX1_isHit l G M n a0 a1 a2 r2 er2) (cwV 2 hts (lw_V q644 q646 qs20 q67 q647) rfl rfl rfl ⟨rfl, kdX1_isHit⟩ ⟨Nat.le_of_ble_eq_true rfl, Nat.le_of_ble_eq_true rfl⟩) eu1 rfl rfl hl.1 (Nat.le_of_ble_eq_true rfl) dX1_whose_3 ⟨(Nat.le_of_ble_eq_true rfl), (Nat.le_of_ble_eq_true rfl)⟩ rfl) (fun H locs hH => ?_)
  refine lv_if_eq (tgt := 28) hx hb dX1_whose_6 (by decide) (fun c9 => ?_) (fun c9 => ?_)
  · have hf := ip_ c9 hf
    refine lv_iconst (v := (-1)) hx hb dX1_whose_28 (by decide) ?_
    cases hf
    exact rt_i hx hb hr hlk hH dX1_whose_29
  · have hf := in_ c9 hf
    refine lv_aload_n hx hb dX1_whose_9 rfl (lv_at hl 0 rfl) ?_
    obtain ⟨v3, ev3, hf⟩ := bs_ hf
    refine mg_gR hx hb hts hown hKn hH ev3 in_X1 rfl (by decide) (hts _ q937) (fun _ h9 => h9) dX1_whose_10 ?_
    refine lv_aload_n hx hb dX1_whose_13 rfl (lv_at hl 0 rfl) ?_
    obtain ⟨v4, ev4, hf⟩ := bs_ hf
    refine mg_gR hx hb hts hown hKn hH ev4 in_X1 rfl (by decide) (hts _ q937) (fun _ h9 => h9) dX1_whose_14 ?_
    refine lv_iload_n hx hb dX1_whose_17 rfl (lv_at hl 1 rfl) ?_
    refine lv_iload_n hx hb dX1_whose_18 rfl (lv_at hl 2 rfl) ?_
    obtain ⟨u5, eu5, hf⟩ := bs_ hf
    obtain ⟨r6, er6, hf⟩ := bs_ hf
    refine cl_i0 hH (rn_V ⟨hx, hb, hml, hown, hts⟩ hKn hH (mX2_falls l G M n v4 a1 a2 r6 er6) (cwV 2 hts (lw_V q652 q420 q421 q68 q422) rfl rfl rfl ⟨rfl, kdX2_falls⟩ ⟨Nat.le_of_ble_eq_true rfl, Nat.le_of_ble_eq_true rfl⟩) eu5 rfl rfl hl.1 (Nat.le_of_ble_eq_true rfl) dX1_whose_19 ⟨(Nat.le_of_ble_eq_true rfl), (Nat.le_of_ble_eq_true rfl)⟩ rfl) (fun H locs hH => ?_)
    obtain ⟨u7, eu7, hf⟩ := bs_ hf
    obtain ⟨r8, er8, hf⟩ := bs_ hf
    refine cl_i0 hH (rn_V ⟨hx, hb, hml, hown, hts⟩ hKn hH (mX2_whose l G M n v3 r6 r8 er8) (cwV 1 hts (lw_V q653 q509 q510 q68 q511) rfl rfl rfl ⟨rfl, kdX2_whose⟩ ⟨Nat.le_of_ble_eq_true rfl, Nat.le_of_ble_eq_true rfl⟩) eu7 rfl rfl hl.1 (Nat.le_of_ble_eq_true rfl) dX1_whose_22 ⟨(Nat.le_of_ble_eq_true rfl), (Nat.le_of_ble_eq_true rfl)⟩ rfl) (fun H locs hH => ?_)
    refine lv_goto (tgt := 29) hx hb dX1_whose_25 (by decide) ?_
    cases hf
    exact rt_i hx hb hr hlk hH dX1_whose_29
def fX1_minds (M : Mem_) (a0 : Nat) : Option Mem_ :=
  (gR_ M a0 0 2).bind fun v1 =>
  (gR_ M a0 0 0).bind fun v2 =>
  (ck_ M v1 1).bind fun u3 =>
  (fX2_takes M v1 v2).bind fun M5 =>
  some M5
theorem kdX1_minds : yX1_minds.cls ≠ "java/lang/invoke/MethodHandle" ∧ yX1_minds.cls ≠ "java/lang/invoke/VarHandle" ∧ (parseMethodDescriptor yX1_minds.desc).map (fun d => d.parameters.length) = some 0 := by decide +kernel
set_option maxHeartbeats 4000000 in
theorem mX1_minds (l : Launch) (G : GT_) (M : Mem_) (n : Nat) (a0 : Nat) (M1 : Mem_) (hf : fX1_minds M a0 = some M1) : Ct_ G l yX1_minds (ws_ yX1_minds cX1_minds 1 none) ({ frames := 3, cells := 0, slots := 0, locals := 60 }) 0 0 [.ref a0] M n (none) M1 n := by
  refine en_ (by decide) (Nat.le_of_ble_eq_true rfl) ?_
  intro p e s m below meth c hx hb hr hlk hml hown hts hname hKn hH ls hl
  have hown : s.vm.findClass RX1 = some m.cls := hown
  have hl : lv_has ls 1 [(0, .ref a0)] := hl
  unfold fX1_minds at hf
  generalize s.heap = H at hH ⊢
  refine lv_aload_n hx hb dX1_minds_0 rfl (lv_at hl 0 rfl) ?_
  obtain ⟨v1, ev1, hf⟩ := bs_ hf
  refine mg_gR hx hb hts hown hKn hH ev1 in_X1 rfl (by decide) (hts _ q939) (fun _ h9 => h9) dX1_minds_1 ?_
  refine lv_aload_n hx hb dX1_minds_4 rfl (lv_at hl 0 rfl) ?_
  obtain ⟨v2, ev2, hf⟩ := bs_ hf
  refine mg_gR hx hb hts hown hKn hH ev2 in_X1 rfl (by decide) (hts _ q937) (fun _ h9 => h9) dX1_minds_5 ?_
  obtain ⟨u3, eu3, hf⟩ := bs_ hf
  obtain ⟨M5, er4, hf⟩ := bs_ hf
  refine cl_v0 hH (rn_V ⟨hx, hb, hml, hown, hts⟩ hKn hH (mX2_takes l G M n v1 v2 M5 er4) (cwV 1 hts (lw_V q299 q300 q301 q68 q302) rfl rfl rfl ⟨rfl, kdX2_takes⟩ ⟨Nat.le_of_ble_eq_true rfl, Nat.le_of_ble_eq_true rfl⟩) eu3 rfl rfl hl.1 (Nat.le_of_ble_eq_true rfl) dX1_minds_8 ⟨(Nat.le_of_ble_eq_true rfl), (Nat.le_of_ble_eq_true rfl)⟩ rfl) (fun H locs hH => ?_)
  cases hf
  exact rt_v hx hb hr hlk hH dX1_minds_11
def fX1_winsWith (M : Mem_) (a0 : Nat) (a1 : Int32) (a2 : Int32) : Option (Bool × Mem_) :=
  (ck_ M a0 0).bind fun u1 =>
  (fX1_minds M a0).bind fun M3 =>
  (gR_ M3 a0 0 2).bind fun v4 =>
  (ck_ M3 v4 1).bind fun u5 =>
  bw_ (fX2_hits M3 v4 a1 a2) fun r6 M7 =>
  some (r6, M7)
theorem kdX1_winsWith : yX1_winsWith.cls ≠ "java/lang/invoke/MethodHandle" ∧ yX1_winsWith.cls ≠ "java/lang/invoke/VarHandle" ∧ (parseMethodDescriptor yX1_winsWith.desc).map (fun d => d.parameters.length) = some 2 := by decide +kernel
set_option maxHeartbeats 4000000 in
theorem mX1_winsWith (l : Launch) (G : GT_) (M : Mem_) (n : Nat) (a0 : Nat) (a1 : Int32) (a2 : Int32) (r : Bool) (M1 : Mem_) (hf : fX1_winsWith M a0 a1 a2 = some (r, M1)) : Ct_ G l yX1_winsWith (ws_ yX1_winsWith cX1_winsWith 3 (some .boolean)) ({ frames := 4, cells := 0, slots := 0, locals := 100 }) 0 0 [.ref a0, .int a1, .int a2] M n (some (.int (b2_ r))) M1 n := by
  refine en_ (by decide) (Nat.le_of_ble_eq_true rfl) ?_
  intro p e s m below meth c hx hb hr hlk hml hown hts hname hKn hH ls hl
  have hown : s.vm.findClass RX1 = some m.cls := hown
  have hl : lv_has ls 3 [(0, .ref a0), (1, .int a1), (2, .int a2)] := hl
  unfold fX1_winsWith at hf
  generalize s.heap = H at hH ⊢
  refine lv_aload_n hx hb dX1_winsWith_0 rfl (lv_at hl 0 rfl) ?_
  obtain ⟨u1, eu1, hf⟩ := bs_ hf
  obtain ⟨M3, er2, hf⟩ := bs_ hf
  refine cl_v0 hH (rn_V ⟨hx, hb, hml, hown, hts⟩ hKn hH (mX1_minds l G M n a0 M3 er2) (cwV 0 hts (lw_V q662 q664 qs22 q67 q665) rfl rfl rfl ⟨rfl, kdX1_minds⟩ ⟨Nat.le_of_ble_eq_true rfl, Nat.le_of_ble_eq_true rfl⟩) eu1 rfl rfl hl.1 (Nat.le_of_ble_eq_true rfl) dX1_winsWith_1 ⟨(Nat.le_of_ble_eq_true rfl), (Nat.le_of_ble_eq_true rfl)⟩ rfl) (fun H locs hH => ?_)
  refine lv_aload_n hx hb dX1_winsWith_4 rfl (lv_at hl 0 rfl) ?_
  obtain ⟨v4, ev4, hf⟩ := bs_ hf
  refine mg_gR hx hb hts hown hKn hH ev4 in_X1 rfl (by decide) (hts _ q939) (fun _ h9 => h9) dX1_winsWith_5 ?_
  refine lv_iload_n hx hb dX1_winsWith_8 rfl (lv_at hl 1 rfl) ?_
  refine lv_iload_n hx hb dX1_winsWith_9 rfl (lv_at hl 2 rfl) ?_
  obtain ⟨u5, eu5, hf⟩ := bs_ hf
  obtain ⟨r6, M7, er6, hf⟩ := bws_ hf
  refine cl_i0 hH (rn_V ⟨hx, hb, hml, hown, hts⟩ hKn hH (mX2_hits l G M3 n v4 a1 a2 r6 M7 er6) (cwV 2 hts (lw_V q411 q412 q413 q68 q414) rfl rfl rfl ⟨rfl, kdX2_hits⟩ ⟨Nat.le_of_ble_eq_true rfl, Nat.le_of_ble_eq_true rfl⟩) eu5 rfl rfl hl.1 (Nat.le_of_ble_eq_true rfl) dX1_winsWith_10 ⟨(Nat.le_of_ble_eq_true rfl), (Nat.le_of_ble_eq_true rfl)⟩ rfl) (fun H locs hH => ?_)
  cases hf
  exact rt_b (b := _) hx hb hr hlk hH dX1_winsWith_13
def fX1_wins (M : Mem_) (a0 : Nat) (a1 : Int32) (a2 : Int32) : Option (Int32 × Mem_) :=
  (ck_ M a0 0).bind fun u1 =>
  (fX1_isHit M a0 a1 a2).bind fun r2 =>
  if (b2_ r2) = 0 then
    some ((-1), M)
  else
    (ck_ M a0 0).bind fun u3 =>
    bw_ (fX1_winsWith M a0 a1 a2) fun r4 M5 =>
    if (b2_ r4) = 0 then
      some (0, M5)
    else
      some (1, M5)
theorem kdX1_wins : yX1_wins.cls ≠ "java/lang/invoke/MethodHandle" ∧ yX1_wins.cls ≠ "java/lang/invoke/VarHandle" ∧ (parseMethodDescriptor yX1_wins.desc).map (fun d => d.parameters.length) = some 2 := by decide +kernel
set_option maxHeartbeats 4000000 in
theorem mX1_wins (l : Launch) (G : GT_) (M : Mem_) (n : Nat) (a0 : Nat) (a1 : Int32) (a2 : Int32) (r : Int32) (M1 : Mem_) (hf : fX1_wins M a0 a1 a2 = some (r, M1)) : Ct_ G l yX1_wins (ws_ yX1_wins cX1_wins 3 (some .int)) ({ frames := 5, cells := 0, slots := 0, locals := 122 }) 0 0 [.ref a0, .int a1, .int a2] M n (some (.int r)) M1 n := by
  refine en_ (by decide) (Nat.le_of_ble_eq_true rfl) ?_
  intro p e s m below meth c hx hb hr hlk hml hown hts hname hKn hH ls hl
  have hown : s.vm.findClass RX1 = some m.cls := hown
  have hl : lv_has ls 3 [(0, .ref a0), (1, .int a1), (2, .int a2)] := hl
  unfold fX1_wins at hf
  generalize s.heap = H at hH ⊢
  refine lv_aload_n hx hb dX1_wins_0 rfl (lv_at hl 0 rfl) ?_
  refine lv_iload_n hx hb dX1_wins_1 rfl (lv_at hl 1 rfl) ?_
  refine lv_iload_n hx hb dX1_wins_2 rfl (lv_at hl 2 rfl) ?_
  obtain ⟨u1, eu1, hf⟩ := bs_ hf
  obtain ⟨r2, er2, hf⟩ := bs_ hf
  refine cl_i0 hH (rn_V ⟨hx, hb, hml, hown, hts⟩ hKn hH (mX1_isHit l G M n a0 a1 a2 r2 er2) (cwV 2 hts (lw_V q644 q646 qs20 q67 q647) rfl rfl rfl ⟨rfl, kdX1_isHit⟩ ⟨Nat.le_of_ble_eq_true rfl, Nat.le_of_ble_eq_true rfl⟩) eu1 rfl rfl hl.1 (Nat.le_of_ble_eq_true rfl) dX1_wins_3 ⟨(Nat.le_of_ble_eq_true rfl), (Nat.le_of_ble_eq_true rfl)⟩ rfl) (fun H locs hH => ?_)
  refine lv_if_ne (tgt := 11) hx hb dX1_wins_6 (by decide) (fun c7 => ?_) (fun c7 => ?_)
  · have hf := in_ c7 hf
    refine lv_aload_n hx hb dX1_wins_11 rfl (lv_at hl 0 rfl) ?_
    refine lv_iload_n hx hb dX1_wins_12 rfl (lv_at hl 1 rfl) ?_
    refine lv_iload_n hx hb dX1_wins_13 rfl (lv_at hl 2 rfl) ?_
    obtain ⟨u3, eu3, hf⟩ := bs_ hf
    obtain ⟨r4, M5, er4, hf⟩ := bws_ hf
    refine cl_i0 hH (rn_V ⟨hx, hb, hml, hown, hts⟩ hKn hH (mX1_winsWith l G M n a0 a1 a2 r4 M5 er4) (cwV 2 hts (lw_V q658 q660 qs21 q67 q661) rfl rfl rfl ⟨rfl, kdX1_winsWith⟩ ⟨Nat.le_of_ble_eq_true rfl, Nat.le_of_ble_eq_true rfl⟩) eu3 rfl rfl hl.1 (Nat.le_of_ble_eq_true rfl) dX1_wins_14 ⟨(Nat.le_of_ble_eq_true rfl), (Nat.le_of_ble_eq_true rfl)⟩ rfl) (fun H locs hH => ?_)
    refine lv_if_eq (tgt := 24) hx hb dX1_wins_17 (by decide) (fun c6 => ?_) (fun c6 => ?_)
    · have hf := ip_ c6 hf
      refine lv_iconst (v := 0) hx hb dX1_wins_24 (by decide) ?_
      cases hf
      exact rt_i hx hb hr hlk hH dX1_wins_25
    · have hf := in_ c6 hf
      refine lv_iconst (v := 1) hx hb dX1_wins_20 (by decide) ?_
      refine lv_goto (tgt := 25) hx hb dX1_wins_21 (by decide) ?_
      cases hf
      exact rt_i hx hb hr hlk hH dX1_wins_25
  · have hf := ip_ c7 hf
    refine lv_iconst (v := (-1)) hx hb dX1_wins_9 (by decide) ?_
    cases hf
    exact rt_i hx hb hr hlk hH dX1_wins_10
def fX1_falls (M : Mem_) (a0 : Nat) (a1 : Int32) (a2 : Int32) : Option Int32 :=
  (ck_ M a0 0).bind fun u1 =>
  (fX1_isHit M a0 a1 a2).bind fun r2 =>
  if (b2_ r2) = 0 then
    some (-1)
  else
    (gR_ M a0 0 0).bind fun v3 =>
    (ck_ M v3 1).bind fun u4 =>
    (fX2_falls M v3 a1 a2).bind fun r5 =>
    some r5
theorem kdX1_falls : yX1_falls.cls ≠ "java/lang/invoke/MethodHandle" ∧ yX1_falls.cls ≠ "java/lang/invoke/VarHandle" ∧ (parseMethodDescriptor yX1_falls.desc).map (fun d => d.parameters.length) = some 2 := by decide +kernel
set_option maxHeartbeats 4000000 in
theorem mX1_falls (l : Launch) (G : GT_) (M : Mem_) (n : Nat) (a0 : Nat) (a1 : Int32) (a2 : Int32) (r : Int32) (hf : fX1_falls M a0 a1 a2 = some r) : Ct_ G l yX1_falls (ws_ yX1_falls cX1_falls 3 (some .int)) ({ frames := 3, cells := 0, slots := 0, locals := 65 }) 0 0 [.ref a0, .int a1, .int a2] M n (some (.int r)) M n := by
  refine en_ (by decide) (Nat.le_of_ble_eq_true rfl) ?_
  intro p e s m below meth c hx hb hr hlk hml hown hts hname hKn hH ls hl
  have hown : s.vm.findClass RX1 = some m.cls := hown
  have hl : lv_has ls 3 [(0, .ref a0), (1, .int a1), (2, .int a2)] := hl
  unfold fX1_falls at hf
  generalize s.heap = H at hH ⊢
  refine lv_aload_n hx hb dX1_falls_0 rfl (lv_at hl 0 rfl) ?_
  refine lv_iload_n hx hb dX1_falls_1 rfl (lv_at hl 1 rfl) ?_
  refine lv_iload_n hx hb dX1_falls_2 rfl (lv_at hl 2 rfl) ?_
  obtain ⟨u1, eu1, hf⟩ := bs_ hf
  obtain ⟨r2, er2, hf⟩ := bs_ hf
  refine cl_i0 hH (rn_V ⟨hx, hb, hml, hown, hts⟩ hKn hH (mX1_isHit l G M n a0 a1 a2 r2 er2) (cwV 2 hts (lw_V q644 q646 qs20 q67 q647) rfl rfl rfl ⟨rfl, kdX1_isHit⟩ ⟨Nat.le_of_ble_eq_true rfl, Nat.le_of_ble_eq_true rfl⟩) eu1 rfl rfl hl.1 (Nat.le_of_ble_eq_true rfl) dX1_falls_3 ⟨(Nat.le_of_ble_eq_true rfl), (Nat.le_of_ble_eq_true rfl)⟩ rfl) (fun H locs hH => ?_)
  refine lv_if_eq (tgt := 21) hx hb dX1_falls_6 (by decide) (fun c6 => ?_) (fun c6 => ?_)
  · have hf := ip_ c6 hf
    refine lv_iconst (v := (-1)) hx hb dX1_falls_21 (by decide) ?_
    cases hf
    exact rt_i hx hb hr hlk hH dX1_falls_22
  · have hf := in_ c6 hf
    refine lv_aload_n hx hb dX1_falls_9 rfl (lv_at hl 0 rfl) ?_
    obtain ⟨v3, ev3, hf⟩ := bs_ hf
    refine mg_gR hx hb hts hown hKn hH ev3 in_X1 rfl (by decide) (hts _ q937) (fun _ h9 => h9) dX1_falls_10 ?_
    refine lv_iload_n hx hb dX1_falls_13 rfl (lv_at hl 1 rfl) ?_
    refine lv_iload_n hx hb dX1_falls_14 rfl (lv_at hl 2 rfl) ?_
    obtain ⟨u4, eu4, hf⟩ := bs_ hf
    obtain ⟨r5, er5, hf⟩ := bs_ hf
    refine cl_i0 hH (rn_V ⟨hx, hb, hml, hown, hts⟩ hKn hH (mX2_falls l G M n v3 a1 a2 r5 er5) (cwV 2 hts (lw_V q652 q420 q421 q68 q422) rfl rfl rfl ⟨rfl, kdX2_falls⟩ ⟨Nat.le_of_ble_eq_true rfl, Nat.le_of_ble_eq_true rfl⟩) eu4 rfl rfl hl.1 (Nat.le_of_ble_eq_true rfl) dX1_falls_15 ⟨(Nat.le_of_ble_eq_true rfl), (Nat.le_of_ble_eq_true rfl)⟩ rfl) (fun H locs hH => ?_)
    refine lv_goto (tgt := 22) hx hb dX1_falls_18 (by decide) ?_
    cases hf
    exact rt_i hx hb hr hlk hH dX1_falls_22
def fX1_open_L17 : Nat → Mem_ → Nat → Int32 → Int32 → Int32 → Option (Int32 × Mem_)
  | 0, _, _, _, _, _ => none
  | fuel + 1, M, x0, x1, x2, x3 =>
    if 9 ≤ x3 then
      some (x2, M)
    else
      (ck_ M x0 0).bind fun u5 =>
      bw_ (fX1_winsWith M x0 x1 x3) fun r6 M7 =>
      if (b2_ r6) = 0 then
        lt_ ((x2 ||| 0)) fun v8 =>
        lt_ (x3 + 1) fun v9 =>
        fX1_open_L17 fuel M7 x0 x1 v8 v9
      else
        lt_ ((x2 ||| (1 <<< (x3 &&& 31)))) fun v10 =>
        lt_ (x3 + 1) fun v11 =>
        fX1_open_L17 fuel M7 x0 x1 v10 v11
def fX1_open (M : Mem_) (a0 : Nat) (a1 : Int32) : Option (Int32 × Mem_) :=
  (gR_ M a0 0 0).bind fun v1 =>
  (ck_ M v1 1).bind fun u2 =>
  (fX2_isStroke M v1 a1).bind fun r3 =>
  if (b2_ r3) = 0 then
    some ((-1), M)
  else
    fX1_open_L17 1000 M a0 a1 0 0
theorem kdX1_open : yX1_open.cls ≠ "java/lang/invoke/MethodHandle" ∧ yX1_open.cls ≠ "java/lang/invoke/VarHandle" ∧ (parseMethodDescriptor yX1_open.desc).map (fun d => d.parameters.length) = some 1 := by decide +kernel
set_option maxHeartbeats 4000000 in
theorem mX1_open (l : Launch) (G : GT_) (M : Mem_) (n : Nat) (a0 : Nat) (a1 : Int32) (r : Int32) (M1 : Mem_) (hf : fX1_open M a0 a1 = some (r, M1)) : Ct_ G l yX1_open (ws_ yX1_open cX1_open 4 (some .int)) ({ frames := 5, cells := 0, slots := 0, locals := 122 }) 0 0 [.ref a0, .int a1] M n (some (.int r)) M1 n := by
  refine en_ (by decide) (Nat.le_of_ble_eq_true rfl) ?_
  intro p e s m below meth c hx hb hr hlk hml hown hts hname hKn hH ls hl
  have hown : s.vm.findClass RX1 = some m.cls := hown
  have hl : lv_has ls 4 [(0, .ref a0), (1, .int a1)] := hl
  have w17 : ∀ (fuel : Nat), ∀ (M : Mem_) (x0 : Nat) (x1 : Int32) (x2 : Int32) (x3 : Int32) (H : Heap) (locs : List Loc) (ls : Array Slot), St_ G n M s H locs → lv_has ls 4 [(0, .ref x0), (1, .int x1), (2, .int x2), (3, .int x3)] → fX1_open_L17 fuel M x0 x1 x2 x3 = some (r, M1) → W p l e ({ frames := 5, cells := 0, slots := 0, locals := 122 } : Room) s m ([.ref a0, .int a1] : List Value).toArray below meth c H locs 0 0 (MQ below (Qc_ G (some (.int r)) M1 n) ([.ref a0, .int a1] : List Value).toArray s 0 0 (fun q => G.1 ≤ q)) (F0 m 17 ls []) := by
    intro fuel
    induction fuel with
    | zero =>
      intro M x0 x1 x2 x3 H locs ls hH hl hf
      cases hf
    | succ fuel ih =>
      intro M x0 x1 x2 x3 H locs ls hH hl hf
      unfold fX1_open_L17 at hf
      refine lv_iload_n hx hb dX1_open_17 rfl (lv_at hl 3 rfl) ?_
      refine lv_bipush (v := 9) hx hb dX1_open_18 (by decide) ?_
      refine lv_icmp_ge (tgt := 48) hx hb dX1_open_20 (by decide) (fun c13 => ?_) (fun c13 => ?_)
      · have hf := ip_ c13 hf
        refine lv_iload_n hx hb dX1_open_48 rfl (lv_at hl 2 rfl) ?_
        cases hf
        exact rt_i hx hb hr hlk hH dX1_open_49
      · have hf := in_ c13 hf
        refine lv_iload_n hx hb dX1_open_23 rfl (lv_at hl 2 rfl) ?_
        refine lv_aload_n hx hb dX1_open_24 rfl (lv_at hl 0 rfl) ?_
        refine lv_iload_n hx hb dX1_open_25 rfl (lv_at hl 1 rfl) ?_
        refine lv_iload_n hx hb dX1_open_26 rfl (lv_at hl 3 rfl) ?_
        obtain ⟨u5, eu5, hf⟩ := bs_ hf
        obtain ⟨r6, M7, er6, hf⟩ := bws_ hf
        refine cl_i0 hH (rn_V ⟨hx, hb, hml, hown, hts⟩ hKn hH (mX1_winsWith l G M n x0 x1 x3 r6 M7 er6) (cwV 2 hts (lw_V q658 q660 qs21 q67 q661) rfl rfl rfl ⟨rfl, kdX1_winsWith⟩ ⟨Nat.le_of_ble_eq_true rfl, Nat.le_of_ble_eq_true rfl⟩) eu5 rfl rfl hl.1 (Nat.le_of_ble_eq_true rfl) dX1_open_27 ⟨(Nat.le_of_ble_eq_true rfl), (Nat.le_of_ble_eq_true rfl)⟩ rfl) (fun H locs hH => ?_)
        refine lv_if_eq (tgt := 39) hx hb dX1_open_30 (by decide) (fun c12 => ?_) (fun c12 => ?_)
        · have hf := ip_ c12 hf
          refine lv_iconst (v := 0) hx hb dX1_open_39 (by decide) ?_
          refine lv_ior hx hb dX1_open_40 ?_
          refine lv_topi (fun v8 ev8 => ?_)
          have hf := lu_ ev8 hf
          refine lv_istore_n (lv' := [(2, .int v8), (0, .ref x0), (1, .int x1), (3, .int x3)]) hx hb dX1_open_41 rfl hl (by decide) rfl (fun ls hl => ?_)
          obtain ⟨v9, ev9⟩ : ∃ z : Int32, z = x3 + 1 := ⟨_, rfl⟩
          have hf := lu_ ev9 hf
          refine lv_iinc (v := v9) (lv' := [(3, .int v9), (2, .int v8), (0, .ref x0), (1, .int x1)]) hx hb dX1_open_42 hl (k := 3) rfl (by rw [ev9]; rfl) (by decide) rfl (fun ls hl => ?_)
          refine lv_goto (tgt := 17) hx hb dX1_open_45 (by decide) ?_
          exact ih M7 x0 x1 v8 v9 _ _ ls hH (lv_sub hl [2, 3, 1, 0] rfl) hf
        · have hf := in_ c12 hf
          refine lv_iconst (v := 1) hx hb dX1_open_33 (by decide) ?_
          refine lv_iload_n hx hb dX1_open_34 rfl (lv_at hl 3 rfl) ?_
          refine lv_ishl hx hb dX1_open_35 ?_
          refine lv_goto (tgt := 40) hx hb dX1_open_36 (by decide) ?_
          refine lv_ior hx hb dX1_open_40 ?_
          refine lv_topi (fun v10 ev10 => ?_)
          have hf := lu_ ev10 hf
          refine lv_istore_n (lv' := [(2, .int v10), (0, .ref x0), (1, .int x1), (3, .int x3)]) hx hb dX1_open_41 rfl hl (by decide) rfl (fun ls hl => ?_)
          obtain ⟨v11, ev11⟩ : ∃ z : Int32, z = x3 + 1 := ⟨_, rfl⟩
          have hf := lu_ ev11 hf
          refine lv_iinc (v := v11) (lv' := [(3, .int v11), (2, .int v10), (0, .ref x0), (1, .int x1)]) hx hb dX1_open_42 hl (k := 3) rfl (by rw [ev11]; rfl) (by decide) rfl (fun ls hl => ?_)
          refine lv_goto (tgt := 17) hx hb dX1_open_45 (by decide) ?_
          exact ih M7 x0 x1 v10 v11 _ _ ls hH (lv_sub hl [2, 3, 1, 0] rfl) hf
  unfold fX1_open at hf
  refine lv_aload_n hx hb dX1_open_0 rfl (lv_at hl 0 rfl) ?_
  obtain ⟨v1, ev1, hf⟩ := bs_ hf
  refine mg_gR hx hb hts hown hKn hH ev1 in_X1 rfl (by decide) (hts _ q937) (fun _ h9 => h9) dX1_open_1 ?_
  refine lv_iload_n hx hb dX1_open_4 rfl (lv_at hl 1 rfl) ?_
  obtain ⟨u2, eu2, hf⟩ := bs_ hf
  obtain ⟨r3, er3, hf⟩ := bs_ hf
  refine cl_i0 hH (rn_V ⟨hx, hb, hml, hown, hts⟩ hKn hH (mX2_isStroke l G M n v1 a1 r3 er3) (cwV 1 hts (lw_V q400 q401 q402 q68 q403) rfl rfl rfl ⟨rfl, kdX2_isStroke⟩ ⟨Nat.le_of_ble_eq_true rfl, Nat.le_of_ble_eq_true rfl⟩) eu2 rfl rfl hl.1 (Nat.le_of_ble_eq_true rfl) dX1_open_5 ⟨(Nat.le_of_ble_eq_true rfl), (Nat.le_of_ble_eq_true rfl)⟩ rfl) (fun H locs hH => ?_)
  refine lv_if_ne (tgt := 13) hx hb dX1_open_8 (by decide) (fun c4 => ?_) (fun c4 => ?_)
  · have hf := in_ c4 hf
    refine lv_iconst (v := 0) hx hb dX1_open_13 (by decide) ?_
    refine lv_istore_n (lv' := [(2, .int 0), (0, .ref a0), (1, .int a1)]) hx hb dX1_open_14 rfl hl (by decide) rfl (fun ls hl => ?_)
    refine lv_iconst (v := 0) hx hb dX1_open_15 (by decide) ?_
    refine lv_istore_n (lv' := [(3, .int 0), (2, .int 0), (0, .ref a0), (1, .int a1)]) hx hb dX1_open_16 rfl hl (by decide) rfl (fun ls hl => ?_)
    exact w17 1000 M a0 a1 0 0 _ _ ls hH (lv_sub hl [2, 3, 1, 0] rfl) hf
  · have hf := ip_ c4 hf
    refine lv_iconst (v := (-1)) hx hb dX1_open_11 (by decide) ?_
    cases hf
    exact rt_i hx hb hr hlk hH dX1_open_12
def fX1_forced_L15 (K2 : Mem_ → Nat → Int32 → Option (Int32 × Mem_)) : Nat → Mem_ → Nat → Int32 → Int32 → Option (Int32 × Mem_)
  | 0, _, _, _, _ => none
  | fuel + 1, M, x0, x1, x2 =>
    if 9 ≤ x2 then
      lt_ (x1 + 1) fun v4 =>
      K2 M x0 v4
    else
      (ck_ M x0 0).bind fun u5 =>
      bw_ (fX1_winsWith M x0 x1 x2) fun r6 M7 =>
      if (b2_ r6) = 0 then
        lt_ (x2 + 1) fun v8 =>
        fX1_forced_L15 K2 fuel M7 x0 x1 v8
      else
        some (((10 * x1) + x2), M7)
def fX1_forced_L2 : Nat → Mem_ → Nat → Int32 → Option (Int32 × Mem_)
  | 0, _, _, _ => none
  | fuel + 1, M, x0, x1 =>
    (gR_ M x0 0 0).bind fun v1 =>
    (gI_ M v1 1 9).bind fun v2 =>
    if v2 ≤ x1 then
      some ((-4), M)
    else
      fX1_forced_L15 (fX1_forced_L2 fuel) 1000 M x0 x1 0
def fX1_forced (M : Mem_) (a0 : Nat) : Option (Int32 × Mem_) :=
  fX1_forced_L2 1000 M a0 0
theorem kdX1_forced : yX1_forced.cls ≠ "java/lang/invoke/MethodHandle" ∧ yX1_forced.cls ≠ "java/lang/invoke/VarHandle" ∧ (parseMethodDescriptor yX1_forced.desc).map (fun d => d.parameters.length) = some 0 := by decide +kernel
set_option maxHeartbeats 4000000 in
theorem mX1_forced (l : Launch) (G : GT_) (M : Mem_) (n : Nat) (a0 : Nat) (r : Int32) (M1 : Mem_) (hf : fX1_forced M a0 = some (r, M1)) : Ct_ G l yX1_forced (ws_ yX1_forced cX1_forced 3 (some .int)) ({ frames := 5, cells := 0, slots := 0, locals := 122 }) 0 0 [.ref a0] M n (some (.int r)) M1 n := by
  refine en_ (by decide) (Nat.le_of_ble_eq_true rfl) ?_
  intro p e s m below meth c hx hb hr hlk hml hown hts hname hKn hH ls hl
  have hown : s.vm.findClass RX1 = some m.cls := hown
  have hl : lv_has ls 3 [(0, .ref a0)] := hl
  have w15 : ∀ (K2 : Mem_ → Nat → Int32 → Option (Int32 × Mem_)), (∀ (M : Mem_) (x0 : Nat) (x1 : Int32) (H : Heap) (locs : List Loc) (ls : Array Slot), St_ G n M s H locs → lv_has ls 3 [(0, .ref x0), (1, .int x1)] → K2 M x0 x1 = some (r, M1) → W p l e ({ frames := 5, cells := 0, slots := 0, locals := 122 } : Room) s m ([.ref a0] : List Value).toArray below meth c H locs 0 0 (MQ below (Qc_ G (some (.int r)) M1 n) ([.ref a0] : List Value).toArray s 0 0 (fun q => G.1 ≤ q)) (F0 m 2 ls [])) → ∀ (fuel : Nat), ∀ (M : Mem_) (x0 : Nat) (x1 : Int32) (x2 : Int32) (H : Heap) (locs : List Loc) (ls : Array Slot), St_ G n M s H locs → lv_has ls 3 [(0, .ref x0), (1, .int x1), (2, .int x2)] → fX1_forced_L15 K2 fuel M x0 x1 x2 = some (r, M1) → W p l e ({ frames := 5, cells := 0, slots := 0, locals := 122 } : Room) s m ([.ref a0] : List Value).toArray below meth c H locs 0 0 (MQ below (Qc_ G (some (.int r)) M1 n) ([.ref a0] : List Value).toArray s 0 0 (fun q => G.1 ≤ q)) (F0 m 15 ls []) := by
    intro K2 hK2 fuel
    induction fuel with
    | zero =>
      intro M x0 x1 x2 H locs ls hH hl hf
      cases hf
    | succ fuel ih =>
      intro M x0 x1 x2 H locs ls hH hl hf
      unfold fX1_forced_L15 at hf
      refine lv_iload_n hx hb dX1_forced_15 rfl (lv_at hl 2 rfl) ?_
      refine lv_bipush (v := 9) hx hb dX1_forced_16 (by decide) ?_
      refine lv_icmp_ge (tgt := 43) hx hb dX1_forced_18 (by decide) (fun c10 => ?_) (fun c10 => ?_)
      · have hf := ip_ c10 hf
        obtain ⟨v4, ev4⟩ : ∃ z : Int32, z = x1 + 1 := ⟨_, rfl⟩
        have hf := lu_ ev4 hf
        refine lv_iinc (v := v4) (lv' := [(1, .int v4), (0, .ref x0), (2, .int x2)]) hx hb dX1_forced_43 hl (k := 1) rfl (by rw [ev4]; rfl) (by decide) rfl (fun ls hl => ?_)
        refine lv_goto (tgt := 2) hx hb dX1_forced_46 (by decide) ?_
        exact hK2 M x0 v4 _ _ ls hH (lv_sub hl [1, 0] rfl) hf
      · have hf := in_ c10 hf
        refine lv_aload_n hx hb dX1_forced_21 rfl (lv_at hl 0 rfl) ?_
        refine lv_iload_n hx hb dX1_forced_22 rfl (lv_at hl 1 rfl) ?_
        refine lv_iload_n hx hb dX1_forced_23 rfl (lv_at hl 2 rfl) ?_
        obtain ⟨u5, eu5, hf⟩ := bs_ hf
        obtain ⟨r6, M7, er6, hf⟩ := bws_ hf
        refine cl_i0 hH (rn_V ⟨hx, hb, hml, hown, hts⟩ hKn hH (mX1_winsWith l G M n x0 x1 x2 r6 M7 er6) (cwV 2 hts (lw_V q658 q660 qs21 q67 q661) rfl rfl rfl ⟨rfl, kdX1_winsWith⟩ ⟨Nat.le_of_ble_eq_true rfl, Nat.le_of_ble_eq_true rfl⟩) eu5 rfl rfl hl.1 (Nat.le_of_ble_eq_true rfl) dX1_forced_24 ⟨(Nat.le_of_ble_eq_true rfl), (Nat.le_of_ble_eq_true rfl)⟩ rfl) (fun H locs hH => ?_)
        refine lv_if_eq (tgt := 37) hx hb dX1_forced_27 (by decide) (fun c9 => ?_) (fun c9 => ?_)
        · have hf := ip_ c9 hf
          obtain ⟨v8, ev8⟩ : ∃ z : Int32, z = x2 + 1 := ⟨_, rfl⟩
          have hf := lu_ ev8 hf
          refine lv_iinc (v := v8) (lv' := [(2, .int v8), (0, .ref x0), (1, .int x1)]) hx hb dX1_forced_37 hl (k := 2) rfl (by rw [ev8]; rfl) (by decide) rfl (fun ls hl => ?_)
          refine lv_goto (tgt := 15) hx hb dX1_forced_40 (by decide) ?_
          exact ih M7 x0 x1 v8 _ _ ls hH (lv_sub hl [1, 2, 0] rfl) hf
        · have hf := in_ c9 hf
          refine lv_bipush (v := 10) hx hb dX1_forced_30 (by decide) ?_
          refine lv_iload_n hx hb dX1_forced_32 rfl (lv_at hl 1 rfl) ?_
          refine lv_imul hx hb dX1_forced_33 ?_
          refine lv_iload_n hx hb dX1_forced_34 rfl (lv_at hl 2 rfl) ?_
          refine lv_iadd hx hb dX1_forced_35 ?_
          cases hf
          exact rt_i hx hb hr hlk hH dX1_forced_36
  have w2 : ∀ (fuel : Nat), ∀ (M : Mem_) (x0 : Nat) (x1 : Int32) (H : Heap) (locs : List Loc) (ls : Array Slot), St_ G n M s H locs → lv_has ls 3 [(0, .ref x0), (1, .int x1)] → fX1_forced_L2 fuel M x0 x1 = some (r, M1) → W p l e ({ frames := 5, cells := 0, slots := 0, locals := 122 } : Room) s m ([.ref a0] : List Value).toArray below meth c H locs 0 0 (MQ below (Qc_ G (some (.int r)) M1 n) ([.ref a0] : List Value).toArray s 0 0 (fun q => G.1 ≤ q)) (F0 m 2 ls []) := by
    intro fuel
    induction fuel with
    | zero =>
      intro M x0 x1 H locs ls hH hl hf
      cases hf
    | succ fuel ih =>
      intro M x0 x1 H locs ls hH hl hf
      unfold fX1_forced_L2 at hf
      refine lv_iload_n hx hb dX1_forced_2 rfl (lv_at hl 1 rfl) ?_
      refine lv_aload_n hx hb dX1_forced_3 rfl (lv_at hl 0 rfl) ?_
      obtain ⟨v1, ev1, hf⟩ := bs_ hf
      refine mg_gR hx hb hts hown hKn hH ev1 in_X1 rfl (by decide) (hts _ q937) (fun _ h9 => h9) dX1_forced_4 ?_
      obtain ⟨v2, ev2, hf⟩ := bs_ hf
      refine mg_gI hx hb hts hown hKn hH ev2 in_X2 rfl (by decide) (hts _ q890) (fun _ h9 => h9) dX1_forced_7 ?_
      refine lv_icmp_ge (tgt := 49) hx hb dX1_forced_10 (by decide) (fun c3 => ?_) (fun c3 => ?_)
      · have hf := ip_ c3 hf
        refine lv_bipush (v := (-4)) hx hb dX1_forced_49 (by decide) ?_
        cases hf
        exact rt_i hx hb hr hlk hH dX1_forced_51
      · have hf := in_ c3 hf
        refine lv_iconst (v := 0) hx hb dX1_forced_13 (by decide) ?_
        refine lv_istore_n (lv' := [(2, .int 0), (0, .ref x0), (1, .int x1)]) hx hb dX1_forced_14 rfl hl (by decide) rfl (fun ls hl => ?_)
        exact w15 _ ih 1000 M x0 x1 0 _ _ ls hH (lv_sub hl [1, 2, 0] rfl) hf
  unfold fX1_forced at hf
  refine lv_iconst (v := 0) hx hb dX1_forced_0 (by decide) ?_
  refine lv_istore_n (lv' := [(1, .int 0), (0, .ref a0)]) hx hb dX1_forced_1 rfl hl (by decide) rfl (fun ls hl => ?_)
  exact w2 1000 M a0 0 _ _ ls hH (lv_sub hl [1, 0] rfl) hf
