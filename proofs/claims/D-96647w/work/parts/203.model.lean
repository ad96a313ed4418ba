set_option maxRecDepth 100000
def fX4_hits (M : Mem_) (a0 : Nat) (a1 : Nat) (a2 : Int32) (a3 : Int32) : Option (Bool × Mem_) :=
  (aI_ M a1 0 2).bind fun v1 =>
  lt_ (fX4_sideOf v1) fun r2 =>
  lt_ ((1 - r2)) fun v3 =>
  (fX4_fallsIn M a1 a2 a3).bind fun r4 =>
  (fX4_timeIn M a1 a2 r4).bind fun r5 =>
  (fX4_whoseIn M a1 v3 r4).bind fun r6 =>
  (aI_ M a1 0 1).bind fun v7 =>
  (sI_ M a1 0 1 (v7 + 1)).bind fun M8 =>
  lt_ (fX4_ofS a2 0) fun r9 =>
  (aI_ M8 a1 0 r9).bind fun v10 =>
  lt_ (fX4_ofS a2 1) fun r11 =>
  (aI_ M8 a1 0 r11).bind fun v12 =>
  lt_ (fX4_tiresBy v10 v12) fun r13 =>
  (fX4_isTired M8 a1 v1 r13).bind fun M15 =>
  (fX4_isBoths M15 a1 v3 r4).bind fun r16 =>
  if (b2_ r16) = 0 then
    if r6 = 9 then
      lt_ (fX4_ofSide (1 - v3) 2) fun r17 =>
      (aI_ M15 a1 0 r17).bind fun v18 =>
      (sI_ M15 a1 0 r17 (v18 + 1)).bind fun M19 =>
      (sI_ M19 a1 0 2 (2 * (1 - v3))).bind fun M20 =>
      some (true, M20)
    else
      lt_ (fX4_ofP r6 0) fun r21 =>
      (aI_ M15 a1 0 r21).bind fun v22 =>
      lt_ (fX4_wayOf v22 r4) fun r23 =>
      (fX4_stepsIn M15 a1 r6 r5).bind fun r24 =>
      if r23 ≤ r24 then
        lt_ (fX4_ofP r6 0) fun r25 =>
        (aI_ M15 a1 0 r25).bind fun v26 =>
        lt_ (fX4_wayOf v26 r4) fun r27 =>
        (ck_ M15 a0 3).bind fun u28 =>
        (fX4_moves M15 a0 a1 r6 r4).bind fun M30 =>
        (fX4_isTired M30 a1 r6 r27).bind fun M32 =>
        (sI_ M32 a1 0 2 r6).bind fun M33 =>
        lt_ (fX4_partner r6) fun r34 =>
        lt_ (fX4_ofP r34 0) fun r35 =>
        (aI_ M33 a1 0 r35).bind fun v36 =>
        lt_ (fX4_ofSide v3 0) fun r37 =>
        (aI_ M33 a1 0 r37).bind fun v38 =>
        lt_ (fX4_placeFor v38 r4) fun r39 =>
        (fX4_stepsIn M33 a1 r34 r5).bind fun r40 =>
        (fX4_towards v36 r39 r40).bind fun r41 =>
        (ck_ M33 a0 3).bind fun u42 =>
        (fX4_moves M33 a0 a1 r34 r41).bind fun M44 =>
        some (false, M44)
      else
        lt_ (fX4_ofSide (1 - v3) 2) fun r45 =>
        (aI_ M15 a1 0 r45).bind fun v46 =>
        (sI_ M15 a1 0 r45 (v46 + 1)).bind fun M47 =>
        (sI_ M47 a1 0 2 (2 * (1 - v3))).bind fun M48 =>
        some (true, M48)
  else
    (fX4_isTired M15 a1 (2 * v3) 3).bind fun M52 =>
    (fX4_isTired M52 a1 ((2 * v3) + 1) 3).bind fun M54 =>
    if r6 = 9 then
      lt_ (fX4_ofSide (1 - v3) 2) fun r55 =>
      (aI_ M54 a1 0 r55).bind fun v56 =>
      (sI_ M54 a1 0 r55 (v56 + 1)).bind fun M57 =>
      (sI_ M57 a1 0 2 (2 * (1 - v3))).bind fun M58 =>
      some (true, M58)
    else
      lt_ (fX4_ofP r6 0) fun r59 =>
      (aI_ M54 a1 0 r59).bind fun v60 =>
      lt_ (fX4_wayOf v60 r4) fun r61 =>
      (fX4_stepsIn M54 a1 r6 r5).bind fun r62 =>
      if r61 ≤ r62 then
        lt_ (fX4_ofP r6 0) fun r63 =>
        (aI_ M54 a1 0 r63).bind fun v64 =>
        lt_ (fX4_wayOf v64 r4) fun r65 =>
        (ck_ M54 a0 3).bind fun u66 =>
        (fX4_moves M54 a0 a1 r6 r4).bind fun M68 =>
        (fX4_isTired M68 a1 r6 r65).bind fun M70 =>
        (sI_ M70 a1 0 2 r6).bind fun M71 =>
        lt_ (fX4_partner r6) fun r72 =>
        lt_ (fX4_ofP r72 0) fun r73 =>
        (aI_ M71 a1 0 r73).bind fun v74 =>
        lt_ (fX4_ofSide v3 0) fun r75 =>
        (aI_ M71 a1 0 r75).bind fun v76 =>
        lt_ (fX4_placeFor v76 r4) fun r77 =>
        (fX4_stepsIn M71 a1 r72 r5).bind fun r78 =>
        (fX4_towards v74 r77 r78).bind fun r79 =>
        (ck_ M71 a0 3).bind fun u80 =>
        (fX4_moves M71 a0 a1 r72 r79).bind fun M82 =>
        some (false, M82)
      else
        lt_ (fX4_ofSide (1 - v3) 2) fun r83 =>
        (aI_ M54 a1 0 r83).bind fun v84 =>
        (sI_ M54 a1 0 r83 (v84 + 1)).bind fun M85 =>
        (sI_ M85 a1 0 2 (2 * (1 - v3))).bind fun M86 =>
        some (true, M86)
theorem kdX4_hits : yX4_hits.cls ≠ "java/lang/invoke/MethodHandle" ∧ yX4_hits.cls ≠ "java/lang/invoke/VarHandle" ∧ (parseMethodDescriptor yX4_hits.desc).map (fun d => d.parameters.length) = some 3 := by decide +kernel
set_option maxHeartbeats 4000000 in
theorem mX4_hits (l : Launch) (G : GT_) (M : Mem_) (n : Nat) (a0 : Nat) (a1 : Nat) (a2 : Int32) (a3 : Int32) (r : Bool) (M1 : Mem_) (hf : fX4_hits M a0 a1 a2 a3 = some (r, M1)) : Ct_ G l yX4_hits (ws_ yX4_hits cX4_hits 11 (some .boolean)) ({ frames := 3, cells := 0, slots := 0, locals := 69 }) 0 0 [.ref a0, .ref a1, .int a2, .int a3] M n (some (.int (b2_ r))) M1 n := by
  refine en_ (by decide) (Nat.le_of_ble_eq_true rfl) ?_
  intro p e s m below meth c hx hb hr hlk hml hown hts hname hKn hH ls hl
  have hown : s.vm.findClass RX4 = some m.cls := hown
  have hl : lv_has ls 11 [(0, .ref a0), (1, .ref a1), (2, .int a2), (3, .int a3)] := hl
  unfold fX4_hits at hf
  generalize s.heap = H at hH ⊢
  refine lv_aload_n hx hb dX4_hits_0 rfl (lv_at hl 1 rfl) ?_
  refine lv_iconst (v := 2) hx hb dX4_hits_1 (by decide) ?_
  obtain ⟨v1, ev1, hf⟩ := bs_ hf
  refine mg_iald hx hb hKn hH ev1 dX4_hits_2 ?_
  refine lv_istore (lv' := [(4, .int v1), (0, .ref a0), (1, .ref a1), (2, .int a2), (3, .int a3)]) hx hb dX4_hits_3 hl (by decide) rfl (fun ls hl => ?_)
  refine lv_iconst (v := 1) hx hb dX4_hits_5 (by decide) ?_
  refine lv_iload hx hb dX4_hits_6 (lv_at hl 0 rfl) ?_
  obtain ⟨r2, er2⟩ : ∃ z, z = fX4_sideOf v1 := ⟨_, rfl⟩
  have hf := lu_ er2 hf
  refine cl_i0 hH (rn_S ⟨hx, hb, hml, hown, hts⟩ hKn hH (mX4_sideOf l G M n v1 r2 er2.symm) (va_cwS 1 hts (lw_S q1295 q1296 q70 q1297) rfl rfl rfl kdX4_sideOf ⟨Nat.le_of_ble_eq_true rfl, Nat.le_of_ble_eq_true rfl⟩) rfl hl.1 (Nat.le_of_ble_eq_true rfl) dX4_hits_8 ⟨(Nat.le_of_ble_eq_true rfl), (Nat.le_of_ble_eq_true rfl)⟩ rfl) (fun H locs hH => ?_)
  refine lv_isub hx hb dX4_hits_11 ?_
  refine lv_topi (fun v3 ev3 => ?_)
  have hf := lu_ ev3 hf
  refine lv_istore (lv' := [(5, .int v3), (4, .int v1), (0, .ref a0), (1, .ref a1), (2, .int a2), (3, .int a3)]) hx hb dX4_hits_12 hl (by decide) rfl (fun ls hl => ?_)
  refine lv_aload_n hx hb dX4_hits_14 rfl (lv_at hl 3 rfl) ?_
  refine lv_iload_n hx hb dX4_hits_15 rfl (lv_at hl 4 rfl) ?_
  refine lv_iload_n hx hb dX4_hits_16 rfl (lv_at hl 5 rfl) ?_
  obtain ⟨r4, er4, hf⟩ := bs_ hf
  refine cl_i0 hH (rn_S ⟨hx, hb, hml, hown, hts⟩ hKn hH (mX4_fallsIn l G M n a1 a2 a3 r4 er4) (va_cwS 3 hts (lw_S q1298 q1299 q70 q1300) rfl rfl rfl kdX4_fallsIn ⟨Nat.le_of_ble_eq_true rfl, Nat.le_of_ble_eq_true rfl⟩) rfl hl.1 (Nat.le_of_ble_eq_true rfl) dX4_hits_17 ⟨(Nat.le_of_ble_eq_true rfl), (Nat.le_of_ble_eq_true rfl)⟩ rfl) (fun H locs hH => ?_)
  refine lv_istore (lv' := [(6, .int r4), (5, .int v3), (4, .int v1), (0, .ref a0), (1, .ref a1), (2, .int a2), (3, .int a3)]) hx hb dX4_hits_20 hl (by decide) rfl (fun ls hl => ?_)
  refine lv_aload_n hx hb dX4_hits_22 rfl (lv_at hl 4 rfl) ?_
  refine lv_iload_n hx hb dX4_hits_23 rfl (lv_at hl 5 rfl) ?_
  refine lv_iload hx hb dX4_hits_24 (lv_at hl 0 rfl) ?_
  obtain ⟨r5, er5, hf⟩ := bs_ hf
  refine cl_i0 hH (rn_S ⟨hx, hb, hml, hown, hts⟩ hKn hH (mX4_timeIn l G M n a1 a2 r4 r5 er5) (va_cwS 3 hts (lw_S q1301 q1302 q70 q1303) rfl rfl rfl kdX4_timeIn ⟨Nat.le_of_ble_eq_true rfl, Nat.le_of_ble_eq_true rfl⟩) rfl hl.1 (Nat.le_of_ble_eq_true rfl) dX4_hits_26 ⟨(Nat.le_of_ble_eq_true rfl), (Nat.le_of_ble_eq_true rfl)⟩ rfl) (fun H locs hH => ?_)
  refine lv_istore (lv' := [(7, .int r5), (6, .int r4), (5, .int v3), (4, .int v1), (0, .ref a0), (1, .ref a1), (2, .int a2), (3, .int a3)]) hx hb dX4_hits_29 hl (by decide) rfl (fun ls hl => ?_)
  refine lv_aload_n hx hb dX4_hits_31 rfl (lv_at hl 5 rfl) ?_
  refine lv_iload hx hb dX4_hits_32 (lv_at hl 2 rfl) ?_
  refine lv_iload hx hb dX4_hits_34 (lv_at hl 1 rfl) ?_
  obtain ⟨r6, er6, hf⟩ := bs_ hf
  refine cl_i0 hH (rn_S ⟨hx, hb, hml, hown, hts⟩ hKn hH (mX4_whoseIn l G M n a1 v3 r4 r6 er6) (va_cwS 3 hts (lw_S q1307 q1308 q70 q1309) rfl rfl rfl kdX4_whoseIn ⟨Nat.le_of_ble_eq_true rfl, Nat.le_of_ble_eq_true rfl⟩) rfl hl.1 (Nat.le_of_ble_eq_true rfl) dX4_hits_36 ⟨(Nat.le_of_ble_eq_true rfl), (Nat.le_of_ble_eq_true rfl)⟩ rfl) (fun H locs hH => ?_)
  refine lv_istore (lv' := [(8, .int r6), (7, .int r5), (6, .int r4), (5, .int v3), (4, .int v1), (0, .ref a0), (1, .ref a1), (2, .int a2), (3, .int a3)]) hx hb dX4_hits_39 hl (by decide) rfl (fun ls hl => ?_)
  refine lv_aload_n hx hb dX4_hits_41 rfl (lv_at hl 6 rfl) ?_
  refine lv_iconst (v := 1) hx hb dX4_hits_42 (by decide) ?_
  refine lv_dup2_11 hx hb dX4_hits_43 rfl rfl ?_
  obtain ⟨v7, ev7, hf⟩ := bs_ hf
  refine mg_iald hx hb hKn hH ev7 dX4_hits_44 ?_
  refine lv_iconst (v := 1) hx hb dX4_hits_45 (by decide) ?_
  refine lv_iadd hx hb dX4_hits_46 ?_
  obtain ⟨M8, eM8, hf⟩ := bs_ hf
  refine mg_iast hx hb hKn hH eM8 dX4_hits_47 (fun H locs hH => ?_)
  refine lv_aload_n hx hb dX4_hits_48 rfl (lv_at hl 6 rfl) ?_
  refine lv_iload hx hb dX4_hits_49 (lv_at hl 4 rfl) ?_
  refine lv_aload_n hx hb dX4_hits_51 rfl (lv_at hl 6 rfl) ?_
  refine lv_iload_n hx hb dX4_hits_52 rfl (lv_at hl 7 rfl) ?_
  refine lv_iconst (v := 0) hx hb dX4_hits_53 (by decide) ?_
  obtain ⟨r9, er9⟩ : ∃ z, z = fX4_ofS a2 0 := ⟨_, rfl⟩
  have hf := lu_ er9 hf
  refine cl_i0 hH (rn_S ⟨hx, hb, hml, hown, hts⟩ hKn hH (mX4_ofS l G M8 n a2 0 r9 er9.symm) (va_cwS 2 hts (lw_S q1274 q1275 q70 q1276) rfl rfl rfl kdX4_ofS ⟨Nat.le_of_ble_eq_true rfl, Nat.le_of_ble_eq_true rfl⟩) rfl hl.1 (Nat.le_of_ble_eq_true rfl) dX4_hits_54 ⟨(Nat.le_of_ble_eq_true rfl), (Nat.le_of_ble_eq_true rfl)⟩ rfl) (fun H locs hH => ?_)
  obtain ⟨v10, ev10, hf⟩ := bs_ hf
  refine mg_iald hx hb hKn hH ev10 dX4_hits_57 ?_
  refine lv_aload_n hx hb dX4_hits_58 rfl (lv_at hl 6 rfl) ?_
  refine lv_iload_n hx hb dX4_hits_59 rfl (lv_at hl 7 rfl) ?_
  refine lv_iconst (v := 1) hx hb dX4_hits_60 (by decide) ?_
  obtain ⟨r11, er11⟩ : ∃ z, z = fX4_ofS a2 1 := ⟨_, rfl⟩
  have hf := lu_ er11 hf
  refine cl_i0 hH (rn_S ⟨hx, hb, hml, hown, hts⟩ hKn hH (mX4_ofS l G M8 n a2 1 r11 er11.symm) (va_cwS 2 hts (lw_S q1274 q1275 q70 q1276) rfl rfl rfl kdX4_ofS ⟨Nat.le_of_ble_eq_true rfl, Nat.le_of_ble_eq_true rfl⟩) rfl hl.1 (Nat.le_of_ble_eq_true rfl) dX4_hits_61 ⟨(Nat.le_of_ble_eq_true rfl), (Nat.le_of_ble_eq_true rfl)⟩ rfl) (fun H locs hH => ?_)
  obtain ⟨v12, ev12, hf⟩ := bs_ hf
  refine mg_iald hx hb hKn hH ev12 dX4_hits_64 ?_
  obtain ⟨r13, er13⟩ : ∃ z, z = fX4_tiresBy v10 v12 := ⟨_, rfl⟩
  have hf := lu_ er13 hf
  refine cl_i0 hH (rn_S ⟨hx, hb, hml, hown, hts⟩ hKn hH (mX4_tiresBy l G M8 n v10 v12 r13 er13.symm) (va_cwS 2 hts (lw_S q1316 q1317 q70 q1318) rfl rfl rfl kdX4_tiresBy ⟨Nat.le_of_ble_eq_true rfl, Nat.le_of_ble_eq_true rfl⟩) rfl hl.1 (Nat.le_of_ble_eq_true rfl) dX4_hits_65 ⟨(Nat.le_of_ble_eq_true rfl), (Nat.le_of_ble_eq_true rfl)⟩ rfl) (fun H locs hH => ?_)
  obtain ⟨M15, er14, hf⟩ := bs_ hf
  refine cl_v0 hH (rn_S ⟨hx, hb, hml, hown, hts⟩ hKn hH (mX4_isTired l G M8 n a1 v1 r13 M15 er14) (va_cwS 3 hts (lw_S q1319 q1320 q70 q1321) rfl rfl rfl kdX4_isTired ⟨Nat.le_of_ble_eq_true rfl, Nat.le_of_ble_eq_true rfl⟩) rfl hl.1 (Nat.le_of_ble_eq_true rfl) dX4_hits_68 ⟨(Nat.le_of_ble_eq_true rfl), (Nat.le_of_ble_eq_true rfl)⟩ rfl) (fun H locs hH => ?_)
  refine lv_aload_n hx hb dX4_hits_71 rfl (lv_at hl 6 rfl) ?_
  refine lv_iload hx hb dX4_hits_72 (lv_at hl 3 rfl) ?_
  refine lv_iload hx hb dX4_hits_74 (lv_at hl 2 rfl) ?_
  obtain ⟨r16, er16, hf⟩ := bs_ hf
  refine cl_i0 hH (rn_S ⟨hx, hb, hml, hown, hts⟩ hKn hH (mX4_isBoths l G M15 n a1 v3 r4 r16 er16) (va_cwS 3 hts (lw_S q1325 q1326 q70 q1327) rfl rfl rfl kdX4_isBoths ⟨Nat.le_of_ble_eq_true rfl, Nat.le_of_ble_eq_true rfl⟩) rfl hl.1 (Nat.le_of_ble_eq_true rfl) dX4_hits_76 ⟨(Nat.le_of_ble_eq_true rfl), (Nat.le_of_ble_eq_true rfl)⟩ rfl) (fun H locs hH => ?_)
  refine lv_if_eq (tgt := 102) hx hb dX4_hits_79 (by decide) (fun c89 => ?_) (fun c89 => ?_)
  · have hf := ip_ c89 hf
    refine lv_iload hx hb dX4_hits_102 (lv_at hl 0 rfl) ?_
    refine lv_bipush (v := 9) hx hb dX4_hits_104 (by decide) ?_
    refine lv_icmp_eq (tgt := 133) hx hb dX4_hits_106 (by decide) (fun c50 => ?_) (fun c50 => ?_)
    · have hf := ip_ c50 hf
      refine lv_aload_n hx hb dX4_hits_133 rfl (lv_at hl 6 rfl) ?_
      refine lv_iconst (v := 1) hx hb dX4_hits_134 (by decide) ?_
      refine lv_iload hx hb dX4_hits_135 (lv_at hl 3 rfl) ?_
      refine lv_isub hx hb dX4_hits_137 ?_
      refine lv_iconst (v := 2) hx hb dX4_hits_138 (by decide) ?_
      obtain ⟨r17, er17⟩ : ∃ z, z = fX4_ofSide (1 - v3) 2 := ⟨_, rfl⟩
      have hf := lu_ er17 hf
      refine cl_i0 hH (rn_S ⟨hx, hb, hml, hown, hts⟩ hKn hH (mX4_ofSide l G M15 n (1 - v3) 2 r17 er17.symm) (va_cwS 2 hts (lw_S q1173 q1174 q70 q1175) rfl rfl rfl kdX4_ofSide ⟨Nat.le_of_ble_eq_true rfl, Nat.le_of_ble_eq_true rfl⟩) rfl hl.1 (Nat.le_of_ble_eq_true rfl) dX4_hits_139 ⟨(Nat.le_of_ble_eq_true rfl), (Nat.le_of_ble_eq_true rfl)⟩ rfl) (fun H locs hH => ?_)
      refine lv_dup2_11 hx hb dX4_hits_142 rfl rfl ?_
      obtain ⟨v18, ev18, hf⟩ := bs_ hf
      refine mg_iald hx hb hKn hH ev18 dX4_hits_143 ?_
      refine lv_iconst (v := 1) hx hb dX4_hits_144 (by decide) ?_
      refine lv_iadd hx hb dX4_hits_145 ?_
      obtain ⟨M19, eM19, hf⟩ := bs_ hf
      refine mg_iast hx hb hKn hH eM19 dX4_hits_146 (fun H locs hH => ?_)
      refine lv_aload_n hx hb dX4_hits_147 rfl (lv_at hl 6 rfl) ?_
      refine lv_iconst (v := 2) hx hb dX4_hits_148 (by decide) ?_
      refine lv_iconst (v := 2) hx hb dX4_hits_149 (by decide) ?_
      refine lv_iconst (v := 1) hx hb dX4_hits_150 (by decide) ?_
      refine lv_iload hx hb dX4_hits_151 (lv_at hl 3 rfl) ?_
      refine lv_isub hx hb dX4_hits_153 ?_
      refine lv_imul hx hb dX4_hits_154 ?_
      obtain ⟨M20, eM20, hf⟩ := bs_ hf
      refine mg_iast hx hb hKn hH eM20 dX4_hits_155 (fun H locs hH => ?_)
      refine lv_iconst (v := 1) hx hb dX4_hits_156 (by decide) ?_
      cases hf
      exact rt_b (b := true) hx hb hr hlk hH dX4_hits_157
    · have hf := in_ c50 hf
      refine lv_aload_n hx hb dX4_hits_109 rfl (lv_at hl 6 rfl) ?_
      refine lv_iload hx hb dX4_hits_110 (lv_at hl 0 rfl) ?_
      refine lv_iconst (v := 0) hx hb dX4_hits_112 (by decide) ?_
      obtain ⟨r21, er21⟩ : ∃ z, z = fX4_ofP r6 0 := ⟨_, rfl⟩
      have hf := lu_ er21 hf
      refine cl_i0 hH (rn_S ⟨hx, hb, hml, hown, hts⟩ hKn hH (mX4_ofP l G M15 n r6 0 r21 er21.symm) (va_cwS 2 hts (lw_S q1170 q1171 q70 q1172) rfl rfl rfl kdX4_ofP ⟨Nat.le_of_ble_eq_true rfl, Nat.le_of_ble_eq_true rfl⟩) rfl hl.1 (Nat.le_of_ble_eq_true rfl) dX4_hits_113 ⟨(Nat.le_of_ble_eq_true rfl), (Nat.le_of_ble_eq_true rfl)⟩ rfl) (fun H locs hH => ?_)
      obtain ⟨v22, ev22, hf⟩ := bs_ hf
      refine mg_iald hx hb hKn hH ev22 dX4_hits_116 ?_
      refine lv_iload hx hb dX4_hits_117 (lv_at hl 2 rfl) ?_
      obtain ⟨r23, er23⟩ : ∃ z, z = fX4_wayOf v22 r4 := ⟨_, rfl⟩
      have hf := lu_ er23 hf
      refine cl_i0 hH (rn_S ⟨hx, hb, hml, hown, hts⟩ hKn hH (mX4_wayOf l G M15 n v22 r4 r23 er23.symm) (va_cwS 2 hts (lw_S q1310 q1311 q70 q1312) rfl rfl rfl kdX4_wayOf ⟨Nat.le_of_ble_eq_true rfl, Nat.le_of_ble_eq_true rfl⟩) rfl hl.1 (Nat.le_of_ble_eq_true rfl) dX4_hits_119 ⟨(Nat.le_of_ble_eq_true rfl), (Nat.le_of_ble_eq_true rfl)⟩ rfl) (fun H locs hH => ?_)
      refine lv_aload_n hx hb dX4_hits_122 rfl (lv_at hl 6 rfl) ?_
      refine lv_iload hx hb dX4_hits_123 (lv_at hl 0 rfl) ?_
      refine lv_iload hx hb dX4_hits_125 (lv_at hl 1 rfl) ?_
      obtain ⟨r24, er24, hf⟩ := bs_ hf
      refine cl_i0 hH (rn_S ⟨hx, hb, hml, hown, hts⟩ hKn hH (mX4_stepsIn l G M15 n a1 r6 r5 r24 er24) (va_cwS 3 hts (lw_S q1328 q1329 q70 q1330) rfl rfl rfl kdX4_stepsIn ⟨Nat.le_of_ble_eq_true rfl, Nat.le_of_ble_eq_true rfl⟩) rfl hl.1 (Nat.le_of_ble_eq_true rfl) dX4_hits_127 ⟨(Nat.le_of_ble_eq_true rfl), (Nat.le_of_ble_eq_true rfl)⟩ rfl) (fun H locs hH => ?_)
      refine lv_icmp_le (tgt := 158) hx hb dX4_hits_130 (by decide) (fun c49 => ?_) (fun c49 => ?_)
      · have hf := ip_ c49 hf
        refine lv_aload_n hx hb dX4_hits_158 rfl (lv_at hl 6 rfl) ?_
        refine lv_iload hx hb dX4_hits_159 (lv_at hl 0 rfl) ?_
        refine lv_iconst (v := 0) hx hb dX4_hits_161 (by decide) ?_
        obtain ⟨r25, er25⟩ : ∃ z, z = fX4_ofP r6 0 := ⟨_, rfl⟩
        have hf := lu_ er25 hf
        refine cl_i0 hH (rn_S ⟨hx, hb, hml, hown, hts⟩ hKn hH (mX4_ofP l G M15 n r6 0 r25 er25.symm) (va_cwS 2 hts (lw_S q1170 q1171 q70 q1172) rfl rfl rfl kdX4_ofP ⟨Nat.le_of_ble_eq_true rfl, Nat.le_of_ble_eq_true rfl⟩) rfl hl.1 (Nat.le_of_ble_eq_true rfl) dX4_hits_162 ⟨(Nat.le_of_ble_eq_true rfl), (Nat.le_of_ble_eq_true rfl)⟩ rfl) (fun H locs hH => ?_)
        obtain ⟨v26, ev26, hf⟩ := bs_ hf
        refine mg_iald hx hb hKn hH ev26 dX4_hits_165 ?_
        refine lv_iload hx hb dX4_hits_166 (lv_at hl 2 rfl) ?_
        obtain ⟨r27, er27⟩ : ∃ z, z = fX4_wayOf v26 r4 := ⟨_, rfl⟩
        have hf := lu_ er27 hf
        refine cl_i0 hH (rn_S ⟨hx, hb, hml, hown, hts⟩ hKn hH (mX4_wayOf l G M15 n v26 r4 r27 er27.symm) (va_cwS 2 hts (lw_S q1310 q1311 q70 q1312) rfl rfl rfl kdX4_wayOf ⟨Nat.le_of_ble_eq_true rfl, Nat.le_of_ble_eq_true rfl⟩) rfl hl.1 (Nat.le_of_ble_eq_true rfl) dX4_hits_168 ⟨(Nat.le_of_ble_eq_true rfl), (Nat.le_of_ble_eq_true rfl)⟩ rfl) (fun H locs hH => ?_)
        refine lv_istore (lv' := [(9, .int r27), (8, .int r6), (7, .int r5), (6, .int r4), (5, .int v3), (4, .int v1), (0, .ref a0), (1, .ref a1), (2, .int a2), (3, .int a3)]) hx hb dX4_hits_171 hl (by decide) rfl (fun ls hl => ?_)
        refine lv_aload_n hx hb dX4_hits_173 rfl (lv_at hl 6 rfl) ?_
        refine lv_aload_n hx hb dX4_hits_174 rfl (lv_at hl 7 rfl) ?_
        refine lv_iload hx hb dX4_hits_175 (lv_at hl 1 rfl) ?_
        refine lv_iload hx hb dX4_hits_177 (lv_at hl 3 rfl) ?_
        obtain ⟨u28, eu28, hf⟩ := bs_ hf
        obtain ⟨M30, er29, hf⟩ := bs_ hf
        refine cl_v0 hH (rn_V ⟨hx, hb, hml, hown, hts⟩ hKn hH (mX4_moves l G M15 n a0 a1 r6 r4 M30 er29) (cwV 3 hts (lw_V q1331 q1333 qs47 q70 q1334) rfl rfl rfl ⟨rfl, kdX4_moves⟩ ⟨Nat.le_of_ble_eq_true rfl, Nat.le_of_ble_eq_true rfl⟩) eu28 rfl rfl hl.1 (Nat.le_of_ble_eq_true rfl) dX4_hits_179 ⟨(Nat.le_of_ble_eq_true rfl), (Nat.le_of_ble_eq_true rfl)⟩ rfl) (fun H locs hH => ?_)
        refine lv_aload_n hx hb dX4_hits_182 rfl (lv_at hl 7 rfl) ?_
        refine lv_iload hx hb dX4_hits_183 (lv_at hl 1 rfl) ?_
        refine lv_iload hx hb dX4_hits_185 (lv_at hl 0 rfl) ?_
        obtain ⟨M32, er31, hf⟩ := bs_ hf
        refine cl_v0 hH (rn_S ⟨hx, hb, hml, hown, hts⟩ hKn hH (mX4_isTired l G M30 n a1 r6 r27 M32 er31) (va_cwS 3 hts (lw_S q1319 q1320 q70 q1321) rfl rfl rfl kdX4_isTired ⟨Nat.le_of_ble_eq_true rfl, Nat.le_of_ble_eq_true rfl⟩) rfl hl.1 (Nat.le_of_ble_eq_true rfl) dX4_hits_187 ⟨(Nat.le_of_ble_eq_true rfl), (Nat.le_of_ble_eq_true rfl)⟩ rfl) (fun H locs hH => ?_)
        refine lv_aload_n hx hb dX4_hits_190 rfl (lv_at hl 7 rfl) ?_
        refine lv_iconst (v := 2) hx hb dX4_hits_191 (by decide) ?_
        refine lv_iload hx hb dX4_hits_192 (lv_at hl 1 rfl) ?_
        obtain ⟨M33, eM33, hf⟩ := bs_ hf
        refine mg_iast hx hb hKn hH eM33 dX4_hits_194 (fun H locs hH => ?_)
        refine lv_iload hx hb dX4_hits_195 (lv_at hl 1 rfl) ?_
        obtain ⟨r34, er34⟩ : ∃ z, z = fX4_partner r6 := ⟨_, rfl⟩
        have hf := lu_ er34 hf
        refine cl_i0 hH (rn_S ⟨hx, hb, hml, hown, hts⟩ hKn hH (mX4_partner l G M33 n r6 r34 er34.symm) (va_cwS 1 hts (lw_S q1335 q1336 q70 q1337) rfl rfl rfl kdX4_partner ⟨Nat.le_of_ble_eq_true rfl, Nat.le_of_ble_eq_true rfl⟩) rfl hl.1 (Nat.le_of_ble_eq_true rfl) dX4_hits_197 ⟨(Nat.le_of_ble_eq_true rfl), (Nat.le_of_ble_eq_true rfl)⟩ rfl) (fun H locs hH => ?_)
        refine lv_istore (lv' := [(10, .int r34), (9, .int r27), (8, .int r6), (7, .int r5), (6, .int r4), (5, .int v3), (4, .int v1), (0, .ref a0), (1, .ref a1), (2, .int a2), (3, .int a3)]) hx hb dX4_hits_200 hl (by decide) rfl (fun ls hl => ?_)
        refine lv_aload_n hx hb dX4_hits_202 rfl (lv_at hl 7 rfl) ?_
        refine lv_aload_n hx hb dX4_hits_203 rfl (lv_at hl 8 rfl) ?_
        refine lv_iload hx hb dX4_hits_204 (lv_at hl 0 rfl) ?_
        refine lv_aload_n hx hb dX4_hits_206 rfl (lv_at hl 8 rfl) ?_
        refine lv_iload hx hb dX4_hits_207 (lv_at hl 0 rfl) ?_
        refine lv_iconst (v := 0) hx hb dX4_hits_209 (by decide) ?_
        obtain ⟨r35, er35⟩ : ∃ z, z = fX4_ofP r34 0 := ⟨_, rfl⟩
        have hf := lu_ er35 hf
        refine cl_i0 hH (rn_S ⟨hx, hb, hml, hown, hts⟩ hKn hH (mX4_ofP l G M33 n r34 0 r35 er35.symm) (va_cwS 2 hts (lw_S q1170 q1171 q70 q1172) rfl rfl rfl kdX4_ofP ⟨Nat.le_of_ble_eq_true rfl, Nat.le_of_ble_eq_true rfl⟩) rfl hl.1 (Nat.le_of_ble_eq_true rfl) dX4_hits_210 ⟨(Nat.le_of_ble_eq_true rfl), (Nat.le_of_ble_eq_true rfl)⟩ rfl) (fun H locs hH => ?_)
        obtain ⟨v36, ev36, hf⟩ := bs_ hf
        refine mg_iald hx hb hKn hH ev36 dX4_hits_213 ?_
        refine lv_aload_n hx hb dX4_hits_214 rfl (lv_at hl 8 rfl) ?_
        refine lv_iload hx hb dX4_hits_215 (lv_at hl 5 rfl) ?_
        refine lv_iconst (v := 0) hx hb dX4_hits_217 (by decide) ?_
        obtain ⟨r37, er37⟩ : ∃ z, z = fX4_ofSide v3 0 := ⟨_, rfl⟩
        have hf := lu_ er37 hf
        refine cl_i0 hH (rn_S ⟨hx, hb, hml, hown, hts⟩ hKn hH (mX4_ofSide l G M33 n v3 0 r37 er37.symm) (va_cwS 2 hts (lw_S q1173 q1174 q70 q1175) rfl rfl rfl kdX4_ofSide ⟨Nat.le_of_ble_eq_true rfl, Nat.le_of_ble_eq_true rfl⟩) rfl hl.1 (Nat.le_of_ble_eq_true rfl) dX4_hits_218 ⟨(Nat.le_of_ble_eq_true rfl), (Nat.le_of_ble_eq_true rfl)⟩ rfl) (fun H locs hH => ?_)
        obtain ⟨v38, ev38, hf⟩ := bs_ hf
        refine mg_iald hx hb hKn hH ev38 dX4_hits_221 ?_
        refine lv_iload hx hb dX4_hits_222 (lv_at hl 4 rfl) ?_
        obtain ⟨r39, er39⟩ : ∃ z, z = fX4_placeFor v38 r4 := ⟨_, rfl⟩
        have hf := lu_ er39 hf
        refine cl_i0 hH (rn_S ⟨hx, hb, hml, hown, hts⟩ hKn hH (mX4_placeFor l G M33 n v38 r4 r39 er39.symm) (va_cwS 2 hts (lw_S q1338 q1339 q70 q1340) rfl rfl rfl kdX4_placeFor ⟨Nat.le_of_ble_eq_true rfl, Nat.le_of_ble_eq_true rfl⟩) rfl hl.1 (Nat.le_of_ble_eq_true rfl) dX4_hits_224 ⟨(Nat.le_of_ble_eq_true rfl), (Nat.le_of_ble_eq_true rfl)⟩ rfl) (fun H locs hH => ?_)
        refine lv_aload_n hx hb dX4_hits_227 rfl (lv_at hl 8 rfl) ?_
        refine lv_iload hx hb dX4_hits_228 (lv_at hl 0 rfl) ?_
        refine lv_iload hx hb dX4_hits_230 (lv_at hl 3 rfl) ?_
        obtain ⟨r40, er40, hf⟩ := bs_ hf
        refine cl_i0 hH (rn_S ⟨hx, hb, hml, hown, hts⟩ hKn hH (mX4_stepsIn l G M33 n a1 r34 r5 r40 er40) (va_cwS 3 hts (lw_S q1328 q1329 q70 q1330) rfl rfl rfl kdX4_stepsIn ⟨Nat.le_of_ble_eq_true rfl, Nat.le_of_ble_eq_true rfl⟩) rfl hl.1 (Nat.le_of_ble_eq_true rfl) dX4_hits_232 ⟨(Nat.le_of_ble_eq_true rfl), (Nat.le_of_ble_eq_true rfl)⟩ rfl) (fun H locs hH => ?_)
        obtain ⟨r41, er41, hf⟩ := bs_ hf
        refine cl_i0 hH (rn_S ⟨hx, hb, hml, hown, hts⟩ hKn hH (mX4_towards l G M33 n v36 r39 r40 r41 er41) (va_cwS 3 hts (lw_S q1341 q1342 q70 q1343) rfl rfl rfl kdX4_towards ⟨Nat.le_of_ble_eq_true rfl, Nat.le_of_ble_eq_true rfl⟩) rfl hl.1 (Nat.le_of_ble_eq_true rfl) dX4_hits_235 ⟨(Nat.le_of_ble_eq_true rfl), (Nat.le_of_ble_eq_true rfl)⟩ rfl) (fun H locs hH => ?_)
        obtain ⟨u42, eu42, hf⟩ := bs_ hf
        obtain ⟨M44, er43, hf⟩ := bs_ hf
        refine cl_v0 hH (rn_V ⟨hx, hb, hml, hown, hts⟩ hKn hH (mX4_moves l G M33 n a0 a1 r34 r41 M44 er43) (cwV 3 hts (lw_V q1331 q1333 qs47 q70 q1334) rfl rfl rfl ⟨rfl, kdX4_moves⟩ ⟨Nat.le_of_ble_eq_true rfl, Nat.le_of_ble_eq_true rfl⟩) eu42 rfl rfl hl.1 (Nat.le_of_ble_eq_true rfl) dX4_hits_238 ⟨(Nat.le_of_ble_eq_true rfl), (Nat.le_of_ble_eq_true rfl)⟩ rfl) (fun H locs hH => ?_)
        refine lv_iconst (v := 0) hx hb dX4_hits_241 (by decide) ?_
        cases hf
        exact rt_b (b := false) hx hb hr hlk hH dX4_hits_242
      · have hf := in_ c49 hf
        refine lv_aload_n hx hb dX4_hits_133 rfl (lv_at hl 6 rfl) ?_
        refine lv_iconst (v := 1) hx hb dX4_hits_134 (by decide) ?_
        refine lv_iload hx hb dX4_hits_135 (lv_at hl 3 rfl) ?_
        refine lv_isub hx hb dX4_hits_137 ?_
        refine lv_iconst (v := 2) hx hb dX4_hits_138 (by decide) ?_
        obtain ⟨r45, er45⟩ : ∃ z, z = fX4_ofSide (1 - v3) 2 := ⟨_, rfl⟩
        have hf := lu_ er45 hf
        refine cl_i0 hH (rn_S ⟨hx, hb, hml, hown, hts⟩ hKn hH (mX4_ofSide l G M15 n (1 - v3) 2 r45 er45.symm) (va_cwS 2 hts (lw_S q1173 q1174 q70 q1175) rfl rfl rfl kdX4_ofSide ⟨Nat.le_of_ble_eq_true rfl, Nat.le_of_ble_eq_true rfl⟩) rfl hl.1 (Nat.le_of_ble_eq_true rfl) dX4_hits_139 ⟨(Nat.le_of_ble_eq_true rfl), (Nat.le_of_ble_eq_true rfl)⟩ rfl) (fun H locs hH => ?_)
        refine lv_dup2_11 hx hb dX4_hits_142 rfl rfl ?_
        obtain ⟨v46, ev46, hf⟩ := bs_ hf
        refine mg_iald hx hb hKn hH ev46 dX4_hits_143 ?_
        refine lv_iconst (v := 1) hx hb dX4_hits_144 (by decide) ?_
        refine lv_iadd hx hb dX4_hits_145 ?_
        obtain ⟨M47, eM47, hf⟩ := bs_ hf
        refine mg_iast hx hb hKn hH eM47 dX4_hits_146 (fun H locs hH => ?_)
        refine lv_aload_n hx hb dX4_hits_147 rfl (lv_at hl 6 rfl) ?_
        refine lv_iconst (v := 2) hx hb dX4_hits_148 (by decide) ?_
        refine lv_iconst (v := 2) hx hb dX4_hits_149 (by decide) ?_
        refine lv_iconst (v := 1) hx hb dX4_hits_150 (by decide) ?_
        refine lv_iload hx hb dX4_hits_151 (lv_at hl 3 rfl) ?_
        refine lv_isub hx hb dX4_hits_153 ?_
        refine lv_imul hx hb dX4_hits_154 ?_
        obtain ⟨M48, eM48, hf⟩ := bs_ hf
        refine mg_iast hx hb hKn hH eM48 dX4_hits_155 (fun H locs hH => ?_)
        refine lv_iconst (v := 1) hx hb dX4_hits_156 (by decide) ?_
        cases hf
        exact rt_b (b := true) hx hb hr hlk hH dX4_hits_157
  · have hf := in_ c89 hf
    refine lv_aload_n hx hb dX4_hits_82 rfl (lv_at hl 6 rfl) ?_
    refine lv_iconst (v := 2) hx hb dX4_hits_83 (by decide) ?_
    refine lv_iload hx hb dX4_hits_84 (lv_at hl 3 rfl) ?_
    refine lv_imul hx hb dX4_hits_86 ?_
    refine lv_iconst (v := 3) hx hb dX4_hits_87 (by decide) ?_
    obtain ⟨M52, er51, hf⟩ := bs_ hf
    refine cl_v0 hH (rn_S ⟨hx, hb, hml, hown, hts⟩ hKn hH (mX4_isTired l G M15 n a1 (2 * v3) 3 M52 er51) (va_cwS 3 hts (lw_S q1319 q1320 q70 q1321) rfl rfl rfl kdX4_isTired ⟨Nat.le_of_ble_eq_true rfl, Nat.le_of_ble_eq_true rfl⟩) rfl hl.1 (Nat.le_of_ble_eq_true rfl) dX4_hits_88 ⟨(Nat.le_of_ble_eq_true rfl), (Nat.le_of_ble_eq_true rfl)⟩ rfl) (fun H locs hH => ?_)
    refine lv_aload_n hx hb dX4_hits_91 rfl (lv_at hl 6 rfl) ?_
    refine lv_iconst (v := 2) hx hb dX4_hits_92 (by decide) ?_
    refine lv_iload hx hb dX4_hits_93 (lv_at hl 3 rfl) ?_
    refine lv_imul hx hb dX4_hits_95 ?_
    refine lv_iconst (v := 1) hx hb dX4_hits_96 (by decide) ?_
    refine lv_iadd hx hb dX4_hits_97 ?_
    refine lv_iconst (v := 3) hx hb dX4_hits_98 (by decide) ?_
    obtain ⟨M54, er53, hf⟩ := bs_ hf
    refine cl_v0 hH (rn_S ⟨hx, hb, hml, hown, hts⟩ hKn hH (mX4_isTired l G M52 n a1 ((2 * v3) + 1) 3 M54 er53) (va_cwS 3 hts (lw_S q1319 q1320 q70 q1321) rfl rfl rfl kdX4_isTired ⟨Nat.le_of_ble_eq_true rfl, Nat.le_of_ble_eq_true rfl⟩) rfl hl.1 (Nat.le_of_ble_eq_true rfl) dX4_hits_99 ⟨(Nat.le_of_ble_eq_true rfl), (Nat.le_of_ble_eq_true rfl)⟩ rfl) (fun H locs hH => ?_)
    refine lv_iload hx hb dX4_hits_102 (lv_at hl 0 rfl) ?_
    refine lv_bipush (v := 9) hx hb dX4_hits_104 (by decide) ?_
    refine lv_icmp_eq (tgt := 133) hx hb dX4_hits_106 (by decide) (fun c88 => ?_) (fun c88 => ?_)
    · have hf := ip_ c88 hf
      refine lv_aload_n hx hb dX4_hits_133 rfl (lv_at hl 6 rfl) ?_
      refine lv_iconst (v := 1) hx hb dX4_hits_134 (by decide) ?_
      refine lv_iload hx hb dX4_hits_135 (lv_at hl 3 rfl) ?_
      refine lv_isub hx hb dX4_hits_137 ?_
      refine lv_iconst (v := 2) hx hb dX4_hits_138 (by decide) ?_
      obtain ⟨r55, er55⟩ : ∃ z, z = fX4_ofSide (1 - v3) 2 := ⟨_, rfl⟩
      have hf := lu_ er55 hf
      refine cl_i0 hH (rn_S ⟨hx, hb, hml, hown, hts⟩ hKn hH (mX4_ofSide l G M54 n (1 - v3) 2 r55 er55.symm) (va_cwS 2 hts (lw_S q1173 q1174 q70 q1175) rfl rfl rfl kdX4_ofSide ⟨Nat.le_of_ble_eq_true rfl, Nat.le_of_ble_eq_true rfl⟩) rfl hl.1 (Nat.le_of_ble_eq_true rfl) dX4_hits_139 ⟨(Nat.le_of_ble_eq_true rfl), (Nat.le_of_ble_eq_true rfl)⟩ rfl) (fun H locs hH => ?_)
      refine lv_dup2_11 hx hb dX4_hits_142 rfl rfl ?_
      obtain ⟨v56, ev56, hf⟩ := bs_ hf
      refine mg_iald hx hb hKn hH ev56 dX4_hits_143 ?_
      refine lv_iconst (v := 1) hx hb dX4_hits_144 (by decide) ?_
      refine lv_iadd hx hb dX4_hits_145 ?_
      obtain ⟨M57, eM57, hf⟩ := bs_ hf
      refine mg_iast hx hb hKn hH eM57 dX4_hits_146 (fun H locs hH => ?_)
      refine lv_aload_n hx hb dX4_hits_147 rfl (lv_at hl 6 rfl) ?_
      refine lv_iconst (v := 2) hx hb dX4_hits_148 (by decide) ?_
      refine lv_iconst (v := 2) hx hb dX4_hits_149 (by decide) ?_
      refine lv_iconst (v := 1) hx hb dX4_hits_150 (by decide) ?_
      refine lv_iload hx hb dX4_hits_151 (lv_at hl 3 rfl) ?_
      refine lv_isub hx hb dX4_hits_153 ?_
      refine lv_imul hx hb dX4_hits_154 ?_
      obtain ⟨M58, eM58, hf⟩ := bs_ hf
      refine mg_iast hx hb hKn hH eM58 dX4_hits_155 (fun H locs hH => ?_)
      refine lv_iconst (v := 1) hx hb dX4_hits_156 (by decide) ?_
      cases hf
      exact rt_b (b := true) hx hb hr hlk hH dX4_hits_157
    · have hf := in_ c88 hf
      refine lv_aload_n hx hb dX4_hits_109 rfl (lv_at hl 6 rfl) ?_
      refine lv_iload hx hb dX4_hits_110 (lv_at hl 0 rfl) ?_
      refine lv_iconst (v := 0) hx hb dX4_hits_112 (by decide) ?_
      obtain ⟨r59, er59⟩ : ∃ z, z = fX4_ofP r6 0 := ⟨_, rfl⟩
      have hf := lu_ er59 hf
      refine cl_i0 hH (rn_S ⟨hx, hb, hml, hown, hts⟩ hKn hH (mX4_ofP l G M54 n r6 0 r59 er59.symm) (va_cwS 2 hts (lw_S q1170 q1171 q70 q1172) rfl rfl rfl kdX4_ofP ⟨Nat.le_of_ble_eq_true rfl, Nat.le_of_ble_eq_true rfl⟩) rfl hl.1 (Nat.le_of_ble_eq_true rfl) dX4_hits_113 ⟨(Nat.le_of_ble_eq_true rfl), (Nat.le_of_ble_eq_true rfl)⟩ rfl) (fun H locs hH => ?_)
      obtain ⟨v60, ev60, hf⟩ := bs_ hf
      refine mg_iald hx hb hKn hH ev60 dX4_hits_116 ?_
      refine lv_iload hx hb dX4_hits_117 (lv_at hl 2 rfl) ?_
      obtain ⟨r61, er61⟩ : ∃ z, z = fX4_wayOf v60 r4 := ⟨_, rfl⟩
      have hf := lu_ er61 hf
      refine cl_i0 hH (rn_S ⟨hx, hb, hml, hown, hts⟩ hKn hH (mX4_wayOf l G M54 n v60 r4 r61 er61.symm) (va_cwS 2 hts (lw_S q1310 q1311 q70 q1312) rfl rfl rfl kdX4_wayOf ⟨Nat.le_of_ble_eq_true rfl, Nat.le_of_ble_eq_true rfl⟩) rfl hl.1 (Nat.le_of_ble_eq_true rfl) dX4_hits_119 ⟨(Nat.le_of_ble_eq_true rfl), (Nat.le_of_ble_eq_true rfl)⟩ rfl) (fun H locs hH => ?_)
      refine lv_aload_n hx hb dX4_hits_122 rfl (lv_at hl 6 rfl) ?_
      refine lv_iload hx hb dX4_hits_123 (lv_at hl 0 rfl) ?_
      refine lv_iload hx hb dX4_hits_125 (lv_at hl 1 rfl) ?_
      obtain ⟨r62, er62, hf⟩ := bs_ hf
      refine cl_i0 hH (rn_S ⟨hx, hb, hml, hown, hts⟩ hKn hH (mX4_stepsIn l G M54 n a1 r6 r5 r62 er62) (va_cwS 3 hts (lw_S q1328 q1329 q70 q1330) rfl rfl rfl kdX4_stepsIn ⟨Nat.le_of_ble_eq_true rfl, Nat.le_of_ble_eq_true rfl⟩) rfl hl.1 (Nat.le_of_ble_eq_true rfl) dX4_hits_127 ⟨(Nat.le_of_ble_eq_true rfl), (Nat.le_of_ble_eq_true rfl)⟩ rfl) (fun H locs hH => ?_)
      refine lv_icmp_le (tgt := 158) hx hb dX4_hits_130 (by decide) (fun c87 => ?_) (fun c87 => ?_)
      · have hf := ip_ c87 hf
        refine lv_aload_n hx hb dX4_hits_158 rfl (lv_at hl 6 rfl) ?_
        refine lv_iload hx hb dX4_hits_159 (lv_at hl 0 rfl) ?_
        refine lv_iconst (v := 0) hx hb dX4_hits_161 (by decide) ?_
        obtain ⟨r63, er63⟩ : ∃ z, z = fX4_ofP r6 0 := ⟨_, rfl⟩
        have hf := lu_ er63 hf
        refine cl_i0 hH (rn_S ⟨hx, hb, hml, hown, hts⟩ hKn hH (mX4_ofP l G M54 n r6 0 r63 er63.symm) (va_cwS 2 hts (lw_S q1170 q1171 q70 q1172) rfl rfl rfl kdX4_ofP ⟨Nat.le_of_ble_eq_true rfl, Nat.le_of_ble_eq_true rfl⟩) rfl hl.1 (Nat.le_of_ble_eq_true rfl) dX4_hits_162 ⟨(Nat.le_of_ble_eq_true rfl), (Nat.le_of_ble_eq_true rfl)⟩ rfl) (fun H locs hH => ?_)
        obtain ⟨v64, ev64, hf⟩ := bs_ hf
        refine mg_iald hx hb hKn hH ev64 dX4_hits_165 ?_
        refine lv_iload hx hb dX4_hits_166 (lv_at hl 2 rfl) ?_
        obtain ⟨r65, er65⟩ : ∃ z, z = fX4_wayOf v64 r4 := ⟨_, rfl⟩
        have hf := lu_ er65 hf
        refine cl_i0 hH (rn_S ⟨hx, hb, hml, hown, hts⟩ hKn hH (mX4_wayOf l G M54 n v64 r4 r65 er65.symm) (va_cwS 2 hts (lw_S q1310 q1311 q70 q1312) rfl rfl rfl kdX4_wayOf ⟨Nat.le_of_ble_eq_true rfl, Nat.le_of_ble_eq_true rfl⟩) rfl hl.1 (Nat.le_of_ble_eq_true rfl) dX4_hits_168 ⟨(Nat.le_of_ble_eq_true rfl), (Nat.le_of_ble_eq_true rfl)⟩ rfl) (fun H locs hH => ?_)
        refine lv_istore (lv' := [(9, .int r65), (8, .int r6), (7, .int r5), (6, .int r4), (5, .int v3), (4, .int v1), (0, .ref a0), (1, .ref a1), (2, .int a2), (3, .int a3)]) hx hb dX4_hits_171 hl (by decide) rfl (fun ls hl => ?_)
        refine lv_aload_n hx hb dX4_hits_173 rfl (lv_at hl 6 rfl) ?_
        refine lv_aload_n hx hb dX4_hits_174 rfl (lv_at hl 7 rfl) ?_
        refine lv_iload hx hb dX4_hits_175 (lv_at hl 1 rfl) ?_
        refine lv_iload hx hb dX4_hits_177 (lv_at hl 3 rfl) ?_
        obtain ⟨u66, eu66, hf⟩ := bs_ hf
        obtain ⟨M68, er67, hf⟩ := bs_ hf
        refine cl_v0 hH (rn_V ⟨hx, hb, hml, hown, hts⟩ hKn hH (mX4_moves l G M54 n a0 a1 r6 r4 M68 er67) (cwV 3 hts (lw_V q1331 q1333 qs47 q70 q1334) rfl rfl rfl ⟨rfl, kdX4_moves⟩ ⟨Nat.le_of_ble_eq_true rfl, Nat.le_of_ble_eq_true rfl⟩) eu66 rfl rfl hl.1 (Nat.le_of_ble_eq_true rfl) dX4_hits_179 ⟨(Nat.le_of_ble_eq_true rfl), (Nat.le_of_ble_eq_true rfl)⟩ rfl) (fun H locs hH => ?_)
        refine lv_aload_n hx hb dX4_hits_182 rfl (lv_at hl 7 rfl) ?_
        refine lv_iload hx hb dX4_hits_183 (lv_at hl 1 rfl) ?_
        refine lv_iload hx hb dX4_hits_185 (lv_at hl 0 rfl) ?_
        obtain ⟨M70, er69, hf⟩ := bs_ hf
        refine cl_v0 hH (rn_S ⟨hx, hb, hml, hown, hts⟩ hKn hH (mX4_isTired l G M68 n a1 r6 r65 M70 er69) (va_cwS 3 hts (lw_S q1319 q1320 q70 q1321) rfl rfl rfl kdX4_isTired ⟨Nat.le_of_ble_eq_true rfl, Nat.le_of_ble_eq_true rfl⟩) rfl hl.1 (Nat.le_of_ble_eq_true rfl) dX4_hits_187 ⟨(Nat.le_of_ble_eq_true rfl), (Nat.le_of_ble_eq_true rfl)⟩ rfl) (fun H locs hH => ?_)
        refine lv_aload_n hx hb dX4_hits_190 rfl (lv_at hl 7 rfl) ?_
        refine lv_iconst (v := 2) hx hb dX4_hits_191 (by decide) ?_
        refine lv_iload hx hb dX4_hits_192 (lv_at hl 1 rfl) ?_
        obtain ⟨M71, eM71, hf⟩ := bs_ hf
        refine mg_iast hx hb hKn hH eM71 dX4_hits_194 (fun H locs hH => ?_)
        refine lv_iload hx hb dX4_hits_195 (lv_at hl 1 rfl) ?_
        obtain ⟨r72, er72⟩ : ∃ z, z = fX4_partner r6 := ⟨_, rfl⟩
        have hf := lu_ er72 hf
        refine cl_i0 hH (rn_S ⟨hx, hb, hml, hown, hts⟩ hKn hH (mX4_partner l G M71 n r6 r72 er72.symm) (va_cwS 1 hts (lw_S q1335 q1336 q70 q1337) rfl rfl rfl kdX4_partner ⟨Nat.le_of_ble_eq_true rfl, Nat.le_of_ble_eq_true rfl⟩) rfl hl.1 (Nat.le_of_ble_eq_true rfl) dX4_hits_197 ⟨(Nat.le_of_ble_eq_true rfl), (Nat.le_of_ble_eq_true rfl)⟩ rfl) (fun H locs hH => ?_)
        refine lv_istore (lv' := [(10, .int r72), (9, .int r65), (8, .int r6), (7, .int r5), (6, .int r4), (5, .int v3), (4, .int v1), (0, .ref a0), (1, .ref a1), (2, .int a2), (3, .int a3)]) hx hb dX4_hits_200 hl (by decide) rfl (fun ls hl => ?_)
        refine lv_aload_n hx hb dX4_hits_202 rfl (lv_at hl 7 rfl) ?_
        refine lv_aload_n hx hb dX4_hits_203 rfl (lv_at hl 8 rfl) ?_
        refine lv_iload hx hb dX4_hits_204 (lv_at hl 0 rfl) ?_
        refine lv_aload_n hx hb dX4_hits_206 rfl (lv_at hl 8 rfl) ?_
        refine lv_iload hx hb dX4_hits_207 (lv_at hl 0 rfl) ?_
        refine lv_iconst (v := 0) hx hb dX4_hits_209 (by decide) ?_
        obtain ⟨r73, er73⟩ : ∃ z, z = fX4_ofP r72 0 := ⟨_, rfl⟩
        have hf := lu_ er73 hf
        refine cl_i0 hH (rn_S ⟨hx, hb, hml, hown, hts⟩ hKn hH (mX4_ofP l G M71 n r72 0 r73 er73.symm) (va_cwS 2 hts (lw_S q1170 q1171 q70 q1172) rfl rfl rfl kdX4_ofP ⟨Nat.le_of_ble_eq_true rfl, Nat.le_of_ble_eq_true rfl⟩) rfl hl.1 (Nat.le_of_ble_eq_true rfl) dX4_hits_210 ⟨(Nat.le_of_ble_eq_true rfl), (Nat.le_of_ble_eq_true rfl)⟩ rfl) (fun H locs hH => ?_)
        obtain ⟨v74, ev74, hf⟩ := bs_ hf
        refine mg_iald hx hb hKn hH ev74 dX4_hits_213 ?_
        refine lv_aload_n hx hb dX4_hits_214 rfl (lv_at hl 8 rfl) ?_
        refine lv_iload hx hb dX4_hits_215 (lv_at hl 5 rfl) ?_
        refine lv_iconst (v := 0) hx hb dX4_hits_217 (by decide) ?_
        obtain ⟨r75, er75⟩ : ∃ z, z = fX4_ofSide v3 0 := ⟨_, rfl⟩
        have hf := lu_ er75 hf
        refine cl_i0 hH (rn_S ⟨hx, hb, hml, hown, hts⟩ hKn hH (mX4_ofSide l G M71 n v3 0 r75 er75.symm) (va_cwS 2 hts (lw_S q1173 q1174 q70 q1175) rfl rfl rfl kdX4_ofSide ⟨Nat.le_of_ble_eq_true rfl, Nat.le_of_ble_eq_true rfl⟩) rfl hl.1 (Nat.le_of_ble_eq_true rfl) dX4_hits_218 ⟨(Nat.le_of_ble_eq_true rfl), (Nat.le_of_ble_eq_true rfl)⟩ rfl) (fun H locs hH => ?_)
        obtain ⟨v76, ev76, hf⟩ := bs_ hf
        refine mg_iald hx hb hKn hH ev76 dX4_hits_221 ?_
        refine lv_iload hx hb dX4_hits_222 (lv_at hl 4 rfl) ?_
        obtain ⟨r77, er77⟩ : ∃ z, z = fX4_placeFor v76 r4 := ⟨_, rfl⟩
        have hf := lu_ er77 hf
        refine cl_i0 hH (rn_S ⟨hx, hb, hml, hown, hts⟩ hKn hH (mX4_placeFor l G M71 n v76 r4 r77 er77.symm) (va_cwS 2 hts (lw_S q1338 q1339 q70 q1340) rfl rfl rfl kdX4_placeFor ⟨Nat.le_of_ble_eq_true rfl, Nat.le_of_ble_eq_true rfl⟩) rfl hl.1 (Nat.le_of_ble_eq_true rfl) dX4_hits_224 ⟨(Nat.le_of_ble_eq_true rfl), (Nat.le_of_ble_eq_true rfl)⟩ rfl) (fun H locs hH => ?_)
        refine lv_aload_n hx hb dX4_hits_227 rfl (lv_at hl 8 rfl) ?_
        refine lv_iload hx hb dX4_hits_228 (lv_at hl 0 rfl) ?_
        refine lv_iload hx hb dX4_hits_230 (lv_at hl 3 rfl) ?_
        obtain ⟨r78, er78, hf⟩ := bs_ hf
        refine cl_i0 hH (rn_S ⟨hx, hb, hml, hown, hts⟩ hKn hH (mX4_stepsIn l G M71 n a1 r72 r5 r78 er78) (va_cwS 3 hts (lw_S q1328 q1329 q70 q1330) rfl rfl rfl kdX4_stepsIn ⟨Nat.le_of_ble_eq_true rfl, Nat.le_of_ble_eq_true rfl⟩) rfl hl.1 (Nat.le_of_ble_eq_true rfl) dX4_hits_232 ⟨(Nat.le_of_ble_eq_true rfl), (Nat.le_of_ble_eq_true rfl)⟩ rfl) (fun H locs hH => ?_)
        obtain ⟨r79, er79, hf⟩ := bs_ hf
        refine cl_i0 hH (rn_S ⟨hx, hb, hml, hown, hts⟩ hKn hH (mX4_towards l G M71 n v74 r77 r78 r79 er79) (va_cwS 3 hts (lw_S q1341 q1342 q70 q1343) rfl rfl rfl kdX4_towards ⟨Nat.le_of_ble_eq_true rfl, Nat.le_of_ble_eq_true rfl⟩) rfl hl.1 (Nat.le_of_ble_eq_true rfl) dX4_hits_235 ⟨(Nat.le_of_ble_eq_true rfl), (Nat.le_of_ble_eq_true rfl)⟩ rfl) (fun H locs hH => ?_)
        obtain ⟨u80, eu80, hf⟩ := bs_ hf
        obtain ⟨M82, er81, hf⟩ := bs_ hf
        refine cl_v0 hH (rn_V ⟨hx, hb, hml, hown, hts⟩ hKn hH (mX4_moves l G M71 n a0 a1 r72 r79 M82 er81) (cwV 3 hts (lw_V q1331 q1333 qs47 q70 q1334) rfl rfl rfl ⟨rfl, kdX4_moves⟩ ⟨Nat.le_of_ble_eq_true rfl, Nat.le_of_ble_eq_true rfl⟩) eu80 rfl rfl hl.1 (Nat.le_of_ble_eq_true rfl) dX4_hits_238 ⟨(Nat.le_of_ble_eq_true rfl), (Nat.le_of_ble_eq_true rfl)⟩ rfl) (fun H locs hH => ?_)
        refine lv_iconst (v := 0) hx hb dX4_hits_241 (by decide) ?_
        cases hf
        exact rt_b (b := false) hx hb hr hlk hH dX4_hits_242
      · have hf := in_ c87 hf
        refine lv_aload_n hx hb dX4_hits_133 rfl (lv_at hl 6 rfl) ?_
        refine lv_iconst (v := 1) hx hb dX4_hits_134 (by decide) ?_
        refine lv_iload hx hb dX4_hits_135 (lv_at hl 3 rfl) ?_
        refine lv_isub hx hb dX4_hits_137 ?_
        refine lv_iconst (v := 2) hx hb dX4_hits_138 (by decide) ?_
        obtain ⟨r83, er83⟩ : ∃ z, z = fX4_ofSide (1 - v3) 2 := ⟨_, rfl⟩
        have hf := lu_ er83 hf
        refine cl_i0 hH (rn_S ⟨hx, hb, hml, hown, hts⟩ hKn hH (mX4_ofSide l G M54 n (1 - v3) 2 r83 er83.symm) (va_cwS 2 hts (lw_S q1173 q1174 q70 q1175) rfl rfl rfl kdX4_ofSide ⟨Nat.le_of_ble_eq_true rfl, Nat.le_of_ble_eq_true rfl⟩) rfl hl.1 (Nat.le_of_ble_eq_true rfl) dX4_hits_139 ⟨(Nat.le_of_ble_eq_true rfl), (Nat.le_of_ble_eq_true rfl)⟩ rfl) (fun H locs hH => ?_)
        refine lv_dup2_11 hx hb dX4_hits_142 rfl rfl ?_
        obtain ⟨v84, ev84, hf⟩ := bs_ hf
        refine mg_iald hx hb hKn hH ev84 dX4_hits_143 ?_
        refine lv_iconst (v := 1) hx hb dX4_hits_144 (by decide) ?_
        refine lv_iadd hx hb dX4_hits_145 ?_
        obtain ⟨M85, eM85, hf⟩ := bs_ hf
        refine mg_iast hx hb hKn hH eM85 dX4_hits_146 (fun H locs hH => ?_)
        refine lv_aload_n hx hb dX4_hits_147 rfl (lv_at hl 6 rfl) ?_
        refine lv_iconst (v := 2) hx hb dX4_hits_148 (by decide) ?_
        refine lv_iconst (v := 2) hx hb dX4_hits_149 (by decide) ?_
        refine lv_iconst (v := 1) hx hb dX4_hits_150 (by decide) ?_
        refine lv_iload hx hb dX4_hits_151 (lv_at hl 3 rfl) ?_
        refine lv_isub hx hb dX4_hits_153 ?_
        refine lv_imul hx hb dX4_hits_154 ?_
        obtain ⟨M86, eM86, hf⟩ := bs_ hf
        refine mg_iast hx hb hKn hH eM86 dX4_hits_155 (fun H locs hH => ?_)
        refine lv_iconst (v := 1) hx hb dX4_hits_156 (by decide) ?_
        cases hf
        exact rt_b (b := true) hx hb hr hlk hH dX4_hits_157
def fX4_isDone (M : Mem_) (a0 : Nat) (a1 : Int32) : Option (Bool × Mem_) :=
  (gR_ M a0 3 9).bind fun v1 =>
  (aI_ M v1 0 0).bind fun v2 =>
  (gR_ M a0 3 9).bind fun v3 =>
  (aI_ M v3 0 1).bind fun v4 =>
  if a1 = 98 then
    if 8 ≤ v2 then
      some (false, M)
    else
      (gR_ M a0 3 0).bind fun v6 =>
      (aI_ M v6 0 0).bind fun v7 =>
      if v7 = 8 then
        some (false, M)
      else
        (ck_ M a0 3).bind fun u8 =>
        (fX4_adds M a0 v2 v4).bind fun M10 =>
        some (true, M10)
  else
    if a1 = 100 then
      if v2 ≤ 2 then
        (gR_ M a0 3 0).bind fun v14 =>
        (sI_ M v14 0 3 (v2 - 1)).bind fun M15 =>
        some (true, M15)
      else
        some (false, M)
    else
      if a1 = 102 then
        if 1 < v2 then
          some (false, M)
        else
          if a1 = 102 then
            if v4 ≤ 1 then
              (gR_ M a0 3 0).bind fun v25 =>
              if a1 = 102 then
                lt_ (fX4_ofSide v2 0) fun r28 =>
                (sI_ M v25 0 r28 v4).bind fun M29 =>
                some (true, M29)
              else
                lt_ (fX4_ofSide v2 1) fun r26 =>
                (sI_ M v25 0 r26 v4).bind fun M27 =>
                some (true, M27)
            else
              some (false, M)
          else
            if v4 ≤ 3 then
              (gR_ M a0 3 0).bind fun v18 =>
              if a1 = 102 then
                lt_ (fX4_ofSide v2 0) fun r21 =>
                (sI_ M v18 0 r21 v4).bind fun M22 =>
                some (true, M22)
              else
                lt_ (fX4_ofSide v2 1) fun r19 =>
                (sI_ M v18 0 r19 v4).bind fun M20 =>
                some (true, M20)
            else
              some (false, M)
      else
        if a1 = 104 then
          if 1 < v2 then
            some (false, M)
          else
            if a1 = 102 then
              if v4 ≤ 1 then
                (gR_ M a0 3 0).bind fun v42 =>
                if a1 = 102 then
                  lt_ (fX4_ofSide v2 0) fun r45 =>
                  (sI_ M v42 0 r45 v4).bind fun M46 =>
                  some (true, M46)
                else
                  lt_ (fX4_ofSide v2 1) fun r43 =>
                  (sI_ M v42 0 r43 v4).bind fun M44 =>
                  some (true, M44)
              else
                some (false, M)
            else
              if v4 ≤ 3 then
                (gR_ M a0 3 0).bind fun v35 =>
                if a1 = 102 then
                  lt_ (fX4_ofSide v2 0) fun r38 =>
                  (sI_ M v35 0 r38 v4).bind fun M39 =>
                  some (true, M39)
                else
                  lt_ (fX4_ofSide v2 1) fun r36 =>
                  (sI_ M v35 0 r36 v4).bind fun M37 =>
                  some (true, M37)
              else
                some (false, M)
        else
          if a1 = 108 then
            lt_ (fX4_isPlayer v2) fun r52 =>
            if (b2_ r52) = 0 then
              some (false, M)
            else
              (gR_ M a0 3 0).bind fun v53 =>
              lt_ (fX4_ofP v2 3) fun r54 =>
              (aI_ M v53 0 r54).bind fun v55 =>
              (sI_ M v53 0 r54 (v55 ^^^ 1)).bind fun M56 =>
              some (true, M56)
          else
            if a1 = 112 then
              lt_ (fX4_isPlayer v2) fun r59 =>
              if (b2_ r59) = 0 then
                some (false, M)
              else
                lt_ (fX4_isCell v4) fun r60 =>
                if (b2_ r60) = 0 then
                  some (false, M)
                else
                  (gR_ M a0 3 9).bind fun v61 =>
                  (aI_ M v61 0 2).bind fun v62 =>
                  lt_ (fX4_isIn v62 1 4) fun r63 =>
                  if (b2_ r63) = 0 then
                    some (false, M)
                  else
                    (gR_ M a0 3 0).bind fun v64 =>
                    lt_ (fX4_ofP v2 0) fun r65 =>
                    (sI_ M v64 0 r65 v4).bind fun M66 =>
                    (gR_ M66 a0 3 0).bind fun v67 =>
                    lt_ (fX4_ofP v2 1) fun r68 =>
                    (gR_ M66 a0 3 9).bind fun v69 =>
                    (aI_ M66 v69 0 2).bind fun v70 =>
                    (sI_ M66 v67 0 r68 v70).bind fun M71 =>
                    some (true, M71)
            else
              if a1 = 116 then
                lt_ (fX4_isPlayer v2) fun r76 =>
                if (b2_ r76) = 0 then
                  some (false, M)
                else
                  (gR_ M a0 3 0).bind fun v77 =>
                  lt_ (fX4_ofP v2 2) fun r78 =>
                  (sI_ M v77 0 r78 v4).bind fun M79 =>
                  some (true, M79)
              else
                (ck_ M a0 3).bind fun u81 =>
                (fX4_isStroke M a0 v2).bind fun r82 =>
                if (b2_ r82) = 0 then
                  some (false, M)
                else
                  lt_ (fX4_isCell v4) fun r83 =>
                  if (b2_ r83) = 0 then
                    some (false, M)
                  else
                    (ck_ M a0 3).bind fun u84 =>
                    (fX4_isOver M a0).bind fun r85 =>
                    if (b2_ r85) = 0 then
                      (gR_ M a0 3 0).bind fun v86 =>
                      (ck_ M a0 3).bind fun u87 =>
                      bw_ (fX4_hits M a0 v86 v2 v4) fun r88 M89 =>
                      some (true, M89)
                    else
                      some (false, M)
theorem kdX4_isDone : yX4_isDone.cls ≠ "java/lang/invoke/MethodHandle" ∧ yX4_isDone.cls ≠ "java/lang/invoke/VarHandle" ∧ (parseMethodDescriptor yX4_isDone.desc).map (fun d => d.parameters.length) = some 1 := by decide +kernel
set_option maxHeartbeats 4000000 in
theorem mX4_isDone (l : Launch) (G : GT_) (M : Mem_) (n : Nat) (a0 : Nat) (a1 : Int32) (r : Bool) (M1 : Mem_) (hf : fX4_isDone M a0 a1 = some (r, M1)) : Ct_ G l yX4_isDone (ws_ yX4_isDone cX4_isDone 5 (some .boolean)) ({ frames := 4, cells := 0, slots := 0, locals := 99 }) 0 0 [.ref a0, .int a1] M n (some (.int (b2_ r))) M1 n := by
  refine en_ (by decide) (Nat.le_of_ble_eq_true rfl) ?_
  intro p e s m below meth c hx hb hr hlk hml hown hts hname hKn hH ls hl
  have hown : s.vm.findClass RX4 = some m.cls := hown
  have hl : lv_has ls 5 [(0, .ref a0), (1, .int a1)] := hl
  unfold fX4_isDone at hf
  generalize s.heap = H at hH ⊢
  refine lv_aload_n hx hb dX4_isDone_0 rfl (lv_at hl 0 rfl) ?_
  obtain ⟨v1, ev1, hf⟩ := bs_ hf
  refine mg_gR hx hb hts hown hKn hH ev1 in_X4 rfl (by decide) (hts _ q1185) (fun _ h9 => h9) dX4_isDone_1 ?_
  refine lv_iconst (v := 0) hx hb dX4_isDone_4 (by decide) ?_
  obtain ⟨v2, ev2, hf⟩ := bs_ hf
  refine mg_iald hx hb hKn hH ev2 dX4_isDone_5 ?_
  refine lv_istore_n (lv' := [(2, .int v2), (0, .ref a0), (1, .int a1)]) hx hb dX4_isDone_6 rfl hl (by decide) rfl (fun ls hl => ?_)
  refine lv_aload_n hx hb dX4_isDone_7 rfl (lv_at hl 1 rfl) ?_
  obtain ⟨v3, ev3, hf⟩ := bs_ hf
  refine mg_gR hx hb hts hown hKn hH ev3 in_X4 rfl (by decide) (hts _ q1185) (fun _ h9 => h9) dX4_isDone_8 ?_
  refine lv_iconst (v := 1) hx hb dX4_isDone_11 (by decide) ?_
  obtain ⟨v4, ev4, hf⟩ := bs_ hf
  refine mg_iald hx hb hKn hH ev4 dX4_isDone_12 ?_
  refine lv_istore_n (lv' := [(3, .int v4), (2, .int v2), (0, .ref a0), (1, .int a1)]) hx hb dX4_isDone_13 rfl hl (by decide) rfl (fun ls hl => ?_)
  refine lv_iload_n hx hb dX4_isDone_14 rfl (lv_at hl 3 rfl) ?_
  by_cases c5 : a1 = 98
  · have hf := ip_ c5 hf
    refine sw_I (off := 89) (tgt := 104) hx hb dX4_isDone_15 c5 (by decide) (by decide) (by decide) (by decide) ?_
    refine lv_iload_n hx hb dX4_isDone_104 rfl (lv_at hl 1 rfl) ?_
    refine lv_bipush (v := 8) hx hb dX4_isDone_105 (by decide) ?_
    refine lv_icmp_ge (tgt := 121) hx hb dX4_isDone_107 (by decide) (fun c12 => ?_) (fun c12 => ?_)
    · have hf := ip_ c12 hf
      refine lv_iconst (v := 0) hx hb dX4_isDone_121 (by decide) ?_
      cases hf
      exact rt_b (b := false) hx hb hr hlk hH dX4_isDone_122
    · have hf := in_ c12 hf
      refine lv_aload_n hx hb dX4_isDone_110 rfl (lv_at hl 2 rfl) ?_
      obtain ⟨v6, ev6, hf⟩ := bs_ hf
      refine mg_gR hx hb hts hown hKn hH ev6 in_X4 rfl (by decide) (hts _ q1176) (fun _ h9 => h9) dX4_isDone_111 ?_
      refine lv_iconst (v := 0) hx hb dX4_isDone_114 (by decide) ?_
      obtain ⟨v7, ev7, hf⟩ := bs_ hf
      refine mg_iald hx hb hKn hH ev7 dX4_isDone_115 ?_
      refine lv_bipush (v := 8) hx hb dX4_isDone_116 (by decide) ?_
      refine lv_icmp_ne (tgt := 123) hx hb dX4_isDone_118 (by decide) (fun c11 => ?_) (fun c11 => ?_)
      · have hf := in_ c11 hf
        refine lv_aload_n hx hb dX4_isDone_123 rfl (lv_at hl 2 rfl) ?_
        refine lv_iload_n hx hb dX4_isDone_124 rfl (lv_at hl 1 rfl) ?_
        refine lv_iload_n hx hb dX4_isDone_125 rfl (lv_at hl 0 rfl) ?_
        obtain ⟨u8, eu8, hf⟩ := bs_ hf
        obtain ⟨M10, er9, hf⟩ := bs_ hf
        refine cl_v0 hH (rn_V ⟨hx, hb, hml, hown, hts⟩ hKn hH (mX4_adds l G M n a0 v2 v4 M10 er9) (cwV 2 hts (lw_V q1270 q1272 qs43 q70 q1273) rfl rfl rfl ⟨rfl, kdX4_adds⟩ ⟨Nat.le_of_ble_eq_true rfl, Nat.le_of_ble_eq_true rfl⟩) eu8 rfl rfl hl.1 (Nat.le_of_ble_eq_true rfl) dX4_isDone_126 ⟨(Nat.le_of_ble_eq_true rfl), (Nat.le_of_ble_eq_true rfl)⟩ rfl) (fun H locs hH => ?_)
        refine lv_iconst (v := 1) hx hb dX4_isDone_129 (by decide) ?_
        cases hf
        exact rt_b (b := true) hx hb hr hlk hH dX4_isDone_130
      · have hf := ip_ c11 hf
        refine lv_iconst (v := 0) hx hb dX4_isDone_121 (by decide) ?_
        cases hf
        exact rt_b (b := false) hx hb hr hlk hH dX4_isDone_122
  · have hf := in_ c5 hf
    by_cases c13 : a1 = 100
    · have hf := ip_ c13 hf
      refine sw_I (off := 267) (tgt := 282) hx hb dX4_isDone_15 c13 (by decide) (by decide) (by decide) (by decide) ?_
      refine lv_iload_n hx hb dX4_isDone_282 rfl (lv_at hl 1 rfl) ?_
      refine lv_iconst (v := 2) hx hb dX4_isDone_283 (by decide) ?_
      refine lv_icmp_le (tgt := 289) hx hb dX4_isDone_284 (by decide) (fun c16 => ?_) (fun c16 => ?_)
      · have hf := ip_ c16 hf
        refine lv_aload_n hx hb dX4_isDone_289 rfl (lv_at hl 2 rfl) ?_
        obtain ⟨v14, ev14, hf⟩ := bs_ hf
        refine mg_gR hx hb hts hown hKn hH ev14 in_X4 rfl (by decide) (hts _ q1176) (fun _ h9 => h9) dX4_isDone_290 ?_
        refine lv_iconst (v := 3) hx hb dX4_isDone_293 (by decide) ?_
        refine lv_iload_n hx hb dX4_isDone_294 rfl (lv_at hl 1 rfl) ?_
        refine lv_iconst (v := 1) hx hb dX4_isDone_295 (by decide) ?_
        refine lv_isub hx hb dX4_isDone_296 ?_
        obtain ⟨M15, eM15, hf⟩ := bs_ hf
        refine mg_iast hx hb hKn hH eM15 dX4_isDone_297 (fun H locs hH => ?_)
        refine lv_iconst (v := 1) hx hb dX4_isDone_298 (by decide) ?_
        cases hf
        exact rt_b (b := true) hx hb hr hlk hH dX4_isDone_299
      · have hf := in_ c16 hf
        refine lv_iconst (v := 0) hx hb dX4_isDone_287 (by decide) ?_
        cases hf
        exact rt_b (b := false) hx hb hr hlk hH dX4_isDone_288
    · have hf := in_ c13 hf
      by_cases c17 : a1 = 102
      · have hf := ip_ c17 hf
        refine sw_I (off := 222) (tgt := 237) hx hb dX4_isDone_15 c17 (by decide) (by decide) (by decide) (by decide) ?_
        refine lv_iload_n hx hb dX4_isDone_237 rfl (lv_at hl 1 rfl) ?_
        refine lv_iconst (v := 1) hx hb dX4_isDone_238 (by decide) ?_
        refine lv_icmp_gt (tgt := 257) hx hb dX4_isDone_239 (by decide) (fun c33 => ?_) (fun c33 => ?_)
        · have hf := ip_ c33 hf
          refine lv_iconst (v := 0) hx hb dX4_isDone_257 (by decide) ?_
          cases hf
          exact rt_b (b := false) hx hb hr hlk hH dX4_isDone_258
        · have hf := in_ c33 hf
          refine lv_iload_n hx hb dX4_isDone_242 rfl (lv_at hl 0 rfl) ?_
          refine lv_iload_n hx hb dX4_isDone_243 rfl (lv_at hl 3 rfl) ?_
          refine lv_bipush (v := 102) hx hb dX4_isDone_244 (by decide) ?_
          refine lv_icmp_ne (tgt := 253) hx hb dX4_isDone_246 (by decide) (fun c32 => ?_) (fun c32 => ?_)
          · have hf := in_ c32 hf
            refine lv_iconst (v := 3) hx hb dX4_isDone_253 (by decide) ?_
            refine lv_icmp_le (tgt := 259) hx hb dX4_isDone_254 (by decide) (fun c24 => ?_) (fun c24 => ?_)
            · have hf := ip_ c24 hf
              refine lv_aload_n hx hb dX4_isDone_259 rfl (lv_at hl 2 rfl) ?_
              obtain ⟨v18, ev18, hf⟩ := bs_ hf
              refine mg_gR hx hb hts hown hKn hH ev18 in_X4 rfl (by decide) (hts _ q1176) (fun _ h9 => h9) dX4_isDone_260 ?_
              refine lv_iload_n hx hb dX4_isDone_263 rfl (lv_at hl 1 rfl) ?_
              refine lv_iload_n hx hb dX4_isDone_264 rfl (lv_at hl 3 rfl) ?_
              refine lv_bipush (v := 102) hx hb dX4_isDone_265 (by decide) ?_
              refine lv_icmp_ne (tgt := 274) hx hb dX4_isDone_267 (by decide) (fun c23 => ?_) (fun c23 => ?_)
              · have hf := in_ c23 hf
                refine lv_iconst (v := 1) hx hb dX4_isDone_274 (by decide) ?_
                obtain ⟨r19, er19⟩ : ∃ z, z = fX4_ofSide v2 1 := ⟨_, rfl⟩
                have hf := lu_ er19 hf
                refine cl_i0 hH (rn_S ⟨hx, hb, hml, hown, hts⟩ hKn hH (mX4_ofSide l G M n v2 1 r19 er19.symm) (va_cwS 2 hts (lw_S q1173 q1174 q70 q1175) rfl rfl rfl kdX4_ofSide ⟨Nat.le_of_ble_eq_true rfl, Nat.le_of_ble_eq_true rfl⟩) rfl hl.1 (Nat.le_of_ble_eq_true rfl) dX4_isDone_275 ⟨(Nat.le_of_ble_eq_true rfl), (Nat.le_of_ble_eq_true rfl)⟩ rfl) (fun H locs hH => ?_)
                refine lv_iload_n hx hb dX4_isDone_278 rfl (lv_at hl 0 rfl) ?_
                obtain ⟨M20, eM20, hf⟩ := bs_ hf
                refine mg_iast hx hb hKn hH eM20 dX4_isDone_279 (fun H locs hH => ?_)
                refine lv_iconst (v := 1) hx hb dX4_isDone_280 (by decide) ?_
                cases hf
                exact rt_b (b := true) hx hb hr hlk hH dX4_isDone_281
              · have hf := ip_ c23 hf
                refine lv_iconst (v := 0) hx hb dX4_isDone_270 (by decide) ?_
                refine lv_goto (tgt := 275) hx hb dX4_isDone_271 (by decide) ?_
                obtain ⟨r21, er21⟩ : ∃ z, z = fX4_ofSide v2 0 := ⟨_, rfl⟩
                have hf := lu_ er21 hf
                refine cl_i0 hH (rn_S ⟨hx, hb, hml, hown, hts⟩ hKn hH (mX4_ofSide l G M n v2 0 r21 er21.symm) (va_cwS 2 hts (lw_S q1173 q1174 q70 q1175) rfl rfl rfl kdX4_ofSide ⟨Nat.le_of_ble_eq_true rfl, Nat.le_of_ble_eq_true rfl⟩) rfl hl.1 (Nat.le_of_ble_eq_true rfl) dX4_isDone_275 ⟨(Nat.le_of_ble_eq_true rfl), (Nat.le_of_ble_eq_true rfl)⟩ rfl) (fun H locs hH => ?_)
                refine lv_iload_n hx hb dX4_isDone_278 rfl (lv_at hl 0 rfl) ?_
                obtain ⟨M22, eM22, hf⟩ := bs_ hf
                refine mg_iast hx hb hKn hH eM22 dX4_isDone_279 (fun H locs hH => ?_)
                refine lv_iconst (v := 1) hx hb dX4_isDone_280 (by decide) ?_
                cases hf
                exact rt_b (b := true) hx hb hr hlk hH dX4_isDone_281
            · have hf := in_ c24 hf
              refine lv_iconst (v := 0) hx hb dX4_isDone_257 (by decide) ?_
              cases hf
              exact rt_b (b := false) hx hb hr hlk hH dX4_isDone_258
          · have hf := ip_ c32 hf
            refine lv_iconst (v := 1) hx hb dX4_isDone_249 (by decide) ?_
            refine lv_goto (tgt := 254) hx hb dX4_isDone_250 (by decide) ?_
            refine lv_icmp_le (tgt := 259) hx hb dX4_isDone_254 (by decide) (fun c31 => ?_) (fun c31 => ?_)
            · have hf := ip_ c31 hf
              refine lv_aload_n hx hb dX4_isDone_259 rfl (lv_at hl 2 rfl) ?_
              obtain ⟨v25, ev25, hf⟩ := bs_ hf
              refine mg_gR hx hb hts hown hKn hH ev25 in_X4 rfl (by decide) (hts _ q1176) (fun _ h9 => h9) dX4_isDone_260 ?_
              refine lv_iload_n hx hb dX4_isDone_263 rfl (lv_at hl 1 rfl) ?_
              refine lv_iload_n hx hb dX4_isDone_264 rfl (lv_at hl 3 rfl) ?_
              refine lv_bipush (v := 102) hx hb dX4_isDone_265 (by decide) ?_
              refine lv_icmp_ne (tgt := 274) hx hb dX4_isDone_267 (by decide) (fun c30 => ?_) (fun c30 => ?_)
              · have hf := in_ c30 hf
                refine lv_iconst (v := 1) hx hb dX4_isDone_274 (by decide) ?_
                obtain ⟨r26, er26⟩ : ∃ z, z = fX4_ofSide v2 1 := ⟨_, rfl⟩
                have hf := lu_ er26 hf
                refine cl_i0 hH (rn_S ⟨hx, hb, hml, hown, hts⟩ hKn hH (mX4_ofSide l G M n v2 1 r26 er26.symm) (va_cwS 2 hts (lw_S q1173 q1174 q70 q1175) rfl rfl rfl kdX4_ofSide ⟨Nat.le_of_ble_eq_true rfl, Nat.le_of_ble_eq_true rfl⟩) rfl hl.1 (Nat.le_of_ble_eq_true rfl) dX4_isDone_275 ⟨(Nat.le_of_ble_eq_true rfl), (Nat.le_of_ble_eq_true rfl)⟩ rfl) (fun H locs hH => ?_)
                refine lv_iload_n hx hb dX4_isDone_278 rfl (lv_at hl 0 rfl) ?_
                obtain ⟨M27, eM27, hf⟩ := bs_ hf
                refine mg_iast hx hb hKn hH eM27 dX4_isDone_279 (fun H locs hH => ?_)
                refine lv_iconst (v := 1) hx hb dX4_isDone_280 (by decide) ?_
                cases hf
                exact rt_b (b := true) hx hb hr hlk hH dX4_isDone_281
              · have hf := ip_ c30 hf
                refine lv_iconst (v := 0) hx hb dX4_isDone_270 (by decide) ?_
                refine lv_goto (tgt := 275) hx hb dX4_isDone_271 (by decide) ?_
                obtain ⟨r28, er28⟩ : ∃ z, z = fX4_ofSide v2 0 := ⟨_, rfl⟩
                have hf := lu_ er28 hf
                refine cl_i0 hH (rn_S ⟨hx, hb, hml, hown, hts⟩ hKn hH (mX4_ofSide l G M n v2 0 r28 er28.symm) (va_cwS 2 hts (lw_S q1173 q1174 q70 q1175) rfl rfl rfl kdX4_ofSide ⟨Nat.le_of_ble_eq_true rfl, Nat.le_of_ble_eq_true rfl⟩) rfl hl.1 (Nat.le_of_ble_eq_true rfl) dX4_isDone_275 ⟨(Nat.le_of_ble_eq_true rfl), (Nat.le_of_ble_eq_true rfl)⟩ rfl) (fun H locs hH => ?_)
                refine lv_iload_n hx hb dX4_isDone_278 rfl (lv_at hl 0 rfl) ?_
                obtain ⟨M29, eM29, hf⟩ := bs_ hf
                refine mg_iast hx hb hKn hH eM29 dX4_isDone_279 (fun H locs hH => ?_)
                refine lv_iconst (v := 1) hx hb dX4_isDone_280 (by decide) ?_
                cases hf
                exact rt_b (b := true) hx hb hr hlk hH dX4_isDone_281
            · have hf := in_ c31 hf
              refine lv_iconst (v := 0) hx hb dX4_isDone_257 (by decide) ?_
              cases hf
              exact rt_b (b := false) hx hb hr hlk hH dX4_isDone_258
      · have hf := in_ c17 hf
        by_cases c34 : a1 = 104
        · have hf := ip_ c34 hf
          refine sw_I (off := 222) (tgt := 237) hx hb dX4_isDone_15 c34 (by decide) (by decide) (by decide) (by decide) ?_
          refine lv_iload_n hx hb dX4_isDone_237 rfl (lv_at hl 1 rfl) ?_
          refine lv_iconst (v := 1) hx hb dX4_isDone_238 (by decide) ?_
          refine lv_icmp_gt (tgt := 257) hx hb dX4_isDone_239 (by decide) (fun c50 => ?_) (fun c50 => ?_)
          · have hf := ip_ c50 hf
            refine lv_iconst (v := 0) hx hb dX4_isDone_257 (by decide) ?_
            cases hf
            exact rt_b (b := false) hx hb hr hlk hH dX4_isDone_258
          · have hf := in_ c50 hf
            refine lv_iload_n hx hb dX4_isDone_242 rfl (lv_at hl 0 rfl) ?_
            refine lv_iload_n hx hb dX4_isDone_243 rfl (lv_at hl 3 rfl) ?_
            refine lv_bipush (v := 102) hx hb dX4_isDone_244 (by decide) ?_
            refine lv_icmp_ne (tgt := 253) hx hb dX4_isDone_246 (by decide) (fun c49 => ?_) (fun c49 => ?_)
            · have hf := in_ c49 hf
              refine lv_iconst (v := 3) hx hb dX4_isDone_253 (by decide) ?_
              refine lv_icmp_le (tgt := 259) hx hb dX4_isDone_254 (by decide) (fun c41 => ?_) (fun c41 => ?_)
              · have hf := ip_ c41 hf
                refine lv_aload_n hx hb dX4_isDone_259 rfl (lv_at hl 2 rfl) ?_
                obtain ⟨v35, ev35, hf⟩ := bs_ hf
                refine mg_gR hx hb hts hown hKn hH ev35 in_X4 rfl (by decide) (hts _ q1176) (fun _ h9 => h9) dX4_isDone_260 ?_
                refine lv_iload_n hx hb dX4_isDone_263 rfl (lv_at hl 1 rfl) ?_
                refine lv_iload_n hx hb dX4_isDone_264 rfl (lv_at hl 3 rfl) ?_
                refine lv_bipush (v := 102) hx hb dX4_isDone_265 (by decide) ?_
                refine lv_icmp_ne (tgt := 274) hx hb dX4_isDone_267 (by decide) (fun c40 => ?_) (fun c40 => ?_)
                · have hf := in_ c40 hf
                  refine lv_iconst (v := 1) hx hb dX4_isDone_274 (by decide) ?_
                  obtain ⟨r36, er36⟩ : ∃ z, z = fX4_ofSide v2 1 := ⟨_, rfl⟩
                  have hf := lu_ er36 hf
                  refine cl_i0 hH (rn_S ⟨hx, hb, hml, hown, hts⟩ hKn hH (mX4_ofSide l G M n v2 1 r36 er36.symm) (va_cwS 2 hts (lw_S q1173 q1174 q70 q1175) rfl rfl rfl kdX4_ofSide ⟨Nat.le_of_ble_eq_true rfl, Nat.le_of_ble_eq_true rfl⟩) rfl hl.1 (Nat.le_of_ble_eq_true rfl) dX4_isDone_275 ⟨(Nat.le_of_ble_eq_true rfl), (Nat.le_of_ble_eq_true rfl)⟩ rfl) (fun H locs hH => ?_)
                  refine lv_iload_n hx hb dX4_isDone_278 rfl (lv_at hl 0 rfl) ?_
                  obtain ⟨M37, eM37, hf⟩ := bs_ hf
                  refine mg_iast hx hb hKn hH eM37 dX4_isDone_279 (fun H locs hH => ?_)
                  refine lv_iconst (v := 1) hx hb dX4_isDone_280 (by decide) ?_
                  cases hf
                  exact rt_b (b := true) hx hb hr hlk hH dX4_isDone_281
                · have hf := ip_ c40 hf
                  refine lv_iconst (v := 0) hx hb dX4_isDone_270 (by decide) ?_
                  refine lv_goto (tgt := 275) hx hb dX4_isDone_271 (by decide) ?_
                  obtain ⟨r38, er38⟩ : ∃ z, z = fX4_ofSide v2 0 := ⟨_, rfl⟩
                  have hf := lu_ er38 hf
                  refine cl_i0 hH (rn_S ⟨hx, hb, hml, hown, hts⟩ hKn hH (mX4_ofSide l G M n v2 0 r38 er38.symm) (va_cwS 2 hts (lw_S q1173 q1174 q70 q1175) rfl rfl rfl kdX4_ofSide ⟨Nat.le_of_ble_eq_true rfl, Nat.le_of_ble_eq_true rfl⟩) rfl hl.1 (Nat.le_of_ble_eq_true rfl) dX4_isDone_275 ⟨(Nat.le_of_ble_eq_true rfl), (Nat.le_of_ble_eq_true rfl)⟩ rfl) (fun H locs hH => ?_)
                  refine lv_iload_n hx hb dX4_isDone_278 rfl (lv_at hl 0 rfl) ?_
                  obtain ⟨M39, eM39, hf⟩ := bs_ hf
                  refine mg_iast hx hb hKn hH eM39 dX4_isDone_279 (fun H locs hH => ?_)
                  refine lv_iconst (v := 1) hx hb dX4_isDone_280 (by decide) ?_
                  cases hf
                  exact rt_b (b := true) hx hb hr hlk hH dX4_isDone_281
              · have hf := in_ c41 hf
                refine lv_iconst (v := 0) hx hb dX4_isDone_257 (by decide) ?_
                cases hf
                exact rt_b (b := false) hx hb hr hlk hH dX4_isDone_258
            · have hf := ip_ c49 hf
              refine lv_iconst (v := 1) hx hb dX4_isDone_249 (by decide) ?_
              refine lv_goto (tgt := 254) hx hb dX4_isDone_250 (by decide) ?_
              refine lv_icmp_le (tgt := 259) hx hb dX4_isDone_254 (by decide) (fun c48 => ?_) (fun c48 => ?_)
              · have hf := ip_ c48 hf
                refine lv_aload_n hx hb dX4_isDone_259 rfl (lv_at hl 2 rfl) ?_
                obtain ⟨v42, ev42, hf⟩ := bs_ hf
                refine mg_gR hx hb hts hown hKn hH ev42 in_X4 rfl (by decide) (hts _ q1176) (fun _ h9 => h9) dX4_isDone_260 ?_
                refine lv_iload_n hx hb dX4_isDone_263 rfl (lv_at hl 1 rfl) ?_
                refine lv_iload_n hx hb dX4_isDone_264 rfl (lv_at hl 3 rfl) ?_
                refine lv_bipush (v := 102) hx hb dX4_isDone_265 (by decide) ?_
                refine lv_icmp_ne (tgt := 274) hx hb dX4_isDone_267 (by decide) (fun c47 => ?_) (fun c47 => ?_)
                · have hf := in_ c47 hf
                  refine lv_iconst (v := 1) hx hb dX4_isDone_274 (by decide) ?_
                  obtain ⟨r43, er43⟩ : ∃ z, z = fX4_ofSide v2 1 := ⟨_, rfl⟩
                  have hf := lu_ er43 hf
                  refine cl_i0 hH (rn_S ⟨hx, hb, hml, hown, hts⟩ hKn hH (mX4_ofSide l G M n v2 1 r43 er43.symm) (va_cwS 2 hts (lw_S q1173 q1174 q70 q1175) rfl rfl rfl kdX4_ofSide ⟨Nat.le_of_ble_eq_true rfl, Nat.le_of_ble_eq_true rfl⟩) rfl hl.1 (Nat.le_of_ble_eq_true rfl) dX4_isDone_275 ⟨(Nat.le_of_ble_eq_true rfl), (Nat.le_of_ble_eq_true rfl)⟩ rfl) (fun H locs hH => ?_)
                  refine lv_iload_n hx hb dX4_isDone_278 rfl (lv_at hl 0 rfl) ?_
                  obtain ⟨M44, eM44, hf⟩ := bs_ hf
                  refine mg_iast hx hb hKn hH eM44 dX4_isDone_279 (fun H locs hH => ?_)
                  refine lv_iconst (v := 1) hx hb dX4_isDone_280 (by decide) ?_
                  cases hf
                  exact rt_b (b := true) hx hb hr hlk hH dX4_isDone_281
                · have hf := ip_ c47 hf
                  refine lv_iconst (v := 0) hx hb dX4_isDone_270 (by decide) ?_
                  refine lv_goto (tgt := 275) hx hb dX4_isDone_271 (by decide) ?_
                  obtain ⟨r45, er45⟩ : ∃ z, z = fX4_ofSide v2 0 := ⟨_, rfl⟩
                  have hf := lu_ er45 hf
                  refine cl_i0 hH (rn_S ⟨hx, hb, hml, hown, hts⟩ hKn hH (mX4_ofSide l G M n v2 0 r45 er45.symm) (va_cwS 2 hts (lw_S q1173 q1174 q70 q1175) rfl rfl rfl kdX4_ofSide ⟨Nat.le_of_ble_eq_true rfl, Nat.le_of_ble_eq_true rfl⟩) rfl hl.1 (Nat.le_of_ble_eq_true rfl) dX4_isDone_275 ⟨(Nat.le_of_ble_eq_true rfl), (Nat.le_of_ble_eq_true rfl)⟩ rfl) (fun H locs hH => ?_)
                  refine lv_iload_n hx hb dX4_isDone_278 rfl (lv_at hl 0 rfl) ?_
                  obtain ⟨M46, eM46, hf⟩ := bs_ hf
                  refine mg_iast hx hb hKn hH eM46 dX4_isDone_279 (fun H locs hH => ?_)
                  refine lv_iconst (v := 1) hx hb dX4_isDone_280 (by decide) ?_
                  cases hf
                  exact rt_b (b := true) hx hb hr hlk hH dX4_isDone_281
              · have hf := in_ c48 hf
                refine lv_iconst (v := 0) hx hb dX4_isDone_257 (by decide) ?_
                cases hf
                exact rt_b (b := false) hx hb hr hlk hH dX4_isDone_258
        · have hf := in_ c34 hf
          by_cases c51 : a1 = 108
          · have hf := ip_ c51 hf
            refine sw_I (off := 197) (tgt := 212) hx hb dX4_isDone_15 c51 (by decide) (by decide) (by decide) (by decide) ?_
            refine lv_iload_n hx hb dX4_isDone_212 rfl (lv_at hl 1 rfl) ?_
            obtain ⟨r52, er52⟩ : ∃ z, z = fX4_isPlayer v2 := ⟨_, rfl⟩
            have hf := lu_ er52 hf
            refine cl_i0 hH (rn_S ⟨hx, hb, hml, hown, hts⟩ hKn hH (mX4_isPlayer l G M n v2 r52 er52.symm) (va_cwS 1 hts (lw_S q1277 q1278 q70 q1279) rfl rfl rfl kdX4_isPlayer ⟨Nat.le_of_ble_eq_true rfl, Nat.le_of_ble_eq_true rfl⟩) rfl hl.1 (Nat.le_of_ble_eq_true rfl) dX4_isDone_213 ⟨(Nat.le_of_ble_eq_true rfl), (Nat.le_of_ble_eq_true rfl)⟩ rfl) (fun H locs hH => ?_)
            refine lv_if_ne (tgt := 221) hx hb dX4_isDone_216 (by decide) (fun c57 => ?_) (fun c57 => ?_)
            · have hf := in_ c57 hf
              refine lv_aload_n hx hb dX4_isDone_221 rfl (lv_at hl 2 rfl) ?_
              obtain ⟨v53, ev53, hf⟩ := bs_ hf
              refine mg_gR hx hb hts hown hKn hH ev53 in_X4 rfl (by decide) (hts _ q1176) (fun _ h9 => h9) dX4_isDone_222 ?_
              refine lv_iload_n hx hb dX4_isDone_225 rfl (lv_at hl 1 rfl) ?_
              refine lv_iconst (v := 3) hx hb dX4_isDone_226 (by decide) ?_
              obtain ⟨r54, er54⟩ : ∃ z, z = fX4_ofP v2 3 := ⟨_, rfl⟩
              have hf := lu_ er54 hf
              refine cl_i0 hH (rn_S ⟨hx, hb, hml, hown, hts⟩ hKn hH (mX4_ofP l G M n v2 3 r54 er54.symm) (va_cwS 2 hts (lw_S q1170 q1171 q70 q1172) rfl rfl rfl kdX4_ofP ⟨Nat.le_of_ble_eq_true rfl, Nat.le_of_ble_eq_true rfl⟩) rfl hl.1 (Nat.le_of_ble_eq_true rfl) dX4_isDone_227 ⟨(Nat.le_of_ble_eq_true rfl), (Nat.le_of_ble_eq_true rfl)⟩ rfl) (fun H locs hH => ?_)
              refine lv_dup2_11 hx hb dX4_isDone_230 rfl rfl ?_
              obtain ⟨v55, ev55, hf⟩ := bs_ hf
              refine mg_iald hx hb hKn hH ev55 dX4_isDone_231 ?_
              refine lv_iconst (v := 1) hx hb dX4_isDone_232 (by decide) ?_
              refine lv_ixor hx hb dX4_isDone_233 ?_
              obtain ⟨M56, eM56, hf⟩ := bs_ hf
              refine mg_iast hx hb hKn hH eM56 dX4_isDone_234 (fun H locs hH => ?_)
              refine lv_iconst (v := 1) hx hb dX4_isDone_235 (by decide) ?_
              cases hf
              exact rt_b (b := true) hx hb hr hlk hH dX4_isDone_236
            · have hf := ip_ c57 hf
              refine lv_iconst (v := 0) hx hb dX4_isDone_219 (by decide) ?_
              cases hf
              exact rt_b (b := false) hx hb hr hlk hH dX4_isDone_220
          · have hf := in_ c51 hf
            by_cases c58 : a1 = 112
            · have hf := ip_ c58 hf
              refine sw_I (off := 116) (tgt := 131) hx hb dX4_isDone_15 c58 (by decide) (by decide) (by decide) (by decide) ?_
              refine lv_iload_n hx hb dX4_isDone_131 rfl (lv_at hl 1 rfl) ?_
              obtain ⟨r59, er59⟩ : ∃ z, z = fX4_isPlayer v2 := ⟨_, rfl⟩
              have hf := lu_ er59 hf
              refine cl_i0 hH (rn_S ⟨hx, hb, hml, hown, hts⟩ hKn hH (mX4_isPlayer l G M n v2 r59 er59.symm) (va_cwS 1 hts (lw_S q1277 q1278 q70 q1279) rfl rfl rfl kdX4_isPlayer ⟨Nat.le_of_ble_eq_true rfl, Nat.le_of_ble_eq_true rfl⟩) rfl hl.1 (Nat.le_of_ble_eq_true rfl) dX4_isDone_132 ⟨(Nat.le_of_ble_eq_true rfl), (Nat.le_of_ble_eq_true rfl)⟩ rfl) (fun H locs hH => ?_)
              refine lv_if_eq (tgt := 159) hx hb dX4_isDone_135 (by decide) (fun c74 => ?_) (fun c74 => ?_)
              · have hf := ip_ c74 hf
                refine lv_iconst (v := 0) hx hb dX4_isDone_159 (by decide) ?_
                cases hf
                exact rt_b (b := false) hx hb hr hlk hH dX4_isDone_160
              · have hf := in_ c74 hf
                refine lv_iload_n hx hb dX4_isDone_138 rfl (lv_at hl 0 rfl) ?_
                obtain ⟨r60, er60⟩ : ∃ z, z = fX4_isCell v4 := ⟨_, rfl⟩
                have hf := lu_ er60 hf
                refine cl_i0 hH (rn_S ⟨hx, hb, hml, hown, hts⟩ hKn hH (mX4_isCell l G M n v4 r60 er60.symm) (va_cwS 1 hts (lw_S q1280 q1281 q70 q1282) rfl rfl rfl kdX4_isCell ⟨Nat.le_of_ble_eq_true rfl, Nat.le_of_ble_eq_true rfl⟩) rfl hl.1 (Nat.le_of_ble_eq_true rfl) dX4_isDone_139 ⟨(Nat.le_of_ble_eq_true rfl), (Nat.le_of_ble_eq_true rfl)⟩ rfl) (fun H locs hH => ?_)
                refine lv_if_eq (tgt := 159) hx hb dX4_isDone_142 (by decide) (fun c73 => ?_) (fun c73 => ?_)
                · have hf := ip_ c73 hf
                  refine lv_iconst (v := 0) hx hb dX4_isDone_159 (by decide) ?_
                  cases hf
                  exact rt_b (b := false) hx hb hr hlk hH dX4_isDone_160
                · have hf := in_ c73 hf
                  refine lv_aload_n hx hb dX4_isDone_145 rfl (lv_at hl 2 rfl) ?_
                  obtain ⟨v61, ev61, hf⟩ := bs_ hf
                  refine mg_gR hx hb hts hown hKn hH ev61 in_X4 rfl (by decide) (hts _ q1185) (fun _ h9 => h9) dX4_isDone_146 ?_
                  refine lv_iconst (v := 2) hx hb dX4_isDone_149 (by decide) ?_
                  obtain ⟨v62, ev62, hf⟩ := bs_ hf
                  refine mg_iald hx hb hKn hH ev62 dX4_isDone_150 ?_
                  refine lv_iconst (v := 1) hx hb dX4_isDone_151 (by decide) ?_
                  refine lv_iconst (v := 4) hx hb dX4_isDone_152 (by decide) ?_
                  obtain ⟨r63, er63⟩ : ∃ z, z = fX4_isIn v62 1 4 := ⟨_, rfl⟩
                  have hf := lu_ er63 hf
                  refine cl_i0 hH (rn_S ⟨hx, hb, hml, hown, hts⟩ hKn hH (mX4_isIn l G M n v62 1 4 r63 er63.symm) (va_cwS 3 hts (lw_S q1248 q1249 q70 q1250) rfl rfl rfl kdX4_isIn ⟨Nat.le_of_ble_eq_true rfl, Nat.le_of_ble_eq_true rfl⟩) rfl hl.1 (Nat.le_of_ble_eq_true rfl) dX4_isDone_153 ⟨(Nat.le_of_ble_eq_true rfl), (Nat.le_of_ble_eq_true rfl)⟩ rfl) (fun H locs hH => ?_)
                  refine lv_if_ne (tgt := 161) hx hb dX4_isDone_156 (by decide) (fun c72 => ?_) (fun c72 => ?_)
                  · have hf := in_ c72 hf
                    refine lv_aload_n hx hb dX4_isDone_161 rfl (lv_at hl 2 rfl) ?_
                    obtain ⟨v64, ev64, hf⟩ := bs_ hf
                    refine mg_gR hx hb hts hown hKn hH ev64 in_X4 rfl (by decide) (hts _ q1176) (fun _ h9 => h9) dX4_isDone_162 ?_
                    refine lv_iload_n hx hb dX4_isDone_165 rfl (lv_at hl 1 rfl) ?_
                    refine lv_iconst (v := 0) hx hb dX4_isDone_166 (by decide) ?_
                    obtain ⟨r65, er65⟩ : ∃ z, z = fX4_ofP v2 0 := ⟨_, rfl⟩
                    have hf := lu_ er65 hf
                    refine cl_i0 hH (rn_S ⟨hx, hb, hml, hown, hts⟩ hKn hH (mX4_ofP l G M n v2 0 r65 er65.symm) (va_cwS 2 hts (lw_S q1170 q1171 q70 q1172) rfl rfl rfl kdX4_ofP ⟨Nat.le_of_ble_eq_true rfl, Nat.le_of_ble_eq_true rfl⟩) rfl hl.1 (Nat.le_of_ble_eq_true rfl) dX4_isDone_167 ⟨(Nat.le_of_ble_eq_true rfl), (Nat.le_of_ble_eq_true rfl)⟩ rfl) (fun H locs hH => ?_)
                    refine lv_iload_n hx hb dX4_isDone_170 rfl (lv_at hl 0 rfl) ?_
                    obtain ⟨M66, eM66, hf⟩ := bs_ hf
                    refine mg_iast hx hb hKn hH eM66 dX4_isDone_171 (fun H locs hH => ?_)
                    refine lv_aload_n hx hb dX4_isDone_172 rfl (lv_at hl 2 rfl) ?_
                    obtain ⟨v67, ev67, hf⟩ := bs_ hf
                    refine mg_gR hx hb hts hown hKn hH ev67 in_X4 rfl (by decide) (hts _ q1176) (fun _ h9 => h9) dX4_isDone_173 ?_
                    refine lv_iload_n hx hb dX4_isDone_176 rfl (lv_at hl 1 rfl) ?_
                    refine lv_iconst (v := 1) hx hb dX4_isDone_177 (by decide) ?_
                    obtain ⟨r68, er68⟩ : ∃ z, z = fX4_ofP v2 1 := ⟨_, rfl⟩
                    have hf := lu_ er68 hf
                    refine cl_i0 hH (rn_S ⟨hx, hb, hml, hown, hts⟩ hKn hH (mX4_ofP l G M66 n v2 1 r68 er68.symm) (va_cwS 2 hts (lw_S q1170 q1171 q70 q1172) rfl rfl rfl kdX4_ofP ⟨Nat.le_of_ble_eq_true rfl, Nat.le_of_ble_eq_true rfl⟩) rfl hl.1 (Nat.le_of_ble_eq_true rfl) dX4_isDone_178 ⟨(Nat.le_of_ble_eq_true rfl), (Nat.le_of_ble_eq_true rfl)⟩ rfl) (fun H locs hH => ?_)
                    refine lv_aload_n hx hb dX4_isDone_181 rfl (lv_at hl 2 rfl) ?_
                    obtain ⟨v69, ev69, hf⟩ := bs_ hf
                    refine mg_gR hx hb hts hown hKn hH ev69 in_X4 rfl (by decide) (hts _ q1185) (fun _ h9 => h9) dX4_isDone_182 ?_
                    refine lv_iconst (v := 2) hx hb dX4_isDone_185 (by decide) ?_
                    obtain ⟨v70, ev70, hf⟩ := bs_ hf
                    refine mg_iald hx hb hKn hH ev70 dX4_isDone_186 ?_
                    obtain ⟨M71, eM71, hf⟩ := bs_ hf
                    refine mg_iast hx hb hKn hH eM71 dX4_isDone_187 (fun H locs hH => ?_)
                    refine lv_iconst (v := 1) hx hb dX4_isDone_188 (by decide) ?_
                    cases hf
                    exact rt_b (b := true) hx hb hr hlk hH dX4_isDone_189
                  · have hf := ip_ c72 hf
                    refine lv_iconst (v := 0) hx hb dX4_isDone_159 (by decide) ?_
                    cases hf
                    exact rt_b (b := false) hx hb hr hlk hH dX4_isDone_160
            · have hf := in_ c58 hf
              by_cases c75 : a1 = 116
              · have hf := ip_ c75 hf
                refine sw_I (off := 175) (tgt := 190) hx hb dX4_isDone_15 c75 (by decide) (by decide) (by decide) (by decide) ?_
                refine lv_iload_n hx hb dX4_isDone_190 rfl (lv_at hl 1 rfl) ?_
                obtain ⟨r76, er76⟩ : ∃ z, z = fX4_isPlayer v2 := ⟨_, rfl⟩
                have hf := lu_ er76 hf
                refine cl_i0 hH (rn_S ⟨hx, hb, hml, hown, hts⟩ hKn hH (mX4_isPlayer l G M n v2 r76 er76.symm) (va_cwS 1 hts (lw_S q1277 q1278 q70 q1279) rfl rfl rfl kdX4_isPlayer ⟨Nat.le_of_ble_eq_true rfl, Nat.le_of_ble_eq_true rfl⟩) rfl hl.1 (Nat.le_of_ble_eq_true rfl) dX4_isDone_191 ⟨(Nat.le_of_ble_eq_true rfl), (Nat.le_of_ble_eq_true rfl)⟩ rfl) (fun H locs hH => ?_)
                refine lv_if_ne (tgt := 199) hx hb dX4_isDone_194 (by decide) (fun c80 => ?_) (fun c80 => ?_)
                · have hf := in_ c80 hf
                  refine lv_aload_n hx hb dX4_isDone_199 rfl (lv_at hl 2 rfl) ?_
                  obtain ⟨v77, ev77, hf⟩ := bs_ hf
                  refine mg_gR hx hb hts hown hKn hH ev77 in_X4 rfl (by decide) (hts _ q1176) (fun _ h9 => h9) dX4_isDone_200 ?_
                  refine lv_iload_n hx hb dX4_isDone_203 rfl (lv_at hl 1 rfl) ?_
                  refine lv_iconst (v := 2) hx hb dX4_isDone_204 (by decide) ?_
                  obtain ⟨r78, er78⟩ : ∃ z, z = fX4_ofP v2 2 := ⟨_, rfl⟩
                  have hf := lu_ er78 hf
                  refine cl_i0 hH (rn_S ⟨hx, hb, hml, hown, hts⟩ hKn hH (mX4_ofP l G M n v2 2 r78 er78.symm) (va_cwS 2 hts (lw_S q1170 q1171 q70 q1172) rfl rfl rfl kdX4_ofP ⟨Nat.le_of_ble_eq_true rfl, Nat.le_of_ble_eq_true rfl⟩) rfl hl.1 (Nat.le_of_ble_eq_true rfl) dX4_isDone_205 ⟨(Nat.le_of_ble_eq_true rfl), (Nat.le_of_ble_eq_true rfl)⟩ rfl) (fun H locs hH => ?_)
                  refine lv_iload_n hx hb dX4_isDone_208 rfl (lv_at hl 0 rfl) ?_
                  obtain ⟨M79, eM79, hf⟩ := bs_ hf
                  refine mg_iast hx hb hKn hH eM79 dX4_isDone_209 (fun H locs hH => ?_)
                  refine lv_iconst (v := 1) hx hb dX4_isDone_210 (by decide) ?_
                  cases hf
                  exact rt_b (b := true) hx hb hr hlk hH dX4_isDone_211
                · have hf := ip_ c80 hf
                  refine lv_iconst (v := 0) hx hb dX4_isDone_197 (by decide) ?_
                  cases hf
                  exact rt_b (b := false) hx hb hr hlk hH dX4_isDone_198
              · have hf := in_ c75 hf
                refine sw_D (tgt := 300) hx hb dX4_isDone_15 [(98, 89), (99, 285), (100, 267), (101, 285), (102, 222), (103, 285), (104, 222), (105, 285), (106, 285), (107, 285), (108, 197), (109, 285), (110, 285), (111, 285), (112, 116), (113, 285), (114, 285), (115, 285), (116, 175)] (by decide) (by decide) (by decide) ⟨Or.inr (lv_neT c5 (by decide)), Or.inl rfl, Or.inr (lv_neT c13 (by decide)), Or.inl rfl, Or.inr (lv_neT c17 (by decide)), Or.inl rfl, Or.inr (lv_neT c34 (by decide)), Or.inl rfl, Or.inl rfl, Or.inl rfl, Or.inr (lv_neT c51 (by decide)), Or.inl rfl, Or.inl rfl, Or.inl rfl, Or.inr (lv_neT c58 (by decide)), Or.inl rfl, Or.inl rfl, Or.inl rfl, Or.inr (lv_neT c75 (by decide)), trivial⟩ (by decide) ?_
                refine lv_aload_n hx hb dX4_isDone_300 rfl (lv_at hl 2 rfl) ?_
                refine lv_iload_n hx hb dX4_isDone_301 rfl (lv_at hl 1 rfl) ?_
                obtain ⟨u81, eu81, hf⟩ := bs_ hf
                obtain ⟨r82, er82, hf⟩ := bs_ hf
                refine cl_i0 hH (rn_V ⟨hx, hb, hml, hown, hts⟩ hKn hH (mX4_isStroke l G M n a0 v2 r82 er82) (cwV 1 hts (lw_V q1283 q1285 qs44 q70 q1286) rfl rfl rfl ⟨rfl, kdX4_isStroke⟩ ⟨Nat.le_of_ble_eq_true rfl, Nat.le_of_ble_eq_true rfl⟩) eu81 rfl rfl hl.1 (Nat.le_of_ble_eq_true rfl) dX4_isDone_302 ⟨(Nat.le_of_ble_eq_true rfl), (Nat.le_of_ble_eq_true rfl)⟩ rfl) (fun H locs hH => ?_)
                refine lv_if_eq (tgt := 322) hx hb dX4_isDone_305 (by decide) (fun c92 => ?_) (fun c92 => ?_)
                · have hf := ip_ c92 hf
                  refine lv_iconst (v := 0) hx hb dX4_isDone_322 (by decide) ?_
                  cases hf
                  exact rt_b (b := false) hx hb hr hlk hH dX4_isDone_323
                · have hf := in_ c92 hf
                  refine lv_iload_n hx hb dX4_isDone_308 rfl (lv_at hl 0 rfl) ?_
                  obtain ⟨r83, er83⟩ : ∃ z, z = fX4_isCell v4 := ⟨_, rfl⟩
                  have hf := lu_ er83 hf
                  refine cl_i0 hH (rn_S ⟨hx, hb, hml, hown, hts⟩ hKn hH (mX4_isCell l G M n v4 r83 er83.symm) (va_cwS 1 hts (lw_S q1280 q1281 q70 q1282) rfl rfl rfl kdX4_isCell ⟨Nat.le_of_ble_eq_true rfl, Nat.le_of_ble_eq_true rfl⟩) rfl hl.1 (Nat.le_of_ble_eq_true rfl) dX4_isDone_309 ⟨(Nat.le_of_ble_eq_true rfl), (Nat.le_of_ble_eq_true rfl)⟩ rfl) (fun H locs hH => ?_)
                  refine lv_if_eq (tgt := 322) hx hb dX4_isDone_312 (by decide) (fun c91 => ?_) (fun c91 => ?_)
                  · have hf := ip_ c91 hf
                    refine lv_iconst (v := 0) hx hb dX4_isDone_322 (by decide) ?_
                    cases hf
                    exact rt_b (b := false) hx hb hr hlk hH dX4_isDone_323
                  · have hf := in_ c91 hf
                    refine lv_aload_n hx hb dX4_isDone_315 rfl (lv_at hl 2 rfl) ?_
                    obtain ⟨u84, eu84, hf⟩ := bs_ hf
                    obtain ⟨r85, er85, hf⟩ := bs_ hf
                    refine cl_i0 hH (rn_V ⟨hx, hb, hml, hown, hts⟩ hKn hH (mX4_isOver l G M n a0 r85 er85) (cwV 0 hts (lw_V q1287 q1289 qs45 q70 q1290) rfl rfl rfl ⟨rfl, kdX4_isOver⟩ ⟨Nat.le_of_ble_eq_true rfl, Nat.le_of_ble_eq_true rfl⟩) eu84 rfl rfl hl.1 (Nat.le_of_ble_eq_true rfl) dX4_isDone_316 ⟨(Nat.le_of_ble_eq_true rfl), (Nat.le_of_ble_eq_true rfl)⟩ rfl) (fun H locs hH => ?_)
                    refine lv_if_eq (tgt := 324) hx hb dX4_isDone_319 (by decide) (fun c90 => ?_) (fun c90 => ?_)
                    · have hf := ip_ c90 hf
                      refine lv_aload_n hx hb dX4_isDone_324 rfl (lv_at hl 2 rfl) ?_
                      refine lv_aload_n hx hb dX4_isDone_325 rfl (lv_at hl 2 rfl) ?_
                      obtain ⟨v86, ev86, hf⟩ := bs_ hf
                      refine mg_gR hx hb hts hown hKn hH ev86 in_X4 rfl (by decide) (hts _ q1176) (fun _ h9 => h9) dX4_isDone_326 ?_
                      refine lv_iload_n hx hb dX4_isDone_329 rfl (lv_at hl 1 rfl) ?_
                      refine lv_iload_n hx hb dX4_isDone_330 rfl (lv_at hl 0 rfl) ?_
                      obtain ⟨u87, eu87, hf⟩ := bs_ hf
                      obtain ⟨r88, M89, er88, hf⟩ := bws_ hf
                      refine cl_i0 hH (rn_V ⟨hx, hb, hml, hown, hts⟩ hKn hH (mX4_hits l G M n a0 v86 v2 v4 r88 M89 er88) (cwV 3 hts (lw_V q1291 q1293 qs46 q70 q1294) rfl rfl rfl ⟨rfl, kdX4_hits⟩ ⟨Nat.le_of_ble_eq_true rfl, Nat.le_of_ble_eq_true rfl⟩) eu87 rfl rfl hl.1 (Nat.le_of_ble_eq_true rfl) dX4_isDone_331 ⟨(Nat.le_of_ble_eq_true rfl), (Nat.le_of_ble_eq_true rfl)⟩ rfl) (fun H locs hH => ?_)
                      refine lv_istore (lv' := [(4, .int (b2_ r88)), (3, .int v4), (2, .int v2), (0, .ref a0), (1, .int a1)]) hx hb dX4_isDone_334 hl (by decide) rfl (fun ls hl => ?_)
                      refine lv_iconst (v := 1) hx hb dX4_isDone_336 (by decide) ?_
                      cases hf
                      exact rt_b (b := true) hx hb hr hlk hH dX4_isDone_337
                    · have hf := in_ c90 hf
                      refine lv_iconst (v := 0) hx hb dX4_isDone_322 (by decide) ?_
                      cases hf
                      exact rt_b (b := false) hx hb hr hlk hH dX4_isDone_323
