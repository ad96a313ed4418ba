set_option maxRecDepth 100000
def fX4_isHeld (M : Mem_) (a0 : Nat) (a1 : Int32) (a2 : Int32) (a3 : Int32) (a4 : Int32) : Option (Bool × Mem_) :=
  (gR_ M a0 3 0).bind fun v1 =>
  (gR_ M a0 3 1).bind fun v2 =>
  (fX4_copies M v1 v2).bind fun M4 =>
  (gR_ M4 a0 3 1).bind fun v5 =>
  lt_ (fX4_ofSide a1 a2) fun r6 =>
  (sI_ M4 v5 0 r6 a3).bind fun M7 =>
  (gR_ M7 a0 3 1).bind fun v8 =>
  (aI_ M7 v8 0 2).bind fun v9 =>
  lt_ (fX4_sideOf v9) fun r10 =>
  if r10 = a1 then
    (gR_ M7 a0 3 1).bind fun v26 =>
    (sI_ M7 v26 0 2 (2 * (1 - a1))).bind fun M27 =>
    (gR_ M27 a0 3 1).bind fun v28 =>
    (ck_ M27 a0 3).bind fun u29 =>
    bw_ (fX4_hits M27 a0 v28 0 a4) fun r30 M31 =>
    if (b2_ r30) = 0 then
      (gR_ M31 a0 3 1).bind fun v32 =>
      (ck_ M31 a0 3).bind fun u33 =>
      bw_ (fX4_hits M31 a0 v32 0 4) fun r34 M35 =>
      if (b2_ r34) = 0 then
        (gR_ M35 a0 3 1).bind fun v36 =>
        (ck_ M35 a0 3).bind fun u37 =>
        bw_ (fX4_hits M35 a0 v36 0 (8 - a4)) fun r38 M39 =>
        if (b2_ r38) = 0 then
          some (true, M39)
        else
          some (false, M39)
      else
        some (true, M35)
    else
      some (false, M31)
  else
    (gR_ M7 a0 3 1).bind fun v11 =>
    (ck_ M7 a0 3).bind fun u12 =>
    bw_ (fX4_hits M7 a0 v11 0 a4) fun r13 M14 =>
    if (b2_ r13) = 0 then
      (gR_ M14 a0 3 1).bind fun v15 =>
      (ck_ M14 a0 3).bind fun u16 =>
      bw_ (fX4_hits M14 a0 v15 0 4) fun r17 M18 =>
      if (b2_ r17) = 0 then
        (gR_ M18 a0 3 1).bind fun v19 =>
        (ck_ M18 a0 3).bind fun u20 =>
        bw_ (fX4_hits M18 a0 v19 0 (8 - a4)) fun r21 M22 =>
        if (b2_ r21) = 0 then
          some (true, M22)
        else
          some (false, M22)
      else
        some (true, M18)
    else
      some (false, M14)
theorem kdX4_isHeld : yX4_isHeld.cls ≠ "java/lang/invoke/MethodHandle" ∧ yX4_isHeld.cls ≠ "java/lang/invoke/VarHandle" ∧ (parseMethodDescriptor yX4_isHeld.desc).map (fun d => d.parameters.length) = some 4 := by decide +kernel
set_option maxHeartbeats 4000000 in
theorem mX4_isHeld (l : Launch) (G : GT_) (M : Mem_) (n : Nat) (a0 : Nat) (a1 : Int32) (a2 : Int32) (a3 : Int32) (a4 : Int32) (r : Bool) (M1 : Mem_) (hf : fX4_isHeld M a0 a1 a2 a3 a4 = some (r, M1)) : Ct_ G l yX4_isHeld (ws_ yX4_isHeld cX4_isHeld 5 (some .boolean)) ({ frames := 4, cells := 0, slots := 0, locals := 99 }) 0 0 [.ref a0, .int a1, .int a2, .int a3, .int a4] M n (some (.int (b2_ r))) M1 n := by
  refine en_ (by decide) (Nat.le_of_ble_eq_true rfl) ?_
  intro p e s m below meth c hx hb hr hlk hml hown hts hname hKn hH ls hl
  have hown : s.vm.findClass RX4 = some m.cls := hown
  have hl : lv_has ls 5 [(0, .ref a0), (1, .int a1), (2, .int a2), (3, .int a3), (4, .int a4)] := hl
  unfold fX4_isHeld at hf
  generalize s.heap = H at hH ⊢
  refine lv_aload_n hx hb dX4_isHeld_0 rfl (lv_at hl 0 rfl) ?_
  obtain ⟨v1, ev1, hf⟩ := bs_ hf
  refine mg_gR hx hb hts hown hKn hH ev1 in_X4 rfl (by decide) (hts _ q1176) (fun _ h9 => h9) dX4_isHeld_1 ?_
  refine lv_aload_n hx hb dX4_isHeld_4 rfl (lv_at hl 0 rfl) ?_
  obtain ⟨v2, ev2, hf⟩ := bs_ hf
  refine mg_gR hx hb hts hown hKn hH ev2 in_X4 rfl (by decide) (hts _ q1177) (fun _ h9 => h9) dX4_isHeld_5 ?_
  obtain ⟨M4, er3, hf⟩ := bs_ hf
  refine cl_v0 hH (rn_S ⟨hx, hb, hml, hown, hts⟩ hKn hH (mX4_copies l G M n v1 v2 M4 er3) (va_cwS 2 hts (lw_S q1263 q1264 q70 q1265) rfl rfl rfl kdX4_copies ⟨Nat.le_of_ble_eq_true rfl, Nat.le_of_ble_eq_true rfl⟩) rfl hl.1 (Nat.le_of_ble_eq_true rfl) dX4_isHeld_8 ⟨(Nat.le_of_ble_eq_true rfl), (Nat.le_of_ble_eq_true rfl)⟩ rfl) (fun H locs hH => ?_)
  refine lv_aload_n hx hb dX4_isHeld_11 rfl (lv_at hl 0 rfl) ?_
  obtain ⟨v5, ev5, hf⟩ := bs_ hf
  refine mg_gR hx hb hts hown hKn hH ev5 in_X4 rfl (by decide) (hts _ q1177) (fun _ h9 => h9) dX4_isHeld_12 ?_
  refine lv_iload_n hx hb dX4_isHeld_15 rfl (lv_at hl 1 rfl) ?_
  refine lv_iload_n hx hb dX4_isHeld_16 rfl (lv_at hl 2 rfl) ?_
  obtain ⟨r6, er6⟩ : ∃ z, z = fX4_ofSide a1 a2 := ⟨_, rfl⟩
  have hf := lu_ er6 hf
  refine cl_i0 hH (rn_S ⟨hx, hb, hml, hown, hts⟩ hKn hH (mX4_ofSide l G M4 n a1 a2 r6 er6.symm) (va_cwS 2 hts (lw_S q1173 q1174 q70 q1175) rfl rfl rfl kdX4_ofSide ⟨Nat.le_of_ble_eq_true rfl, Nat.le_of_ble_eq_true rfl⟩) rfl hl.1 (Nat.le_of_ble_eq_true rfl) dX4_isHeld_17 ⟨(Nat.le_of_ble_eq_true rfl), (Nat.le_of_ble_eq_true rfl)⟩ rfl) (fun H locs hH => ?_)
  refine lv_iload_n hx hb dX4_isHeld_20 rfl (lv_at hl 3 rfl) ?_
  obtain ⟨M7, eM7, hf⟩ := bs_ hf
  refine mg_iast hx hb hKn hH eM7 dX4_isHeld_21 (fun H locs hH => ?_)
  refine lv_aload_n hx hb dX4_isHeld_22 rfl (lv_at hl 0 rfl) ?_
  obtain ⟨v8, ev8, hf⟩ := bs_ hf
  refine mg_gR hx hb hts hown hKn hH ev8 in_X4 rfl (by decide) (hts _ q1177) (fun _ h9 => h9) dX4_isHeld_23 ?_
  refine lv_iconst (v := 2) hx hb dX4_isHeld_26 (by decide) ?_
  obtain ⟨v9, ev9, hf⟩ := bs_ hf
  refine mg_iald hx hb hKn hH ev9 dX4_isHeld_27 ?_
  obtain ⟨r10, er10⟩ : ∃ z, z = fX4_sideOf v9 := ⟨_, rfl⟩
  have hf := lu_ er10 hf
  refine cl_i0 hH (rn_S ⟨hx, hb, hml, hown, hts⟩ hKn hH (mX4_sideOf l G M7 n v9 r10 er10.symm) (va_cwS 1 hts (lw_S q1295 q1296 q70 q1297) rfl rfl rfl kdX4_sideOf ⟨Nat.le_of_ble_eq_true rfl, Nat.le_of_ble_eq_true rfl⟩) rfl hl.1 (Nat.le_of_ble_eq_true rfl) dX4_isHeld_28 ⟨(Nat.le_of_ble_eq_true rfl), (Nat.le_of_ble_eq_true rfl)⟩ rfl) (fun H locs hH => ?_)
  refine lv_iload_n hx hb dX4_isHeld_31 rfl (lv_at hl 1 rfl) ?_
  refine lv_icmp_ne (tgt := 46) hx hb dX4_isHeld_32 (by decide) (fun c43 => ?_) (fun c43 => ?_)
  · have hf := in_ c43 hf
    refine lv_aload_n hx hb dX4_isHeld_46 rfl (lv_at hl 0 rfl) ?_
    refine lv_aload_n hx hb dX4_isHeld_47 rfl (lv_at hl 0 rfl) ?_
    obtain ⟨v11, ev11, hf⟩ := bs_ hf
    refine mg_gR hx hb hts hown hKn hH ev11 in_X4 rfl (by decide) (hts _ q1177) (fun _ h9 => h9) dX4_isHeld_48 ?_
    refine lv_iconst (v := 0) hx hb dX4_isHeld_51 (by decide) ?_
    refine lv_iload hx hb dX4_isHeld_52 (lv_at hl 4 rfl) ?_
    obtain ⟨u12, eu12, hf⟩ := bs_ hf
    obtain ⟨r13, M14, er13, hf⟩ := bws_ hf
    refine cl_i0 hH (rn_V ⟨hx, hb, hml, hown, hts⟩ hKn hH (mX4_hits l G M7 n a0 v11 0 a4 r13 M14 er13) (cwV 3 hts (lw_V q1291 q1293 qs46 q70 q1294) rfl rfl rfl ⟨rfl, kdX4_hits⟩ ⟨Nat.le_of_ble_eq_true rfl, Nat.le_of_ble_eq_true rfl⟩) eu12 rfl rfl hl.1 (Nat.le_of_ble_eq_true rfl) dX4_isHeld_54 ⟨(Nat.le_of_ble_eq_true rfl), (Nat.le_of_ble_eq_true rfl)⟩ rfl) (fun H locs hH => ?_)
    refine lv_if_eq (tgt := 62) hx hb dX4_isHeld_57 (by decide) (fun c25 => ?_) (fun c25 => ?_)
    · have hf := ip_ c25 hf
      refine lv_aload_n hx hb dX4_isHeld_62 rfl (lv_at hl 0 rfl) ?_
      refine lv_aload_n hx hb dX4_isHeld_63 rfl (lv_at hl 0 rfl) ?_
      obtain ⟨v15, ev15, hf⟩ := bs_ hf
      refine mg_gR hx hb hts hown hKn hH ev15 in_X4 rfl (by decide) (hts _ q1177) (fun _ h9 => h9) dX4_isHeld_64 ?_
      refine lv_iconst (v := 0) hx hb dX4_isHeld_67 (by decide) ?_
      refine lv_iconst (v := 4) hx hb dX4_isHeld_68 (by decide) ?_
      obtain ⟨u16, eu16, hf⟩ := bs_ hf
      obtain ⟨r17, M18, er17, hf⟩ := bws_ hf
      refine cl_i0 hH (rn_V ⟨hx, hb, hml, hown, hts⟩ hKn hH (mX4_hits l G M14 n a0 v15 0 4 r17 M18 er17) (cwV 3 hts (lw_V q1291 q1293 qs46 q70 q1294) rfl rfl rfl ⟨rfl, kdX4_hits⟩ ⟨Nat.le_of_ble_eq_true rfl, Nat.le_of_ble_eq_true rfl⟩) eu16 rfl rfl hl.1 (Nat.le_of_ble_eq_true rfl) dX4_isHeld_69 ⟨(Nat.le_of_ble_eq_true rfl), (Nat.le_of_ble_eq_true rfl)⟩ rfl) (fun H locs hH => ?_)
      refine lv_if_ne (tgt := 92) hx hb dX4_isHeld_72 (by decide) (fun c24 => ?_) (fun c24 => ?_)
      · have hf := in_ c24 hf
        refine lv_iconst (v := 1) hx hb dX4_isHeld_92 (by decide) ?_
        refine lv_goto (tgt := 97) hx hb dX4_isHeld_93 (by decide) ?_
        cases hf
        exact rt_b (b := true) hx hb hr hlk hH dX4_isHeld_97
      · have hf := ip_ c24 hf
        refine lv_aload_n hx hb dX4_isHeld_75 rfl (lv_at hl 0 rfl) ?_
        refine lv_aload_n hx hb dX4_isHeld_76 rfl (lv_at hl 0 rfl) ?_
        obtain ⟨v19, ev19, hf⟩ := bs_ hf
        refine mg_gR hx hb hts hown hKn hH ev19 in_X4 rfl (by decide) (hts _ q1177) (fun _ h9 => h9) dX4_isHeld_77 ?_
        refine lv_iconst (v := 0) hx hb dX4_isHeld_80 (by decide) ?_
        refine lv_bipush (v := 8) hx hb dX4_isHeld_81 (by decide) ?_
        refine lv_iload hx hb dX4_isHeld_83 (lv_at hl 4 rfl) ?_
        refine lv_isub hx hb dX4_isHeld_85 ?_
        obtain ⟨u20, eu20, hf⟩ := bs_ hf
        obtain ⟨r21, M22, er21, hf⟩ := bws_ hf
        refine cl_i0 hH (rn_V ⟨hx, hb, hml, hown, hts⟩ hKn hH (mX4_hits l G M18 n a0 v19 0 (8 - a4) r21 M22 er21) (cwV 3 hts (lw_V q1291 q1293 qs46 q70 q1294) rfl rfl rfl ⟨rfl, kdX4_hits⟩ ⟨Nat.le_of_ble_eq_true rfl, Nat.le_of_ble_eq_true rfl⟩) eu20 rfl rfl hl.1 (Nat.le_of_ble_eq_true rfl) dX4_isHeld_86 ⟨(Nat.le_of_ble_eq_true rfl), (Nat.le_of_ble_eq_true rfl)⟩ rfl) (fun H locs hH => ?_)
        refine lv_if_ne (tgt := 96) hx hb dX4_isHeld_89 (by decide) (fun c23 => ?_) (fun c23 => ?_)
        · have hf := in_ c23 hf
          refine lv_iconst (v := 0) hx hb dX4_isHeld_96 (by decide) ?_
          cases hf
          exact rt_b (b := false) hx hb hr hlk hH dX4_isHeld_97
        · have hf := ip_ c23 hf
          refine lv_iconst (v := 1) hx hb dX4_isHeld_92 (by decide) ?_
          refine lv_goto (tgt := 97) hx hb dX4_isHeld_93 (by decide) ?_
          cases hf
          exact rt_b (b := true) hx hb hr hlk hH dX4_isHeld_97
    · have hf := in_ c25 hf
      refine lv_iconst (v := 0) hx hb dX4_isHeld_60 (by decide) ?_
      cases hf
      exact rt_b (b := false) hx hb hr hlk hH dX4_isHeld_61
  · have hf := ip_ c43 hf
    refine lv_aload_n hx hb dX4_isHeld_35 rfl (lv_at hl 0 rfl) ?_
    obtain ⟨v26, ev26, hf⟩ := bs_ hf
    refine mg_gR hx hb hts hown hKn hH ev26 in_X4 rfl (by decide) (hts _ q1177) (fun _ h9 => h9) dX4_isHeld_36 ?_
    refine lv_iconst (v := 2) hx hb dX4_isHeld_39 (by decide) ?_
    refine lv_iconst (v := 2) hx hb dX4_isHeld_40 (by decide) ?_
    refine lv_iconst (v := 1) hx hb dX4_isHeld_41 (by decide) ?_
    refine lv_iload_n hx hb dX4_isHeld_42 rfl (lv_at hl 1 rfl) ?_
    refine lv_isub hx hb dX4_isHeld_43 ?_
    refine lv_imul hx hb dX4_isHeld_44 ?_
    obtain ⟨M27, eM27, hf⟩ := bs_ hf
    refine mg_iast hx hb hKn hH eM27 dX4_isHeld_45 (fun H locs hH => ?_)
    refine lv_aload_n hx hb dX4_isHeld_46 rfl (lv_at hl 0 rfl) ?_
    refine lv_aload_n hx hb dX4_isHeld_47 rfl (lv_at hl 0 rfl) ?_
    obtain ⟨v28, ev28, hf⟩ := bs_ hf
    refine mg_gR hx hb hts hown hKn hH ev28 in_X4 rfl (by decide) (hts _ q1177) (fun _ h9 => h9) dX4_isHeld_48 ?_
    refine lv_iconst (v := 0) hx hb dX4_isHeld_51 (by decide) ?_
    refine lv_iload hx hb dX4_isHeld_52 (lv_at hl 4 rfl) ?_
    obtain ⟨u29, eu29, hf⟩ := bs_ hf
    obtain ⟨r30, M31, er30, hf⟩ := bws_ hf
    refine cl_i0 hH (rn_V ⟨hx, hb, hml, hown, hts⟩ hKn hH (mX4_hits l G M27 n a0 v28 0 a4 r30 M31 er30) (cwV 3 hts (lw_V q1291 q1293 qs46 q70 q1294) rfl rfl rfl ⟨rfl, kdX4_hits⟩ ⟨Nat.le_of_ble_eq_true rfl, Nat.le_of_ble_eq_true rfl⟩) eu29 rfl rfl hl.1 (Nat.le_of_ble_eq_true rfl) dX4_isHeld_54 ⟨(Nat.le_of_ble_eq_true rfl), (Nat.le_of_ble_eq_true rfl)⟩ rfl) (fun H locs hH => ?_)
    refine lv_if_eq (tgt := 62) hx hb dX4_isHeld_57 (by decide) (fun c42 => ?_) (fun c42 => ?_)
    · have hf := ip_ c42 hf
      refine lv_aload_n hx hb dX4_isHeld_62 rfl (lv_at hl 0 rfl) ?_
      refine lv_aload_n hx hb dX4_isHeld_63 rfl (lv_at hl 0 rfl) ?_
      obtain ⟨v32, ev32, hf⟩ := bs_ hf
      refine mg_gR hx hb hts hown hKn hH ev32 in_X4 rfl (by decide) (hts _ q1177) (fun _ h9 => h9) dX4_isHeld_64 ?_
      refine lv_iconst (v := 0) hx hb dX4_isHeld_67 (by decide) ?_
      refine lv_iconst (v := 4) hx hb dX4_isHeld_68 (by decide) ?_
      obtain ⟨u33, eu33, hf⟩ := bs_ hf
      obtain ⟨r34, M35, er34, hf⟩ := bws_ hf
      refine cl_i0 hH (rn_V ⟨hx, hb, hml, hown, hts⟩ hKn hH (mX4_hits l G M31 n a0 v32 0 4 r34 M35 er34) (cwV 3 hts (lw_V q1291 q1293 qs46 q70 q1294) rfl rfl rfl ⟨rfl, kdX4_hits⟩ ⟨Nat.le_of_ble_eq_true rfl, Nat.le_of_ble_eq_true rfl⟩) eu33 rfl rfl hl.1 (Nat.le_of_ble_eq_true rfl) dX4_isHeld_69 ⟨(Nat.le_of_ble_eq_true rfl), (Nat.le_of_ble_eq_true rfl)⟩ rfl) (fun H locs hH => ?_)
      refine lv_if_ne (tgt := 92) hx hb dX4_isHeld_72 (by decide) (fun c41 => ?_) (fun c41 => ?_)
      · have hf := in_ c41 hf
        refine lv_iconst (v := 1) hx hb dX4_isHeld_92 (by decide) ?_
        refine lv_goto (tgt := 97) hx hb dX4_isHeld_93 (by decide) ?_
        cases hf
        exact rt_b (b := true) hx hb hr hlk hH dX4_isHeld_97
      · have hf := ip_ c41 hf
        refine lv_aload_n hx hb dX4_isHeld_75 rfl (lv_at hl 0 rfl) ?_
        refine lv_aload_n hx hb dX4_isHeld_76 rfl (lv_at hl 0 rfl) ?_
        obtain ⟨v36, ev36, hf⟩ := bs_ hf
        refine mg_gR hx hb hts hown hKn hH ev36 in_X4 rfl (by decide) (hts _ q1177) (fun _ h9 => h9) dX4_isHeld_77 ?_
        refine lv_iconst (v := 0) hx hb dX4_isHeld_80 (by decide) ?_
        refine lv_bipush (v := 8) hx hb dX4_isHeld_81 (by decide) ?_
        refine lv_iload hx hb dX4_isHeld_83 (lv_at hl 4 rfl) ?_
        refine lv_isub hx hb dX4_isHeld_85 ?_
        obtain ⟨u37, eu37, hf⟩ := bs_ hf
        obtain ⟨r38, M39, er38, hf⟩ := bws_ hf
        refine cl_i0 hH (rn_V ⟨hx, hb, hml, hown, hts⟩ hKn hH (mX4_hits l G M35 n a0 v36 0 (8 - a4) r38 M39 er38) (cwV 3 hts (lw_V q1291 q1293 qs46 q70 q1294) rfl rfl rfl ⟨rfl, kdX4_hits⟩ ⟨Nat.le_of_ble_eq_true rfl, Nat.le_of_ble_eq_true rfl⟩) eu37 rfl rfl hl.1 (Nat.le_of_ble_eq_true rfl) dX4_isHeld_86 ⟨(Nat.le_of_ble_eq_true rfl), (Nat.le_of_ble_eq_true rfl)⟩ rfl) (fun H locs hH => ?_)
        refine lv_if_ne (tgt := 96) hx hb dX4_isHeld_89 (by decide) (fun c40 => ?_) (fun c40 => ?_)
        · have hf := in_ c40 hf
          refine lv_iconst (v := 0) hx hb dX4_isHeld_96 (by decide) ?_
          cases hf
          exact rt_b (b := false) hx hb hr hlk hH dX4_isHeld_97
        · have hf := ip_ c40 hf
          refine lv_iconst (v := 1) hx hb dX4_isHeld_92 (by decide) ?_
          refine lv_goto (tgt := 97) hx hb dX4_isHeld_93 (by decide) ?_
          cases hf
          exact rt_b (b := true) hx hb hr hlk hH dX4_isHeld_97
    · have hf := in_ c42 hf
      refine lv_iconst (v := 0) hx hb dX4_isHeld_60 (by decide) ?_
      cases hf
      exact rt_b (b := false) hx hb hr hlk hH dX4_isHeld_61
def fX4_bestOf_L54 (K42 : Mem_ → Nat → Int32 → Int32 → Int32 → Int32 → Int32 → Int32 → Int32 → Option (Int32 × Mem_)) : Nat → Mem_ → Nat → Int32 → Int32 → Int32 → Int32 → Int32 → Int32 → Int32 → Int32 → Int32 → Option (Int32 × Mem_)
  | 0, _, _, _, _, _, _, _, _, _, _, _ => none
  | fuel + 1, M, x0, x1, x2, x3, x4, x5, x6, x7, x8, x9 =>
    if 9 ≤ x9 then
      if x6 < x8 then
        lt_ (x7 + 1) fun v10 =>
        K42 M x0 x1 x2 x3 x4 x7 x8 v10
      else
        lt_ (x7 + 1) fun v11 =>
        K42 M x0 x1 x2 x3 x4 x5 x6 v11
    else
      (ck_ M x0 3).bind fun u13 =>
      bw_ (fX4_isHeld M x0 x1 x2 x7 x9) fun r14 M15 =>
      if (b2_ r14) = 0 then
        lt_ ((x8 + 0)) fun v16 =>
        lt_ (x9 + 1) fun v17 =>
        fX4_bestOf_L54 K42 fuel M15 x0 x1 x2 x3 x4 x5 x6 x7 v16 v17
      else
        lt_ ((x8 + 1)) fun v18 =>
        lt_ (x9 + 1) fun v19 =>
        fX4_bestOf_L54 K42 fuel M15 x0 x1 x2 x3 x4 x5 x6 x7 v18 v19
def fX4_bestOf_L42 : Nat → Mem_ → Nat → Int32 → Int32 → Int32 → Int32 → Int32 → Int32 → Int32 → Option (Int32 × Mem_)
  | 0, _, _, _, _, _, _, _, _, _ => none
  | fuel + 1, M, x0, x1, x2, x3, x4, x5, x6, x7 =>
    if x3 ≤ x7 then
      if x4 = 0 then
        some (x5, M)
      else
        some (x6, M)
    else
      fX4_bestOf_L54 (fX4_bestOf_L42 fuel) 1000 M x0 x1 x2 x3 x4 x5 x6 x7 0 0
def fX4_bestOf (M : Mem_) (a0 : Nat) (a1 : Int32) (a2 : Int32) (a3 : Int32) (a4 : Int32) : Option (Int32 × Mem_) :=
  lt_ (fX4_isIn a1 0 1) fun r1 =>
  if (b2_ r1) = 0 then
    some ((-1), M)
  else
    lt_ (fX4_isIn a4 0 1) fun r2 =>
    if (b2_ r2) = 0 then
      some ((-1), M)
    else
      (gR_ M a0 3 0).bind fun v3 =>
      (aI_ M v3 0 0).bind fun v4 =>
      if v4 = 0 then
        some ((-3), M)
      else
        fX4_bestOf_L42 1000 M a0 a1 a2 a3 a4 0 (-1) 0
theorem kdX4_bestOf : yX4_bestOf.cls ≠ "java/lang/invoke/MethodHandle" ∧ yX4_bestOf.cls ≠ "java/lang/invoke/VarHandle" ∧ (parseMethodDescriptor yX4_bestOf.desc).map (fun d => d.parameters.length) = some 4 := by decide +kernel
set_option maxHeartbeats 4000000 in
theorem mX4_bestOf (l : Launch) (G : GT_) (M : Mem_) (n : Nat) (a0 : Nat) (a1 : Int32) (a2 : Int32) (a3 : Int32) (a4 : Int32) (r : Int32) (M1 : Mem_) (hf : fX4_bestOf M a0 a1 a2 a3 a4 = some (r, M1)) : Ct_ G l yX4_bestOf (ws_ yX4_bestOf cX4_bestOf 10 (some .int)) ({ frames := 5, cells := 0, slots := 0, locals := 123 }) 0 0 [.ref a0, .int a1, .int a2, .int a3, .int a4] M n (some (.int r)) M1 n := by
  refine en_ (by decide) (Nat.le_of_ble_eq_true rfl) ?_
  intro p e s m below meth c hx hb hr hlk hml hown hts hname hKn hH ls hl
  have hown : s.vm.findClass RX4 = some m.cls := hown
  have hl : lv_has ls 10 [(0, .ref a0), (1, .int a1), (2, .int a2), (3, .int a3), (4, .int a4)] := hl
  have w54 : ∀ (K42 : Mem_ → Nat → Int32 → Int32 → Int32 → Int32 → Int32 → Int32 → Int32 → Option (Int32 × Mem_)), (∀ (M : Mem_) (x0 : Nat) (x1 : Int32) (x2 : Int32) (x3 : Int32) (x4 : Int32) (x5 : Int32) (x6 : Int32) (x7 : Int32) (H : Heap) (locs : List Loc) (ls : Array Slot), St_ G n M s H locs → lv_has ls 10 [(0, .ref x0), (1, .int x1), (2, .int x2), (3, .int x3), (4, .int x4), (5, .int x5), (6, .int x6), (7, .int x7)] → K42 M x0 x1 x2 x3 x4 x5 x6 x7 = some (r, M1) → W p l e ({ frames := 5, cells := 0, slots := 0, locals := 123 } : Room) s m ([.ref a0, .int a1, .int a2, .int a3, .int a4] : List Value).toArray below meth c H locs 0 0 (MQ below (Qc_ G (some (.int r)) M1 n) ([.ref a0, .int a1, .int a2, .int a3, .int a4] : List Value).toArray s 0 0 (fun q => G.1 ≤ q)) (F0 m 42 ls [])) → ∀ (fuel : Nat), ∀ (M : Mem_) (x0 : Nat) (x1 : Int32) (x2 : Int32) (x3 : Int32) (x4 : Int32) (x5 : Int32) (x6 : Int32) (x7 : Int32) (x8 : Int32) (x9 : Int32) (H : Heap) (locs : List Loc) (ls : Array Slot), St_ G n M s H locs → lv_has ls 10 [(0, .ref x0), (1, .int x1), (2, .int x2), (3, .int x3), (4, .int x4), (5, .int x5), (6, .int x6), (7, .int x7), (8, .int x8), (9, .int x9)] → fX4_bestOf_L54 K42 fuel M x0 x1 x2 x3 x4 x5 x6 x7 x8 x9 = some (r, M1) → W p l e ({ frames := 5, cells := 0, slots := 0, locals := 123 } : Room) s m ([.ref a0, .int a1, .int a2, .int a3, .int a4] : List Value).toArray below meth c H locs 0 0 (MQ below (Qc_ G (some (.int r)) M1 n) ([.ref a0, .int a1, .int a2, .int a3, .int a4] : List Value).toArray s 0 0 (fun q => G.1 ≤ q)) (F0 m 54 ls []) := by
    intro K42 hK42 fuel
    induction fuel with
    | zero =>
      intro M x0 x1 x2 x3 x4 x5 x6 x7 x8 x9 H locs ls hH hl hf
      cases hf
    | succ fuel ih =>
      intro M x0 x1 x2 x3 x4 x5 x6 x7 x8 x9 H locs ls hH hl hf
      unfold fX4_bestOf_L54 at hf
      refine lv_iload hx hb dX4_bestOf_54 (lv_at hl 9 rfl) ?_
      refine lv_bipush (v := 9) hx hb dX4_bestOf_56 (by decide) ?_
      refine lv_icmp_ge (tgt := 90) hx hb dX4_bestOf_58 (by decide) (fun c21 => ?_) (fun c21 => ?_)
      · have hf := ip_ c21 hf
        refine lv_iload hx hb dX4_bestOf_90 (lv_at hl 8 rfl) ?_
        refine lv_iload hx hb dX4_bestOf_92 (lv_at hl 6 rfl) ?_
        refine lv_icmp_gt (tgt := 100) hx hb dX4_bestOf_94 (by decide) (fun c12 => ?_) (fun c12 => ?_)
        · have hf := ip_ c12 hf
          refine lv_iload hx hb dX4_bestOf_100 (lv_at hl 7 rfl) ?_
          refine lv_istore (lv' := [(5, .int x7), (0, .ref x0), (1, .int x1), (2, .int x2), (3, .int x3), (4, .int x4), (6, .int x6), (7, .int x7), (8, .int x8), (9, .int x9)]) hx hb dX4_bestOf_102 hl (by decide) rfl (fun ls hl => ?_)
          refine lv_iload hx hb dX4_bestOf_104 (lv_at hl 8 rfl) ?_
          refine lv_istore (lv' := [(6, .int x8), (5, .int x7), (0, .ref x0), (1, .int x1), (2, .int x2), (3, .int x3), (4, .int x4), (7, .int x7), (8, .int x8), (9, .int x9)]) hx hb dX4_bestOf_106 hl (by decide) rfl (fun ls hl => ?_)
          obtain ⟨v10, ev10⟩ : ∃ z : Int32, z = x7 + 1 := ⟨_, rfl⟩
          have hf := lu_ ev10 hf
          refine lv_iinc (v := v10) (lv' := [(7, .int v10), (6, .int x8), (5, .int x7), (0, .ref x0), (1, .int x1), (2, .int x2), (3, .int x3), (4, .int x4), (8, .int x8), (9, .int x9)]) hx hb dX4_bestOf_108 hl (k := 7) rfl (by rw [ev10]; rfl) (by decide) rfl (fun ls hl => ?_)
          refine lv_goto (tgt := 42) hx hb dX4_bestOf_111 (by decide) ?_
          exact hK42 M x0 x1 x2 x3 x4 x7 x8 v10 _ _ ls hH (lv_sub hl [3, 4, 5, 6, 7, 2, 1, 0] rfl) hf
        · have hf := in_ c12 hf
          refine lv_goto (tgt := 108) hx hb dX4_bestOf_97 (by decide) ?_
          obtain ⟨v11, ev11⟩ : ∃ z : Int32, z = x7 + 1 := ⟨_, rfl⟩
          have hf := lu_ ev11 hf
          refine lv_iinc (v := v11) (lv' := [(7, .int v11), (0, .ref x0), (1, .int x1), (2, .int x2), (3, .int x3), (4, .int x4), (5, .int x5), (6, .int x6), (8, .int x8), (9, .int x9)]) hx hb dX4_bestOf_108 hl (k := 7) rfl (by rw [ev11]; rfl) (by decide) rfl (fun ls hl => ?_)
          refine lv_goto (tgt := 42) hx hb dX4_bestOf_111 (by decide) ?_
          exact hK42 M x0 x1 x2 x3 x4 x5 x6 v11 _ _ ls hH (lv_sub hl [1, 2, 3, 4, 5, 6, 7, 0] rfl) hf
      · have hf := in_ c21 hf
        refine lv_iload hx hb dX4_bestOf_61 (lv_at hl 8 rfl) ?_
        refine lv_aload_n hx hb dX4_bestOf_63 rfl (lv_at hl 0 rfl) ?_
        refine lv_iload_n hx hb dX4_bestOf_64 rfl (lv_at hl 1 rfl) ?_
        refine lv_iload_n hx hb dX4_bestOf_65 rfl (lv_at hl 2 rfl) ?_
        refine lv_iload hx hb dX4_bestOf_66 (lv_at hl 7 rfl) ?_
        refine lv_iload hx hb dX4_bestOf_68 (lv_at hl 9 rfl) ?_
        obtain ⟨u13, eu13, hf⟩ := bs_ hf
        obtain ⟨r14, M15, er14, hf⟩ := bws_ hf
        refine cl_i0 hH (rn_V ⟨hx, hb, hml, hown, hts⟩ hKn hH (mX4_isHeld l G M n x0 x1 x2 x7 x9 r14 M15 er14) (cwV 4 hts (lw_V q1461 q1463 qs58 q70 q1464) rfl rfl rfl ⟨rfl, kdX4_isHeld⟩ ⟨Nat.le_of_ble_eq_true rfl, Nat.le_of_ble_eq_true rfl⟩) eu13 rfl rfl hl.1 (Nat.le_of_ble_eq_true rfl) dX4_bestOf_70 ⟨(Nat.le_of_ble_eq_true rfl), (Nat.le_of_ble_eq_true rfl)⟩ rfl) (fun H locs hH => ?_)
        refine lv_if_eq (tgt := 80) hx hb dX4_bestOf_73 (by decide) (fun c20 => ?_) (fun c20 => ?_)
        · have hf := ip_ c20 hf
          refine lv_iconst (v := 0) hx hb dX4_bestOf_80 (by decide) ?_
          refine lv_iadd hx hb dX4_bestOf_81 ?_
          refine lv_topi (fun v16 ev16 => ?_)
          have hf := lu_ ev16 hf
          refine lv_istore (lv' := [(8, .int v16), (0, .ref x0), (1, .int x1), (2, .int x2), (3, .int x3), (4, .int x4), (5, .int x5), (6, .int x6), (7, .int x7), (9, .int x9)]) hx hb dX4_bestOf_82 hl (by decide) rfl (fun ls hl => ?_)
          obtain ⟨v17, ev17⟩ : ∃ z : Int32, z = x9 + 1 := ⟨_, rfl⟩
          have hf := lu_ ev17 hf
          refine lv_iinc (v := v17) (lv' := [(9, .int v17), (8, .int v16), (0, .ref x0), (1, .int x1), (2, .int x2), (3, .int x3), (4, .int x4), (5, .int x5), (6, .int x6), (7, .int x7)]) hx hb dX4_bestOf_84 hl (k := 9) rfl (by rw [ev17]; rfl) (by decide) rfl (fun ls hl => ?_)
          refine lv_goto (tgt := 54) hx hb dX4_bestOf_87 (by decide) ?_
          exact ih M15 x0 x1 x2 x3 x4 x5 x6 x7 v16 v17 _ _ ls hH (lv_sub hl [2, 3, 4, 5, 6, 7, 8, 9, 1, 0] rfl) hf
        · have hf := in_ c20 hf
          refine lv_iconst (v := 1) hx hb dX4_bestOf_76 (by decide) ?_
          refine lv_goto (tgt := 81) hx hb dX4_bestOf_77 (by decide) ?_
          refine lv_iadd hx hb dX4_bestOf_81 ?_
          refine lv_topi (fun v18 ev18 => ?_)
          have hf := lu_ ev18 hf
          refine lv_istore (lv' := [(8, .int v18), (0, .ref x0), (1, .int x1), (2, .int x2), (3, .int x3), (4, .int x4), (5, .int x5), (6, .int x6), (7, .int x7), (9, .int x9)]) hx hb dX4_bestOf_82 hl (by decide) rfl (fun ls hl => ?_)
          obtain ⟨v19, ev19⟩ : ∃ z : Int32, z = x9 + 1 := ⟨_, rfl⟩
          have hf := lu_ ev19 hf
          refine lv_iinc (v := v19) (lv' := [(9, .int v19), (8, .int v18), (0, .ref x0), (1, .int x1), (2, .int x2), (3, .int x3), (4, .int x4), (5, .int x5), (6, .int x6), (7, .int x7)]) hx hb dX4_bestOf_84 hl (k := 9) rfl (by rw [ev19]; rfl) (by decide) rfl (fun ls hl => ?_)
          refine lv_goto (tgt := 54) hx hb dX4_bestOf_87 (by decide) ?_
          exact ih M15 x0 x1 x2 x3 x4 x5 x6 x7 v18 v19 _ _ ls hH (lv_sub hl [2, 3, 4, 5, 6, 7, 8, 9, 1, 0] rfl) hf
  have w42 : ∀ (fuel : Nat), ∀ (M : Mem_) (x0 : Nat) (x1 : Int32) (x2 : Int32) (x3 : Int32) (x4 : Int32) (x5 : Int32) (x6 : Int32) (x7 : Int32) (H : Heap) (locs : List Loc) (ls : Array Slot), St_ G n M s H locs → lv_has ls 10 [(0, .ref x0), (1, .int x1), (2, .int x2), (3, .int x3), (4, .int x4), (5, .int x5), (6, .int x6), (7, .int x7)] → fX4_bestOf_L42 fuel M x0 x1 x2 x3 x4 x5 x6 x7 = some (r, M1) → W p l e ({ frames := 5, cells := 0, slots := 0, locals := 123 } : Room) s m ([.ref a0, .int a1, .int a2, .int a3, .int a4] : List Value).toArray below meth c H locs 0 0 (MQ below (Qc_ G (some (.int r)) M1 n) ([.ref a0, .int a1, .int a2, .int a3, .int a4] : List Value).toArray s 0 0 (fun q => G.1 ≤ q)) (F0 m 42 ls []) := by
    intro fuel
    induction fuel with
    | zero =>
      intro M x0 x1 x2 x3 x4 x5 x6 x7 H locs ls hH hl hf
      cases hf
    | succ fuel ih =>
      intro M x0 x1 x2 x3 x4 x5 x6 x7 H locs ls hH hl hf
      unfold fX4_bestOf_L42 at hf
      refine lv_iload hx hb dX4_bestOf_42 (lv_at hl 7 rfl) ?_
      refine lv_iload_n hx hb dX4_bestOf_44 rfl (lv_at hl 3 rfl) ?_
      refine lv_icmp_ge (tgt := 114) hx hb dX4_bestOf_45 (by decide) (fun c9 => ?_) (fun c9 => ?_)
      · have hf := ip_ c9 hf
        refine lv_iload hx hb dX4_bestOf_114 (lv_at hl 4 rfl) ?_
        refine lv_if_ne (tgt := 124) hx hb dX4_bestOf_116 (by decide) (fun c8 => ?_) (fun c8 => ?_)
        · have hf := in_ c8 hf
          refine lv_iload hx hb dX4_bestOf_124 (lv_at hl 6 rfl) ?_
          cases hf
          exact rt_i hx hb hr hlk hH dX4_bestOf_126
        · have hf := ip_ c8 hf
          refine lv_iload hx hb dX4_bestOf_119 (lv_at hl 5 rfl) ?_
          refine lv_goto (tgt := 126) hx hb dX4_bestOf_121 (by decide) ?_
          cases hf
          exact rt_i hx hb hr hlk hH dX4_bestOf_126
      · have hf := in_ c9 hf
        refine lv_iconst (v := 0) hx hb dX4_bestOf_48 (by decide) ?_
        refine lv_istore (lv' := [(8, .int 0), (0, .ref x0), (1, .int x1), (2, .int x2), (3, .int x3), (4, .int x4), (5, .int x5), (6, .int x6), (7, .int x7)]) hx hb dX4_bestOf_49 hl (by decide) rfl (fun ls hl => ?_)
        refine lv_iconst (v := 0) hx hb dX4_bestOf_51 (by decide) ?_
        refine lv_istore (lv' := [(9, .int 0), (8, .int 0), (0, .ref x0), (1, .int x1), (2, .int x2), (3, .int x3), (4, .int x4), (5, .int x5), (6, .int x6), (7, .int x7)]) hx hb dX4_bestOf_52 hl (by decide) rfl (fun ls hl => ?_)
        exact w54 _ ih 1000 M x0 x1 x2 x3 x4 x5 x6 x7 0 0 _ _ ls hH (lv_sub hl [2, 3, 4, 5, 6, 7, 8, 9, 1, 0] rfl) hf
  unfold fX4_bestOf at hf
  refine lv_iload_n hx hb dX4_bestOf_0 rfl (lv_at hl 1 rfl) ?_
  refine lv_iconst (v := 0) hx hb dX4_bestOf_1 (by decide) ?_
  refine lv_iconst (v := 1) hx hb dX4_bestOf_2 (by decide) ?_
  obtain ⟨r1, er1⟩ : ∃ z, z = fX4_isIn a1 0 1 := ⟨_, rfl⟩
  have hf := lu_ er1 hf
  refine cl_i0 hH (rn_S ⟨hx, hb, hml, hown, hts⟩ hKn hH (mX4_isIn l G M n a1 0 1 r1 er1.symm) (va_cwS 3 hts (lw_S q1248 q1249 q70 q1250) rfl rfl rfl kdX4_isIn ⟨Nat.le_of_ble_eq_true rfl, Nat.le_of_ble_eq_true rfl⟩) rfl hl.1 (Nat.le_of_ble_eq_true rfl) dX4_bestOf_3 ⟨(Nat.le_of_ble_eq_true rfl), (Nat.le_of_ble_eq_true rfl)⟩ rfl) (fun H locs hH => ?_)
  refine lv_if_eq (tgt := 19) hx hb dX4_bestOf_6 (by decide) (fun c7 => ?_) (fun c7 => ?_)
  · have hf := ip_ c7 hf
    refine lv_iconst (v := (-1)) hx hb dX4_bestOf_19 (by decide) ?_
    cases hf
    exact rt_i hx hb hr hlk hH dX4_bestOf_20
  · have hf := in_ c7 hf
    refine lv_iload hx hb dX4_bestOf_9 (lv_at hl 4 rfl) ?_
    refine lv_iconst (v := 0) hx hb dX4_bestOf_11 (by decide) ?_
    refine lv_iconst (v := 1) hx hb dX4_bestOf_12 (by decide) ?_
    obtain ⟨r2, er2⟩ : ∃ z, z = fX4_isIn a4 0 1 := ⟨_, rfl⟩
    have hf := lu_ er2 hf
    refine cl_i0 hH (rn_S ⟨hx, hb, hml, hown, hts⟩ hKn hH (mX4_isIn l G M n a4 0 1 r2 er2.symm) (va_cwS 3 hts (lw_S q1248 q1249 q70 q1250) rfl rfl rfl kdX4_isIn ⟨Nat.le_of_ble_eq_true rfl, Nat.le_of_ble_eq_true rfl⟩) rfl hl.1 (Nat.le_of_ble_eq_true rfl) dX4_bestOf_13 ⟨(Nat.le_of_ble_eq_true rfl), (Nat.le_of_ble_eq_true rfl)⟩ rfl) (fun H locs hH => ?_)
    refine lv_if_ne (tgt := 21) hx hb dX4_bestOf_16 (by decide) (fun c6 => ?_) (fun c6 => ?_)
    · have hf := in_ c6 hf
      refine lv_aload_n hx hb dX4_bestOf_21 rfl (lv_at hl 0 rfl) ?_
      obtain ⟨v3, ev3, hf⟩ := bs_ hf
      refine mg_gR hx hb hts hown hKn hH ev3 in_X4 rfl (by decide) (hts _ q1176) (fun _ h9 => h9) dX4_bestOf_22 ?_
      refine lv_iconst (v := 0) hx hb dX4_bestOf_25 (by decide) ?_
      obtain ⟨v4, ev4, hf⟩ := bs_ hf
      refine mg_iald hx hb hKn hH ev4 dX4_bestOf_26 ?_
      refine lv_if_ne (tgt := 33) hx hb dX4_bestOf_27 (by decide) (fun c5 => ?_) (fun c5 => ?_)
      · have hf := in_ c5 hf
        refine lv_iconst (v := 0) hx hb dX4_bestOf_33 (by decide) ?_
        refine lv_istore (lv' := [(5, .int 0), (0, .ref a0), (1, .int a1), (2, .int a2), (3, .int a3), (4, .int a4)]) hx hb dX4_bestOf_34 hl (by decide) rfl (fun ls hl => ?_)
        refine lv_iconst (v := (-1)) hx hb dX4_bestOf_36 (by decide) ?_
        refine lv_istore (lv' := [(6, .int (-1)), (5, .int 0), (0, .ref a0), (1, .int a1), (2, .int a2), (3, .int a3), (4, .int a4)]) hx hb dX4_bestOf_37 hl (by decide) rfl (fun ls hl => ?_)
        refine lv_iconst (v := 0) hx hb dX4_bestOf_39 (by decide) ?_
        refine lv_istore (lv' := [(7, .int 0), (6, .int (-1)), (5, .int 0), (0, .ref a0), (1, .int a1), (2, .int a2), (3, .int a3), (4, .int a4)]) hx hb dX4_bestOf_40 hl (by decide) rfl (fun ls hl => ?_)
        exact w42 1000 M a0 a1 a2 a3 a4 0 (-1) 0 _ _ ls hH (lv_sub hl [3, 4, 5, 6, 7, 2, 1, 0] rfl) hf
      · have hf := ip_ c5 hf
        refine lv_bipush (v := (-3)) hx hb dX4_bestOf_30 (by decide) ?_
        cases hf
        exact rt_i hx hb hr hlk hH dX4_bestOf_32
    · have hf := ip_ c6 hf
      refine lv_iconst (v := (-1)) hx hb dX4_bestOf_19 (by decide) ?_
      cases hf
      exact rt_i hx hb hr hlk hH dX4_bestOf_20
def fX4_bestForm (M : Mem_) (a0 : Nat) (a1 : Int32) (a2 : Int32) : Option (Int32 × Mem_) :=
  (ck_ M a0 3).bind fun u1 =>
  bw_ (fX4_bestOf M a0 a1 0 2 a2) fun r2 M3 =>
  some (r2, M3)
theorem kdX4_bestForm : yX4_bestForm.cls ≠ "java/lang/invoke/MethodHandle" ∧ yX4_bestForm.cls ≠ "java/lang/invoke/VarHandle" ∧ (parseMethodDescriptor yX4_bestForm.desc).map (fun d => d.parameters.length) = some 2 := by decide +kernel
set_option maxHeartbeats 4000000 in
theorem mX4_bestForm (l : Launch) (G : GT_) (M : Mem_) (n : Nat) (a0 : Nat) (a1 : Int32) (a2 : Int32) (r : Int32) (M1 : Mem_) (hf : fX4_bestForm M a0 a1 a2 = some (r, M1)) : Ct_ G l yX4_bestForm (ws_ yX4_bestForm cX4_bestForm 3 (some .int)) ({ frames := 6, cells := 0, slots := 0, locals := 152 }) 0 0 [.ref a0, .int a1, .int a2] M n (some (.int r)) M1 n := by
  refine en_ (by decide) (Nat.le_of_ble_eq_true rfl) ?_
  intro p e s m below meth c hx hb hr hlk hml hown hts hname hKn hH ls hl
  have hown : s.vm.findClass RX4 = some m.cls := hown
  have hl : lv_has ls 3 [(0, .ref a0), (1, .int a1), (2, .int a2)] := hl
  unfold fX4_bestForm at hf
  generalize s.heap = H at hH ⊢
  refine lv_aload_n hx hb dX4_bestForm_0 rfl (lv_at hl 0 rfl) ?_
  refine lv_iload_n hx hb dX4_bestForm_1 rfl (lv_at hl 1 rfl) ?_
  refine lv_iconst (v := 0) hx hb dX4_bestForm_2 (by decide) ?_
  refine lv_iconst (v := 2) hx hb dX4_bestForm_3 (by decide) ?_
  refine lv_iload_n hx hb dX4_bestForm_4 rfl (lv_at hl 2 rfl) ?_
  obtain ⟨u1, eu1, hf⟩ := bs_ hf
  obtain ⟨r2, M3, er2, hf⟩ := bws_ hf
  refine cl_i0 hH (rn_V ⟨hx, hb, hml, hown, hts⟩ hKn hH (mX4_bestOf l G M n a0 a1 0 2 a2 r2 M3 er2) (cwV 4 hts (lw_V q1457 q1459 qs57 q70 q1460) rfl rfl rfl ⟨rfl, kdX4_bestOf⟩ ⟨Nat.le_of_ble_eq_true rfl, Nat.le_of_ble_eq_true rfl⟩) eu1 rfl rfl hl.1 (Nat.le_of_ble_eq_true rfl) dX4_bestForm_5 ⟨(Nat.le_of_ble_eq_true rfl), (Nat.le_of_ble_eq_true rfl)⟩ rfl) (fun H locs hH => ?_)
  cases hf
  exact rt_i hx hb hr hlk hH dX4_bestForm_8
def fX4_bestHabit (M : Mem_) (a0 : Nat) (a1 : Int32) (a2 : Int32) : Option (Int32 × Mem_) :=
  (ck_ M a0 3).bind fun u1 =>
  bw_ (fX4_bestOf M a0 a1 1 4 a2) fun r2 M3 =>
  some (r2, M3)
theorem kdX4_bestHabit : yX4_bestHabit.cls ≠ "java/lang/invoke/MethodHandle" ∧ yX4_bestHabit.cls ≠ "java/lang/invoke/VarHandle" ∧ (parseMethodDescriptor yX4_bestHabit.desc).map (fun d => d.parameters.length) = some 2 := by decide +kernel
set_option maxHeartbeats 4000000 in
theorem mX4_bestHabit (l : Launch) (G : GT_) (M : Mem_) (n : Nat) (a0 : Nat) (a1 : Int32) (a2 : Int32) (r : Int32) (M1 : Mem_) (hf : fX4_bestHabit M a0 a1 a2 = some (r, M1)) : Ct_ G l yX4_bestHabit (ws_ yX4_bestHabit cX4_bestHabit 3 (some .int)) ({ frames := 6, cells := 0, slots := 0, locals := 152 }) 0 0 [.ref a0, .int a1, .int a2] M n (some (.int r)) M1 n := by
  refine en_ (by decide) (Nat.le_of_ble_eq_true rfl) ?_
  intro p e s m below meth c hx hb hr hlk hml hown hts hname hKn hH ls hl
  have hown : s.vm.findClass RX4 = some m.cls := hown
  have hl : lv_has ls 3 [(0, .ref a0), (1, .int a1), (2, .int a2)] := hl
  unfold fX4_bestHabit at hf
  generalize s.heap = H at hH ⊢
  refine lv_aload_n hx hb dX4_bestHabit_0 rfl (lv_at hl 0 rfl) ?_
  refine lv_iload_n hx hb dX4_bestHabit_1 rfl (lv_at hl 1 rfl) ?_
  refine lv_iconst (v := 1) hx hb dX4_bestHabit_2 (by decide) ?_
  refine lv_iconst (v := 4) hx hb dX4_bestHabit_3 (by decide) ?_
  refine lv_iload_n hx hb dX4_bestHabit_4 rfl (lv_at hl 2 rfl) ?_
  obtain ⟨u1, eu1, hf⟩ := bs_ hf
  obtain ⟨r2, M3, er2, hf⟩ := bws_ hf
  refine cl_i0 hH (rn_V ⟨hx, hb, hml, hown, hts⟩ hKn hH (mX4_bestOf l G M n a0 a1 1 4 a2 r2 M3 er2) (cwV 4 hts (lw_V q1457 q1459 qs57 q70 q1460) rfl rfl rfl ⟨rfl, kdX4_bestOf⟩ ⟨Nat.le_of_ble_eq_true rfl, Nat.le_of_ble_eq_true rfl⟩) eu1 rfl rfl hl.1 (Nat.le_of_ble_eq_true rfl) dX4_bestHabit_5 ⟨(Nat.le_of_ble_eq_true rfl), (Nat.le_of_ble_eq_true rfl)⟩ rfl) (fun H locs hH => ?_)
  cases hf
  exact rt_i hx hb hr hlk hH dX4_bestHabit_8
def fX4_change (M : Mem_) (a0 : Nat) (a1 : Int32) (a2 : Int32) (a3 : Int32) (a4 : Int32) : Option (Int32 × Mem_) :=
  (ck_ M a0 3).bind fun u1 =>
  (fX4_isHit M a0 a1 a2).bind fun r2 =>
  if (b2_ r2) = 0 then
    some ((-1), M)
  else
    lt_ (fX4_isPlayer a3) fun r3 =>
    if (b2_ r3) = 0 then
      some ((-1), M)
    else
      lt_ (fX4_isIn a4 0 1) fun r4 =>
      if (b2_ r4) = 0 then
        some ((-1), M)
      else
        (ck_ M a0 3).bind fun u5 =>
        bw_ (fX4_isWon M a0 a1 a2) fun r6 M7 =>
        (gR_ M7 a0 3 1).bind fun v8 =>
        if a4 = 0 then
          lt_ (fX4_ofP a3 0) fun r11 =>
          (aI_ M7 v8 0 r11).bind fun v12 =>
          some (v12, M7)
        else
          lt_ (fX4_ofP a3 2) fun r9 =>
          (aI_ M7 v8 0 r9).bind fun v10 =>
          some (v10, M7)
theorem kdX4_change : yX4_change.cls ≠ "java/lang/invoke/MethodHandle" ∧ yX4_change.cls ≠ "java/lang/invoke/VarHandle" ∧ (parseMethodDescriptor yX4_change.desc).map (fun d => d.parameters.length) = some 4 := by decide +kernel
set_option maxHeartbeats 4000000 in
theorem mX4_change (l : Launch) (G : GT_) (M : Mem_) (n : Nat) (a0 : Nat) (a1 : Int32) (a2 : Int32) (a3 : Int32) (a4 : Int32) (r : Int32) (M1 : Mem_) (hf : fX4_change M a0 a1 a2 a3 a4 = some (r, M1)) : Ct_ G l yX4_change (ws_ yX4_change cX4_change 6 (some .int)) ({ frames := 5, cells := 0, slots := 0, locals := 121 }) 0 0 [.ref a0, .int a1, .int a2, .int a3, .int a4] M n (some (.int r)) M1 n := by
  refine en_ (by decide) (Nat.le_of_ble_eq_true rfl) ?_
  intro p e s m below meth c hx hb hr hlk hml hown hts hname hKn hH ls hl
  have hown : s.vm.findClass RX4 = some m.cls := hown
  have hl : lv_has ls 6 [(0, .ref a0), (1, .int a1), (2, .int a2), (3, .int a3), (4, .int a4)] := hl
  unfold fX4_change at hf
  generalize s.heap = H at hH ⊢
  refine lv_aload_n hx hb dX4_change_0 rfl (lv_at hl 0 rfl) ?_
  refine lv_iload_n hx hb dX4_change_1 rfl (lv_at hl 1 rfl) ?_
  refine lv_iload_n hx hb dX4_change_2 rfl (lv_at hl 2 rfl) ?_
  obtain ⟨u1, eu1, hf⟩ := bs_ hf
  obtain ⟨r2, er2, hf⟩ := bs_ hf
  refine cl_i0 hH (rn_V ⟨hx, hb, hml, hown, hts⟩ hKn hH (mX4_isHit l G M n a0 a1 a2 r2 er2) (cwV 2 hts (lw_V q1396 q1398 qs50 q70 q1399) rfl rfl rfl ⟨rfl, kdX4_isHit⟩ ⟨Nat.le_of_ble_eq_true rfl, Nat.le_of_ble_eq_true rfl⟩) eu1 rfl rfl hl.1 (Nat.le_of_ble_eq_true rfl) dX4_change_3 ⟨(Nat.le_of_ble_eq_true rfl), (Nat.le_of_ble_eq_true rfl)⟩ rfl) (fun H locs hH => ?_)
  refine lv_if_eq (tgt := 26) hx hb dX4_change_6 (by decide) (fun c16 => ?_) (fun c16 => ?_)
  · have hf := ip_ c16 hf
    refine lv_iconst (v := (-1)) hx hb dX4_change_26 (by decide) ?_
    cases hf
    exact rt_i hx hb hr hlk hH dX4_change_27
  · have hf := in_ c16 hf
    refine lv_iload_n hx hb dX4_change_9 rfl (lv_at hl 3 rfl) ?_
    obtain ⟨r3, er3⟩ : ∃ z, z = fX4_isPlayer a3 := ⟨_, rfl⟩
    have hf := lu_ er3 hf
    refine cl_i0 hH (rn_S ⟨hx, hb, hml, hown, hts⟩ hKn hH (mX4_isPlayer l G M n a3 r3 er3.symm) (va_cwS 1 hts (lw_S q1277 q1278 q70 q1279) rfl rfl rfl kdX4_isPlayer ⟨Nat.le_of_ble_eq_true rfl, Nat.le_of_ble_eq_true rfl⟩) rfl hl.1 (Nat.le_of_ble_eq_true rfl) dX4_change_10 ⟨(Nat.le_of_ble_eq_true rfl), (Nat.le_of_ble_eq_true rfl)⟩ rfl) (fun H locs hH => ?_)
    refine lv_if_eq (tgt := 26) hx hb dX4_change_13 (by decide) (fun c15 => ?_) (fun c15 => ?_)
    · have hf := ip_ c15 hf
      refine lv_iconst (v := (-1)) hx hb dX4_change_26 (by decide) ?_
      cases hf
      exact rt_i hx hb hr hlk hH dX4_change_27
    · have hf := in_ c15 hf
      refine lv_iload hx hb dX4_change_16 (lv_at hl 4 rfl) ?_
      refine lv_iconst (v := 0) hx hb dX4_change_18 (by decide) ?_
      refine lv_iconst (v := 1) hx hb dX4_change_19 (by decide) ?_
      obtain ⟨r4, er4⟩ : ∃ z, z = fX4_isIn a4 0 1 := ⟨_, rfl⟩
      have hf := lu_ er4 hf
      refine cl_i0 hH (rn_S ⟨hx, hb, hml, hown, hts⟩ hKn hH (mX4_isIn l G M n a4 0 1 r4 er4.symm) (va_cwS 3 hts (lw_S q1248 q1249 q70 q1250) rfl rfl rfl kdX4_isIn ⟨Nat.le_of_ble_eq_true rfl, Nat.le_of_ble_eq_true rfl⟩) rfl hl.1 (Nat.le_of_ble_eq_true rfl) dX4_change_20 ⟨(Nat.le_of_ble_eq_true rfl), (Nat.le_of_ble_eq_true rfl)⟩ rfl) (fun H locs hH => ?_)
      refine lv_if_ne (tgt := 28) hx hb dX4_change_23 (by decide) (fun c14 => ?_) (fun c14 => ?_)
      · have hf := in_ c14 hf
        refine lv_aload_n hx hb dX4_change_28 rfl (lv_at hl 0 rfl) ?_
        refine lv_iload_n hx hb dX4_change_29 rfl (lv_at hl 1 rfl) ?_
        refine lv_iload_n hx hb dX4_change_30 rfl (lv_at hl 2 rfl) ?_
        obtain ⟨u5, eu5, hf⟩ := bs_ hf
        obtain ⟨r6, M7, er6, hf⟩ := bws_ hf
        refine cl_i0 hH (rn_V ⟨hx, hb, hml, hown, hts⟩ hKn hH (mX4_isWon l G M n a0 a1 a2 r6 M7 er6) (cwV 2 hts (lw_V q1412 q1414 qs53 q70 q1415) rfl rfl rfl ⟨rfl, kdX4_isWon⟩ ⟨Nat.le_of_ble_eq_true rfl, Nat.le_of_ble_eq_true rfl⟩) eu5 rfl rfl hl.1 (Nat.le_of_ble_eq_true rfl) dX4_change_31 ⟨(Nat.le_of_ble_eq_true rfl), (Nat.le_of_ble_eq_true rfl)⟩ rfl) (fun H locs hH => ?_)
        refine lv_istore (lv' := [(5, .int (b2_ r6)), (0, .ref a0), (1, .int a1), (2, .int a2), (3, .int a3), (4, .int a4)]) hx hb dX4_change_34 hl (by decide) rfl (fun ls hl => ?_)
        refine lv_aload_n hx hb dX4_change_36 rfl (lv_at hl 1 rfl) ?_
        obtain ⟨v8, ev8, hf⟩ := bs_ hf
        refine mg_gR hx hb hts hown hKn hH ev8 in_X4 rfl (by decide) (hts _ q1177) (fun _ h9 => h9) dX4_change_37 ?_
        refine lv_iload_n hx hb dX4_change_40 rfl (lv_at hl 4 rfl) ?_
        refine lv_iload hx hb dX4_change_41 (lv_at hl 5 rfl) ?_
        refine lv_if_ne (tgt := 50) hx hb dX4_change_43 (by decide) (fun c13 => ?_) (fun c13 => ?_)
        · have hf := in_ c13 hf
          refine lv_iconst (v := 2) hx hb dX4_change_50 (by decide) ?_
          obtain ⟨r9, er9⟩ : ∃ z, z = fX4_ofP a3 2 := ⟨_, rfl⟩
          have hf := lu_ er9 hf
          refine cl_i0 hH (rn_S ⟨hx, hb, hml, hown, hts⟩ hKn hH (mX4_ofP l G M7 n a3 2 r9 er9.symm) (va_cwS 2 hts (lw_S q1170 q1171 q70 q1172) rfl rfl rfl kdX4_ofP ⟨Nat.le_of_ble_eq_true rfl, Nat.le_of_ble_eq_true rfl⟩) rfl hl.1 (Nat.le_of_ble_eq_true rfl) dX4_change_51 ⟨(Nat.le_of_ble_eq_true rfl), (Nat.le_of_ble_eq_true rfl)⟩ rfl) (fun H locs hH => ?_)
          obtain ⟨v10, ev10, hf⟩ := bs_ hf
          refine mg_iald hx hb hKn hH ev10 dX4_change_54 ?_
          cases hf
          exact rt_i hx hb hr hlk hH dX4_change_55
        · have hf := ip_ c13 hf
          refine lv_iconst (v := 0) hx hb dX4_change_46 (by decide) ?_
          refine lv_goto (tgt := 51) hx hb dX4_change_47 (by decide) ?_
          obtain ⟨r11, er11⟩ : ∃ z, z = fX4_ofP a3 0 := ⟨_, rfl⟩
          have hf := lu_ er11 hf
          refine cl_i0 hH (rn_S ⟨hx, hb, hml, hown, hts⟩ hKn hH (mX4_ofP l G M7 n a3 0 r11 er11.symm) (va_cwS 2 hts (lw_S q1170 q1171 q70 q1172) rfl rfl rfl kdX4_ofP ⟨Nat.le_of_ble_eq_true rfl, Nat.le_of_ble_eq_true rfl⟩) rfl hl.1 (Nat.le_of_ble_eq_true rfl) dX4_change_51 ⟨(Nat.le_of_ble_eq_true rfl), (Nat.le_of_ble_eq_true rfl)⟩ rfl) (fun H locs hH => ?_)
          obtain ⟨v12, ev12, hf⟩ := bs_ hf
          refine mg_iald hx hb hKn hH ev12 dX4_change_54 ?_
          cases hf
          exact rt_i hx hb hr hlk hH dX4_change_55
      · have hf := ip_ c14 hf
        refine lv_iconst (v := (-1)) hx hb dX4_change_26 (by decide) ?_
        cases hf
        exact rt_i hx hb hr hlk hH dX4_change_27
def fX4_wrongRally_L28 : Nat → Mem_ → Nat → Int32 → Int32 → Int32 → Option Int32
  | 0, _, _, _, _, _ => none
  | fuel + 1, M, x0, x1, x2, x3 =>
    if x2 = 0 then
      (gR_ M x0 3 17).bind fun v7 =>
      (aI_ M v7 0 x1).bind fun v8 =>
      if v8 ≤ x3 then
        some x2
      else
        (gR_ M x0 3 18).bind fun v9 =>
        (aI_ M v9 0 ((100 * x1) + x3)).bind fun v10 =>
        (gR_ M x0 3 18).bind fun v11 =>
        (aI_ M v11 0 (((100 * x1) + x3) + 1)).bind fun v12 =>
        (ck_ M x0 3).bind fun u13 =>
        (fX4_isHit M x0 v10 v12).bind fun r14 =>
        if (b2_ r14) = 0 then
          lt_ (x3 + 2) fun v16 =>
          fX4_wrongRally_L28 fuel M x0 x1 (-13) v16
        else
          lt_ (x3 + 2) fun v15 =>
          fX4_wrongRally_L28 fuel M x0 x1 x2 v15
    else
      some x2
def fX4_wrongRally (M : Mem_) (a0 : Nat) (a1 : Int32) : Option Int32 :=
  (ck_ M a0 3).bind fun u1 =>
  (fX4_wrongRow M a0 a1 (-1)).bind fun r2 =>
  if r2 = 0 then
    (gR_ M a0 3 17).bind fun v3 =>
    (aI_ M v3 0 a1).bind fun v4 =>
    if (v4 - v4 / 2 * 2) = 1 then
      fX4_wrongRally_L28 1000 M a0 a1 (-13) 0
    else
      fX4_wrongRally_L28 1000 M a0 a1 r2 0
  else
    fX4_wrongRally_L28 1000 M a0 a1 r2 0
theorem kdX4_wrongRally : yX4_wrongRally.cls ≠ "java/lang/invoke/MethodHandle" ∧ yX4_wrongRally.cls ≠ "java/lang/invoke/VarHandle" ∧ (parseMethodDescriptor yX4_wrongRally.desc).map (fun d => d.parameters.length) = some 1 := by decide +kernel
set_option maxHeartbeats 4000000 in
theorem mX4_wrongRally (l : Launch) (G : GT_) (M : Mem_) (n : Nat) (a0 : Nat) (a1 : Int32) (r : Int32) (hf : fX4_wrongRally M a0 a1 = some r) : Ct_ G l yX4_wrongRally (ws_ yX4_wrongRally cX4_wrongRally 4 (some .int)) ({ frames := 3, cells := 0, slots := 0, locals := 65 }) 0 0 [.ref a0, .int a1] M n (some (.int r)) M n := by
  refine en_ (by decide) (Nat.le_of_ble_eq_true rfl) ?_
  intro p e s m below meth c hx hb hr hlk hml hown hts hname hKn hH ls hl
  have hown : s.vm.findClass RX4 = some m.cls := hown
  have hl : lv_has ls 4 [(0, .ref a0), (1, .int a1)] := hl
  have w28 : ∀ (fuel : Nat), ∀ (M : Mem_) (x0 : Nat) (x1 : Int32) (x2 : Int32) (x3 : Int32) (H : Heap) (locs : List Loc) (ls : Array Slot), St_ G n M s H locs → lv_has ls 4 [(0, .ref x0), (1, .int x1), (2, .int x2), (3, .int x3)] → fX4_wrongRally_L28 fuel M x0 x1 x2 x3 = some r → W p l e ({ frames := 3, cells := 0, slots := 0, locals := 65 } : Room) s m ([.ref a0, .int a1] : List Value).toArray below meth c H locs 0 0 (MQ below (Qc_ G (some (.int r)) M n) ([.ref a0, .int a1] : List Value).toArray s 0 0 (fun q => G.1 ≤ q)) (F0 m 28 ls []) := by
    intro fuel
    induction fuel with
    | zero =>
      intro M x0 x1 x2 x3 H locs ls hH hl hf
      cases hf
    | succ fuel ih =>
      intro M x0 x1 x2 x3 H locs ls hH hl hf
      unfold fX4_wrongRally_L28 at hf
      refine lv_iload_n hx hb dX4_wrongRally_28 rfl (lv_at hl 2 rfl) ?_
      refine lv_if_ne (tgt := 82) hx hb dX4_wrongRally_29 (by decide) (fun c19 => ?_) (fun c19 => ?_)
      · have hf := in_ c19 hf
        refine lv_iload_n hx hb dX4_wrongRally_82 rfl (lv_at hl 2 rfl) ?_
        cases hf
        exact rt_i hx hb hr hlk hH dX4_wrongRally_83
      · have hf := ip_ c19 hf
        refine lv_iload_n hx hb dX4_wrongRally_32 rfl (lv_at hl 3 rfl) ?_
        refine lv_aload_n hx hb dX4_wrongRally_33 rfl (lv_at hl 0 rfl) ?_
        obtain ⟨v7, ev7, hf⟩ := bs_ hf
        refine mg_gR hx hb hts hown hKn hH ev7 in_X4 rfl (by decide) (hts _ q1193) (fun _ h9 => h9) dX4_wrongRally_34 ?_
        refine lv_iload_n hx hb dX4_wrongRally_37 rfl (lv_at hl 1 rfl) ?_
        obtain ⟨v8, ev8, hf⟩ := bs_ hf
        refine mg_iald hx hb hKn hH ev8 dX4_wrongRally_38 ?_
        refine lv_icmp_ge (tgt := 82) hx hb dX4_wrongRally_39 (by decide) (fun c18 => ?_) (fun c18 => ?_)
        · have hf := ip_ c18 hf
          refine lv_iload_n hx hb dX4_wrongRally_82 rfl (lv_at hl 2 rfl) ?_
          cases hf
          exact rt_i hx hb hr hlk hH dX4_wrongRally_83
        · have hf := in_ c18 hf
          refine lv_aload_n hx hb dX4_wrongRally_42 rfl (lv_at hl 0 rfl) ?_
          refine lv_aload_n hx hb dX4_wrongRally_43 rfl (lv_at hl 0 rfl) ?_
          obtain ⟨v9, ev9, hf⟩ := bs_ hf
          refine mg_gR hx hb hts hown hKn hH ev9 in_X4 rfl (by decide) (hts _ q1194) (fun _ h9 => h9) dX4_wrongRally_44 ?_
          refine lv_bipush (v := 100) hx hb dX4_wrongRally_47 (by decide) ?_
          refine lv_iload_n hx hb dX4_wrongRally_49 rfl (lv_at hl 1 rfl) ?_
          refine lv_imul hx hb dX4_wrongRally_50 ?_
          refine lv_iload_n hx hb dX4_wrongRally_51 rfl (lv_at hl 3 rfl) ?_
          refine lv_iadd hx hb dX4_wrongRally_52 ?_
          obtain ⟨v10, ev10, hf⟩ := bs_ hf
          refine mg_iald hx hb hKn hH ev10 dX4_wrongRally_53 ?_
          refine lv_aload_n hx hb dX4_wrongRally_54 rfl (lv_at hl 0 rfl) ?_
          obtain ⟨v11, ev11, hf⟩ := bs_ hf
          refine mg_gR hx hb hts hown hKn hH ev11 in_X4 rfl (by decide) (hts _ q1194) (fun _ h9 => h9) dX4_wrongRally_55 ?_
          refine lv_bipush (v := 100) hx hb dX4_wrongRally_58 (by decide) ?_
          refine lv_iload_n hx hb dX4_wrongRally_60 rfl (lv_at hl 1 rfl) ?_
          refine lv_imul hx hb dX4_wrongRally_61 ?_
          refine lv_iload_n hx hb dX4_wrongRally_62 rfl (lv_at hl 3 rfl) ?_
          refine lv_iadd hx hb dX4_wrongRally_63 ?_
          refine lv_iconst (v := 1) hx hb dX4_wrongRally_64 (by decide) ?_
          refine lv_iadd hx hb dX4_wrongRally_65 ?_
          obtain ⟨v12, ev12, hf⟩ := bs_ hf
          refine mg_iald hx hb hKn hH ev12 dX4_wrongRally_66 ?_
          obtain ⟨u13, eu13, hf⟩ := bs_ hf
          obtain ⟨r14, er14, hf⟩ := bs_ hf
          refine cl_i0 hH (rn_V ⟨hx, hb, hml, hown, hts⟩ hKn hH (mX4_isHit l G M n x0 v10 v12 r14 er14) (cwV 2 hts (lw_V q1396 q1398 qs50 q70 q1399) rfl rfl rfl ⟨rfl, kdX4_isHit⟩ ⟨Nat.le_of_ble_eq_true rfl, Nat.le_of_ble_eq_true rfl⟩) eu13 rfl rfl hl.1 (Nat.le_of_ble_eq_true rfl) dX4_wrongRally_67 ⟨(Nat.le_of_ble_eq_true rfl), (Nat.le_of_ble_eq_true rfl)⟩ rfl) (fun H locs hH => ?_)
          refine lv_if_ne (tgt := 76) hx hb dX4_wrongRally_70 (by decide) (fun c17 => ?_) (fun c17 => ?_)
          · have hf := in_ c17 hf
            obtain ⟨v15, ev15⟩ : ∃ z : Int32, z = x3 + 2 := ⟨_, rfl⟩
            have hf := lu_ ev15 hf
            refine lv_iinc (v := v15) (lv' := [(3, .int v15), (0, .ref x0), (1, .int x1), (2, .int x2)]) hx hb dX4_wrongRally_76 hl (k := 3) rfl (by rw [ev15]; rfl) (by decide) rfl (fun ls hl => ?_)
            refine lv_goto (tgt := 28) hx hb dX4_wrongRally_79 (by decide) ?_
            exact ih M x0 x1 x2 v15 _ _ ls hH (lv_sub hl [1, 2, 3, 0] rfl) hf
          · have hf := ip_ c17 hf
            refine lv_bipush (v := (-13)) hx hb dX4_wrongRally_73 (by decide) ?_
            refine lv_istore_n (lv' := [(2, .int (-13)), (0, .ref x0), (1, .int x1), (3, .int x3)]) hx hb dX4_wrongRally_75 rfl hl (by decide) rfl (fun ls hl => ?_)
            obtain ⟨v16, ev16⟩ : ∃ z : Int32, z = x3 + 2 := ⟨_, rfl⟩
            have hf := lu_ ev16 hf
            refine lv_iinc (v := v16) (lv' := [(3, .int v16), (2, .int (-13)), (0, .ref x0), (1, .int x1)]) hx hb dX4_wrongRally_76 hl (k := 3) rfl (by rw [ev16]; rfl) (by decide) rfl (fun ls hl => ?_)
            refine lv_goto (tgt := 28) hx hb dX4_wrongRally_79 (by decide) ?_
            exact ih M x0 x1 (-13) v16 _ _ ls hH (lv_sub hl [2, 3, 1, 0] rfl) hf
  unfold fX4_wrongRally at hf
  refine lv_aload_n hx hb dX4_wrongRally_0 rfl (lv_at hl 0 rfl) ?_
  refine lv_iload_n hx hb dX4_wrongRally_1 rfl (lv_at hl 1 rfl) ?_
  refine lv_iconst (v := (-1)) hx hb dX4_wrongRally_2 (by decide) ?_
  obtain ⟨u1, eu1, hf⟩ := bs_ hf
  obtain ⟨r2, er2, hf⟩ := bs_ hf
  refine cl_i0 hH (rn_V ⟨hx, hb, hml, hown, hts⟩ hKn hH (mX4_wrongRow l G M n a0 a1 (-1) r2 er2) (cwV 2 hts (lw_V q1241 q1243 qs38 q70 q1244) rfl rfl rfl ⟨rfl, kdX4_wrongRow⟩ ⟨Nat.le_of_ble_eq_true rfl, Nat.le_of_ble_eq_true rfl⟩) eu1 rfl rfl hl.1 (Nat.le_of_ble_eq_true rfl) dX4_wrongRally_3 ⟨(Nat.le_of_ble_eq_true rfl), (Nat.le_of_ble_eq_true rfl)⟩ rfl) (fun H locs hH => ?_)
  refine lv_istore_n (lv' := [(2, .int r2), (0, .ref a0), (1, .int a1)]) hx hb dX4_wrongRally_6 rfl hl (by decide) rfl (fun ls hl => ?_)
  refine lv_iload_n hx hb dX4_wrongRally_7 rfl (lv_at hl 0 rfl) ?_
  refine lv_if_ne (tgt := 26) hx hb dX4_wrongRally_8 (by decide) (fun c6 => ?_) (fun c6 => ?_)
  · have hf := in_ c6 hf
    refine lv_iconst (v := 0) hx hb dX4_wrongRally_26 (by decide) ?_
    refine lv_istore_n (lv' := [(3, .int 0), (2, .int r2), (0, .ref a0), (1, .int a1)]) hx hb dX4_wrongRally_27 rfl hl (by decide) rfl (fun ls hl => ?_)
    exact w28 1000 M a0 a1 r2 0 _ _ ls hH (lv_sub hl [2, 3, 1, 0] rfl) hf
  · have hf := ip_ c6 hf
    refine lv_aload_n hx hb dX4_wrongRally_11 rfl (lv_at hl 1 rfl) ?_
    obtain ⟨v3, ev3, hf⟩ := bs_ hf
    refine mg_gR hx hb hts hown hKn hH ev3 in_X4 rfl (by decide) (hts _ q1193) (fun _ h9 => h9) dX4_wrongRally_12 ?_
    refine lv_iload_n hx hb dX4_wrongRally_15 rfl (lv_at hl 2 rfl) ?_
    obtain ⟨v4, ev4, hf⟩ := bs_ hf
    refine mg_iald hx hb hKn hH ev4 dX4_wrongRally_16 ?_
    refine lv_iconst (v := 2) hx hb dX4_wrongRally_17 (by decide) ?_
    refine lv_irem hx hb dX4_wrongRally_18 (by decide) ?_
    refine lv_iconst (v := 1) hx hb dX4_wrongRally_19 (by decide) ?_
    refine lv_icmp_ne (tgt := 26) hx hb dX4_wrongRally_20 (by decide) (fun c5 => ?_) (fun c5 => ?_)
    · have hf := in_ c5 hf
      refine lv_iconst (v := 0) hx hb dX4_wrongRally_26 (by decide) ?_
      refine lv_istore_n (lv' := [(3, .int 0), (2, .int r2), (0, .ref a0), (1, .int a1)]) hx hb dX4_wrongRally_27 rfl hl (by decide) rfl (fun ls hl => ?_)
      exact w28 1000 M a0 a1 r2 0 _ _ ls hH (lv_sub hl [2, 3, 1, 0] rfl) hf
    · have hf := ip_ c5 hf
      refine lv_bipush (v := (-13)) hx hb dX4_wrongRally_23 (by decide) ?_
      refine lv_istore_n (lv' := [(2, .int (-13)), (0, .ref a0), (1, .int a1)]) hx hb dX4_wrongRally_25 rfl hl (by decide) rfl (fun ls hl => ?_)
      refine lv_iconst (v := 0) hx hb dX4_wrongRally_26 (by decide) ?_
      refine lv_istore_n (lv' := [(3, .int 0), (2, .int (-13)), (0, .ref a0), (1, .int a1)]) hx hb dX4_wrongRally_27 rfl hl (by decide) rfl (fun ls hl => ?_)
      exact w28 1000 M a0 a1 (-13) 0 _ _ ls hH (lv_sub hl [2, 3, 1, 0] rfl) hf
def fX4_rallies_L43 : Nat → Mem_ → Nat → Int32 → Int32 → Option Mem_
  | 0, _, _, _, _ => none
  | fuel + 1, M, x0, x1, x2 =>
    (gR_ M x0 3 17).bind fun v11 =>
    (aI_ M v11 0 x1).bind fun v12 =>
    if v12 ≤ x2 then
      some M
    else
      (gI_ M x0 3 11).bind fun v13 =>
      if v13 = 2 then
        (gR_ M x0 3 1).bind fun v14 =>
        (aI_ M v14 0 2).bind fun v15 =>
        lt_ (fX4_sideOf v15) fun r16 =>
        (gR_ M x0 3 1).bind fun v17 =>
        (gR_ M x0 3 18).bind fun v18 =>
        (aI_ M v18 0 ((100 * x1) + x2)).bind fun v19 =>
        (gR_ M x0 3 18).bind fun v20 =>
        (aI_ M v20 0 (((100 * x1) + x2) + 1)).bind fun v21 =>
        (ck_ M x0 3).bind fun u22 =>
        bw_ (fX4_hits M x0 v17 v19 v21) fun r23 M24 =>
        if (b2_ r23) = 0 then
          (gI_ M24 x0 3 10).bind fun v25 =>
          lt_ ((v25 + 1)) fun v26 =>
          (pF_ M24 x0 3 10 (.int v26)).bind fun M27 =>
          lt_ (x2 + 2) fun v28 =>
          fX4_rallies_L43 fuel M27 x0 x1 v28
        else
          (pF_ M24 x0 3 11 (.int r16)).bind fun M29 =>
          (gI_ M29 x0 3 10).bind fun v30 =>
          lt_ ((v30 + 1)) fun v31 =>
          (pF_ M29 x0 3 10 (.int v31)).bind fun M32 =>
          lt_ (x2 + 2) fun v33 =>
          fX4_rallies_L43 fuel M32 x0 x1 v33
      else
        some M
def fX4_rallies_L13 : Nat → Mem_ → Nat → Int32 → Int32 → Option Mem_
  | 0, _, _, _, _ => none
  | fuel + 1, M, x0, x1, x2 =>
    if 4 ≤ x2 then
      (pF_ M x0 3 10 (.int 0)).bind fun M5 =>
      (pF_ M5 x0 3 11 (.int 2)).bind fun M6 =>
      fX4_rallies_L43 1000 M6 x0 x1 0
    else
      (gR_ M x0 3 4).bind fun v7 =>
      (sI_ M v7 0 x2 0).bind fun M8 =>
      lt_ (x2 + 1) fun v9 =>
      fX4_rallies_L13 fuel M8 x0 x1 v9
def fX4_rallies (M : Mem_) (a0 : Nat) (a1 : Int32) : Option Mem_ :=
  (gR_ M a0 3 0).bind fun v1 =>
  (gR_ M a0 3 1).bind fun v2 =>
  (fX4_copies M v1 v2).bind fun M4 =>
  fX4_rallies_L13 1000 M4 a0 a1 0
theorem kdX4_rallies : yX4_rallies.cls ≠ "java/lang/invoke/MethodHandle" ∧ yX4_rallies.cls ≠ "java/lang/invoke/VarHandle" ∧ (parseMethodDescriptor yX4_rallies.desc).map (fun d => d.parameters.length) = some 1 := by decide +kernel
set_option maxHeartbeats 4000000 in
theorem mX4_rallies (l : Launch) (G : GT_) (M : Mem_) (n : Nat) (a0 : Nat) (a1 : Int32) (M1 : Mem_) (hf : fX4_rallies M a0 a1 = some M1) : Ct_ G l yX4_rallies (ws_ yX4_rallies cX4_rallies 4 none) ({ frames := 4, cells := 0, slots := 0, locals := 99 }) 0 0 [.ref a0, .int a1] M n (none) M1 n := by
  refine en_ (by decide) (Nat.le_of_ble_eq_true rfl) ?_
  intro p e s m below meth c hx hb hr hlk hml hown hts hname hKn hH ls hl
  have hown : s.vm.findClass RX4 = some m.cls := hown
  have hl : lv_has ls 4 [(0, .ref a0), (1, .int a1)] := hl
  have w43 : ∀ (fuel : Nat), ∀ (M : Mem_) (x0 : Nat) (x1 : Int32) (x2 : Int32) (H : Heap) (locs : List Loc) (ls : Array Slot), St_ G n M s H locs → lv_has ls 4 [(0, .ref x0), (1, .int x1), (2, .int x2)] → fX4_rallies_L43 fuel M x0 x1 x2 = some M1 → W p l e ({ frames := 4, cells := 0, slots := 0, locals := 99 } : Room) s m ([.ref a0, .int a1] : List Value).toArray below meth c H locs 0 0 (MQ below (Qc_ G (none) M1 n) ([.ref a0, .int a1] : List Value).toArray s 0 0 (fun q => G.1 ≤ q)) (F0 m 43 ls []) := by
    intro fuel
    induction fuel with
    | zero =>
      intro M x0 x1 x2 H locs ls hH hl hf
      cases hf
    | succ fuel ih =>
      intro M x0 x1 x2 H locs ls hH hl hf
      unfold fX4_rallies_L43 at hf
      refine lv_iload_n hx hb dX4_rallies_43 rfl (lv_at hl 2 rfl) ?_
      refine lv_aload_n hx hb dX4_rallies_44 rfl (lv_at hl 0 rfl) ?_
      obtain ⟨v11, ev11, hf⟩ := bs_ hf
      refine mg_gR hx hb hts hown hKn hH ev11 in_X4 rfl (by decide) (hts _ q1193) (fun _ h9 => h9) dX4_rallies_45 ?_
      refine lv_iload_n hx hb dX4_rallies_48 rfl (lv_at hl 1 rfl) ?_
      obtain ⟨v12, ev12, hf⟩ := bs_ hf
      refine mg_iald hx hb hKn hH ev12 dX4_rallies_49 ?_
      refine lv_icmp_ge (tgt := 127) hx hb dX4_rallies_50 (by decide) (fun c36 => ?_) (fun c36 => ?_)
      · have hf := ip_ c36 hf
        cases hf
        exact rt_v hx hb hr hlk hH dX4_rallies_127
      · have hf := in_ c36 hf
        refine lv_aload_n hx hb dX4_rallies_53 rfl (lv_at hl 0 rfl) ?_
        obtain ⟨v13, ev13, hf⟩ := bs_ hf
        refine mg_gI hx hb hts hown hKn hH ev13 in_X4 rfl (by decide) (hts _ q1187) (fun _ h9 => h9) dX4_rallies_54 ?_
        refine lv_iconst (v := 2) hx hb dX4_rallies_57 (by decide) ?_
        refine lv_icmp_ne (tgt := 127) hx hb dX4_rallies_58 (by decide) (fun c35 => ?_) (fun c35 => ?_)
        · have hf := in_ c35 hf
          cases hf
          exact rt_v hx hb hr hlk hH dX4_rallies_127
        · have hf := ip_ c35 hf
          refine lv_aload_n hx hb dX4_rallies_61 rfl (lv_at hl 0 rfl) ?_
          obtain ⟨v14, ev14, hf⟩ := bs_ hf
          refine mg_gR hx hb hts hown hKn hH ev14 in_X4 rfl (by decide) (hts _ q1177) (fun _ h9 => h9) dX4_rallies_62 ?_
          refine lv_iconst (v := 2) hx hb dX4_rallies_65 (by decide) ?_
          obtain ⟨v15, ev15, hf⟩ := bs_ hf
          refine mg_iald hx hb hKn hH ev15 dX4_rallies_66 ?_
          obtain ⟨r16, er16⟩ : ∃ z, z = fX4_sideOf v15 := ⟨_, rfl⟩
          have hf := lu_ er16 hf
          refine cl_i0 hH (rn_S ⟨hx, hb, hml, hown, hts⟩ hKn hH (mX4_sideOf l G M n v15 r16 er16.symm) (va_cwS 1 hts (lw_S q1295 q1296 q70 q1297) rfl rfl rfl kdX4_sideOf ⟨Nat.le_of_ble_eq_true rfl, Nat.le_of_ble_eq_true rfl⟩) rfl hl.1 (Nat.le_of_ble_eq_true rfl) dX4_rallies_67 ⟨(Nat.le_of_ble_eq_true rfl), (Nat.le_of_ble_eq_true rfl)⟩ rfl) (fun H locs hH => ?_)
          refine lv_istore_n (lv' := [(3, .int r16), (0, .ref x0), (1, .int x1), (2, .int x2)]) hx hb dX4_rallies_70 rfl hl (by decide) rfl (fun ls hl => ?_)
          refine lv_aload_n hx hb dX4_rallies_71 rfl (lv_at hl 1 rfl) ?_
          refine lv_aload_n hx hb dX4_rallies_72 rfl (lv_at hl 1 rfl) ?_
          obtain ⟨v17, ev17, hf⟩ := bs_ hf
          refine mg_gR hx hb hts hown hKn hH ev17 in_X4 rfl (by decide) (hts _ q1177) (fun _ h9 => h9) dX4_rallies_73 ?_
          refine lv_aload_n hx hb dX4_rallies_76 rfl (lv_at hl 1 rfl) ?_
          obtain ⟨v18, ev18, hf⟩ := bs_ hf
          refine mg_gR hx hb hts hown hKn hH ev18 in_X4 rfl (by decide) (hts _ q1194) (fun _ h9 => h9) dX4_rallies_77 ?_
          refine lv_bipush (v := 100) hx hb dX4_rallies_80 (by decide) ?_
          refine lv_iload_n hx hb dX4_rallies_82 rfl (lv_at hl 2 rfl) ?_
          refine lv_imul hx hb dX4_rallies_83 ?_
          refine lv_iload_n hx hb dX4_rallies_84 rfl (lv_at hl 3 rfl) ?_
          refine lv_iadd hx hb dX4_rallies_85 ?_
          obtain ⟨v19, ev19, hf⟩ := bs_ hf
          refine mg_iald hx hb hKn hH ev19 dX4_rallies_86 ?_
          refine lv_aload_n hx hb dX4_rallies_87 rfl (lv_at hl 1 rfl) ?_
          obtain ⟨v20, ev20, hf⟩ := bs_ hf
          refine mg_gR hx hb hts hown hKn hH ev20 in_X4 rfl (by decide) (hts _ q1194) (fun _ h9 => h9) dX4_rallies_88 ?_
          refine lv_bipush (v := 100) hx hb dX4_rallies_91 (by decide) ?_
          refine lv_iload_n hx hb dX4_rallies_93 rfl (lv_at hl 2 rfl) ?_
          refine lv_imul hx hb dX4_rallies_94 ?_
          refine lv_iload_n hx hb dX4_rallies_95 rfl (lv_at hl 3 rfl) ?_
          refine lv_iadd hx hb dX4_rallies_96 ?_
          refine lv_iconst (v := 1) hx hb dX4_rallies_97 (by decide) ?_
          refine lv_iadd hx hb dX4_rallies_98 ?_
          obtain ⟨v21, ev21, hf⟩ := bs_ hf
          refine mg_iald hx hb hKn hH ev21 dX4_rallies_99 ?_
          obtain ⟨u22, eu22, hf⟩ := bs_ hf
          obtain ⟨r23, M24, er23, hf⟩ := bws_ hf
          refine cl_i0 hH (rn_V ⟨hx, hb, hml, hown, hts⟩ hKn hH (mX4_hits l G M n x0 v17 v19 v21 r23 M24 er23) (cwV 3 hts (lw_V q1291 q1293 qs46 q70 q1294) rfl rfl rfl ⟨rfl, kdX4_hits⟩ ⟨Nat.le_of_ble_eq_true rfl, Nat.le_of_ble_eq_true rfl⟩) eu22 rfl rfl hl.1 (Nat.le_of_ble_eq_true rfl) dX4_rallies_100 ⟨(Nat.le_of_ble_eq_true rfl), (Nat.le_of_ble_eq_true rfl)⟩ rfl) (fun H locs hH => ?_)
          refine lv_if_eq (tgt := 111) hx hb dX4_rallies_103 (by decide) (fun c34 => ?_) (fun c34 => ?_)
          · have hf := ip_ c34 hf
            refine lv_aload_n hx hb dX4_rallies_111 rfl (lv_at hl 1 rfl) ?_
            refine lv_dup hx hb dX4_rallies_112 rfl ?_
            obtain ⟨v25, ev25, hf⟩ := bs_ hf
            refine mg_gI hx hb hts hown hKn hH ev25 in_X4 rfl (by decide) (hts _ q1186) (fun _ h9 => h9) dX4_rallies_113 ?_
            refine lv_iconst (v := 1) hx hb dX4_rallies_116 (by decide) ?_
            refine lv_iadd hx hb dX4_rallies_117 ?_
            refine lv_topi (fun v26 ev26 => ?_)
            have hf := lu_ ev26 hf
            obtain ⟨M27, eM27, hf⟩ := bs_ hf
            refine mg_pF hx hb hts hown hKn hH eM27 in_X4 tyX4_ok nmX4 rfl (by decide) (hts _ q1186) (fun _ h9 => h9) rfl rfl rfl dX4_rallies_118 (fun H locs hH => ?_)
            obtain ⟨v28, ev28⟩ : ∃ z : Int32, z = x2 + 2 := ⟨_, rfl⟩
            have hf := lu_ ev28 hf
            refine lv_iinc (v := v28) (lv' := [(2, .int v28), (3, .int r16), (0, .ref x0), (1, .int x1)]) hx hb dX4_rallies_121 hl (k := 3) rfl (by rw [ev28]; rfl) (by decide) rfl (fun ls hl => ?_)
            refine lv_goto (tgt := 43) hx hb dX4_rallies_124 (by decide) ?_
            exact ih M27 x0 x1 v28 _ _ ls hH (lv_sub hl [2, 3, 0] rfl) hf
          · have hf := in_ c34 hf
            refine lv_aload_n hx hb dX4_rallies_106 rfl (lv_at hl 1 rfl) ?_
            refine lv_iload_n hx hb dX4_rallies_107 rfl (lv_at hl 0 rfl) ?_
            obtain ⟨M29, eM29, hf⟩ := bs_ hf
            refine mg_pF hx hb hts hown hKn hH eM29 in_X4 tyX4_ok nmX4 rfl (by decide) (hts _ q1187) (fun _ h9 => h9) rfl rfl rfl dX4_rallies_108 (fun H locs hH => ?_)
            refine lv_aload_n hx hb dX4_rallies_111 rfl (lv_at hl 1 rfl) ?_
            refine lv_dup hx hb dX4_rallies_112 rfl ?_
            obtain ⟨v30, ev30, hf⟩ := bs_ hf
            refine mg_gI hx hb hts hown hKn hH ev30 in_X4 rfl (by decide) (hts _ q1186) (fun _ h9 => h9) dX4_rallies_113 ?_
            refine lv_iconst (v := 1) hx hb dX4_rallies_116 (by decide) ?_
            refine lv_iadd hx hb dX4_rallies_117 ?_
            refine lv_topi (fun v31 ev31 => ?_)
            have hf := lu_ ev31 hf
            obtain ⟨M32, eM32, hf⟩ := bs_ hf
            refine mg_pF hx hb hts hown hKn hH eM32 in_X4 tyX4_ok nmX4 rfl (by decide) (hts _ q1186) (fun _ h9 => h9) rfl rfl rfl dX4_rallies_118 (fun H locs hH => ?_)
            obtain ⟨v33, ev33⟩ : ∃ z : Int32, z = x2 + 2 := ⟨_, rfl⟩
            have hf := lu_ ev33 hf
            refine lv_iinc (v := v33) (lv' := [(2, .int v33), (3, .int r16), (0, .ref x0), (1, .int x1)]) hx hb dX4_rallies_121 hl (k := 3) rfl (by rw [ev33]; rfl) (by decide) rfl (fun ls hl => ?_)
            refine lv_goto (tgt := 43) hx hb dX4_rallies_124 (by decide) ?_
            exact ih M32 x0 x1 v33 _ _ ls hH (lv_sub hl [2, 3, 0] rfl) hf
  have w13 : ∀ (fuel : Nat), ∀ (M : Mem_) (x0 : Nat) (x1 : Int32) (x2 : Int32) (H : Heap) (locs : List Loc) (ls : Array Slot), St_ G n M s H locs → lv_has ls 4 [(0, .ref x0), (1, .int x1), (2, .int x2)] → fX4_rallies_L13 fuel M x0 x1 x2 = some M1 → W p l e ({ frames := 4, cells := 0, slots := 0, locals := 99 } : Room) s m ([.ref a0, .int a1] : List Value).toArray below meth c H locs 0 0 (MQ below (Qc_ G (none) M1 n) ([.ref a0, .int a1] : List Value).toArray s 0 0 (fun q => G.1 ≤ q)) (F0 m 13 ls []) := by
    intro fuel
    induction fuel with
    | zero =>
      intro M x0 x1 x2 H locs ls hH hl hf
      cases hf
    | succ fuel ih =>
      intro M x0 x1 x2 H locs ls hH hl hf
      unfold fX4_rallies_L13 at hf
      refine lv_iload_n hx hb dX4_rallies_13 rfl (lv_at hl 2 rfl) ?_
      refine lv_iconst (v := 4) hx hb dX4_rallies_14 (by decide) ?_
      refine lv_icmp_ge (tgt := 31) hx hb dX4_rallies_15 (by decide) (fun c10 => ?_) (fun c10 => ?_)
      · have hf := ip_ c10 hf
        refine lv_aload_n hx hb dX4_rallies_31 rfl (lv_at hl 0 rfl) ?_
        refine lv_iconst (v := 0) hx hb dX4_rallies_32 (by decide) ?_
        obtain ⟨M5, eM5, hf⟩ := bs_ hf
        refine mg_pF hx hb hts hown hKn hH eM5 in_X4 tyX4_ok nmX4 rfl (by decide) (hts _ q1186) (fun _ h9 => h9) rfl rfl rfl dX4_rallies_33 (fun H locs hH => ?_)
        refine lv_aload_n hx hb dX4_rallies_36 rfl (lv_at hl 0 rfl) ?_
        refine lv_iconst (v := 2) hx hb dX4_rallies_37 (by decide) ?_
        obtain ⟨M6, eM6, hf⟩ := bs_ hf
        refine mg_pF hx hb hts hown hKn hH eM6 in_X4 tyX4_ok nmX4 rfl (by decide) (hts _ q1187) (fun _ h9 => h9) rfl rfl rfl dX4_rallies_38 (fun H locs hH => ?_)
        refine lv_iconst (v := 0) hx hb dX4_rallies_41 (by decide) ?_
        refine lv_istore_n (lv' := [(2, .int 0), (0, .ref x0), (1, .int x1)]) hx hb dX4_rallies_42 rfl hl (by decide) rfl (fun ls hl => ?_)
        exact w43 1000 M6 x0 x1 0 _ _ ls hH (lv_sub hl [1, 2, 0] rfl) hf
      · have hf := in_ c10 hf
        refine lv_aload_n hx hb dX4_rallies_18 rfl (lv_at hl 0 rfl) ?_
        obtain ⟨v7, ev7, hf⟩ := bs_ hf
        refine mg_gR hx hb hts hown hKn hH ev7 in_X4 rfl (by decide) (hts _ q1180) (fun _ h9 => h9) dX4_rallies_19 ?_
        refine lv_iload_n hx hb dX4_rallies_22 rfl (lv_at hl 2 rfl) ?_
        refine lv_iconst (v := 0) hx hb dX4_rallies_23 (by decide) ?_
        obtain ⟨M8, eM8, hf⟩ := bs_ hf
        refine mg_iast hx hb hKn hH eM8 dX4_rallies_24 (fun H locs hH => ?_)
        obtain ⟨v9, ev9⟩ : ∃ z : Int32, z = x2 + 1 := ⟨_, rfl⟩
        have hf := lu_ ev9 hf
        refine lv_iinc (v := v9) (lv' := [(2, .int v9), (0, .ref x0), (1, .int x1)]) hx hb dX4_rallies_25 hl (k := 2) rfl (by rw [ev9]; rfl) (by decide) rfl (fun ls hl => ?_)
        refine lv_goto (tgt := 13) hx hb dX4_rallies_28 (by decide) ?_
        exact ih M8 x0 x1 v9 _ _ ls hH (lv_sub hl [1, 2, 0] rfl) hf
  unfold fX4_rallies at hf
  refine lv_aload_n hx hb dX4_rallies_0 rfl (lv_at hl 0 rfl) ?_
  obtain ⟨v1, ev1, hf⟩ := bs_ hf
  refine mg_gR hx hb hts hown hKn hH ev1 in_X4 rfl (by decide) (hts _ q1176) (fun _ h9 => h9) dX4_rallies_1 ?_
  refine lv_aload_n hx hb dX4_rallies_4 rfl (lv_at hl 0 rfl) ?_
  obtain ⟨v2, ev2, hf⟩ := bs_ hf
  refine mg_gR hx hb hts hown hKn hH ev2 in_X4 rfl (by decide) (hts _ q1177) (fun _ h9 => h9) dX4_rallies_5 ?_
  obtain ⟨M4, er3, hf⟩ := bs_ hf
  refine cl_v0 hH (rn_S ⟨hx, hb, hml, hown, hts⟩ hKn hH (mX4_copies l G M n v1 v2 M4 er3) (va_cwS 2 hts (lw_S q1263 q1264 q70 q1265) rfl rfl rfl kdX4_copies ⟨Nat.le_of_ble_eq_true rfl, Nat.le_of_ble_eq_true rfl⟩) rfl hl.1 (Nat.le_of_ble_eq_true rfl) dX4_rallies_8 ⟨(Nat.le_of_ble_eq_true rfl), (Nat.le_of_ble_eq_true rfl)⟩ rfl) (fun H locs hH => ?_)
  refine lv_iconst (v := 0) hx hb dX4_rallies_11 (by decide) ?_
  refine lv_istore_n (lv' := [(2, .int 0), (0, .ref a0), (1, .int a1)]) hx hb dX4_rallies_12 rfl hl (by decide) rfl (fun ls hl => ?_)
  exact w13 1000 M4 a0 a1 0 _ _ ls hH (lv_sub hl [1, 2, 0] rfl) hf
def fX4_rally (M : Mem_) (a0 : Nat) (a1 : Int32) (a2 : Int32) : Option (Int32 × Mem_) :=
  lt_ (fX4_isIn a2 0 1) fun r1 =>
  if (b2_ r1) = 0 then
    some ((-1), M)
  else
    (ck_ M a0 3).bind fun u2 =>
    (fX4_wrongRally M a0 a1).bind fun r3 =>
    if r3 = 0 then
      (ck_ M a0 3).bind fun u4 =>
      (fX4_rallies M a0 a1).bind fun M6 =>
      if a2 = 0 then
        (gI_ M6 a0 3 10).bind fun v8 =>
        some (v8, M6)
      else
        (gI_ M6 a0 3 11).bind fun v7 =>
        some (v7, M6)
    else
      some (r3, M)
theorem kdX4_rally : yX4_rally.cls ≠ "java/lang/invoke/MethodHandle" ∧ yX4_rally.cls ≠ "java/lang/invoke/VarHandle" ∧ (parseMethodDescriptor yX4_rally.desc).map (fun d => d.parameters.length) = some 2 := by decide +kernel
set_option maxHeartbeats 4000000 in
theorem mX4_rally (l : Launch) (G : GT_) (M : Mem_) (n : Nat) (a0 : Nat) (a1 : Int32) (a2 : Int32) (r : Int32) (M1 : Mem_) (hf : fX4_rally M a0 a1 a2 = some (r, M1)) : Ct_ G l yX4_rally (ws_ yX4_rally cX4_rally 4 (some .int)) ({ frames := 5, cells := 0, slots := 0, locals := 122 }) 0 0 [.ref a0, .int a1, .int a2] M n (some (.int r)) M1 n := by
  refine en_ (by decide) (Nat.le_of_ble_eq_true rfl) ?_
  intro p e s m below meth c hx hb hr hlk hml hown hts hname hKn hH ls hl
  have hown : s.vm.findClass RX4 = some m.cls := hown
  have hl : lv_has ls 4 [(0, .ref a0), (1, .int a1), (2, .int a2)] := hl
  unfold fX4_rally at hf
  generalize s.heap = H at hH ⊢
  refine lv_iload_n hx hb dX4_rally_0 rfl (lv_at hl 2 rfl) ?_
  refine lv_iconst (v := 0) hx hb dX4_rally_1 (by decide) ?_
  refine lv_iconst (v := 1) hx hb dX4_rally_2 (by decide) ?_
  obtain ⟨r1, er1⟩ : ∃ z, z = fX4_isIn a2 0 1 := ⟨_, rfl⟩
  have hf := lu_ er1 hf
  refine cl_i0 hH (rn_S ⟨hx, hb, hml, hown, hts⟩ hKn hH (mX4_isIn l G M n a2 0 1 r1 er1.symm) (va_cwS 3 hts (lw_S q1248 q1249 q70 q1250) rfl rfl rfl kdX4_isIn ⟨Nat.le_of_ble_eq_true rfl, Nat.le_of_ble_eq_true rfl⟩) rfl hl.1 (Nat.le_of_ble_eq_true rfl) dX4_rally_3 ⟨(Nat.le_of_ble_eq_true rfl), (Nat.le_of_ble_eq_true rfl)⟩ rfl) (fun H locs hH => ?_)
  refine lv_if_ne (tgt := 11) hx hb dX4_rally_6 (by decide) (fun c11 => ?_) (fun c11 => ?_)
  · have hf := in_ c11 hf
    refine lv_aload_n hx hb dX4_rally_11 rfl (lv_at hl 0 rfl) ?_
    refine lv_iload_n hx hb dX4_rally_12 rfl (lv_at hl 1 rfl) ?_
    obtain ⟨u2, eu2, hf⟩ := bs_ hf
    obtain ⟨r3, er3, hf⟩ := bs_ hf
    refine cl_i0 hH (rn_V ⟨hx, hb, hml, hown, hts⟩ hKn hH (mX4_wrongRally l G M n a0 a1 r3 er3) (cwV 1 hts (lw_V q1477 q1479 qs59 q70 q1480) rfl rfl rfl ⟨rfl, kdX4_wrongRally⟩ ⟨Nat.le_of_ble_eq_true rfl, Nat.le_of_ble_eq_true rfl⟩) eu2 rfl rfl hl.1 (Nat.le_of_ble_eq_true rfl) dX4_rally_13 ⟨(Nat.le_of_ble_eq_true rfl), (Nat.le_of_ble_eq_true rfl)⟩ rfl) (fun H locs hH => ?_)
    refine lv_istore_n (lv' := [(3, .int r3), (0, .ref a0), (1, .int a1), (2, .int a2)]) hx hb dX4_rally_16 rfl hl (by decide) rfl (fun ls hl => ?_)
    refine lv_iload_n hx hb dX4_rally_17 rfl (lv_at hl 0 rfl) ?_
    refine lv_if_eq (tgt := 23) hx hb dX4_rally_18 (by decide) (fun c10 => ?_) (fun c10 => ?_)
    · have hf := ip_ c10 hf
      refine lv_aload_n hx hb dX4_rally_23 rfl (lv_at hl 1 rfl) ?_
      refine lv_iload_n hx hb dX4_rally_24 rfl (lv_at hl 2 rfl) ?_
      obtain ⟨u4, eu4, hf⟩ := bs_ hf
      obtain ⟨M6, er5, hf⟩ := bs_ hf
      refine cl_v0 hH (rn_V ⟨hx, hb, hml, hown, hts⟩ hKn hH (mX4_rallies l G M n a0 a1 M6 er5) (cwV 1 hts (lw_V q1481 q1483 qs60 q70 q1484) rfl rfl rfl ⟨rfl, kdX4_rallies⟩ ⟨Nat.le_of_ble_eq_true rfl, Nat.le_of_ble_eq_true rfl⟩) eu4 rfl rfl hl.1 (Nat.le_of_ble_eq_true rfl) dX4_rally_25 ⟨(Nat.le_of_ble_eq_true rfl), (Nat.le_of_ble_eq_true rfl)⟩ rfl) (fun H locs hH => ?_)
      refine lv_iload_n hx hb dX4_rally_28 rfl (lv_at hl 3 rfl) ?_
      refine lv_if_ne (tgt := 39) hx hb dX4_rally_29 (by decide) (fun c9 => ?_) (fun c9 => ?_)
      · have hf := in_ c9 hf
        refine lv_aload_n hx hb dX4_rally_39 rfl (lv_at hl 1 rfl) ?_
        obtain ⟨v7, ev7, hf⟩ := bs_ hf
        refine mg_gI hx hb hts hown hKn hH ev7 in_X4 rfl (by decide) (hts _ q1187) (fun _ h9 => h9) dX4_rally_40 ?_
        cases hf
        exact rt_i hx hb hr hlk hH dX4_rally_43
      · have hf := ip_ c9 hf
        refine lv_aload_n hx hb dX4_rally_32 rfl (lv_at hl 1 rfl) ?_
        obtain ⟨v8, ev8, hf⟩ := bs_ hf
        refine mg_gI hx hb hts hown hKn hH ev8 in_X4 rfl (by decide) (hts _ q1186) (fun _ h9 => h9) dX4_rally_33 ?_
        refine lv_goto (tgt := 43) hx hb dX4_rally_36 (by decide) ?_
        cases hf
        exact rt_i hx hb hr hlk hH dX4_rally_43
    · have hf := in_ c10 hf
      refine lv_iload_n hx hb dX4_rally_21 rfl (lv_at hl 0 rfl) ?_
      cases hf
      exact rt_i hx hb hr hlk hH dX4_rally_22
  · have hf := ip_ c11 hf
    refine lv_iconst (v := (-1)) hx hb dX4_rally_9 (by decide) ?_
    cases hf
    exact rt_i hx hb hr hlk hH dX4_rally_10
def fX4_ways (M : Mem_) (a0 : Nat) (a1 : Int32) (a2 : Int32) : Option (Int32 × Mem_) :=
  lt_ (fX4_isPlayer a2) fun r1 =>
  if (b2_ r1) = 0 then
    some ((-1), M)
  else
    (ck_ M a0 3).bind fun u2 =>
    (fX4_wrongRally M a0 a1).bind fun r3 =>
    if r3 = 0 then
      (ck_ M a0 3).bind fun u4 =>
      (fX4_rallies M a0 a1).bind fun M6 =>
      (gR_ M6 a0 3 4).bind fun v7 =>
      (aI_ M6 v7 0 a2).bind fun v8 =>
      some (v8, M6)
    else
      some (r3, M)
theorem kdX4_ways : yX4_ways.cls ≠ "java/lang/invoke/MethodHandle" ∧ yX4_ways.cls ≠ "java/lang/invoke/VarHandle" ∧ (parseMethodDescriptor yX4_ways.desc).map (fun d => d.parameters.length) = some 2 := by decide +kernel
set_option maxHeartbeats 4000000 in
theorem mX4_ways (l : Launch) (G : GT_) (M : Mem_) (n : Nat) (a0 : Nat) (a1 : Int32) (a2 : Int32) (r : Int32) (M1 : Mem_) (hf : fX4_ways M a0 a1 a2 = some (r, M1)) : Ct_ G l yX4_ways (ws_ yX4_ways cX4_ways 4 (some .int)) ({ frames := 5, cells := 0, slots := 0, locals := 122 }) 0 0 [.ref a0, .int a1, .int a2] M n (some (.int r)) M1 n := by
  refine en_ (by decide) (Nat.le_of_ble_eq_true rfl) ?_
  intro p e s m below meth c hx hb hr hlk hml hown hts hname hKn hH ls hl
  have hown : s.vm.findClass RX4 = some m.cls := hown
  have hl : lv_has ls 4 [(0, .ref a0), (1, .int a1), (2, .int a2)] := hl
  unfold fX4_ways at hf
  generalize s.heap = H at hH ⊢
  refine lv_iload_n hx hb dX4_ways_0 rfl (lv_at hl 2 rfl) ?_
  obtain ⟨r1, er1⟩ : ∃ z, z = fX4_isPlayer a2 := ⟨_, rfl⟩
  have hf := lu_ er1 hf
  refine cl_i0 hH (rn_S ⟨hx, hb, hml, hown, hts⟩ hKn hH (mX4_isPlayer l G M n a2 r1 er1.symm) (va_cwS 1 hts (lw_S q1277 q1278 q70 q1279) rfl rfl rfl kdX4_isPlayer ⟨Nat.le_of_ble_eq_true rfl, Nat.le_of_ble_eq_true rfl⟩) rfl hl.1 (Nat.le_of_ble_eq_true rfl) dX4_ways_1 ⟨(Nat.le_of_ble_eq_true rfl), (Nat.le_of_ble_eq_true rfl)⟩ rfl) (fun H locs hH => ?_)
  refine lv_if_ne (tgt := 9) hx hb dX4_ways_4 (by decide) (fun c10 => ?_) (fun c10 => ?_)
  · have hf := in_ c10 hf
    refine lv_aload_n hx hb dX4_ways_9 rfl (lv_at hl 0 rfl) ?_
    refine lv_iload_n hx hb dX4_ways_10 rfl (lv_at hl 1 rfl) ?_
    obtain ⟨u2, eu2, hf⟩ := bs_ hf
    obtain ⟨r3, er3, hf⟩ := bs_ hf
    refine cl_i0 hH (rn_V ⟨hx, hb, hml, hown, hts⟩ hKn hH (mX4_wrongRally l G M n a0 a1 r3 er3) (cwV 1 hts (lw_V q1477 q1479 qs59 q70 q1480) rfl rfl rfl ⟨rfl, kdX4_wrongRally⟩ ⟨Nat.le_of_ble_eq_true rfl, Nat.le_of_ble_eq_true rfl⟩) eu2 rfl rfl hl.1 (Nat.le_of_ble_eq_true rfl) dX4_ways_11 ⟨(Nat.le_of_ble_eq_true rfl), (Nat.le_of_ble_eq_true rfl)⟩ rfl) (fun H locs hH => ?_)
    refine lv_istore_n (lv' := [(3, .int r3), (0, .ref a0), (1, .int a1), (2, .int a2)]) hx hb dX4_ways_14 rfl hl (by decide) rfl (fun ls hl => ?_)
    refine lv_iload_n hx hb dX4_ways_15 rfl (lv_at hl 0 rfl) ?_
    refine lv_if_eq (tgt := 21) hx hb dX4_ways_16 (by decide) (fun c9 => ?_) (fun c9 => ?_)
    · have hf := ip_ c9 hf
      refine lv_aload_n hx hb dX4_ways_21 rfl (lv_at hl 1 rfl) ?_
      refine lv_iload_n hx hb dX4_ways_22 rfl (lv_at hl 2 rfl) ?_
      obtain ⟨u4, eu4, hf⟩ := bs_ hf
      obtain ⟨M6, er5, hf⟩ := bs_ hf
      refine cl_v0 hH (rn_V ⟨hx, hb, hml, hown, hts⟩ hKn hH (mX4_rallies l G M n a0 a1 M6 er5) (cwV 1 hts (lw_V q1481 q1483 qs60 q70 q1484) rfl rfl rfl ⟨rfl, kdX4_rallies⟩ ⟨Nat.le_of_ble_eq_true rfl, Nat.le_of_ble_eq_true rfl⟩) eu4 rfl rfl hl.1 (Nat.le_of_ble_eq_true rfl) dX4_ways_23 ⟨(Nat.le_of_ble_eq_true rfl), (Nat.le_of_ble_eq_true rfl)⟩ rfl) (fun H locs hH => ?_)
      refine lv_aload_n hx hb dX4_ways_26 rfl (lv_at hl 1 rfl) ?_
      obtain ⟨v7, ev7, hf⟩ := bs_ hf
      refine mg_gR hx hb hts hown hKn hH ev7 in_X4 rfl (by decide) (hts _ q1180) (fun _ h9 => h9) dX4_ways_27 ?_
      refine lv_iload_n hx hb dX4_ways_30 rfl (lv_at hl 3 rfl) ?_
      obtain ⟨v8, ev8, hf⟩ := bs_ hf
      refine mg_iald hx hb hKn hH ev8 dX4_ways_31 ?_
      cases hf
      exact rt_i hx hb hr hlk hH dX4_ways_32
    · have hf := in_ c9 hf
      refine lv_iload_n hx hb dX4_ways_19 rfl (lv_at hl 0 rfl) ?_
      cases hf
      exact rt_i hx hb hr hlk hH dX4_ways_20
  · have hf := ip_ c10 hf
    refine lv_iconst (v := (-1)) hx hb dX4_ways_7 (by decide) ?_
    cases hf
    exact rt_i hx hb hr hlk hH dX4_ways_8
def fX4_spent_L22 : Nat → Mem_ → Nat → Int32 → Int32 → Int32 → Int32 → Option (Int32 × Mem_)
  | 0, _, _, _, _, _, _ => none
  | fuel + 1, M, x0, x1, x2, x3, x4 =>
    if 4 ≤ x4 then
      some (x3, M)
    else
      (gR_ M x0 3 1).bind fun v7 =>
      lt_ (fX4_ofP x4 2) fun r8 =>
      (aI_ M v7 0 r8).bind fun v9 =>
      (gR_ M x0 3 1).bind fun v10 =>
      lt_ (fX4_ofP x3 2) fun r11 =>
      (aI_ M v10 0 r11).bind fun v12 =>
      if v9 ≤ v12 then
        lt_ (x4 + 1) fun v13 =>
        fX4_spent_L22 fuel M x0 x1 x2 x3 v13
      else
        lt_ (x4 + 1) fun v14 =>
        fX4_spent_L22 fuel M x0 x1 x2 x4 v14
def fX4_spent (M : Mem_) (a0 : Nat) (a1 : Int32) : Option (Int32 × Mem_) :=
  (ck_ M a0 3).bind fun u1 =>
  (fX4_wrongRally M a0 a1).bind fun r2 =>
  if r2 = 0 then
    (ck_ M a0 3).bind fun u3 =>
    (fX4_rallies M a0 a1).bind fun M5 =>
    fX4_spent_L22 1000 M5 a0 a1 r2 0 0
  else
    some (r2, M)
theorem kdX4_spent : yX4_spent.cls ≠ "java/lang/invoke/MethodHandle" ∧ yX4_spent.cls ≠ "java/lang/invoke/VarHandle" ∧ (parseMethodDescriptor yX4_spent.desc).map (fun d => d.parameters.length) = some 1 := by decide +kernel
set_option maxHeartbeats 4000000 in
theorem mX4_spent (l : Launch) (G : GT_) (M : Mem_) (n : Nat) (a0 : Nat) (a1 : Int32) (r : Int32) (M1 : Mem_) (hf : fX4_spent M a0 a1 = some (r, M1)) : Ct_ G l yX4_spent (ws_ yX4_spent cX4_spent 5 (some .int)) ({ frames := 5, cells := 0, slots := 0, locals := 122 }) 0 0 [.ref a0, .int a1] M n (some (.int r)) M1 n := by
  refine en_ (by decide) (Nat.le_of_ble_eq_true rfl) ?_
  intro p e s m below meth c hx hb hr hlk hml hown hts hname hKn hH ls hl
  have hown : s.vm.findClass RX4 = some m.cls := hown
  have hl : lv_has ls 5 [(0, .ref a0), (1, .int a1)] := hl
  have w22 : ∀ (fuel : Nat), ∀ (M : Mem_) (x0 : Nat) (x1 : Int32) (x2 : Int32) (x3 : Int32) (x4 : Int32) (H : Heap) (locs : List Loc) (ls : Array Slot), St_ G n M s H locs → lv_has ls 5 [(0, .ref x0), (1, .int x1), (2, .int x2), (3, .int x3), (4, .int x4)] → fX4_spent_L22 fuel M x0 x1 x2 x3 x4 = some (r, M1) → W p l e ({ frames := 5, cells := 0, slots := 0, locals := 122 } : Room) s m ([.ref a0, .int a1] : List Value).toArray below meth c H locs 0 0 (MQ below (Qc_ G (some (.int r)) M1 n) ([.ref a0, .int a1] : List Value).toArray s 0 0 (fun q => G.1 ≤ q)) (F0 m 22 ls []) := by
    intro fuel
    induction fuel with
    | zero =>
      intro M x0 x1 x2 x3 x4 H locs ls hH hl hf
      cases hf
    | succ fuel ih =>
      intro M x0 x1 x2 x3 x4 H locs ls hH hl hf
      unfold fX4_spent_L22 at hf
      refine lv_iload hx hb dX4_spent_22 (lv_at hl 4 rfl) ?_
      refine lv_iconst (v := 4) hx hb dX4_spent_24 (by decide) ?_
      refine lv_icmp_ge (tgt := 61) hx hb dX4_spent_25 (by decide) (fun c16 => ?_) (fun c16 => ?_)
      · have hf := ip_ c16 hf
        refine lv_iload_n hx hb dX4_spent_61 rfl (lv_at hl 3 rfl) ?_
        cases hf
        exact rt_i hx hb hr hlk hH dX4_spent_62
      · have hf := in_ c16 hf
        refine lv_aload_n hx hb dX4_spent_28 rfl (lv_at hl 0 rfl) ?_
        obtain ⟨v7, ev7, hf⟩ := bs_ hf
        refine mg_gR hx hb hts hown hKn hH ev7 in_X4 rfl (by decide) (hts _ q1177) (fun _ h9 => h9) dX4_spent_29 ?_
        refine lv_iload hx hb dX4_spent_32 (lv_at hl 4 rfl) ?_
        refine lv_iconst (v := 2) hx hb dX4_spent_34 (by decide) ?_
        obtain ⟨r8, er8⟩ : ∃ z, z = fX4_ofP x4 2 := ⟨_, rfl⟩
        have hf := lu_ er8 hf
        refine cl_i0 hH (rn_S ⟨hx, hb, hml, hown, hts⟩ hKn hH (mX4_ofP l G M n x4 2 r8 er8.symm) (va_cwS 2 hts (lw_S q1170 q1171 q70 q1172) rfl rfl rfl kdX4_ofP ⟨Nat.le_of_ble_eq_true rfl, Nat.le_of_ble_eq_true rfl⟩) rfl hl.1 (Nat.le_of_ble_eq_true rfl) dX4_spent_35 ⟨(Nat.le_of_ble_eq_true rfl), (Nat.le_of_ble_eq_true rfl)⟩ rfl) (fun H locs hH => ?_)
        obtain ⟨v9, ev9, hf⟩ := bs_ hf
        refine mg_iald hx hb hKn hH ev9 dX4_spent_38 ?_
        refine lv_aload_n hx hb dX4_spent_39 rfl (lv_at hl 0 rfl) ?_
        obtain ⟨v10, ev10, hf⟩ := bs_ hf
        refine mg_gR hx hb hts hown hKn hH ev10 in_X4 rfl (by decide) (hts _ q1177) (fun _ h9 => h9) dX4_spent_40 ?_
        refine lv_iload_n hx hb dX4_spent_43 rfl (lv_at hl 3 rfl) ?_
        refine lv_iconst (v := 2) hx hb dX4_spent_44 (by decide) ?_
        obtain ⟨r11, er11⟩ : ∃ z, z = fX4_ofP x3 2 := ⟨_, rfl⟩
        have hf := lu_ er11 hf
        refine cl_i0 hH (rn_S ⟨hx, hb, hml, hown, hts⟩ hKn hH (mX4_ofP l G M n x3 2 r11 er11.symm) (va_cwS 2 hts (lw_S q1170 q1171 q70 q1172) rfl rfl rfl kdX4_ofP ⟨Nat.le_of_ble_eq_true rfl, Nat.le_of_ble_eq_true rfl⟩) rfl hl.1 (Nat.le_of_ble_eq_true rfl) dX4_spent_45 ⟨(Nat.le_of_ble_eq_true rfl), (Nat.le_of_ble_eq_true rfl)⟩ rfl) (fun H locs hH => ?_)
        obtain ⟨v12, ev12, hf⟩ := bs_ hf
        refine mg_iald hx hb hKn hH ev12 dX4_spent_48 ?_
        refine lv_icmp_le (tgt := 55) hx hb dX4_spent_49 (by decide) (fun c15 => ?_) (fun c15 => ?_)
        · have hf := ip_ c15 hf
          obtain ⟨v13, ev13⟩ : ∃ z : Int32, z = x4 + 1 := ⟨_, rfl⟩
          have hf := lu_ ev13 hf
          refine lv_iinc (v := v13) (lv' := [(4, .int v13), (0, .ref x0), (1, .int x1), (2, .int x2), (3, .int x3)]) hx hb dX4_spent_55 hl (k := 4) rfl (by rw [ev13]; rfl) (by decide) rfl (fun ls hl => ?_)
          refine lv_goto (tgt := 22) hx hb dX4_spent_58 (by decide) ?_
          exact ih M x0 x1 x2 x3 v13 _ _ ls hH (lv_sub hl [1, 2, 3, 4, 0] rfl) hf
        · have hf := in_ c15 hf
          refine lv_iload hx hb dX4_spent_52 (lv_at hl 4 rfl) ?_
          refine lv_istore_n (lv' := [(3, .int x4), (0, .ref x0), (1, .int x1), (2, .int x2), (4, .int x4)]) hx hb dX4_spent_54 rfl hl (by decide) rfl (fun ls hl => ?_)
          obtain ⟨v14, ev14⟩ : ∃ z : Int32, z = x4 + 1 := ⟨_, rfl⟩
          have hf := lu_ ev14 hf
          refine lv_iinc (v := v14) (lv' := [(4, .int v14), (3, .int x4), (0, .ref x0), (1, .int x1), (2, .int x2)]) hx hb dX4_spent_55 hl (k := 4) rfl (by rw [ev14]; rfl) (by decide) rfl (fun ls hl => ?_)
          refine lv_goto (tgt := 22) hx hb dX4_spent_58 (by decide) ?_
          exact ih M x0 x1 x2 x4 v14 _ _ ls hH (lv_sub hl [2, 3, 4, 1, 0] rfl) hf
  unfold fX4_spent at hf
  refine lv_aload_n hx hb dX4_spent_0 rfl (lv_at hl 0 rfl) ?_
  refine lv_iload_n hx hb dX4_spent_1 rfl (lv_at hl 1 rfl) ?_
  obtain ⟨u1, eu1, hf⟩ := bs_ hf
  obtain ⟨r2, er2, hf⟩ := bs_ hf
  refine cl_i0 hH (rn_V ⟨hx, hb, hml, hown, hts⟩ hKn hH (mX4_wrongRally l G M n a0 a1 r2 er2) (cwV 1 hts (lw_V q1477 q1479 qs59 q70 q1480) rfl rfl rfl ⟨rfl, kdX4_wrongRally⟩ ⟨Nat.le_of_ble_eq_true rfl, Nat.le_of_ble_eq_true rfl⟩) eu1 rfl rfl hl.1 (Nat.le_of_ble_eq_true rfl) dX4_spent_2 ⟨(Nat.le_of_ble_eq_true rfl), (Nat.le_of_ble_eq_true rfl)⟩ rfl) (fun H locs hH => ?_)
  refine lv_istore_n (lv' := [(2, .int r2), (0, .ref a0), (1, .int a1)]) hx hb dX4_spent_5 rfl hl (by decide) rfl (fun ls hl => ?_)
  refine lv_iload_n hx hb dX4_spent_6 rfl (lv_at hl 0 rfl) ?_
  refine lv_if_eq (tgt := 12) hx hb dX4_spent_7 (by decide) (fun c6 => ?_) (fun c6 => ?_)
  · have hf := ip_ c6 hf
    refine lv_aload_n hx hb dX4_spent_12 rfl (lv_at hl 1 rfl) ?_
    refine lv_iload_n hx hb dX4_spent_13 rfl (lv_at hl 2 rfl) ?_
    obtain ⟨u3, eu3, hf⟩ := bs_ hf
    obtain ⟨M5, er4, hf⟩ := bs_ hf
    refine cl_v0 hH (rn_V ⟨hx, hb, hml, hown, hts⟩ hKn hH (mX4_rallies l G M n a0 a1 M5 er4) (cwV 1 hts (lw_V q1481 q1483 qs60 q70 q1484) rfl rfl rfl ⟨rfl, kdX4_rallies⟩ ⟨Nat.le_of_ble_eq_true rfl, Nat.le_of_ble_eq_true rfl⟩) eu3 rfl rfl hl.1 (Nat.le_of_ble_eq_true rfl) dX4_spent_14 ⟨(Nat.le_of_ble_eq_true rfl), (Nat.le_of_ble_eq_true rfl)⟩ rfl) (fun H locs hH => ?_)
    refine lv_iconst (v := 0) hx hb dX4_spent_17 (by decide) ?_
    refine lv_istore_n (lv' := [(3, .int 0), (2, .int r2), (0, .ref a0), (1, .int a1)]) hx hb dX4_spent_18 rfl hl (by decide) rfl (fun ls hl => ?_)
    refine lv_iconst (v := 0) hx hb dX4_spent_19 (by decide) ?_
    refine lv_istore (lv' := [(4, .int 0), (3, .int 0), (2, .int r2), (0, .ref a0), (1, .int a1)]) hx hb dX4_spent_20 hl (by decide) rfl (fun ls hl => ?_)
    exact w22 1000 M5 a0 a1 r2 0 0 _ _ ls hH (lv_sub hl [3, 4, 2, 1, 0] rfl) hf
  · have hf := in_ c6 hf
    refine lv_iload_n hx hb dX4_spent_10 rfl (lv_at hl 0 rfl) ?_
    cases hf
    exact rt_i hx hb hr hlk hH dX4_spent_11
def fX4_leastOf (a0 : Int32) : Int32 :=
  if a0 = 0 then
    (-128)
  else
    if a0 = 1 then
      (-32768)
    else
      (-2147483648)
theorem kdX4_leastOf : yX4_leastOf.cls ≠ "java/lang/invoke/MethodHandle" ∧ yX4_leastOf.cls ≠ "java/lang/invoke/VarHandle" ∧ (parseMethodDescriptor yX4_leastOf.desc).map (fun d => d.parameters.length) = some 1 := by decide +kernel
set_option maxHeartbeats 4000000 in
theorem mX4_leastOf (l : Launch) (G : GT_) (M : Mem_) (n : Nat) (a0 : Int32) (r : Int32) (hf : fX4_leastOf a0 = r) : Ct_ G l yX4_leastOf (ws_ yX4_leastOf cX4_leastOf 1 (some .int)) ({ frames := 0, cells := 0, slots := 0, locals := 0 }) 0 0 [.int a0] M n (some (.int r)) M n := by
  refine en_ (by decide) (Nat.le_of_ble_eq_true rfl) ?_
  intro p e s m below meth c hx hb hr hlk hml hown hts hname hKn hH ls hl
  have hown : s.vm.findClass RX4 = some m.cls := hown
  have hl : lv_has ls 1 [(0, .int a0)] := hl
  unfold fX4_leastOf at hf
  generalize s.heap = H at hH ⊢
  refine lv_iload_n hx hb dX4_leastOf_0 rfl (lv_at hl 0 rfl) ?_
  refine lv_if_ne (tgt := 9) hx hb dX4_leastOf_1 (by decide) (fun c2 => ?_) (fun c2 => ?_)
  · have hf := in_ c2 hf
    refine lv_iload_n hx hb dX4_leastOf_9 rfl (lv_at hl 0 rfl) ?_
    refine lv_iconst (v := 1) hx hb dX4_leastOf_10 (by decide) ?_
    refine lv_icmp_ne (tgt := 20) hx hb dX4_leastOf_11 (by decide) (fun c1 => ?_) (fun c1 => ?_)
    · have hf := in_ c1 hf
      refine lv_ldc hx hb hown (hts _ q1504) dX4_leastOf_20 ?_
      subst hf
      exact rt_i hx hb hr hlk hH dX4_leastOf_22
    · have hf := ip_ c1 hf
      refine lv_sipush (v := (-32768)) hx hb dX4_leastOf_14 (by decide) ?_
      refine lv_goto (tgt := 22) hx hb dX4_leastOf_17 (by decide) ?_
      subst hf
      exact rt_i hx hb hr hlk hH dX4_leastOf_22
  · have hf := ip_ c2 hf
    refine lv_bipush (v := (-128)) hx hb dX4_leastOf_4 (by decide) ?_
    refine lv_goto (tgt := 22) hx hb dX4_leastOf_6 (by decide) ?_
    subst hf
    exact rt_i hx hb hr hlk hH dX4_leastOf_22
def fX4_isSkipped (M : Mem_) (a0 : Nat) (a1 : Int32) (a2 : Int32) : Option Bool :=
  (gR_ M a0 3 18).bind fun v1 =>
  (aI_ M v1 0 ((100 * a1) + a2)).bind fun v2 =>
  (gR_ M a0 3 16).bind fun v3 =>
  (aI_ M v3 0 a1).bind fun v4 =>
  lt_ (fX4_leastOf v4) fun r5 =>
  if v2 = r5 then
    some true
  else
    some false
theorem kdX4_isSkipped : yX4_isSkipped.cls ≠ "java/lang/invoke/MethodHandle" ∧ yX4_isSkipped.cls ≠ "java/lang/invoke/VarHandle" ∧ (parseMethodDescriptor yX4_isSkipped.desc).map (fun d => d.parameters.length) = some 2 := by decide +kernel
set_option maxHeartbeats 4000000 in
theorem mX4_isSkipped (l : Launch) (G : GT_) (M : Mem_) (n : Nat) (a0 : Nat) (a1 : Int32) (a2 : Int32) (r : Bool) (hf : fX4_isSkipped M a0 a1 a2 = some r) : Ct_ G l yX4_isSkipped (ws_ yX4_isSkipped cX4_isSkipped 3 (some .boolean)) ({ frames := 1, cells := 0, slots := 0, locals := 20 }) 0 0 [.ref a0, .int a1, .int a2] M n (some (.int (b2_ r))) M n := by
  refine en_ (by decide) (Nat.le_of_ble_eq_true rfl) ?_
  intro p e s m below meth c hx hb hr hlk hml hown hts hname hKn hH ls hl
  have hown : s.vm.findClass RX4 = some m.cls := hown
  have hl : lv_has ls 3 [(0, .ref a0), (1, .int a1), (2, .int a2)] := hl
  unfold fX4_isSkipped at hf
  generalize s.heap = H at hH ⊢
  refine lv_aload_n hx hb dX4_isSkipped_0 rfl (lv_at hl 0 rfl) ?_
  obtain ⟨v1, ev1, hf⟩ := bs_ hf
  refine mg_gR hx hb hts hown hKn hH ev1 in_X4 rfl (by decide) (hts _ q1194) (fun _ h9 => h9) dX4_isSkipped_1 ?_
  refine lv_bipush (v := 100) hx hb dX4_isSkipped_4 (by decide) ?_
  refine lv_iload_n hx hb dX4_isSkipped_6 rfl (lv_at hl 1 rfl) ?_
  refine lv_imul hx hb dX4_isSkipped_7 ?_
  refine lv_iload_n hx hb dX4_isSkipped_8 rfl (lv_at hl 2 rfl) ?_
  refine lv_iadd hx hb dX4_isSkipped_9 ?_
  obtain ⟨v2, ev2, hf⟩ := bs_ hf
  refine mg_iald hx hb hKn hH ev2 dX4_isSkipped_10 ?_
  refine lv_aload_n hx hb dX4_isSkipped_11 rfl (lv_at hl 0 rfl) ?_
  obtain ⟨v3, ev3, hf⟩ := bs_ hf
  refine mg_gR hx hb hts hown hKn hH ev3 in_X4 rfl (by decide) (hts _ q1192) (fun _ h9 => h9) dX4_isSkipped_12 ?_
  refine lv_iload_n hx hb dX4_isSkipped_15 rfl (lv_at hl 1 rfl) ?_
  obtain ⟨v4, ev4, hf⟩ := bs_ hf
  refine mg_iald hx hb hKn hH ev4 dX4_isSkipped_16 ?_
  obtain ⟨r5, er5⟩ : ∃ z, z = fX4_leastOf v4 := ⟨_, rfl⟩
  have hf := lu_ er5 hf
  refine cl_i0 hH (rn_S ⟨hx, hb, hml, hown, hts⟩ hKn hH (mX4_leastOf l G M n v4 r5 er5.symm) (va_cwS 1 hts (lw_S q1501 q1502 q70 q1503) rfl rfl rfl kdX4_leastOf ⟨Nat.le_of_ble_eq_true rfl, Nat.le_of_ble_eq_true rfl⟩) rfl hl.1 (Nat.le_of_ble_eq_true rfl) dX4_isSkipped_17 ⟨(Nat.le_of_ble_eq_true rfl), (Nat.le_of_ble_eq_true rfl)⟩ rfl) (fun H locs hH => ?_)
  refine lv_icmp_ne (tgt := 27) hx hb dX4_isSkipped_20 (by decide) (fun c6 => ?_) (fun c6 => ?_)
  · have hf := in_ c6 hf
    refine lv_iconst (v := 0) hx hb dX4_isSkipped_27 (by decide) ?_
    cases hf
    exact rt_b (b := false) hx hb hr hlk hH dX4_isSkipped_28
  · have hf := ip_ c6 hf
    refine lv_iconst (v := 1) hx hb dX4_isSkipped_23 (by decide) ?_
    refine lv_goto (tgt := 28) hx hb dX4_isSkipped_24 (by decide) ?_
    cases hf
    exact rt_b (b := true) hx hb hr hlk hH dX4_isSkipped_28
