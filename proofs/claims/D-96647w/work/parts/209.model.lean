set_option maxRecDepth 100000
def fX4_nights_L64 (K44 : Mem_ → Nat → Int32 → Int32 → Int32 → Int32 → Int32 → Option (Int32 × Mem_)) : Nat → Mem_ → Nat → Int32 → Int32 → Int32 → Int32 → Int32 → Int32 → Option (Int32 × Mem_)
  | 0, _, _, _, _, _, _, _, _ => none
  | fuel + 1, M, x0, x1, x2, x3, x4, x5, x6 =>
    if 12 ≤ x6 then
      (gR_ M x0 3 1).bind fun v14 =>
      lt_ (fX4_ofSide x3 2) fun r15 =>
      (aI_ M v14 0 r15).bind fun v16 =>
      (gR_ M x0 3 0).bind fun v17 =>
      lt_ (fX4_ofSide x3 2) fun r18 =>
      (aI_ M v17 0 r18).bind fun v19 =>
      lt_ ((x4 + (v16 - v19))) fun v20 =>
      lt_ (x5 + 1) fun v21 =>
      K44 M x0 x1 x2 x3 v20 v21
    else
      (gR_ M x0 3 0).bind fun v22 =>
      (aI_ M v22 0 0).bind fun v23 =>
      (ck_ M x0 3).bind fun u24 =>
      bw_ (fX4_drawn M x0 v23) fun r25 M26 =>
      (gR_ M26 x0 3 1).bind fun v27 =>
      (ck_ M26 x0 3).bind fun u28 =>
      bw_ (fX4_drawn M26 x0 9) fun r29 M30 =>
      (ck_ M30 x0 3).bind fun u31 =>
      bw_ (fX4_hits M30 x0 v27 r25 r29) fun r32 M33 =>
      lt_ (x6 + 1) fun v34 =>
      fX4_nights_L64 K44 fuel M33 x0 x1 x2 x3 x4 x5 v34
def fX4_nights_L44 : Nat → Mem_ → Nat → Int32 → Int32 → Int32 → Int32 → Int32 → Option (Int32 × Mem_)
  | 0, _, _, _, _, _, _, _ => none
  | fuel + 1, M, x0, x1, x2, x3, x4, x5 =>
    if x1 ≤ x5 then
      some (x4, M)
    else
      (gR_ M x0 3 0).bind fun v9 =>
      (gR_ M x0 3 1).bind fun v10 =>
      (fX4_copies M v9 v10).bind fun M12 =>
      fX4_nights_L64 (fX4_nights_L44 fuel) 1000 M12 x0 x1 x2 x3 x4 x5 0
def fX4_nights (M : Mem_) (a0 : Nat) (a1 : Int32) (a2 : Int32) (a3 : Int32) : Option (Int32 × Mem_) :=
  lt_ (fX4_isIn a1 1 20) fun r1 =>
  if (b2_ r1) = 0 then
    some ((-1), M)
  else
    lt_ (fX4_isIn a3 0 1) fun r2 =>
    if (b2_ r2) = 0 then
      some ((-1), M)
    else
      (gR_ M a0 3 0).bind fun v3 =>
      (aI_ M v3 0 0).bind fun v4 =>
      if v4 = 0 then
        some ((-3), M)
      else
        (pF_ M a0 3 12 (.int a2)).bind fun M5 =>
        fX4_nights_L44 1000 M5 a0 a1 a2 a3 0 0
theorem kdX4_nights : yX4_nights.cls ≠ "java/lang/invoke/MethodHandle" ∧ yX4_nights.cls ≠ "java/lang/invoke/VarHandle" ∧ (parseMethodDescriptor yX4_nights.desc).map (fun d => d.parameters.length) = some 3 := by decide +kernel
set_option maxHeartbeats 4000000 in
theorem mX4_nights (l : Launch) (G : GT_) (M : Mem_) (n : Nat) (a0 : Nat) (a1 : Int32) (a2 : Int32) (a3 : Int32) (r : Int32) (M1 : Mem_) (hf : fX4_nights M a0 a1 a2 a3 = some (r, M1)) : Ct_ G l yX4_nights (ws_ yX4_nights cX4_nights 9 (some .int)) ({ frames := 4, cells := 0, slots := 0, locals := 99 }) 0 0 [.ref a0, .int a1, .int a2, .int a3] M n (some (.int r)) M1 n := by
  refine en_ (by decide) (Nat.le_of_ble_eq_true rfl) ?_
  intro p e s m below meth c hx hb hr hlk hml hown hts hname hKn hH ls hl
  have hown : s.vm.findClass RX4 = some m.cls := hown
  have hl : lv_has ls 9 [(0, .ref a0), (1, .int a1), (2, .int a2), (3, .int a3)] := hl
  have w64 : ∀ (K44 : Mem_ → Nat → Int32 → Int32 → Int32 → Int32 → Int32 → Option (Int32 × Mem_)), (∀ (M : Mem_) (x0 : Nat) (x1 : Int32) (x2 : Int32) (x3 : Int32) (x4 : Int32) (x5 : Int32) (H : Heap) (locs : List Loc) (ls : Array Slot), St_ G n M s H locs → lv_has ls 9 [(0, .ref x0), (1, .int x1), (2, .int x2), (3, .int x3), (4, .int x4), (5, .int x5)] → K44 M x0 x1 x2 x3 x4 x5 = some (r, M1) → W p l e ({ frames := 4, cells := 0, slots := 0, locals := 99 } : Room) s m ([.ref a0, .int a1, .int a2, .int a3] : List Value).toArray below meth c H locs 0 0 (MQ below (Qc_ G (some (.int r)) M1 n) ([.ref a0, .int a1, .int a2, .int a3] : List Value).toArray s 0 0 (fun q => G.1 ≤ q)) (F0 m 44 ls [])) → ∀ (fuel : Nat), ∀ (M : Mem_) (x0 : Nat) (x1 : Int32) (x2 : Int32) (x3 : Int32) (x4 : Int32) (x5 : Int32) (x6 : Int32) (H : Heap) (locs : List Loc) (ls : Array Slot), St_ G n M s H locs → lv_has ls 9 [(0, .ref x0), (1, .int x1), (2, .int x2), (3, .int x3), (4, .int x4), (5, .int x5), (6, .int x6)] → fX4_nights_L64 K44 fuel M x0 x1 x2 x3 x4 x5 x6 = some (r, M1) → W p l e ({ frames := 4, cells := 0, slots := 0, locals := 99 } : Room) s m ([.ref a0, .int a1, .int a2, .int a3] : List Value).toArray below meth c H locs 0 0 (MQ below (Qc_ G (some (.int r)) M1 n) ([.ref a0, .int a1, .int a2, .int a3] : List Value).toArray s 0 0 (fun q => G.1 ≤ q)) (F0 m 64 ls []) := by
    intro K44 hK44 fuel
    induction fuel with
    | zero =>
      intro M x0 x1 x2 x3 x4 x5 x6 H locs ls hH hl hf
      cases hf
    | succ fuel ih =>
      intro M x0 x1 x2 x3 x4 x5 x6 H locs ls hH hl hf
      unfold fX4_nights_L64 at hf
      refine lv_iload hx hb dX4_nights_64 (lv_at hl 6 rfl) ?_
      refine lv_bipush (v := 12) hx hb dX4_nights_66 (by decide) ?_
      refine lv_icmp_ge (tgt := 107) hx hb dX4_nights_68 (by decide) (fun c35 => ?_) (fun c35 => ?_)
      · have hf := ip_ c35 hf
        refine lv_iload hx hb dX4_nights_107 (lv_at hl 4 rfl) ?_
        refine lv_aload_n hx hb dX4_nights_109 rfl (lv_at hl 0 rfl) ?_
        obtain ⟨v14, ev14, hf⟩ := bs_ hf
        refine mg_gR hx hb hts hown hKn hH ev14 in_X4 rfl (by decide) (hts _ q1177) (fun _ h9 => h9) dX4_nights_110 ?_
        refine lv_iload_n hx hb dX4_nights_113 rfl (lv_at hl 3 rfl) ?_
        refine lv_iconst (v := 2) hx hb dX4_nights_114 (by decide) ?_
        obtain ⟨r15, er15⟩ : ∃ z, z = fX4_ofSide x3 2 := ⟨_, rfl⟩
        have hf := lu_ er15 hf
        refine cl_i0 hH (rn_S ⟨hx, hb, hml, hown, hts⟩ hKn hH (mX4_ofSide l G M n x3 2 r15 er15.symm) (va_cwS 2 hts (lw_S q1173 q1174 q70 q1175) rfl rfl rfl kdX4_ofSide ⟨Nat.le_of_ble_eq_true rfl, Nat.le_of_ble_eq_true rfl⟩) rfl hl.1 (Nat.le_of_ble_eq_true rfl) dX4_nights_115 ⟨(Nat.le_of_ble_eq_true rfl), (Nat.le_of_ble_eq_true rfl)⟩ rfl) (fun H locs hH => ?_)
        obtain ⟨v16, ev16, hf⟩ := bs_ hf
        refine mg_iald hx hb hKn hH ev16 dX4_nights_118 ?_
        refine lv_aload_n hx hb dX4_nights_119 rfl (lv_at hl 0 rfl) ?_
        obtain ⟨v17, ev17, hf⟩ := bs_ hf
        refine mg_gR hx hb hts hown hKn hH ev17 in_X4 rfl (by decide) (hts _ q1176) (fun _ h9 => h9) dX4_nights_120 ?_
        refine lv_iload_n hx hb dX4_nights_123 rfl (lv_at hl 3 rfl) ?_
        refine lv_iconst (v := 2) hx hb dX4_nights_124 (by decide) ?_
        obtain ⟨r18, er18⟩ : ∃ z, z = fX4_ofSide x3 2 := ⟨_, rfl⟩
        have hf := lu_ er18 hf
        refine cl_i0 hH (rn_S ⟨hx, hb, hml, hown, hts⟩ hKn hH (mX4_ofSide l G M n x3 2 r18 er18.symm) (va_cwS 2 hts (lw_S q1173 q1174 q70 q1175) rfl rfl rfl kdX4_ofSide ⟨Nat.le_of_ble_eq_true rfl, Nat.le_of_ble_eq_true rfl⟩) rfl hl.1 (Nat.le_of_ble_eq_true rfl) dX4_nights_125 ⟨(Nat.le_of_ble_eq_true rfl), (Nat.le_of_ble_eq_true rfl)⟩ rfl) (fun H locs hH => ?_)
        obtain ⟨v19, ev19, hf⟩ := bs_ hf
        refine mg_iald hx hb hKn hH ev19 dX4_nights_128 ?_
        refine lv_isub hx hb dX4_nights_129 ?_
        refine lv_iadd hx hb dX4_nights_130 ?_
        refine lv_topi (fun v20 ev20 => ?_)
        have hf := lu_ ev20 hf
        refine lv_istore (lv' := [(4, .int v20), (0, .ref x0), (1, .int x1), (2, .int x2), (3, .int x3), (5, .int x5), (6, .int x6)]) hx hb dX4_nights_131 hl (by decide) rfl (fun ls hl => ?_)
        obtain ⟨v21, ev21⟩ : ∃ z : Int32, z = x5 + 1 := ⟨_, rfl⟩
        have hf := lu_ ev21 hf
        refine lv_iinc (v := v21) (lv' := [(5, .int v21), (4, .int v20), (0, .ref x0), (1, .int x1), (2, .int x2), (3, .int x3), (6, .int x6)]) hx hb dX4_nights_133 hl (k := 5) rfl (by rw [ev21]; rfl) (by decide) rfl (fun ls hl => ?_)
        refine lv_goto (tgt := 44) hx hb dX4_nights_136 (by decide) ?_
        exact hK44 M x0 x1 x2 x3 v20 v21 _ _ ls hH (lv_sub hl [2, 3, 4, 5, 1, 0] rfl) hf
      · have hf := in_ c35 hf
        refine lv_aload_n hx hb dX4_nights_71 rfl (lv_at hl 0 rfl) ?_
        refine lv_aload_n hx hb dX4_nights_72 rfl (lv_at hl 0 rfl) ?_
        obtain ⟨v22, ev22, hf⟩ := bs_ hf
        refine mg_gR hx hb hts hown hKn hH ev22 in_X4 rfl (by decide) (hts _ q1176) (fun _ h9 => h9) dX4_nights_73 ?_
        refine lv_iconst (v := 0) hx hb dX4_nights_76 (by decide) ?_
        obtain ⟨v23, ev23, hf⟩ := bs_ hf
        refine mg_iald hx hb hKn hH ev23 dX4_nights_77 ?_
        obtain ⟨u24, eu24, hf⟩ := bs_ hf
        obtain ⟨r25, M26, er25, hf⟩ := bws_ hf
        refine cl_i0 hH (rn_V ⟨hx, hb, hml, hown, hts⟩ hKn hH (mX4_drawn l G M n x0 v23 r25 M26 er25) (cwV 1 hts (lw_V q1556 q1558 qs65 q70 q1559) rfl rfl rfl ⟨rfl, kdX4_drawn⟩ ⟨Nat.le_of_ble_eq_true rfl, Nat.le_of_ble_eq_true rfl⟩) eu24 rfl rfl hl.1 (Nat.le_of_ble_eq_true rfl) dX4_nights_78 ⟨(Nat.le_of_ble_eq_true rfl), (Nat.le_of_ble_eq_true rfl)⟩ rfl) (fun H locs hH => ?_)
        refine lv_istore (lv' := [(7, .int r25), (0, .ref x0), (1, .int x1), (2, .int x2), (3, .int x3), (4, .int x4), (5, .int x5), (6, .int x6)]) hx hb dX4_nights_81 hl (by decide) rfl (fun ls hl => ?_)
        refine lv_aload_n hx hb dX4_nights_83 rfl (lv_at hl 1 rfl) ?_
        refine lv_aload_n hx hb dX4_nights_84 rfl (lv_at hl 1 rfl) ?_
        obtain ⟨v27, ev27, hf⟩ := bs_ hf
        refine mg_gR hx hb hts hown hKn hH ev27 in_X4 rfl (by decide) (hts _ q1177) (fun _ h9 => h9) dX4_nights_85 ?_
        refine lv_iload hx hb dX4_nights_88 (lv_at hl 0 rfl) ?_
        refine lv_aload_n hx hb dX4_nights_90 rfl (lv_at hl 1 rfl) ?_
        refine lv_bipush (v := 9) hx hb dX4_nights_91 (by decide) ?_
        obtain ⟨u28, eu28, hf⟩ := bs_ hf
        obtain ⟨r29, M30, er29, hf⟩ := bws_ hf
        refine cl_i0 hH (rn_V ⟨hx, hb, hml, hown, hts⟩ hKn hH (mX4_drawn l G M26 n x0 9 r29 M30 er29) (cwV 1 hts (lw_V q1556 q1558 qs65 q70 q1559) rfl rfl rfl ⟨rfl, kdX4_drawn⟩ ⟨Nat.le_of_ble_eq_true rfl, Nat.le_of_ble_eq_true rfl⟩) eu28 rfl rfl hl.1 (Nat.le_of_ble_eq_true rfl) dX4_nights_93 ⟨(Nat.le_of_ble_eq_true rfl), (Nat.le_of_ble_eq_true rfl)⟩ rfl) (fun H locs hH => ?_)
        obtain ⟨u31, eu31, hf⟩ := bs_ hf
        obtain ⟨r32, M33, er32, hf⟩ := bws_ hf
        refine cl_i0 hH (rn_V ⟨hx, hb, hml, hown, hts⟩ hKn hH (mX4_hits l G M30 n x0 v27 r25 r29 r32 M33 er32) (cwV 3 hts (lw_V q1291 q1293 qs46 q70 q1294) rfl rfl rfl ⟨rfl, kdX4_hits⟩ ⟨Nat.le_of_ble_eq_true rfl, Nat.le_of_ble_eq_true rfl⟩) eu31 rfl rfl hl.1 (Nat.le_of_ble_eq_true rfl) dX4_nights_96 ⟨(Nat.le_of_ble_eq_true rfl), (Nat.le_of_ble_eq_true rfl)⟩ rfl) (fun H locs hH => ?_)
        refine lv_istore (lv' := [(8, .int (b2_ r32)), (7, .int r25), (0, .ref x0), (1, .int x1), (2, .int x2), (3, .int x3), (4, .int x4), (5, .int x5), (6, .int x6)]) hx hb dX4_nights_99 hl (by decide) rfl (fun ls hl => ?_)
        obtain ⟨v34, ev34⟩ : ∃ z : Int32, z = x6 + 1 := ⟨_, rfl⟩
        have hf := lu_ ev34 hf
        refine lv_iinc (v := v34) (lv' := [(6, .int v34), (8, .int (b2_ r32)), (7, .int r25), (0, .ref x0), (1, .int x1), (2, .int x2), (3, .int x3), (4, .int x4), (5, .int x5)]) hx hb dX4_nights_101 hl (k := 8) rfl (by rw [ev34]; rfl) (by decide) rfl (fun ls hl => ?_)
        refine lv_goto (tgt := 64) hx hb dX4_nights_104 (by decide) ?_
        exact ih M33 x0 x1 x2 x3 x4 x5 v34 _ _ ls hH (lv_sub hl [3, 4, 5, 6, 7, 8, 0] rfl) hf
  have w44 : ∀ (fuel : Nat), ∀ (M : Mem_) (x0 : Nat) (x1 : Int32) (x2 : Int32) (x3 : Int32) (x4 : Int32) (x5 : Int32) (H : Heap) (locs : List Loc) (ls : Array Slot), St_ G n M s H locs → lv_has ls 9 [(0, .ref x0), (1, .int x1), (2, .int x2), (3, .int x3), (4, .int x4), (5, .int x5)] → fX4_nights_L44 fuel M x0 x1 x2 x3 x4 x5 = some (r, M1) → W p l e ({ frames := 4, cells := 0, slots := 0, locals := 99 } : Room) s m ([.ref a0, .int a1, .int a2, .int a3] : List Value).toArray below meth c H locs 0 0 (MQ below (Qc_ G (some (.int r)) M1 n) ([.ref a0, .int a1, .int a2, .int a3] : List Value).toArray s 0 0 (fun q => G.1 ≤ q)) (F0 m 44 ls []) := by
    intro fuel
    induction fuel with
    | zero =>
      intro M x0 x1 x2 x3 x4 x5 H locs ls hH hl hf
      cases hf
    | succ fuel ih =>
      intro M x0 x1 x2 x3 x4 x5 H locs ls hH hl hf
      unfold fX4_nights_L44 at hf
      refine lv_iload hx hb dX4_nights_44 (lv_at hl 5 rfl) ?_
      refine lv_iload_n hx hb dX4_nights_46 rfl (lv_at hl 1 rfl) ?_
      refine lv_icmp_ge (tgt := 139) hx hb dX4_nights_47 (by decide) (fun c13 => ?_) (fun c13 => ?_)
      · have hf := ip_ c13 hf
        refine lv_iload hx hb dX4_nights_139 (lv_at hl 4 rfl) ?_
        cases hf
        exact rt_i hx hb hr hlk hH dX4_nights_141
      · have hf := in_ c13 hf
        refine lv_aload_n hx hb dX4_nights_50 rfl (lv_at hl 0 rfl) ?_
        obtain ⟨v9, ev9, hf⟩ := bs_ hf
        refine mg_gR hx hb hts hown hKn hH ev9 in_X4 rfl (by decide) (hts _ q1176) (fun _ h9 => h9) dX4_nights_51 ?_
        refine lv_aload_n hx hb dX4_nights_54 rfl (lv_at hl 0 rfl) ?_
        obtain ⟨v10, ev10, hf⟩ := bs_ hf
        refine mg_gR hx hb hts hown hKn hH ev10 in_X4 rfl (by decide) (hts _ q1177) (fun _ h9 => h9) dX4_nights_55 ?_
        obtain ⟨M12, er11, hf⟩ := bs_ hf
        refine cl_v0 hH (rn_S ⟨hx, hb, hml, hown, hts⟩ hKn hH (mX4_copies l G M n v9 v10 M12 er11) (va_cwS 2 hts (lw_S q1263 q1264 q70 q1265) rfl rfl rfl kdX4_copies ⟨Nat.le_of_ble_eq_true rfl, Nat.le_of_ble_eq_true rfl⟩) rfl hl.1 (Nat.le_of_ble_eq_true rfl) dX4_nights_58 ⟨(Nat.le_of_ble_eq_true rfl), (Nat.le_of_ble_eq_true rfl)⟩ rfl) (fun H locs hH => ?_)
        refine lv_iconst (v := 0) hx hb dX4_nights_61 (by decide) ?_
        refine lv_istore (lv' := [(6, .int 0), (0, .ref x0), (1, .int x1), (2, .int x2), (3, .int x3), (4, .int x4), (5, .int x5)]) hx hb dX4_nights_62 hl (by decide) rfl (fun ls hl => ?_)
        exact w64 _ ih 1000 M12 x0 x1 x2 x3 x4 x5 0 _ _ ls hH (lv_sub hl [1, 2, 3, 4, 5, 6, 0] rfl) hf
  unfold fX4_nights at hf
  refine lv_iload_n hx hb dX4_nights_0 rfl (lv_at hl 1 rfl) ?_
  refine lv_iconst (v := 1) hx hb dX4_nights_1 (by decide) ?_
  refine lv_bipush (v := 20) hx hb dX4_nights_2 (by decide) ?_
  obtain ⟨r1, er1⟩ : ∃ z, z = fX4_isIn a1 1 20 := ⟨_, rfl⟩
  have hf := lu_ er1 hf
  refine cl_i0 hH (rn_S ⟨hx, hb, hml, hown, hts⟩ hKn hH (mX4_isIn l G M n a1 1 20 r1 er1.symm) (va_cwS 3 hts (lw_S q1248 q1249 q70 q1250) rfl rfl rfl kdX4_isIn ⟨Nat.le_of_ble_eq_true rfl, Nat.le_of_ble_eq_true rfl⟩) rfl hl.1 (Nat.le_of_ble_eq_true rfl) dX4_nights_4 ⟨(Nat.le_of_ble_eq_true rfl), (Nat.le_of_ble_eq_true rfl)⟩ rfl) (fun H locs hH => ?_)
  refine lv_if_eq (tgt := 19) hx hb dX4_nights_7 (by decide) (fun c8 => ?_) (fun c8 => ?_)
  · have hf := ip_ c8 hf
    refine lv_iconst (v := (-1)) hx hb dX4_nights_19 (by decide) ?_
    cases hf
    exact rt_i hx hb hr hlk hH dX4_nights_20
  · have hf := in_ c8 hf
    refine lv_iload_n hx hb dX4_nights_10 rfl (lv_at hl 3 rfl) ?_
    refine lv_iconst (v := 0) hx hb dX4_nights_11 (by decide) ?_
    refine lv_iconst (v := 1) hx hb dX4_nights_12 (by decide) ?_
    obtain ⟨r2, er2⟩ : ∃ z, z = fX4_isIn a3 0 1 := ⟨_, rfl⟩
    have hf := lu_ er2 hf
    refine cl_i0 hH (rn_S ⟨hx, hb, hml, hown, hts⟩ hKn hH (mX4_isIn l G M n a3 0 1 r2 er2.symm) (va_cwS 3 hts (lw_S q1248 q1249 q70 q1250) rfl rfl rfl kdX4_isIn ⟨Nat.le_of_ble_eq_true rfl, Nat.le_of_ble_eq_true rfl⟩) rfl hl.1 (Nat.le_of_ble_eq_true rfl) dX4_nights_13 ⟨(Nat.le_of_ble_eq_true rfl), (Nat.le_of_ble_eq_true rfl)⟩ rfl) (fun H locs hH => ?_)
    refine lv_if_ne (tgt := 21) hx hb dX4_nights_16 (by decide) (fun c7 => ?_) (fun c7 => ?_)
    · have hf := in_ c7 hf
      refine lv_aload_n hx hb dX4_nights_21 rfl (lv_at hl 0 rfl) ?_
      obtain ⟨v3, ev3, hf⟩ := bs_ hf
      refine mg_gR hx hb hts hown hKn hH ev3 in_X4 rfl (by decide) (hts _ q1176) (fun _ h9 => h9) dX4_nights_22 ?_
      refine lv_iconst (v := 0) hx hb dX4_nights_25 (by decide) ?_
      obtain ⟨v4, ev4, hf⟩ := bs_ hf
      refine mg_iald hx hb hKn hH ev4 dX4_nights_26 ?_
      refine lv_if_ne (tgt := 33) hx hb dX4_nights_27 (by decide) (fun c6 => ?_) (fun c6 => ?_)
      · have hf := in_ c6 hf
        refine lv_aload_n hx hb dX4_nights_33 rfl (lv_at hl 0 rfl) ?_
        refine lv_iload_n hx hb dX4_nights_34 rfl (lv_at hl 2 rfl) ?_
        obtain ⟨M5, eM5, hf⟩ := bs_ hf
        refine mg_pF hx hb hts hown hKn hH eM5 in_X4 tyX4_ok nmX4 rfl (by decide) (hts _ q1188) (fun _ h9 => h9) rfl rfl rfl dX4_nights_35 (fun H locs hH => ?_)
        refine lv_iconst (v := 0) hx hb dX4_nights_38 (by decide) ?_
        refine lv_istore (lv' := [(4, .int 0), (0, .ref a0), (1, .int a1), (2, .int a2), (3, .int a3)]) hx hb dX4_nights_39 hl (by decide) rfl (fun ls hl => ?_)
        refine lv_iconst (v := 0) hx hb dX4_nights_41 (by decide) ?_
        refine lv_istore (lv' := [(5, .int 0), (4, .int 0), (0, .ref a0), (1, .int a1), (2, .int a2), (3, .int a3)]) hx hb dX4_nights_42 hl (by decide) rfl (fun ls hl => ?_)
        exact w44 1000 M5 a0 a1 a2 a3 0 0 _ _ ls hH (lv_sub hl [2, 3, 4, 5, 1, 0] rfl) hf
      · have hf := ip_ c6 hf
        refine lv_bipush (v := (-3)) hx hb dX4_nights_30 (by decide) ?_
        cases hf
        exact rt_i hx hb hr hlk hH dX4_nights_32
    · have hf := ip_ c7 hf
      refine lv_iconst (v := (-1)) hx hb dX4_nights_19 (by decide) ?_
      cases hf
      exact rt_i hx hb hr hlk hH dX4_nights_20
def fX4_image (M : Mem_) (a0 : Nat) : Option (Int32 × Mem_) :=
  (gR_ M a0 3 0).bind fun v1 =>
  (gR_ M a0 3 2).bind fun v2 =>
  (fX4_copies M v1 v2).bind fun M4 =>
  (pF_ M4 a0 3 5 (.int 1)).bind fun M5 =>
  (gR_ M5 a0 3 0).bind fun v6 =>
  (aI_ M5 v6 0 1).bind fun v7 =>
  some (v7, M5)
theorem kdX4_image : yX4_image.cls ≠ "java/lang/invoke/MethodHandle" ∧ yX4_image.cls ≠ "java/lang/invoke/VarHandle" ∧ (parseMethodDescriptor yX4_image.desc).map (fun d => d.parameters.length) = some 0 := by decide +kernel
set_option maxHeartbeats 4000000 in
theorem mX4_image (l : Launch) (G : GT_) (M : Mem_) (n : Nat) (a0 : Nat) (r : Int32) (M1 : Mem_) (hf : fX4_image M a0 = some (r, M1)) : Ct_ G l yX4_image (ws_ yX4_image cX4_image 1 (some .int)) ({ frames := 1, cells := 0, slots := 0, locals := 22 }) 0 0 [.ref a0] M n (some (.int r)) M1 n := by
  refine en_ (by decide) (Nat.le_of_ble_eq_true rfl) ?_
  intro p e s m below meth c hx hb hr hlk hml hown hts hname hKn hH ls hl
  have hown : s.vm.findClass RX4 = some m.cls := hown
  have hl : lv_has ls 1 [(0, .ref a0)] := hl
  unfold fX4_image at hf
  generalize s.heap = H at hH ⊢
  refine lv_aload_n hx hb dX4_image_0 rfl (lv_at hl 0 rfl) ?_
  obtain ⟨v1, ev1, hf⟩ := bs_ hf
  refine mg_gR hx hb hts hown hKn hH ev1 in_X4 rfl (by decide) (hts _ q1176) (fun _ h9 => h9) dX4_image_1 ?_
  refine lv_aload_n hx hb dX4_image_4 rfl (lv_at hl 0 rfl) ?_
  obtain ⟨v2, ev2, hf⟩ := bs_ hf
  refine mg_gR hx hb hts hown hKn hH ev2 in_X4 rfl (by decide) (hts _ q1178) (fun _ h9 => h9) dX4_image_5 ?_
  obtain ⟨M4, er3, hf⟩ := bs_ hf
  refine cl_v0 hH (rn_S ⟨hx, hb, hml, hown, hts⟩ hKn hH (mX4_copies l G M n v1 v2 M4 er3) (va_cwS 2 hts (lw_S q1263 q1264 q70 q1265) rfl rfl rfl kdX4_copies ⟨Nat.le_of_ble_eq_true rfl, Nat.le_of_ble_eq_true rfl⟩) rfl hl.1 (Nat.le_of_ble_eq_true rfl) dX4_image_8 ⟨(Nat.le_of_ble_eq_true rfl), (Nat.le_of_ble_eq_true rfl)⟩ rfl) (fun H locs hH => ?_)
  refine lv_aload_n hx hb dX4_image_11 rfl (lv_at hl 0 rfl) ?_
  refine lv_iconst (v := 1) hx hb dX4_image_12 (by decide) ?_
  obtain ⟨M5, eM5, hf⟩ := bs_ hf
  refine mg_pF hx hb hts hown hKn hH eM5 in_X4 tyX4_ok nmX4 rfl (by decide) (hts _ q1181) (fun _ h9 => h9) rfl rfl rfl dX4_image_13 (fun H locs hH => ?_)
  refine lv_aload_n hx hb dX4_image_16 rfl (lv_at hl 0 rfl) ?_
  obtain ⟨v6, ev6, hf⟩ := bs_ hf
  refine mg_gR hx hb hts hown hKn hH ev6 in_X4 rfl (by decide) (hts _ q1176) (fun _ h9 => h9) dX4_image_17 ?_
  refine lv_iconst (v := 1) hx hb dX4_image_20 (by decide) ?_
  obtain ⟨v7, ev7, hf⟩ := bs_ hf
  refine mg_iald hx hb hKn hH ev7 dX4_image_21 ?_
  cases hf
  exact rt_i hx hb hr hlk hH dX4_image_22
def fX4_restore (M : Mem_) (a0 : Nat) : Option (Int32 × Mem_) :=
  (gI_ M a0 3 5).bind fun v1 =>
  if v1 = 0 then
    some ((-3), M)
  else
    (gR_ M a0 3 2).bind fun v2 =>
    (gR_ M a0 3 0).bind fun v3 =>
    (fX4_copies M v2 v3).bind fun M5 =>
    (gR_ M5 a0 3 0).bind fun v6 =>
    (aI_ M5 v6 0 1).bind fun v7 =>
    some (v7, M5)
theorem kdX4_restore : yX4_restore.cls ≠ "java/lang/invoke/MethodHandle" ∧ yX4_restore.cls ≠ "java/lang/invoke/VarHandle" ∧ (parseMethodDescriptor yX4_restore.desc).map (fun d => d.parameters.length) = some 0 := by decide +kernel
set_option maxHeartbeats 4000000 in
theorem mX4_restore (l : Launch) (G : GT_) (M : Mem_) (n : Nat) (a0 : Nat) (r : Int32) (M1 : Mem_) (hf : fX4_restore M a0 = some (r, M1)) : Ct_ G l yX4_restore (ws_ yX4_restore cX4_restore 1 (some .int)) ({ frames := 1, cells := 0, slots := 0, locals := 22 }) 0 0 [.ref a0] M n (some (.int r)) M1 n := by
  refine en_ (by decide) (Nat.le_of_ble_eq_true rfl) ?_
  intro p e s m below meth c hx hb hr hlk hml hown hts hname hKn hH ls hl
  have hown : s.vm.findClass RX4 = some m.cls := hown
  have hl : lv_has ls 1 [(0, .ref a0)] := hl
  unfold fX4_restore at hf
  generalize s.heap = H at hH ⊢
  refine lv_aload_n hx hb dX4_restore_0 rfl (lv_at hl 0 rfl) ?_
  obtain ⟨v1, ev1, hf⟩ := bs_ hf
  refine mg_gI hx hb hts hown hKn hH ev1 in_X4 rfl (by decide) (hts _ q1181) (fun _ h9 => h9) dX4_restore_1 ?_
  refine lv_if_ne (tgt := 10) hx hb dX4_restore_4 (by decide) (fun c8 => ?_) (fun c8 => ?_)
  · have hf := in_ c8 hf
    refine lv_aload_n hx hb dX4_restore_10 rfl (lv_at hl 0 rfl) ?_
    obtain ⟨v2, ev2, hf⟩ := bs_ hf
    refine mg_gR hx hb hts hown hKn hH ev2 in_X4 rfl (by decide) (hts _ q1178) (fun _ h9 => h9) dX4_restore_11 ?_
    refine lv_aload_n hx hb dX4_restore_14 rfl (lv_at hl 0 rfl) ?_
    obtain ⟨v3, ev3, hf⟩ := bs_ hf
    refine mg_gR hx hb hts hown hKn hH ev3 in_X4 rfl (by decide) (hts _ q1176) (fun _ h9 => h9) dX4_restore_15 ?_
    obtain ⟨M5, er4, hf⟩ := bs_ hf
    refine cl_v0 hH (rn_S ⟨hx, hb, hml, hown, hts⟩ hKn hH (mX4_copies l G M n v2 v3 M5 er4) (va_cwS 2 hts (lw_S q1263 q1264 q70 q1265) rfl rfl rfl kdX4_copies ⟨Nat.le_of_ble_eq_true rfl, Nat.le_of_ble_eq_true rfl⟩) rfl hl.1 (Nat.le_of_ble_eq_true rfl) dX4_restore_18 ⟨(Nat.le_of_ble_eq_true rfl), (Nat.le_of_ble_eq_true rfl)⟩ rfl) (fun H locs hH => ?_)
    refine lv_aload_n hx hb dX4_restore_21 rfl (lv_at hl 0 rfl) ?_
    obtain ⟨v6, ev6, hf⟩ := bs_ hf
    refine mg_gR hx hb hts hown hKn hH ev6 in_X4 rfl (by decide) (hts _ q1176) (fun _ h9 => h9) dX4_restore_22 ?_
    refine lv_iconst (v := 1) hx hb dX4_restore_25 (by decide) ?_
    obtain ⟨v7, ev7, hf⟩ := bs_ hf
    refine mg_iald hx hb hKn hH ev7 dX4_restore_26 ?_
    cases hf
    exact rt_i hx hb hr hlk hH dX4_restore_27
  · have hf := ip_ c8 hf
    refine lv_bipush (v := (-3)) hx hb dX4_restore_7 (by decide) ?_
    cases hf
    exact rt_i hx hb hr hlk hH dX4_restore_9
def fX4_count_L63 : Nat → Mem_ → Nat → Int32 → Int32 → Int32 → Option Int32
  | 0, _, _, _, _, _ => none
  | fuel + 1, M, x0, x1, x2, x3 =>
    if 4 ≤ x3 then
      some x2
    else
      (gR_ M x0 3 0).bind fun v17 =>
      lt_ (fX4_ofP x3 3) fun r18 =>
      (aI_ M v17 0 r18).bind fun v19 =>
      lt_ ((x2 ||| (v19 <<< (x3 &&& 31)))) fun v20 =>
      lt_ (x3 + 1) fun v21 =>
      fX4_count_L63 fuel M x0 x1 v20 v21
def fX4_count (M : Mem_) (a0 : Nat) (a1 : Int32) : Option Int32 :=
  if a1 = 0 then
    (gR_ M a0 3 0).bind fun v2 =>
    (aI_ M v2 0 a1).bind fun v3 =>
    some v3
  else
    if a1 = 1 then
      (gR_ M a0 3 0).bind fun v5 =>
      (aI_ M v5 0 a1).bind fun v6 =>
      some v6
    else
      if a1 = 2 then
        (gR_ M a0 3 0).bind fun v8 =>
        (aI_ M v8 0 a1).bind fun v9 =>
        some v9
      else
        if a1 = 3 then
          (gR_ M a0 3 0).bind fun v11 =>
          (aI_ M v11 0 3).bind fun v12 =>
          some (v12 + 1)
        else
          if a1 = 4 then
            (ck_ M a0 3).bind fun u14 =>
            (fX4_allTired M a0).bind fun r15 =>
            some r15
          else
            if a1 = 5 then
              fX4_count_L63 1000 M a0 a1 0 0
            else
              some (-1)
theorem kdX4_count : yX4_count.cls ≠ "java/lang/invoke/MethodHandle" ∧ yX4_count.cls ≠ "java/lang/invoke/VarHandle" ∧ (parseMethodDescriptor yX4_count.desc).map (fun d => d.parameters.length) = some 1 := by decide +kernel
set_option maxHeartbeats 4000000 in
theorem mX4_count (l : Launch) (G : GT_) (M : Mem_) (n : Nat) (a0 : Nat) (a1 : Int32) (r : Int32) (hf : fX4_count M a0 a1 = some r) : Ct_ G l yX4_count (ws_ yX4_count cX4_count 4 (some .int)) ({ frames := 2, cells := 0, slots := 0, locals := 43 }) 0 0 [.ref a0, .int a1] M n (some (.int r)) M n := by
  refine en_ (by decide) (Nat.le_of_ble_eq_true rfl) ?_
  intro p e s m below meth c hx hb hr hlk hml hown hts hname hKn hH ls hl
  have hown : s.vm.findClass RX4 = some m.cls := hown
  have hl : lv_has ls 4 [(0, .ref a0), (1, .int a1)] := hl
  have w63 : ∀ (fuel : Nat), ∀ (M : Mem_) (x0 : Nat) (x1 : Int32) (x2 : Int32) (x3 : Int32) (H : Heap) (locs : List Loc) (ls : Array Slot), St_ G n M s H locs → lv_has ls 4 [(0, .ref x0), (1, .int x1), (2, .int x2), (3, .int x3)] → fX4_count_L63 fuel M x0 x1 x2 x3 = some r → W p l e ({ frames := 2, cells := 0, slots := 0, locals := 43 } : Room) s m ([.ref a0, .int a1] : List Value).toArray below meth c H locs 0 0 (MQ below (Qc_ G (some (.int r)) M n) ([.ref a0, .int a1] : List Value).toArray s 0 0 (fun q => G.1 ≤ q)) (F0 m 63 ls []) := by
    intro fuel
    induction fuel with
    | zero =>
      intro M x0 x1 x2 x3 H locs ls hH hl hf
      cases hf
    | succ fuel ih =>
      intro M x0 x1 x2 x3 H locs ls hH hl hf
      unfold fX4_count_L63 at hf
      refine lv_iload_n hx hb dX4_count_63 rfl (lv_at hl 3 rfl) ?_
      refine lv_iconst (v := 4) hx hb dX4_count_64 (by decide) ?_
      refine lv_icmp_ge (tgt := 89) hx hb dX4_count_65 (by decide) (fun c22 => ?_) (fun c22 => ?_)
      · have hf := ip_ c22 hf
        refine lv_iload_n hx hb dX4_count_89 rfl (lv_at hl 2 rfl) ?_
        cases hf
        exact rt_i hx hb hr hlk hH dX4_count_90
      · have hf := in_ c22 hf
        refine lv_iload_n hx hb dX4_count_68 rfl (lv_at hl 2 rfl) ?_
        refine lv_aload_n hx hb dX4_count_69 rfl (lv_at hl 0 rfl) ?_
        obtain ⟨v17, ev17, hf⟩ := bs_ hf
        refine mg_gR hx hb hts hown hKn hH ev17 in_X4 rfl (by decide) (hts _ q1176) (fun _ h9 => h9) dX4_count_70 ?_
        refine lv_iload_n hx hb dX4_count_73 rfl (lv_at hl 3 rfl) ?_
        refine lv_iconst (v := 3) hx hb dX4_count_74 (by decide) ?_
        obtain ⟨r18, er18⟩ : ∃ z, z = fX4_ofP x3 3 := ⟨_, rfl⟩
        have hf := lu_ er18 hf
        refine cl_i0 hH (rn_S ⟨hx, hb, hml, hown, hts⟩ hKn hH (mX4_ofP l G M n x3 3 r18 er18.symm) (va_cwS 2 hts (lw_S q1170 q1171 q70 q1172) rfl rfl rfl kdX4_ofP ⟨Nat.le_of_ble_eq_true rfl, Nat.le_of_ble_eq_true rfl⟩) rfl hl.1 (Nat.le_of_ble_eq_true rfl) dX4_count_75 ⟨(Nat.le_of_ble_eq_true rfl), (Nat.le_of_ble_eq_true rfl)⟩ rfl) (fun H locs hH => ?_)
        obtain ⟨v19, ev19, hf⟩ := bs_ hf
        refine mg_iald hx hb hKn hH ev19 dX4_count_78 ?_
        refine lv_iload_n hx hb dX4_count_79 rfl (lv_at hl 3 rfl) ?_
        refine lv_ishl hx hb dX4_count_80 ?_
        refine lv_ior hx hb dX4_count_81 ?_
        refine lv_topi (fun v20 ev20 => ?_)
        have hf := lu_ ev20 hf
        refine lv_istore_n (lv' := [(2, .int v20), (0, .ref x0), (1, .int x1), (3, .int x3)]) hx hb dX4_count_82 rfl hl (by decide) rfl (fun ls hl => ?_)
        obtain ⟨v21, ev21⟩ : ∃ z : Int32, z = x3 + 1 := ⟨_, rfl⟩
        have hf := lu_ ev21 hf
        refine lv_iinc (v := v21) (lv' := [(3, .int v21), (2, .int v20), (0, .ref x0), (1, .int x1)]) hx hb dX4_count_83 hl (k := 3) rfl (by rw [ev21]; rfl) (by decide) rfl (fun ls hl => ?_)
        refine lv_goto (tgt := 63) hx hb dX4_count_86 (by decide) ?_
        exact ih M x0 x1 v20 v21 _ _ ls hH (lv_sub hl [2, 3, 1, 0] rfl) hf
  unfold fX4_count at hf
  refine lv_iconst (v := 0) hx hb dX4_count_0 (by decide) ?_
  refine lv_istore_n (lv' := [(2, .int 0), (0, .ref a0), (1, .int a1)]) hx hb dX4_count_1 rfl hl (by decide) rfl (fun ls hl => ?_)
  refine lv_iload_n hx hb dX4_count_2 rfl (lv_at hl 2 rfl) ?_
  by_cases c1 : a1 = 0
  · have hf := ip_ c1 hf
    refine sw_I (off := 37) (tgt := 40) hx hb dX4_count_3 c1 (by decide) (by decide) (by decide) (by decide) ?_
    refine lv_aload_n hx hb dX4_count_40 rfl (lv_at hl 1 rfl) ?_
    obtain ⟨v2, ev2, hf⟩ := bs_ hf
    refine mg_gR hx hb hts hown hKn hH ev2 in_X4 rfl (by decide) (hts _ q1176) (fun _ h9 => h9) dX4_count_41 ?_
    refine lv_iload_n hx hb dX4_count_44 rfl (lv_at hl 2 rfl) ?_
    obtain ⟨v3, ev3, hf⟩ := bs_ hf
    refine mg_iald hx hb hKn hH ev3 dX4_count_45 ?_
    cases hf
    exact rt_i hx hb hr hlk hH dX4_count_46
  · have hf := in_ c1 hf
    by_cases c4 : a1 = 1
    · have hf := ip_ c4 hf
      refine sw_I (off := 37) (tgt := 40) hx hb dX4_count_3 c4 (by decide) (by decide) (by decide) (by decide) ?_
      refine lv_aload_n hx hb dX4_count_40 rfl (lv_at hl 1 rfl) ?_
      obtain ⟨v5, ev5, hf⟩ := bs_ hf
      refine mg_gR hx hb hts hown hKn hH ev5 in_X4 rfl (by decide) (hts _ q1176) (fun _ h9 => h9) dX4_count_41 ?_
      refine lv_iload_n hx hb dX4_count_44 rfl (lv_at hl 2 rfl) ?_
      obtain ⟨v6, ev6, hf⟩ := bs_ hf
      refine mg_iald hx hb hKn hH ev6 dX4_count_45 ?_
      cases hf
      exact rt_i hx hb hr hlk hH dX4_count_46
    · have hf := in_ c4 hf
      by_cases c7 : a1 = 2
      · have hf := ip_ c7 hf
        refine sw_I (off := 37) (tgt := 40) hx hb dX4_count_3 c7 (by decide) (by decide) (by decide) (by decide) ?_
        refine lv_aload_n hx hb dX4_count_40 rfl (lv_at hl 1 rfl) ?_
        obtain ⟨v8, ev8, hf⟩ := bs_ hf
        refine mg_gR hx hb hts hown hKn hH ev8 in_X4 rfl (by decide) (hts _ q1176) (fun _ h9 => h9) dX4_count_41 ?_
        refine lv_iload_n hx hb dX4_count_44 rfl (lv_at hl 2 rfl) ?_
        obtain ⟨v9, ev9, hf⟩ := bs_ hf
        refine mg_iald hx hb hKn hH ev9 dX4_count_45 ?_
        cases hf
        exact rt_i hx hb hr hlk hH dX4_count_46
      · have hf := in_ c7 hf
        by_cases c10 : a1 = 3
        · have hf := ip_ c10 hf
          refine sw_I (off := 44) (tgt := 47) hx hb dX4_count_3 c10 (by decide) (by decide) (by decide) (by decide) ?_
          refine lv_aload_n hx hb dX4_count_47 rfl (lv_at hl 1 rfl) ?_
          obtain ⟨v11, ev11, hf⟩ := bs_ hf
          refine mg_gR hx hb hts hown hKn hH ev11 in_X4 rfl (by decide) (hts _ q1176) (fun _ h9 => h9) dX4_count_48 ?_
          refine lv_iconst (v := 3) hx hb dX4_count_51 (by decide) ?_
          obtain ⟨v12, ev12, hf⟩ := bs_ hf
          refine mg_iald hx hb hKn hH ev12 dX4_count_52 ?_
          refine lv_iconst (v := 1) hx hb dX4_count_53 (by decide) ?_
          refine lv_iadd hx hb dX4_count_54 ?_
          cases hf
          exact rt_i hx hb hr hlk hH dX4_count_55
        · have hf := in_ c10 hf
          by_cases c13 : a1 = 4
          · have hf := ip_ c13 hf
            refine sw_I (off := 53) (tgt := 56) hx hb dX4_count_3 c13 (by decide) (by decide) (by decide) (by decide) ?_
            refine lv_aload_n hx hb dX4_count_56 rfl (lv_at hl 1 rfl) ?_
            obtain ⟨u14, eu14, hf⟩ := bs_ hf
            obtain ⟨r15, er15, hf⟩ := bs_ hf
            refine cl_i0 hH (rn_V ⟨hx, hb, hml, hown, hts⟩ hKn hH (mX4_allTired l G M n a0 r15 er15) (cwV 0 hts (lw_V q1539 q1541 qs64 q70 q1542) rfl rfl rfl ⟨rfl, kdX4_allTired⟩ ⟨Nat.le_of_ble_eq_true rfl, Nat.le_of_ble_eq_true rfl⟩) eu14 rfl rfl hl.1 (Nat.le_of_ble_eq_true rfl) dX4_count_57 ⟨(Nat.le_of_ble_eq_true rfl), (Nat.le_of_ble_eq_true rfl)⟩ rfl) (fun H locs hH => ?_)
            cases hf
            exact rt_i hx hb hr hlk hH dX4_count_60
          · have hf := in_ c13 hf
            by_cases c16 : a1 = 5
            · have hf := ip_ c16 hf
              refine sw_I (off := 58) (tgt := 61) hx hb dX4_count_3 c16 (by decide) (by decide) (by decide) (by decide) ?_
              refine lv_iconst (v := 0) hx hb dX4_count_61 (by decide) ?_
              refine lv_istore_n (lv' := [(3, .int 0), (2, .int 0), (0, .ref a0), (1, .int a1)]) hx hb dX4_count_62 rfl hl (by decide) rfl (fun ls hl => ?_)
              exact w63 1000 M a0 a1 0 0 _ _ ls hH (lv_sub hl [2, 3, 1, 0] rfl) hf
            · have hf := in_ c16 hf
              refine sw_D (tgt := 91) hx hb dX4_count_3 [(0, 37), (1, 37), (2, 37), (3, 44), (4, 53), (5, 58)] (by decide) (by decide) (by decide) ⟨Or.inr (lv_neT c1 (by decide)), Or.inr (lv_neT c4 (by decide)), Or.inr (lv_neT c7 (by decide)), Or.inr (lv_neT c10 (by decide)), Or.inr (lv_neT c13 (by decide)), Or.inr (lv_neT c16 (by decide)), trivial⟩ (by decide) ?_
              refine lv_iconst (v := (-1)) hx hb dX4_count_91 (by decide) ?_
              cases hf
              exact rt_i hx hb hr hlk hH dX4_count_92
def fX4_thrown (M : Mem_) (a0 : Nat) : Option Int32 :=
  (gI_ M a0 3 19).bind fun v1 =>
  some v1
theorem kdX4_thrown : yX4_thrown.cls ≠ "java/lang/invoke/MethodHandle" ∧ yX4_thrown.cls ≠ "java/lang/invoke/VarHandle" ∧ (parseMethodDescriptor yX4_thrown.desc).map (fun d => d.parameters.length) = some 0 := by decide +kernel
set_option maxHeartbeats 4000000 in
theorem mX4_thrown (l : Launch) (G : GT_) (M : Mem_) (n : Nat) (a0 : Nat) (r : Int32) (hf : fX4_thrown M a0 = some r) : Ct_ G l yX4_thrown (ws_ yX4_thrown cX4_thrown 1 (some .int)) ({ frames := 0, cells := 0, slots := 0, locals := 0 }) 0 0 [.ref a0] M n (some (.int r)) M n := by
  refine en_ (by decide) (Nat.le_of_ble_eq_true rfl) ?_
  intro p e s m below meth c hx hb hr hlk hml hown hts hname hKn hH ls hl
  have hown : s.vm.findClass RX4 = some m.cls := hown
  have hl : lv_has ls 1 [(0, .ref a0)] := hl
  unfold fX4_thrown at hf
  generalize s.heap = H at hH ⊢
  refine lv_aload_n hx hb dX4_thrown_0 rfl (lv_at hl 0 rfl) ?_
  obtain ⟨v1, ev1, hf⟩ := bs_ hf
  refine mg_gI hx hb hts hown hKn hH ev1 in_X4 rfl (by decide) (hts _ q1195) (fun _ h9 => h9) dX4_thrown_1 ?_
  cases hf
  exact rt_i hx hb hr hlk hH dX4_thrown_4
def fX4_keep (M : Mem_) (a0 : Nat) (a1 : Int32) (a2 : Int32) (a3 : Int32) (a4 : Int32) : Option (Int32 × Mem_) :=
  lt_ (fX4_isShelf a1) fun r1 =>
  if (b2_ r1) = 0 then
    some ((-1), M)
  else
    lt_ (fX4_isIn a2 0 1) fun r2 =>
    if (b2_ r2) = 0 then
      some ((-1), M)
    else
      if a2 = 1 then
        lt_ (fX4_isIn a3 0 7) fun r9 =>
        if (b2_ r9) = 0 then
          some ((-1), M)
        else
          lt_ (fX4_isIn a4 0 9) fun r10 =>
          if (b2_ r10) = 0 then
            some ((-1), M)
          else
            (gR_ M a0 3 13).bind fun v11 =>
            (sI_ M v11 0 a1 a2).bind fun M12 =>
            (gR_ M12 a0 3 14).bind fun v13 =>
            (sI_ M12 v13 0 a1 a3).bind fun M14 =>
            (gR_ M14 a0 3 15).bind fun v15 =>
            (sI_ M14 v15 0 a1 a4).bind fun M16 =>
            some (0, M16)
      else
        (gR_ M a0 3 13).bind fun v3 =>
        (sI_ M v3 0 a1 a2).bind fun M4 =>
        (gR_ M4 a0 3 14).bind fun v5 =>
        (sI_ M4 v5 0 a1 a3).bind fun M6 =>
        (gR_ M6 a0 3 15).bind fun v7 =>
        (sI_ M6 v7 0 a1 a4).bind fun M8 =>
        some (0, M8)
theorem kdX4_keep : yX4_keep.cls ≠ "java/lang/invoke/MethodHandle" ∧ yX4_keep.cls ≠ "java/lang/invoke/VarHandle" ∧ (parseMethodDescriptor yX4_keep.desc).map (fun d => d.parameters.length) = some 4 := by decide +kernel
set_option maxHeartbeats 4000000 in
theorem mX4_keep (l : Launch) (G : GT_) (M : Mem_) (n : Nat) (a0 : Nat) (a1 : Int32) (a2 : Int32) (a3 : Int32) (a4 : Int32) (r : Int32) (M1 : Mem_) (hf : fX4_keep M a0 a1 a2 a3 a4 = some (r, M1)) : Ct_ G l yX4_keep (ws_ yX4_keep cX4_keep 5 (some .int)) ({ frames := 2, cells := 0, slots := 0, locals := 42 }) 0 0 [.ref a0, .int a1, .int a2, .int a3, .int a4] M n (some (.int r)) M1 n := by
  refine en_ (by decide) (Nat.le_of_ble_eq_true rfl) ?_
  intro p e s m below meth c hx hb hr hlk hml hown hts hname hKn hH ls hl
  have hown : s.vm.findClass RX4 = some m.cls := hown
  have hl : lv_has ls 5 [(0, .ref a0), (1, .int a1), (2, .int a2), (3, .int a3), (4, .int a4)] := hl
  unfold fX4_keep at hf
  generalize s.heap = H at hH ⊢
  refine lv_iload_n hx hb dX4_keep_0 rfl (lv_at hl 1 rfl) ?_
  obtain ⟨r1, er1⟩ : ∃ z, z = fX4_isShelf a1 := ⟨_, rfl⟩
  have hf := lu_ er1 hf
  refine cl_i0 hH (rn_S ⟨hx, hb, hml, hown, hts⟩ hKn hH (mX4_isShelf l G M n a1 r1 er1.symm) (va_cwS 1 hts (lw_S q1245 q1246 q70 q1247) rfl rfl rfl kdX4_isShelf ⟨Nat.le_of_ble_eq_true rfl, Nat.le_of_ble_eq_true rfl⟩) rfl hl.1 (Nat.le_of_ble_eq_true rfl) dX4_keep_1 ⟨(Nat.le_of_ble_eq_true rfl), (Nat.le_of_ble_eq_true rfl)⟩ rfl) (fun H locs hH => ?_)
  refine lv_if_eq (tgt := 42) hx hb dX4_keep_4 (by decide) (fun c21 => ?_) (fun c21 => ?_)
  · have hf := ip_ c21 hf
    refine lv_iconst (v := (-1)) hx hb dX4_keep_42 (by decide) ?_
    cases hf
    exact rt_i hx hb hr hlk hH dX4_keep_43
  · have hf := in_ c21 hf
    refine lv_iload_n hx hb dX4_keep_7 rfl (lv_at hl 2 rfl) ?_
    refine lv_iconst (v := 0) hx hb dX4_keep_8 (by decide) ?_
    refine lv_iconst (v := 1) hx hb dX4_keep_9 (by decide) ?_
    obtain ⟨r2, er2⟩ : ∃ z, z = fX4_isIn a2 0 1 := ⟨_, rfl⟩
    have hf := lu_ er2 hf
    refine cl_i0 hH (rn_S ⟨hx, hb, hml, hown, hts⟩ hKn hH (mX4_isIn l G M n a2 0 1 r2 er2.symm) (va_cwS 3 hts (lw_S q1248 q1249 q70 q1250) rfl rfl rfl kdX4_isIn ⟨Nat.le_of_ble_eq_true rfl, Nat.le_of_ble_eq_true rfl⟩) rfl hl.1 (Nat.le_of_ble_eq_true rfl) dX4_keep_10 ⟨(Nat.le_of_ble_eq_true rfl), (Nat.le_of_ble_eq_true rfl)⟩ rfl) (fun H locs hH => ?_)
    refine lv_if_eq (tgt := 42) hx hb dX4_keep_13 (by decide) (fun c20 => ?_) (fun c20 => ?_)
    · have hf := ip_ c20 hf
      refine lv_iconst (v := (-1)) hx hb dX4_keep_42 (by decide) ?_
      cases hf
      exact rt_i hx hb hr hlk hH dX4_keep_43
    · have hf := in_ c20 hf
      refine lv_iload_n hx hb dX4_keep_16 rfl (lv_at hl 2 rfl) ?_
      refine lv_iconst (v := 1) hx hb dX4_keep_17 (by decide) ?_
      refine lv_icmp_ne (tgt := 44) hx hb dX4_keep_18 (by decide) (fun c19 => ?_) (fun c19 => ?_)
      · have hf := in_ c19 hf
        refine lv_aload_n hx hb dX4_keep_44 rfl (lv_at hl 0 rfl) ?_
        obtain ⟨v3, ev3, hf⟩ := bs_ hf
        refine mg_gR hx hb hts hown hKn hH ev3 in_X4 rfl (by decide) (hts _ q1189) (fun _ h9 => h9) dX4_keep_45 ?_
        refine lv_iload_n hx hb dX4_keep_48 rfl (lv_at hl 1 rfl) ?_
        refine lv_iload_n hx hb dX4_keep_49 rfl (lv_at hl 2 rfl) ?_
        obtain ⟨M4, eM4, hf⟩ := bs_ hf
        refine mg_iast hx hb hKn hH eM4 dX4_keep_50 (fun H locs hH => ?_)
        refine lv_aload_n hx hb dX4_keep_51 rfl (lv_at hl 0 rfl) ?_
        obtain ⟨v5, ev5, hf⟩ := bs_ hf
        refine mg_gR hx hb hts hown hKn hH ev5 in_X4 rfl (by decide) (hts _ q1190) (fun _ h9 => h9) dX4_keep_52 ?_
        refine lv_iload_n hx hb dX4_keep_55 rfl (lv_at hl 1 rfl) ?_
        refine lv_iload_n hx hb dX4_keep_56 rfl (lv_at hl 3 rfl) ?_
        obtain ⟨M6, eM6, hf⟩ := bs_ hf
        refine mg_iast hx hb hKn hH eM6 dX4_keep_57 (fun H locs hH => ?_)
        refine lv_aload_n hx hb dX4_keep_58 rfl (lv_at hl 0 rfl) ?_
        obtain ⟨v7, ev7, hf⟩ := bs_ hf
        refine mg_gR hx hb hts hown hKn hH ev7 in_X4 rfl (by decide) (hts _ q1191) (fun _ h9 => h9) dX4_keep_59 ?_
        refine lv_iload_n hx hb dX4_keep_62 rfl (lv_at hl 1 rfl) ?_
        refine lv_iload hx hb dX4_keep_63 (lv_at hl 4 rfl) ?_
        obtain ⟨M8, eM8, hf⟩ := bs_ hf
        refine mg_iast hx hb hKn hH eM8 dX4_keep_65 (fun H locs hH => ?_)
        refine lv_iconst (v := 0) hx hb dX4_keep_66 (by decide) ?_
        cases hf
        exact rt_i hx hb hr hlk hH dX4_keep_67
      · have hf := ip_ c19 hf
        refine lv_iload_n hx hb dX4_keep_21 rfl (lv_at hl 3 rfl) ?_
        refine lv_iconst (v := 0) hx hb dX4_keep_22 (by decide) ?_
        refine lv_bipush (v := 7) hx hb dX4_keep_23 (by decide) ?_
        obtain ⟨r9, er9⟩ : ∃ z, z = fX4_isIn a3 0 7 := ⟨_, rfl⟩
        have hf := lu_ er9 hf
        refine cl_i0 hH (rn_S ⟨hx, hb, hml, hown, hts⟩ hKn hH (mX4_isIn l G M n a3 0 7 r9 er9.symm) (va_cwS 3 hts (lw_S q1248 q1249 q70 q1250) rfl rfl rfl kdX4_isIn ⟨Nat.le_of_ble_eq_true rfl, Nat.le_of_ble_eq_true rfl⟩) rfl hl.1 (Nat.le_of_ble_eq_true rfl) dX4_keep_25 ⟨(Nat.le_of_ble_eq_true rfl), (Nat.le_of_ble_eq_true rfl)⟩ rfl) (fun H locs hH => ?_)
        refine lv_if_eq (tgt := 42) hx hb dX4_keep_28 (by decide) (fun c18 => ?_) (fun c18 => ?_)
        · have hf := ip_ c18 hf
          refine lv_iconst (v := (-1)) hx hb dX4_keep_42 (by decide) ?_
          cases hf
          exact rt_i hx hb hr hlk hH dX4_keep_43
        · have hf := in_ c18 hf
          refine lv_iload hx hb dX4_keep_31 (lv_at hl 4 rfl) ?_
          refine lv_iconst (v := 0) hx hb dX4_keep_33 (by decide) ?_
          refine lv_bipush (v := 9) hx hb dX4_keep_34 (by decide) ?_
          obtain ⟨r10, er10⟩ : ∃ z, z = fX4_isIn a4 0 9 := ⟨_, rfl⟩
          have hf := lu_ er10 hf
          refine cl_i0 hH (rn_S ⟨hx, hb, hml, hown, hts⟩ hKn hH (mX4_isIn l G M n a4 0 9 r10 er10.symm) (va_cwS 3 hts (lw_S q1248 q1249 q70 q1250) rfl rfl rfl kdX4_isIn ⟨Nat.le_of_ble_eq_true rfl, Nat.le_of_ble_eq_true rfl⟩) rfl hl.1 (Nat.le_of_ble_eq_true rfl) dX4_keep_36 ⟨(Nat.le_of_ble_eq_true rfl), (Nat.le_of_ble_eq_true rfl)⟩ rfl) (fun H locs hH => ?_)
          refine lv_if_ne (tgt := 44) hx hb dX4_keep_39 (by decide) (fun c17 => ?_) (fun c17 => ?_)
          · have hf := in_ c17 hf
            refine lv_aload_n hx hb dX4_keep_44 rfl (lv_at hl 0 rfl) ?_
            obtain ⟨v11, ev11, hf⟩ := bs_ hf
            refine mg_gR hx hb hts hown hKn hH ev11 in_X4 rfl (by decide) (hts _ q1189) (fun _ h9 => h9) dX4_keep_45 ?_
            refine lv_iload_n hx hb dX4_keep_48 rfl (lv_at hl 1 rfl) ?_
            refine lv_iload_n hx hb dX4_keep_49 rfl (lv_at hl 2 rfl) ?_
            obtain ⟨M12, eM12, hf⟩ := bs_ hf
            refine mg_iast hx hb hKn hH eM12 dX4_keep_50 (fun H locs hH => ?_)
            refine lv_aload_n hx hb dX4_keep_51 rfl (lv_at hl 0 rfl) ?_
            obtain ⟨v13, ev13, hf⟩ := bs_ hf
            refine mg_gR hx hb hts hown hKn hH ev13 in_X4 rfl (by decide) (hts _ q1190) (fun _ h9 => h9) dX4_keep_52 ?_
            refine lv_iload_n hx hb dX4_keep_55 rfl (lv_at hl 1 rfl) ?_
            refine lv_iload_n hx hb dX4_keep_56 rfl (lv_at hl 3 rfl) ?_
            obtain ⟨M14, eM14, hf⟩ := bs_ hf
            refine mg_iast hx hb hKn hH eM14 dX4_keep_57 (fun H locs hH => ?_)
            refine lv_aload_n hx hb dX4_keep_58 rfl (lv_at hl 0 rfl) ?_
            obtain ⟨v15, ev15, hf⟩ := bs_ hf
            refine mg_gR hx hb hts hown hKn hH ev15 in_X4 rfl (by decide) (hts _ q1191) (fun _ h9 => h9) dX4_keep_59 ?_
            refine lv_iload_n hx hb dX4_keep_62 rfl (lv_at hl 1 rfl) ?_
            refine lv_iload hx hb dX4_keep_63 (lv_at hl 4 rfl) ?_
            obtain ⟨M16, eM16, hf⟩ := bs_ hf
            refine mg_iast hx hb hKn hH eM16 dX4_keep_65 (fun H locs hH => ?_)
            refine lv_iconst (v := 0) hx hb dX4_keep_66 (by decide) ?_
            cases hf
            exact rt_i hx hb hr hlk hH dX4_keep_67
          · have hf := ip_ c17 hf
            refine lv_iconst (v := (-1)) hx hb dX4_keep_42 (by decide) ?_
            cases hf
            exact rt_i hx hb hr hlk hH dX4_keep_43
def fX4_row_L55 : Nat → Mem_ → Nat → Int32 → Int32 → Int32 → Int32 → Option (Int32 × Mem_)
  | 0, _, _, _, _, _, _ => none
  | fuel + 1, M, x0, x1, x2, x3, x4 =>
    if 100 ≤ x4 then
      some (0, M)
    else
      (gR_ M x0 3 18).bind fun v13 =>
      (sI_ M v13 0 ((100 * x1) + x4) 0).bind fun M14 =>
      lt_ (x4 + 1) fun v15 =>
      fX4_row_L55 fuel M14 x0 x1 x2 x3 v15
def fX4_row (M : Mem_) (a0 : Nat) (a1 : Int32) (a2 : Int32) (a3 : Int32) : Option (Int32 × Mem_) :=
  lt_ (fX4_isShelf a1) fun r1 =>
  if (b2_ r1) = 0 then
    some ((-1), M)
  else
    lt_ (fX4_isIn a2 0 2) fun r2 =>
    if (b2_ r2) = 0 then
      some ((-1), M)
    else
      if a3 ≤ 100 then
        if 0 ≤ a3 then
          (gR_ M a0 3 13).bind fun v3 =>
          (sI_ M v3 0 a1 2).bind fun M4 =>
          (gR_ M4 a0 3 16).bind fun v5 =>
          (sI_ M4 v5 0 a1 a2).bind fun M6 =>
          (gR_ M6 a0 3 17).bind fun v7 =>
          (sI_ M6 v7 0 a1 a3).bind fun M8 =>
          fX4_row_L55 1000 M8 a0 a1 a2 a3 0
        else
          some ((-14), M)
      else
        some ((-1), M)
theorem kdX4_row : yX4_row.cls ≠ "java/lang/invoke/MethodHandle" ∧ yX4_row.cls ≠ "java/lang/invoke/VarHandle" ∧ (parseMethodDescriptor yX4_row.desc).map (fun d => d.parameters.length) = some 3 := by decide +kernel
set_option maxHeartbeats 4000000 in
theorem mX4_row (l : Launch) (G : GT_) (M : Mem_) (n : Nat) (a0 : Nat) (a1 : Int32) (a2 : Int32) (a3 : Int32) (r : Int32) (M1 : Mem_) (hf : fX4_row M a0 a1 a2 a3 = some (r, M1)) : Ct_ G l yX4_row (ws_ yX4_row cX4_row 5 (some .int)) ({ frames := 2, cells := 0, slots := 0, locals := 42 }) 0 0 [.ref a0, .int a1, .int a2, .int a3] M n (some (.int r)) M1 n := by
  refine en_ (by decide) (Nat.le_of_ble_eq_true rfl) ?_
  intro p e s m below meth c hx hb hr hlk hml hown hts hname hKn hH ls hl
  have hown : s.vm.findClass RX4 = some m.cls := hown
  have hl : lv_has ls 5 [(0, .ref a0), (1, .int a1), (2, .int a2), (3, .int a3)] := hl
  have w55 : ∀ (fuel : Nat), ∀ (M : Mem_) (x0 : Nat) (x1 : Int32) (x2 : Int32) (x3 : Int32) (x4 : Int32) (H : Heap) (locs : List Loc) (ls : Array Slot), St_ G n M s H locs → lv_has ls 5 [(0, .ref x0), (1, .int x1), (2, .int x2), (3, .int x3), (4, .int x4)] → fX4_row_L55 fuel M x0 x1 x2 x3 x4 = some (r, M1) → W p l e ({ frames := 2, cells := 0, slots := 0, locals := 42 } : Room) s m ([.ref a0, .int a1, .int a2, .int a3] : List Value).toArray below meth c H locs 0 0 (MQ below (Qc_ G (some (.int r)) M1 n) ([.ref a0, .int a1, .int a2, .int a3] : List Value).toArray s 0 0 (fun q => G.1 ≤ q)) (F0 m 55 ls []) := by
    intro fuel
    induction fuel with
    | zero =>
      intro M x0 x1 x2 x3 x4 H locs ls hH hl hf
      cases hf
    | succ fuel ih =>
      intro M x0 x1 x2 x3 x4 H locs ls hH hl hf
      unfold fX4_row_L55 at hf
      refine lv_iload hx hb dX4_row_55 (lv_at hl 4 rfl) ?_
      refine lv_bipush (v := 100) hx hb dX4_row_57 (by decide) ?_
      refine lv_icmp_ge (tgt := 81) hx hb dX4_row_59 (by decide) (fun c16 => ?_) (fun c16 => ?_)
      · have hf := ip_ c16 hf
        refine lv_iconst (v := 0) hx hb dX4_row_81 (by decide) ?_
        cases hf
        exact rt_i hx hb hr hlk hH dX4_row_82
      · have hf := in_ c16 hf
        refine lv_aload_n hx hb dX4_row_62 rfl (lv_at hl 0 rfl) ?_
        obtain ⟨v13, ev13, hf⟩ := bs_ hf
        refine mg_gR hx hb hts hown hKn hH ev13 in_X4 rfl (by decide) (hts _ q1194) (fun _ h9 => h9) dX4_row_63 ?_
        refine lv_bipush (v := 100) hx hb dX4_row_66 (by decide) ?_
        refine lv_iload_n hx hb dX4_row_68 rfl (lv_at hl 1 rfl) ?_
        refine lv_imul hx hb dX4_row_69 ?_
        refine lv_iload hx hb dX4_row_70 (lv_at hl 4 rfl) ?_
        refine lv_iadd hx hb dX4_row_72 ?_
        refine lv_iconst (v := 0) hx hb dX4_row_73 (by decide) ?_
        obtain ⟨M14, eM14, hf⟩ := bs_ hf
        refine mg_iast hx hb hKn hH eM14 dX4_row_74 (fun H locs hH => ?_)
        obtain ⟨v15, ev15⟩ : ∃ z : Int32, z = x4 + 1 := ⟨_, rfl⟩
        have hf := lu_ ev15 hf
        refine lv_iinc (v := v15) (lv' := [(4, .int v15), (0, .ref x0), (1, .int x1), (2, .int x2), (3, .int x3)]) hx hb dX4_row_75 hl (k := 4) rfl (by rw [ev15]; rfl) (by decide) rfl (fun ls hl => ?_)
        refine lv_goto (tgt := 55) hx hb dX4_row_78 (by decide) ?_
        exact ih M14 x0 x1 x2 x3 v15 _ _ ls hH (lv_sub hl [1, 2, 3, 4, 0] rfl) hf
  unfold fX4_row at hf
  refine lv_iload_n hx hb dX4_row_0 rfl (lv_at hl 1 rfl) ?_
  obtain ⟨r1, er1⟩ : ∃ z, z = fX4_isShelf a1 := ⟨_, rfl⟩
  have hf := lu_ er1 hf
  refine cl_i0 hH (rn_S ⟨hx, hb, hml, hown, hts⟩ hKn hH (mX4_isShelf l G M n a1 r1 er1.symm) (va_cwS 1 hts (lw_S q1245 q1246 q70 q1247) rfl rfl rfl kdX4_isShelf ⟨Nat.le_of_ble_eq_true rfl, Nat.le_of_ble_eq_true rfl⟩) rfl hl.1 (Nat.le_of_ble_eq_true rfl) dX4_row_1 ⟨(Nat.le_of_ble_eq_true rfl), (Nat.le_of_ble_eq_true rfl)⟩ rfl) (fun H locs hH => ?_)
  refine lv_if_eq (tgt := 22) hx hb dX4_row_4 (by decide) (fun c12 => ?_) (fun c12 => ?_)
  · have hf := ip_ c12 hf
    refine lv_iconst (v := (-1)) hx hb dX4_row_22 (by decide) ?_
    cases hf
    exact rt_i hx hb hr hlk hH dX4_row_23
  · have hf := in_ c12 hf
    refine lv_iload_n hx hb dX4_row_7 rfl (lv_at hl 2 rfl) ?_
    refine lv_iconst (v := 0) hx hb dX4_row_8 (by decide) ?_
    refine lv_iconst (v := 2) hx hb dX4_row_9 (by decide) ?_
    obtain ⟨r2, er2⟩ : ∃ z, z = fX4_isIn a2 0 2 := ⟨_, rfl⟩
    have hf := lu_ er2 hf
    refine cl_i0 hH (rn_S ⟨hx, hb, hml, hown, hts⟩ hKn hH (mX4_isIn l G M n a2 0 2 r2 er2.symm) (va_cwS 3 hts (lw_S q1248 q1249 q70 q1250) rfl rfl rfl kdX4_isIn ⟨Nat.le_of_ble_eq_true rfl, Nat.le_of_ble_eq_true rfl⟩) rfl hl.1 (Nat.le_of_ble_eq_true rfl) dX4_row_10 ⟨(Nat.le_of_ble_eq_true rfl), (Nat.le_of_ble_eq_true rfl)⟩ rfl) (fun H locs hH => ?_)
    refine lv_if_eq (tgt := 22) hx hb dX4_row_13 (by decide) (fun c11 => ?_) (fun c11 => ?_)
    · have hf := ip_ c11 hf
      refine lv_iconst (v := (-1)) hx hb dX4_row_22 (by decide) ?_
      cases hf
      exact rt_i hx hb hr hlk hH dX4_row_23
    · have hf := in_ c11 hf
      refine lv_iload_n hx hb dX4_row_16 rfl (lv_at hl 3 rfl) ?_
      refine lv_bipush (v := 100) hx hb dX4_row_17 (by decide) ?_
      refine lv_icmp_le (tgt := 24) hx hb dX4_row_19 (by decide) (fun c10 => ?_) (fun c10 => ?_)
      · have hf := ip_ c10 hf
        refine lv_iload_n hx hb dX4_row_24 rfl (lv_at hl 3 rfl) ?_
        refine lv_if_ge (tgt := 31) hx hb dX4_row_25 (by decide) (fun c9 => ?_) (fun c9 => ?_)
        · have hf := ip_ c9 hf
          refine lv_aload_n hx hb dX4_row_31 rfl (lv_at hl 0 rfl) ?_
          obtain ⟨v3, ev3, hf⟩ := bs_ hf
          refine mg_gR hx hb hts hown hKn hH ev3 in_X4 rfl (by decide) (hts _ q1189) (fun _ h9 => h9) dX4_row_32 ?_
          refine lv_iload_n hx hb dX4_row_35 rfl (lv_at hl 1 rfl) ?_
          refine lv_iconst (v := 2) hx hb dX4_row_36 (by decide) ?_
          obtain ⟨M4, eM4, hf⟩ := bs_ hf
          refine mg_iast hx hb hKn hH eM4 dX4_row_37 (fun H locs hH => ?_)
          refine lv_aload_n hx hb dX4_row_38 rfl (lv_at hl 0 rfl) ?_
          obtain ⟨v5, ev5, hf⟩ := bs_ hf
          refine mg_gR hx hb hts hown hKn hH ev5 in_X4 rfl (by decide) (hts _ q1192) (fun _ h9 => h9) dX4_row_39 ?_
          refine lv_iload_n hx hb dX4_row_42 rfl (lv_at hl 1 rfl) ?_
          refine lv_iload_n hx hb dX4_row_43 rfl (lv_at hl 2 rfl) ?_
          obtain ⟨M6, eM6, hf⟩ := bs_ hf
          refine mg_iast hx hb hKn hH eM6 dX4_row_44 (fun H locs hH => ?_)
          refine lv_aload_n hx hb dX4_row_45 rfl (lv_at hl 0 rfl) ?_
          obtain ⟨v7, ev7, hf⟩ := bs_ hf
          refine mg_gR hx hb hts hown hKn hH ev7 in_X4 rfl (by decide) (hts _ q1193) (fun _ h9 => h9) dX4_row_46 ?_
          refine lv_iload_n hx hb dX4_row_49 rfl (lv_at hl 1 rfl) ?_
          refine lv_iload_n hx hb dX4_row_50 rfl (lv_at hl 3 rfl) ?_
          obtain ⟨M8, eM8, hf⟩ := bs_ hf
          refine mg_iast hx hb hKn hH eM8 dX4_row_51 (fun H locs hH => ?_)
          refine lv_iconst (v := 0) hx hb dX4_row_52 (by decide) ?_
          refine lv_istore (lv' := [(4, .int 0), (0, .ref a0), (1, .int a1), (2, .int a2), (3, .int a3)]) hx hb dX4_row_53 hl (by decide) rfl (fun ls hl => ?_)
          exact w55 1000 M8 a0 a1 a2 a3 0 _ _ ls hH (lv_sub hl [1, 2, 3, 4, 0] rfl) hf
        · have hf := in_ c9 hf
          refine lv_bipush (v := (-14)) hx hb dX4_row_28 (by decide) ?_
          cases hf
          exact rt_i hx hb hr hlk hH dX4_row_30
      · have hf := in_ c10 hf
        refine lv_iconst (v := (-1)) hx hb dX4_row_22 (by decide) ?_
        cases hf
        exact rt_i hx hb hr hlk hH dX4_row_23
def fX4_put (M : Mem_) (a0 : Nat) (a1 : Int32) (a2 : Int32) (a3 : Int32) : Option (Int32 × Mem_) :=
  (ck_ M a0 3).bind fun u1 =>
  (fX4_wrongRow M a0 a1 (-1)).bind fun r2 =>
  if r2 = 0 then
    (gR_ M a0 3 17).bind fun v3 =>
    (aI_ M v3 0 a1).bind fun v4 =>
    lt_ (fX4_isIn a2 0 (v4 - 1)) fun r5 =>
    if (b2_ r5) = 0 then
      some ((-13), M)
    else
      (gR_ M a0 3 18).bind fun v6 =>
      (gR_ M a0 3 16).bind fun v7 =>
      (aI_ M v7 0 a1).bind fun v8 =>
      if v8 = 0 then
        (sI_ M v6 0 ((100 * a1) + a2) (a3.toInt8.toInt32)).bind fun M14 =>
        some (0, M14)
      else
        (gR_ M a0 3 16).bind fun v9 =>
        (aI_ M v9 0 a1).bind fun v10 =>
        if v10 = 1 then
          (sI_ M v6 0 ((100 * a1) + a2) (a3.toInt16.toInt32)).bind fun M12 =>
          some (0, M12)
        else
          (sI_ M v6 0 ((100 * a1) + a2) a3).bind fun M11 =>
          some (0, M11)
  else
    some (r2, M)
theorem kdX4_put : yX4_put.cls ≠ "java/lang/invoke/MethodHandle" ∧ yX4_put.cls ≠ "java/lang/invoke/VarHandle" ∧ (parseMethodDescriptor yX4_put.desc).map (fun d => d.parameters.length) = some 3 := by decide +kernel
set_option maxHeartbeats 4000000 in
theorem mX4_put (l : Launch) (G : GT_) (M : Mem_) (n : Nat) (a0 : Nat) (a1 : Int32) (a2 : Int32) (a3 : Int32) (r : Int32) (M1 : Mem_) (hf : fX4_put M a0 a1 a2 a3 = some (r, M1)) : Ct_ G l yX4_put (ws_ yX4_put cX4_put 5 (some .int)) ({ frames := 3, cells := 0, slots := 0, locals := 64 }) 0 0 [.ref a0, .int a1, .int a2, .int a3] M n (some (.int r)) M1 n := by
  refine en_ (by decide) (Nat.le_of_ble_eq_true rfl) ?_
  intro p e s m below meth c hx hb hr hlk hml hown hts hname hKn hH ls hl
  have hown : s.vm.findClass RX4 = some m.cls := hown
  have hl : lv_has ls 5 [(0, .ref a0), (1, .int a1), (2, .int a2), (3, .int a3)] := hl
  unfold fX4_put at hf
  generalize s.heap = H at hH ⊢
  refine lv_aload_n hx hb dX4_put_0 rfl (lv_at hl 0 rfl) ?_
  refine lv_iload_n hx hb dX4_put_1 rfl (lv_at hl 1 rfl) ?_
  refine lv_iconst (v := (-1)) hx hb dX4_put_2 (by decide) ?_
  obtain ⟨u1, eu1, hf⟩ := bs_ hf
  obtain ⟨r2, er2, hf⟩ := bs_ hf
  refine cl_i0 hH (rn_V ⟨hx, hb, hml, hown, hts⟩ hKn hH (mX4_wrongRow l G M n a0 a1 (-1) r2 er2) (cwV 2 hts (lw_V q1241 q1243 qs38 q70 q1244) rfl rfl rfl ⟨rfl, kdX4_wrongRow⟩ ⟨Nat.le_of_ble_eq_true rfl, Nat.le_of_ble_eq_true rfl⟩) eu1 rfl rfl hl.1 (Nat.le_of_ble_eq_true rfl) dX4_put_3 ⟨(Nat.le_of_ble_eq_true rfl), (Nat.le_of_ble_eq_true rfl)⟩ rfl) (fun H locs hH => ?_)
  refine lv_istore (lv' := [(4, .int r2), (0, .ref a0), (1, .int a1), (2, .int a2), (3, .int a3)]) hx hb dX4_put_6 hl (by decide) rfl (fun ls hl => ?_)
  refine lv_iload hx hb dX4_put_8 (lv_at hl 0 rfl) ?_
  refine lv_if_eq (tgt := 16) hx hb dX4_put_10 (by decide) (fun c17 => ?_) (fun c17 => ?_)
  · have hf := ip_ c17 hf
    refine lv_iload_n hx hb dX4_put_16 rfl (lv_at hl 3 rfl) ?_
    refine lv_iconst (v := 0) hx hb dX4_put_17 (by decide) ?_
    refine lv_aload_n hx hb dX4_put_18 rfl (lv_at hl 1 rfl) ?_
    obtain ⟨v3, ev3, hf⟩ := bs_ hf
    refine mg_gR hx hb hts hown hKn hH ev3 in_X4 rfl (by decide) (hts _ q1193) (fun _ h9 => h9) dX4_put_19 ?_
    refine lv_iload_n hx hb dX4_put_22 rfl (lv_at hl 2 rfl) ?_
    obtain ⟨v4, ev4, hf⟩ := bs_ hf
    refine mg_iald hx hb hKn hH ev4 dX4_put_23 ?_
    refine lv_iconst (v := 1) hx hb dX4_put_24 (by decide) ?_
    refine lv_isub hx hb dX4_put_25 ?_
    obtain ⟨r5, er5⟩ : ∃ z, z = fX4_isIn a2 0 (v4 - 1) := ⟨_, rfl⟩
    have hf := lu_ er5 hf
    refine cl_i0 hH (rn_S ⟨hx, hb, hml, hown, hts⟩ hKn hH (mX4_isIn l G M n a2 0 (v4 - 1) r5 er5.symm) (va_cwS 3 hts (lw_S q1248 q1249 q70 q1250) rfl rfl rfl kdX4_isIn ⟨Nat.le_of_ble_eq_true rfl, Nat.le_of_ble_eq_true rfl⟩) rfl hl.1 (Nat.le_of_ble_eq_true rfl) dX4_put_26 ⟨(Nat.le_of_ble_eq_true rfl), (Nat.le_of_ble_eq_true rfl)⟩ rfl) (fun H locs hH => ?_)
    refine lv_if_ne (tgt := 35) hx hb dX4_put_29 (by decide) (fun c16 => ?_) (fun c16 => ?_)
    · have hf := in_ c16 hf
      refine lv_aload_n hx hb dX4_put_35 rfl (lv_at hl 1 rfl) ?_
      obtain ⟨v6, ev6, hf⟩ := bs_ hf
      refine mg_gR hx hb hts hown hKn hH ev6 in_X4 rfl (by decide) (hts _ q1194) (fun _ h9 => h9) dX4_put_36 ?_
      refine lv_bipush (v := 100) hx hb dX4_put_39 (by decide) ?_
      refine lv_iload_n hx hb dX4_put_41 rfl (lv_at hl 2 rfl) ?_
      refine lv_imul hx hb dX4_put_42 ?_
      refine lv_iload_n hx hb dX4_put_43 rfl (lv_at hl 3 rfl) ?_
      refine lv_iadd hx hb dX4_put_44 ?_
      refine lv_aload_n hx hb dX4_put_45 rfl (lv_at hl 1 rfl) ?_
      obtain ⟨v7, ev7, hf⟩ := bs_ hf
      refine mg_gR hx hb hts hown hKn hH ev7 in_X4 rfl (by decide) (hts _ q1192) (fun _ h9 => h9) dX4_put_46 ?_
      refine lv_iload_n hx hb dX4_put_49 rfl (lv_at hl 2 rfl) ?_
      obtain ⟨v8, ev8, hf⟩ := bs_ hf
      refine mg_iald hx hb hKn hH ev8 dX4_put_50 ?_
      refine lv_if_ne (tgt := 59) hx hb dX4_put_51 (by decide) (fun c15 => ?_) (fun c15 => ?_)
      · have hf := in_ c15 hf
        refine lv_aload_n hx hb dX4_put_59 rfl (lv_at hl 1 rfl) ?_
        obtain ⟨v9, ev9, hf⟩ := bs_ hf
        refine mg_gR hx hb hts hown hKn hH ev9 in_X4 rfl (by decide) (hts _ q1192) (fun _ h9 => h9) dX4_put_60 ?_
        refine lv_iload_n hx hb dX4_put_63 rfl (lv_at hl 2 rfl) ?_
        obtain ⟨v10, ev10, hf⟩ := bs_ hf
        refine mg_iald hx hb hKn hH ev10 dX4_put_64 ?_
        refine lv_iconst (v := 1) hx hb dX4_put_65 (by decide) ?_
        refine lv_icmp_ne (tgt := 74) hx hb dX4_put_66 (by decide) (fun c13 => ?_) (fun c13 => ?_)
        · have hf := in_ c13 hf
          refine lv_iload_n hx hb dX4_put_74 rfl (lv_at hl 4 rfl) ?_
          obtain ⟨M11, eM11, hf⟩ := bs_ hf
          refine mg_iast hx hb hKn hH eM11 dX4_put_75 (fun H locs hH => ?_)
          refine lv_iconst (v := 0) hx hb dX4_put_76 (by decide) ?_
          cases hf
          exact rt_i hx hb hr hlk hH dX4_put_77
        · have hf := ip_ c13 hf
          refine lv_iload_n hx hb dX4_put_69 rfl (lv_at hl 4 rfl) ?_
          refine lv_i2s hx hb dX4_put_70 rfl ?_
          refine lv_goto (tgt := 75) hx hb dX4_put_71 (by decide) ?_
          obtain ⟨M12, eM12, hf⟩ := bs_ hf
          refine mg_iast hx hb hKn hH eM12 dX4_put_75 (fun H locs hH => ?_)
          refine lv_iconst (v := 0) hx hb dX4_put_76 (by decide) ?_
          cases hf
          exact rt_i hx hb hr hlk hH dX4_put_77
      · have hf := ip_ c15 hf
        refine lv_iload_n hx hb dX4_put_54 rfl (lv_at hl 4 rfl) ?_
        refine lv_i2b hx hb dX4_put_55 rfl ?_
        refine lv_goto (tgt := 75) hx hb dX4_put_56 (by decide) ?_
        obtain ⟨M14, eM14, hf⟩ := bs_ hf
        refine mg_iast hx hb hKn hH eM14 dX4_put_75 (fun H locs hH => ?_)
        refine lv_iconst (v := 0) hx hb dX4_put_76 (by decide) ?_
        cases hf
        exact rt_i hx hb hr hlk hH dX4_put_77
    · have hf := ip_ c16 hf
      refine lv_bipush (v := (-13)) hx hb dX4_put_32 (by decide) ?_
      cases hf
      exact rt_i hx hb hr hlk hH dX4_put_34
  · have hf := in_ c17 hf
    refine lv_iload hx hb dX4_put_13 (lv_at hl 0 rfl) ?_
    cases hf
    exact rt_i hx hb hr hlk hH dX4_put_15
def fX4_element (M : Mem_) (a0 : Nat) (a1 : Int32) (a2 : Int32) : Option (Int64 × Mem_) :=
  lt_ (fX4_isShelf a1) fun r1 =>
  if (b2_ r1) = 0 then
    (pF_ M a0 3 19 (.int 1)).bind fun M24 =>
    (gI_ M24 a0 3 19).bind fun v25 =>
    if v25 = 0 then
      (gR_ M24 a0 3 18).bind fun v26 =>
      (aI_ M24 v26 0 ((100 * a1) + a2)).bind fun v27 =>
      some ((v27.toInt64), M24)
    else
      some (0, M24)
  else
    (gR_ M a0 3 13).bind fun v2 =>
    (aI_ M v2 0 a1).bind fun v3 =>
    if v3 = 2 then
      (gR_ M a0 3 17).bind fun v9 =>
      (aI_ M v9 0 a1).bind fun v10 =>
      lt_ (fX4_isIn a2 0 (v10 - 1)) fun r11 =>
      if (b2_ r11) = 0 then
        (pF_ M a0 3 19 (.int 2)).bind fun M17 =>
        (gI_ M17 a0 3 19).bind fun v18 =>
        if v18 = 0 then
          (gR_ M17 a0 3 18).bind fun v19 =>
          (aI_ M17 v19 0 ((100 * a1) + a2)).bind fun v20 =>
          some ((v20.toInt64), M17)
        else
          some (0, M17)
      else
        (pF_ M a0 3 19 (.int 0)).bind fun M12 =>
        (gI_ M12 a0 3 19).bind fun v13 =>
        if v13 = 0 then
          (gR_ M12 a0 3 18).bind fun v14 =>
          (aI_ M12 v14 0 ((100 * a1) + a2)).bind fun v15 =>
          some ((v15.toInt64), M12)
        else
          some (0, M12)
    else
      (pF_ M a0 3 19 (.int 2)).bind fun M4 =>
      (gI_ M4 a0 3 19).bind fun v5 =>
      if v5 = 0 then
        (gR_ M4 a0 3 18).bind fun v6 =>
        (aI_ M4 v6 0 ((100 * a1) + a2)).bind fun v7 =>
        some ((v7.toInt64), M4)
      else
        some (0, M4)
theorem kdX4_element : yX4_element.cls ≠ "java/lang/invoke/MethodHandle" ∧ yX4_element.cls ≠ "java/lang/invoke/VarHandle" ∧ (parseMethodDescriptor yX4_element.desc).map (fun d => d.parameters.length) = some 2 := by decide +kernel
set_option maxHeartbeats 4000000 in
theorem mX4_element (l : Launch) (G : GT_) (M : Mem_) (n : Nat) (a0 : Nat) (a1 : Int32) (a2 : Int32) (r : Int64) (M1 : Mem_) (hf : fX4_element M a0 a1 a2 = some (r, M1)) : Ct_ G l yX4_element (ws_ yX4_element cX4_element 3 (some .long)) ({ frames := 2, cells := 0, slots := 0, locals := 42 }) 0 0 [.ref a0, .int a1, .int a2] M n (some (.long r)) M1 n := by
  refine en_ (by decide) (Nat.le_of_ble_eq_true rfl) ?_
  intro p e s m below meth c hx hb hr hlk hml hown hts hname hKn hH ls hl
  have hown : s.vm.findClass RX4 = some m.cls := hown
  have hl : lv_has ls 3 [(0, .ref a0), (1, .int a1), (2, .int a2)] := hl
  unfold fX4_element at hf
  generalize s.heap = H at hH ⊢
  refine lv_aload_n hx hb dX4_element_0 rfl (lv_at hl 0 rfl) ?_
  refine lv_iload_n hx hb dX4_element_1 rfl (lv_at hl 1 rfl) ?_
  obtain ⟨r1, er1⟩ : ∃ z, z = fX4_isShelf a1 := ⟨_, rfl⟩
  have hf := lu_ er1 hf
  refine cl_i0 hH (rn_S ⟨hx, hb, hml, hown, hts⟩ hKn hH (mX4_isShelf l G M n a1 r1 er1.symm) (va_cwS 1 hts (lw_S q1245 q1246 q70 q1247) rfl rfl rfl kdX4_isShelf ⟨Nat.le_of_ble_eq_true rfl, Nat.le_of_ble_eq_true rfl⟩) rfl hl.1 (Nat.le_of_ble_eq_true rfl) dX4_element_2 ⟨(Nat.le_of_ble_eq_true rfl), (Nat.le_of_ble_eq_true rfl)⟩ rfl) (fun H locs hH => ?_)
  refine lv_if_ne (tgt := 12) hx hb dX4_element_5 (by decide) (fun c29 => ?_) (fun c29 => ?_)
  · have hf := in_ c29 hf
    refine lv_aload_n hx hb dX4_element_12 rfl (lv_at hl 0 rfl) ?_
    obtain ⟨v2, ev2, hf⟩ := bs_ hf
    refine mg_gR hx hb hts hown hKn hH ev2 in_X4 rfl (by decide) (hts _ q1189) (fun _ h9 => h9) dX4_element_13 ?_
    refine lv_iload_n hx hb dX4_element_16 rfl (lv_at hl 1 rfl) ?_
    obtain ⟨v3, ev3, hf⟩ := bs_ hf
    refine mg_iald hx hb hKn hH ev3 dX4_element_17 ?_
    refine lv_iconst (v := 2) hx hb dX4_element_18 (by decide) ?_
    refine lv_icmp_ne (tgt := 38) hx hb dX4_element_19 (by decide) (fun c23 => ?_) (fun c23 => ?_)
    · have hf := in_ c23 hf
      refine lv_iconst (v := 2) hx hb dX4_element_38 (by decide) ?_
      refine lv_goto (tgt := 43) hx hb dX4_element_39 (by decide) ?_
      obtain ⟨M4, eM4, hf⟩ := bs_ hf
      refine mg_pF hx hb hts hown hKn hH eM4 in_X4 tyX4_ok nmX4 rfl (by decide) (hts _ q1195) (fun _ h9 => h9) rfl rfl rfl dX4_element_43 (fun H locs hH => ?_)
      refine lv_aload_n hx hb dX4_element_46 rfl (lv_at hl 0 rfl) ?_
      obtain ⟨v5, ev5, hf⟩ := bs_ hf
      refine mg_gI hx hb hts hown hKn hH ev5 in_X4 rfl (by decide) (hts _ q1195) (fun _ h9 => h9) dX4_element_47 ?_
      refine lv_if_ne (tgt := 68) hx hb dX4_element_50 (by decide) (fun c8 => ?_) (fun c8 => ?_)
      · have hf := in_ c8 hf
        refine lv_lconst (v := 0) hx hb dX4_element_68 (by decide) ?_
        cases hf
        exact rt_l hx hb hr hlk hH dX4_element_69
      · have hf := ip_ c8 hf
        refine lv_aload_n hx hb dX4_element_53 rfl (lv_at hl 0 rfl) ?_
        obtain ⟨v6, ev6, hf⟩ := bs_ hf
        refine mg_gR hx hb hts hown hKn hH ev6 in_X4 rfl (by decide) (hts _ q1194) (fun _ h9 => h9) dX4_element_54 ?_
        refine lv_bipush (v := 100) hx hb dX4_element_57 (by decide) ?_
        refine lv_iload_n hx hb dX4_element_59 rfl (lv_at hl 1 rfl) ?_
        refine lv_imul hx hb dX4_element_60 ?_
        refine lv_iload_n hx hb dX4_element_61 rfl (lv_at hl 2 rfl) ?_
        refine lv_iadd hx hb dX4_element_62 ?_
        obtain ⟨v7, ev7, hf⟩ := bs_ hf
        refine mg_iald hx hb hKn hH ev7 dX4_element_63 ?_
        refine lv_i2l hx hb dX4_element_64 rfl ?_
        refine lv_goto (tgt := 69) hx hb dX4_element_65 (by decide) ?_
        cases hf
        exact rt_l hx hb hr hlk hH dX4_element_69
    · have hf := ip_ c23 hf
      refine lv_iload_n hx hb dX4_element_22 rfl (lv_at hl 2 rfl) ?_
      refine lv_iconst (v := 0) hx hb dX4_element_23 (by decide) ?_
      refine lv_aload_n hx hb dX4_element_24 rfl (lv_at hl 0 rfl) ?_
      obtain ⟨v9, ev9, hf⟩ := bs_ hf
      refine mg_gR hx hb hts hown hKn hH ev9 in_X4 rfl (by decide) (hts _ q1193) (fun _ h9 => h9) dX4_element_25 ?_
      refine lv_iload_n hx hb dX4_element_28 rfl (lv_at hl 1 rfl) ?_
      obtain ⟨v10, ev10, hf⟩ := bs_ hf
      refine mg_iald hx hb hKn hH ev10 dX4_element_29 ?_
      refine lv_iconst (v := 1) hx hb dX4_element_30 (by decide) ?_
      refine lv_isub hx hb dX4_element_31 ?_
      obtain ⟨r11, er11⟩ : ∃ z, z = fX4_isIn a2 0 (v10 - 1) := ⟨_, rfl⟩
      have hf := lu_ er11 hf
      refine cl_i0 hH (rn_S ⟨hx, hb, hml, hown, hts⟩ hKn hH (mX4_isIn l G M n a2 0 (v10 - 1) r11 er11.symm) (va_cwS 3 hts (lw_S q1248 q1249 q70 q1250) rfl rfl rfl kdX4_isIn ⟨Nat.le_of_ble_eq_true rfl, Nat.le_of_ble_eq_true rfl⟩) rfl hl.1 (Nat.le_of_ble_eq_true rfl) dX4_element_32 ⟨(Nat.le_of_ble_eq_true rfl), (Nat.le_of_ble_eq_true rfl)⟩ rfl) (fun H locs hH => ?_)
      refine lv_if_ne (tgt := 42) hx hb dX4_element_35 (by decide) (fun c22 => ?_) (fun c22 => ?_)
      · have hf := in_ c22 hf
        refine lv_iconst (v := 0) hx hb dX4_element_42 (by decide) ?_
        obtain ⟨M12, eM12, hf⟩ := bs_ hf
        refine mg_pF hx hb hts hown hKn hH eM12 in_X4 tyX4_ok nmX4 rfl (by decide) (hts _ q1195) (fun _ h9 => h9) rfl rfl rfl dX4_element_43 (fun H locs hH => ?_)
        refine lv_aload_n hx hb dX4_element_46 rfl (lv_at hl 0 rfl) ?_
        obtain ⟨v13, ev13, hf⟩ := bs_ hf
        refine mg_gI hx hb hts hown hKn hH ev13 in_X4 rfl (by decide) (hts _ q1195) (fun _ h9 => h9) dX4_element_47 ?_
        refine lv_if_ne (tgt := 68) hx hb dX4_element_50 (by decide) (fun c16 => ?_) (fun c16 => ?_)
        · have hf := in_ c16 hf
          refine lv_lconst (v := 0) hx hb dX4_element_68 (by decide) ?_
          cases hf
          exact rt_l hx hb hr hlk hH dX4_element_69
        · have hf := ip_ c16 hf
          refine lv_aload_n hx hb dX4_element_53 rfl (lv_at hl 0 rfl) ?_
          obtain ⟨v14, ev14, hf⟩ := bs_ hf
          refine mg_gR hx hb hts hown hKn hH ev14 in_X4 rfl (by decide) (hts _ q1194) (fun _ h9 => h9) dX4_element_54 ?_
          refine lv_bipush (v := 100) hx hb dX4_element_57 (by decide) ?_
          refine lv_iload_n hx hb dX4_element_59 rfl (lv_at hl 1 rfl) ?_
          refine lv_imul hx hb dX4_element_60 ?_
          refine lv_iload_n hx hb dX4_element_61 rfl (lv_at hl 2 rfl) ?_
          refine lv_iadd hx hb dX4_element_62 ?_
          obtain ⟨v15, ev15, hf⟩ := bs_ hf
          refine mg_iald hx hb hKn hH ev15 dX4_element_63 ?_
          refine lv_i2l hx hb dX4_element_64 rfl ?_
          refine lv_goto (tgt := 69) hx hb dX4_element_65 (by decide) ?_
          cases hf
          exact rt_l hx hb hr hlk hH dX4_element_69
      · have hf := ip_ c22 hf
        refine lv_iconst (v := 2) hx hb dX4_element_38 (by decide) ?_
        refine lv_goto (tgt := 43) hx hb dX4_element_39 (by decide) ?_
        obtain ⟨M17, eM17, hf⟩ := bs_ hf
        refine mg_pF hx hb hts hown hKn hH eM17 in_X4 tyX4_ok nmX4 rfl (by decide) (hts _ q1195) (fun _ h9 => h9) rfl rfl rfl dX4_element_43 (fun H locs hH => ?_)
        refine lv_aload_n hx hb dX4_element_46 rfl (lv_at hl 0 rfl) ?_
        obtain ⟨v18, ev18, hf⟩ := bs_ hf
        refine mg_gI hx hb hts hown hKn hH ev18 in_X4 rfl (by decide) (hts _ q1195) (fun _ h9 => h9) dX4_element_47 ?_
        refine lv_if_ne (tgt := 68) hx hb dX4_element_50 (by decide) (fun c21 => ?_) (fun c21 => ?_)
        · have hf := in_ c21 hf
          refine lv_lconst (v := 0) hx hb dX4_element_68 (by decide) ?_
          cases hf
          exact rt_l hx hb hr hlk hH dX4_element_69
        · have hf := ip_ c21 hf
          refine lv_aload_n hx hb dX4_element_53 rfl (lv_at hl 0 rfl) ?_
          obtain ⟨v19, ev19, hf⟩ := bs_ hf
          refine mg_gR hx hb hts hown hKn hH ev19 in_X4 rfl (by decide) (hts _ q1194) (fun _ h9 => h9) dX4_element_54 ?_
          refine lv_bipush (v := 100) hx hb dX4_element_57 (by decide) ?_
          refine lv_iload_n hx hb dX4_element_59 rfl (lv_at hl 1 rfl) ?_
          refine lv_imul hx hb dX4_element_60 ?_
          refine lv_iload_n hx hb dX4_element_61 rfl (lv_at hl 2 rfl) ?_
          refine lv_iadd hx hb dX4_element_62 ?_
          obtain ⟨v20, ev20, hf⟩ := bs_ hf
          refine mg_iald hx hb hKn hH ev20 dX4_element_63 ?_
          refine lv_i2l hx hb dX4_element_64 rfl ?_
          refine lv_goto (tgt := 69) hx hb dX4_element_65 (by decide) ?_
          cases hf
          exact rt_l hx hb hr hlk hH dX4_element_69
  · have hf := ip_ c29 hf
    refine lv_iconst (v := 1) hx hb dX4_element_8 (by decide) ?_
    refine lv_goto (tgt := 43) hx hb dX4_element_9 (by decide) ?_
    obtain ⟨M24, eM24, hf⟩ := bs_ hf
    refine mg_pF hx hb hts hown hKn hH eM24 in_X4 tyX4_ok nmX4 rfl (by decide) (hts _ q1195) (fun _ h9 => h9) rfl rfl rfl dX4_element_43 (fun H locs hH => ?_)
    refine lv_aload_n hx hb dX4_element_46 rfl (lv_at hl 0 rfl) ?_
    obtain ⟨v25, ev25, hf⟩ := bs_ hf
    refine mg_gI hx hb hts hown hKn hH ev25 in_X4 rfl (by decide) (hts _ q1195) (fun _ h9 => h9) dX4_element_47 ?_
    refine lv_if_ne (tgt := 68) hx hb dX4_element_50 (by decide) (fun c28 => ?_) (fun c28 => ?_)
    · have hf := in_ c28 hf
      refine lv_lconst (v := 0) hx hb dX4_element_68 (by decide) ?_
      cases hf
      exact rt_l hx hb hr hlk hH dX4_element_69
    · have hf := ip_ c28 hf
      refine lv_aload_n hx hb dX4_element_53 rfl (lv_at hl 0 rfl) ?_
      obtain ⟨v26, ev26, hf⟩ := bs_ hf
      refine mg_gR hx hb hts hown hKn hH ev26 in_X4 rfl (by decide) (hts _ q1194) (fun _ h9 => h9) dX4_element_54 ?_
      refine lv_bipush (v := 100) hx hb dX4_element_57 (by decide) ?_
      refine lv_iload_n hx hb dX4_element_59 rfl (lv_at hl 1 rfl) ?_
      refine lv_imul hx hb dX4_element_60 ?_
      refine lv_iload_n hx hb dX4_element_61 rfl (lv_at hl 2 rfl) ?_
      refine lv_iadd hx hb dX4_element_62 ?_
      obtain ⟨v27, ev27, hf⟩ := bs_ hf
      refine mg_iald hx hb hKn hH ev27 dX4_element_63 ?_
      refine lv_i2l hx hb dX4_element_64 rfl ?_
      refine lv_goto (tgt := 69) hx hb dX4_element_65 (by decide) ?_
      cases hf
      exact rt_l hx hb hr hlk hH dX4_element_69
