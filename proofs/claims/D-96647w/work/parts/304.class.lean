set_option maxRecDepth 100000
def fX1_farFor (M : Mem_) (a0 : Nat) (a1 : Int32) (a2 : Int32) : Option Int32 :=
  (gR_ M a0 0 0).bind fun v1 =>
  (ck_ M v1 1).bind fun u2 =>
  (fX2_falls M v1 a1 a2).bind fun r3 =>
  (gR_ M a0 0 0).bind fun v4 =>
  (ck_ M v4 1).bind fun u5 =>
  (fX2_whose M v4 r3).bind fun r6 =>
  if r6 = 9 then
    some 99
  else
    (gR_ M a0 0 0).bind fun v7 =>
    (gR_ M v7 1 1).bind fun v8 =>
    (aI_ M v8 0 r6).bind fun v9 =>
    lt_ (fX1_wayTo v9 r3) fun r10 =>
    some r10
theorem kdX1_farFor : yX1_farFor.cls ≠ "java/lang/invoke/MethodHandle" ∧ yX1_farFor.cls ≠ "java/lang/invoke/VarHandle" ∧ (parseMethodDescriptor yX1_farFor.desc).map (fun d => d.parameters.length) = some 2 := by decide +kernel
set_option maxHeartbeats 4000000 in
theorem mX1_farFor (l : Launch) (G : GT_) (M : Mem_) (n : Nat) (a0 : Nat) (a1 : Int32) (a2 : Int32) (r : Int32) (hf : fX1_farFor M a0 a1 a2 = some r) : Ct_ G l yX1_farFor (ws_ yX1_farFor cX1_farFor 5 (some .int)) ({ frames := 3, cells := 0, slots := 0, locals := 68 }) 0 0 [.ref a0, .int a1, .int a2] M n (some (.int r)) M n := by
  refine en_ (by decide) (Nat.le_of_ble_eq_true rfl) ?_
  intro p e s m below meth c hx hb hr hlk hml hown hts hname hKn hH ls hl
  have hown : s.vm.findClass RX1 = some m.cls := hown
  have hl : lv_has ls 5 [(0, .ref a0), (1, .int a1), (2, .int a2)] := hl
  unfold fX1_farFor at hf
  generalize s.heap = H at hH ⊢
  refine lv_aload_n hx hb dX1_farFor_0 rfl (lv_at hl 0 rfl) ?_
  obtain ⟨v1, ev1, hf⟩ := bs_ hf
  refine mg_gR hx hb hts hown hKn hH ev1 in_X1 rfl (by decide) (hts _ q937) (fun _ h9 => h9) dX1_farFor_1 ?_
  refine lv_iload_n hx hb dX1_farFor_4 rfl (lv_at hl 1 rfl) ?_
  refine lv_iload_n hx hb dX1_farFor_5 rfl (lv_at hl 2 rfl) ?_
  obtain ⟨u2, eu2, hf⟩ := bs_ hf
  obtain ⟨r3, er3, hf⟩ := bs_ hf
  refine cl_i0 hH (rn_V ⟨hx, hb, hml, hown, hts⟩ hKn hH (mX2_falls l G M n v1 a1 a2 r3 er3) (cwV 2 hts (lw_V q652 q420 q421 q68 q422) rfl rfl rfl ⟨rfl, kdX2_falls⟩ ⟨Nat.le_of_ble_eq_true rfl, Nat.le_of_ble_eq_true rfl⟩) eu2 rfl rfl hl.1 (Nat.le_of_ble_eq_true rfl) dX1_farFor_6 ⟨(Nat.le_of_ble_eq_true rfl), (Nat.le_of_ble_eq_true rfl)⟩ rfl) (fun H locs hH => ?_)
  refine lv_istore_n (lv' := [(3, .int r3), (0, .ref a0), (1, .int a1), (2, .int a2)]) hx hb dX1_farFor_9 rfl hl (by decide) rfl (fun ls hl => ?_)
  refine lv_aload_n hx hb dX1_farFor_10 rfl (lv_at hl 1 rfl) ?_
  obtain ⟨v4, ev4, hf⟩ := bs_ hf
  refine mg_gR hx hb hts hown hKn hH ev4 in_X1 rfl (by decide) (hts _ q937) (fun _ h9 => h9) dX1_farFor_11 ?_
  refine lv_iload_n hx hb dX1_farFor_14 rfl (lv_at hl 0 rfl) ?_
  obtain ⟨u5, eu5, hf⟩ := bs_ hf
  obtain ⟨r6, er6, hf⟩ := bs_ hf
  refine cl_i0 hH (rn_V ⟨hx, hb, hml, hown, hts⟩ hKn hH (mX2_whose l G M n v4 r3 r6 er6) (cwV 1 hts (lw_V q653 q509 q510 q68 q511) rfl rfl rfl ⟨rfl, kdX2_whose⟩ ⟨Nat.le_of_ble_eq_true rfl, Nat.le_of_ble_eq_true rfl⟩) eu5 rfl rfl hl.1 (Nat.le_of_ble_eq_true rfl) dX1_farFor_15 ⟨(Nat.le_of_ble_eq_true rfl), (Nat.le_of_ble_eq_true rfl)⟩ rfl) (fun H locs hH => ?_)
  refine lv_istore (lv' := [(4, .int r6), (3, .int r3), (0, .ref a0), (1, .int a1), (2, .int a2)]) hx hb dX1_farFor_18 hl (by decide) rfl (fun ls hl => ?_)
  refine lv_iload hx hb dX1_farFor_20 (lv_at hl 0 rfl) ?_
  refine lv_bipush (v := 9) hx hb dX1_farFor_22 (by decide) ?_
  refine lv_icmp_ne (tgt := 32) hx hb dX1_farFor_24 (by decide) (fun c11 => ?_) (fun c11 => ?_)
  · have hf := in_ c11 hf
    refine lv_aload_n hx hb dX1_farFor_32 rfl (lv_at hl 2 rfl) ?_
    obtain ⟨v7, ev7, hf⟩ := bs_ hf
    refine mg_gR hx hb hts hown hKn hH ev7 in_X1 rfl (by decide) (hts _ q937) (fun _ h9 => h9) dX1_farFor_33 ?_
    obtain ⟨v8, ev8, hf⟩ := bs_ hf
    refine mg_gR hx hb hts hown hKn hH ev8 in_X2 rfl (by decide) (hts _ q874) (fun _ h9 => h9) dX1_farFor_36 ?_
    refine lv_iload hx hb dX1_farFor_39 (lv_at hl 0 rfl) ?_
    obtain ⟨v9, ev9, hf⟩ := bs_ hf
    refine mg_iald hx hb hKn hH ev9 dX1_farFor_41 ?_
    refine lv_iload_n hx hb dX1_farFor_42 rfl (lv_at hl 1 rfl) ?_
    obtain ⟨r10, er10⟩ : ∃ z, z = fX1_wayTo v9 r3 := ⟨_, rfl⟩
    have hf := lu_ er10 hf
    refine cl_i0 hH (rn_S ⟨hx, hb, hml, hown, hts⟩ hKn hH (mX1_wayTo l G M n v9 r3 r10 er10.symm) (va_cwS 2 hts (lw_S q686 q513 q67 q514) rfl rfl rfl kdX1_wayTo ⟨Nat.le_of_ble_eq_true rfl, Nat.le_of_ble_eq_true rfl⟩) rfl hl.1 (Nat.le_of_ble_eq_true rfl) dX1_farFor_43 ⟨(Nat.le_of_ble_eq_true rfl), (Nat.le_of_ble_eq_true rfl)⟩ rfl) (fun H locs hH => ?_)
    cases hf
    exact rt_i hx hb hr hlk hH dX1_farFor_46
  · have hf := ip_ c11 hf
    refine lv_bipush (v := 99) hx hb dX1_farFor_27 (by decide) ?_
    refine lv_goto (tgt := 46) hx hb dX1_farFor_29 (by decide) ?_
    cases hf
    exact rt_i hx hb hr hlk hH dX1_farFor_46
def fX1_farthest_L27 : Nat → Mem_ → Nat → Int32 → Int32 → Int32 → Int32 → Option Int32
  | 0, _, _, _, _, _, _ => none
  | fuel + 1, M, x0, x1, x2, x3, x4 =>
    if 9 ≤ x4 then
      if x2 = 0 then
        some x3
      else
        (ck_ M x0 0).bind fun u7 =>
        (fX1_farFor M x0 x1 x3).bind fun r8 =>
        some r8
    else
      (ck_ M x0 0).bind fun u10 =>
      (fX1_farFor M x0 x1 x4).bind fun r11 =>
      (ck_ M x0 0).bind fun u12 =>
      (fX1_farFor M x0 x1 x3).bind fun r13 =>
      if r11 ≤ r13 then
        lt_ (x4 + 1) fun v14 =>
        fX1_farthest_L27 fuel M x0 x1 x2 x3 v14
      else
        lt_ (x4 + 1) fun v15 =>
        fX1_farthest_L27 fuel M x0 x1 x2 x4 v15
def fX1_farthest (M : Mem_) (a0 : Nat) (a1 : Int32) (a2 : Int32) : Option Int32 :=
  (gR_ M a0 0 0).bind fun v1 =>
  (ck_ M v1 1).bind fun u2 =>
  (fX2_isStroke M v1 a1).bind fun r3 =>
  if (b2_ r3) = 0 then
    some (-1)
  else
    lt_ (fX1_isIn a2 0 1) fun r4 =>
    if (b2_ r4) = 0 then
      some (-1)
    else
      fX1_farthest_L27 1000 M a0 a1 a2 0 1
theorem kdX1_farthest : yX1_farthest.cls ≠ "java/lang/invoke/MethodHandle" ∧ yX1_farthest.cls ≠ "java/lang/invoke/VarHandle" ∧ (parseMethodDescriptor yX1_farthest.desc).map (fun d => d.parameters.length) = some 2 := by decide +kernel
set_option maxHeartbeats 4000000 in
theorem mX1_farthest (l : Launch) (G : GT_) (M : Mem_) (n : Nat) (a0 : Nat) (a1 : Int32) (a2 : Int32) (r : Int32) (hf : fX1_farthest M a0 a1 a2 = some r) : Ct_ G l yX1_farthest (ws_ yX1_farthest cX1_farthest 5 (some .int)) ({ frames := 4, cells := 0, slots := 0, locals := 92 }) 0 0 [.ref a0, .int a1, .int a2] M n (some (.int r)) M n := by
  refine en_ (by decide) (Nat.le_of_ble_eq_true rfl) ?_
  intro p e s m below meth c hx hb hr hlk hml hown hts hname hKn hH ls hl
  have hown : s.vm.findClass RX1 = some m.cls := hown
  have hl : lv_has ls 5 [(0, .ref a0), (1, .int a1), (2, .int a2)] := hl
  have w27 : ∀ (fuel : Nat), ∀ (M : Mem_) (x0 : Nat) (x1 : Int32) (x2 : Int32) (x3 : Int32) (x4 : Int32) (H : Heap) (locs : List Loc) (ls : Array Slot), St_ G n M s H locs → lv_has ls 5 [(0, .ref x0), (1, .int x1), (2, .int x2), (3, .int x3), (4, .int x4)] → fX1_farthest_L27 fuel M x0 x1 x2 x3 x4 = some r → W p l e ({ frames := 4, cells := 0, slots := 0, locals := 92 } : Room) s m ([.ref a0, .int a1, .int a2] : List Value).toArray below meth c H locs 0 0 (MQ below (Qc_ G (some (.int r)) M n) ([.ref a0, .int a1, .int a2] : List Value).toArray s 0 0 (fun q => G.1 ≤ q)) (F0 m 27 ls []) := by
    intro fuel
    induction fuel with
    | zero =>
      intro M x0 x1 x2 x3 x4 H locs ls hH hl hf
      cases hf
    | succ fuel ih =>
      intro M x0 x1 x2 x3 x4 H locs ls hH hl hf
      unfold fX1_farthest_L27 at hf
      refine lv_iload hx hb dX1_farthest_27 (lv_at hl 4 rfl) ?_
      refine lv_bipush (v := 9) hx hb dX1_farthest_29 (by decide) ?_
      refine lv_icmp_ge (tgt := 63) hx hb dX1_farthest_31 (by decide) (fun c17 => ?_) (fun c17 => ?_)
      · have hf := ip_ c17 hf
        refine lv_iload_n hx hb dX1_farthest_63 rfl (lv_at hl 2 rfl) ?_
        refine lv_if_ne (tgt := 71) hx hb dX1_farthest_64 (by decide) (fun c9 => ?_) (fun c9 => ?_)
        · have hf := in_ c9 hf
          refine lv_aload_n hx hb dX1_farthest_71 rfl (lv_at hl 0 rfl) ?_
          refine lv_iload_n hx hb dX1_farthest_72 rfl (lv_at hl 1 rfl) ?_
          refine lv_iload_n hx hb dX1_farthest_73 rfl (lv_at hl 3 rfl) ?_
          obtain ⟨u7, eu7, hf⟩ := bs_ hf
          obtain ⟨r8, er8, hf⟩ := bs_ hf
          refine cl_i0 hH (rn_V ⟨hx, hb, hml, hown, hts⟩ hKn hH (mX1_farFor l G M n x0 x1 x3 r8 er8) (cwV 2 hts (lw_V q682 q684 qs23 q67 q685) rfl rfl rfl ⟨rfl, kdX1_farFor⟩ ⟨Nat.le_of_ble_eq_true rfl, Nat.le_of_ble_eq_true rfl⟩) eu7 rfl rfl hl.1 (Nat.le_of_ble_eq_true rfl) dX1_farthest_74 ⟨(Nat.le_of_ble_eq_true rfl), (Nat.le_of_ble_eq_true rfl)⟩ rfl) (fun H locs hH => ?_)
          cases hf
          exact rt_i hx hb hr hlk hH dX1_farthest_77
        · have hf := ip_ c9 hf
          refine lv_iload_n hx hb dX1_farthest_67 rfl (lv_at hl 3 rfl) ?_
          refine lv_goto (tgt := 77) hx hb dX1_farthest_68 (by decide) ?_
          cases hf
          exact rt_i hx hb hr hlk hH dX1_farthest_77
      · have hf := in_ c17 hf
        refine lv_aload_n hx hb dX1_farthest_34 rfl (lv_at hl 0 rfl) ?_
        refine lv_iload_n hx hb dX1_farthest_35 rfl (lv_at hl 1 rfl) ?_
        refine lv_iload hx hb dX1_farthest_36 (lv_at hl 4 rfl) ?_
        obtain ⟨u10, eu10, hf⟩ := bs_ hf
        obtain ⟨r11, er11, hf⟩ := bs_ hf
        refine cl_i0 hH (rn_V ⟨hx, hb, hml, hown, hts⟩ hKn hH (mX1_farFor l G M n x0 x1 x4 r11 er11) (cwV 2 hts (lw_V q682 q684 qs23 q67 q685) rfl rfl rfl ⟨rfl, kdX1_farFor⟩ ⟨Nat.le_of_ble_eq_true rfl, Nat.le_of_ble_eq_true rfl⟩) eu10 rfl rfl hl.1 (Nat.le_of_ble_eq_true rfl) dX1_farthest_38 ⟨(Nat.le_of_ble_eq_true rfl), (Nat.le_of_ble_eq_true rfl)⟩ rfl) (fun H locs hH => ?_)
        refine lv_aload_n hx hb dX1_farthest_41 rfl (lv_at hl 0 rfl) ?_
        refine lv_iload_n hx hb dX1_farthest_42 rfl (lv_at hl 1 rfl) ?_
        refine lv_iload_n hx hb dX1_farthest_43 rfl (lv_at hl 3 rfl) ?_
        obtain ⟨u12, eu12, hf⟩ := bs_ hf
        obtain ⟨r13, er13, hf⟩ := bs_ hf
        refine cl_i0 hH (rn_V ⟨hx, hb, hml, hown, hts⟩ hKn hH (mX1_farFor l G M n x0 x1 x3 r13 er13) (cwV 2 hts (lw_V q682 q684 qs23 q67 q685) rfl rfl rfl ⟨rfl, kdX1_farFor⟩ ⟨Nat.le_of_ble_eq_true rfl, Nat.le_of_ble_eq_true rfl⟩) eu12 rfl rfl hl.1 (Nat.le_of_ble_eq_true rfl) dX1_farthest_44 ⟨(Nat.le_of_ble_eq_true rfl), (Nat.le_of_ble_eq_true rfl)⟩ rfl) (fun H locs hH => ?_)
        refine lv_icmp_le (tgt := 55) hx hb dX1_farthest_47 (by decide) (fun c16 => ?_) (fun c16 => ?_)
        · have hf := ip_ c16 hf
          refine lv_iload_n hx hb dX1_farthest_55 rfl (lv_at hl 3 rfl) ?_
          refine lv_istore_n (lv' := [(3, .int x3), (0, .ref x0), (1, .int x1), (2, .int x2), (4, .int x4)]) hx hb dX1_farthest_56 rfl hl (by decide) rfl (fun ls hl => ?_)
          obtain ⟨v14, ev14⟩ : ∃ z : Int32, z = x4 + 1 := ⟨_, rfl⟩
          have hf := lu_ ev14 hf
          refine lv_iinc (v := v14) (lv' := [(4, .int v14), (3, .int x3), (0, .ref x0), (1, .int x1), (2, .int x2)]) hx hb dX1_farthest_57 hl (k := 4) rfl (by rw [ev14]; rfl) (by decide) rfl (fun ls hl => ?_)
          refine lv_goto (tgt := 27) hx hb dX1_farthest_60 (by decide) ?_
          exact ih M x0 x1 x2 x3 v14 _ _ ls hH (lv_sub hl [2, 3, 4, 1, 0] rfl) hf
        · have hf := in_ c16 hf
          refine lv_iload hx hb dX1_farthest_50 (lv_at hl 4 rfl) ?_
          refine lv_goto (tgt := 56) hx hb dX1_farthest_52 (by decide) ?_
          refine lv_istore_n (lv' := [(3, .int x4), (0, .ref x0), (1, .int x1), (2, .int x2), (4, .int x4)]) hx hb dX1_farthest_56 rfl hl (by decide) rfl (fun ls hl => ?_)
          obtain ⟨v15, ev15⟩ : ∃ z : Int32, z = x4 + 1 := ⟨_, rfl⟩
          have hf := lu_ ev15 hf
          refine lv_iinc (v := v15) (lv' := [(4, .int v15), (3, .int x4), (0, .ref x0), (1, .int x1), (2, .int x2)]) hx hb dX1_farthest_57 hl (k := 4) rfl (by rw [ev15]; rfl) (by decide) rfl (fun ls hl => ?_)
          refine lv_goto (tgt := 27) hx hb dX1_farthest_60 (by decide) ?_
          exact ih M x0 x1 x2 x4 v15 _ _ ls hH (lv_sub hl [2, 3, 4, 1, 0] rfl) hf
  unfold fX1_farthest at hf
  refine lv_aload_n hx hb dX1_farthest_0 rfl (lv_at hl 0 rfl) ?_
  obtain ⟨v1, ev1, hf⟩ := bs_ hf
  refine mg_gR hx hb hts hown hKn hH ev1 in_X1 rfl (by decide) (hts _ q937) (fun _ h9 => h9) dX1_farthest_1 ?_
  refine lv_iload_n hx hb dX1_farthest_4 rfl (lv_at hl 1 rfl) ?_
  obtain ⟨u2, eu2, hf⟩ := bs_ hf
  obtain ⟨r3, er3, hf⟩ := bs_ hf
  refine cl_i0 hH (rn_V ⟨hx, hb, hml, hown, hts⟩ hKn hH (mX2_isStroke l G M n v1 a1 r3 er3) (cwV 1 hts (lw_V q400 q401 q402 q68 q403) rfl rfl rfl ⟨rfl, kdX2_isStroke⟩ ⟨Nat.le_of_ble_eq_true rfl, Nat.le_of_ble_eq_true rfl⟩) eu2 rfl rfl hl.1 (Nat.le_of_ble_eq_true rfl) dX1_farthest_5 ⟨(Nat.le_of_ble_eq_true rfl), (Nat.le_of_ble_eq_true rfl)⟩ rfl) (fun H locs hH => ?_)
  refine lv_if_eq (tgt := 20) hx hb dX1_farthest_8 (by decide) (fun c6 => ?_) (fun c6 => ?_)
  · have hf := ip_ c6 hf
    refine lv_iconst (v := (-1)) hx hb dX1_farthest_20 (by decide) ?_
    cases hf
    exact rt_i hx hb hr hlk hH dX1_farthest_21
  · have hf := in_ c6 hf
    refine lv_iload_n hx hb dX1_farthest_11 rfl (lv_at hl 2 rfl) ?_
    refine lv_iconst (v := 0) hx hb dX1_farthest_12 (by decide) ?_
    refine lv_iconst (v := 1) hx hb dX1_farthest_13 (by decide) ?_
    obtain ⟨r4, er4⟩ : ∃ z, z = fX1_isIn a2 0 1 := ⟨_, rfl⟩
    have hf := lu_ er4 hf
    refine cl_i0 hH (rn_S ⟨hx, hb, hml, hown, hts⟩ hKn hH (mX1_isIn l G M n a2 0 1 r4 er4.symm) (va_cwS 3 hts (lw_S q199 q200 q67 q201) rfl rfl rfl kdX1_isIn ⟨Nat.le_of_ble_eq_true rfl, Nat.le_of_ble_eq_true rfl⟩) rfl hl.1 (Nat.le_of_ble_eq_true rfl) dX1_farthest_14 ⟨(Nat.le_of_ble_eq_true rfl), (Nat.le_of_ble_eq_true rfl)⟩ rfl) (fun H locs hH => ?_)
    refine lv_if_ne (tgt := 22) hx hb dX1_farthest_17 (by decide) (fun c5 => ?_) (fun c5 => ?_)
    · have hf := in_ c5 hf
      refine lv_iconst (v := 0) hx hb dX1_farthest_22 (by decide) ?_
      refine lv_istore_n (lv' := [(3, .int 0), (0, .ref a0), (1, .int a1), (2, .int a2)]) hx hb dX1_farthest_23 rfl hl (by decide) rfl (fun ls hl => ?_)
      refine lv_iconst (v := 1) hx hb dX1_farthest_24 (by decide) ?_
      refine lv_istore (lv' := [(4, .int 1), (3, .int 0), (0, .ref a0), (1, .int a1), (2, .int a2)]) hx hb dX1_farthest_25 hl (by decide) rfl (fun ls hl => ?_)
      exact w27 1000 M a0 a1 a2 0 1 _ _ ls hH (lv_sub hl [2, 3, 4, 1, 0] rfl) hf
    · have hf := ip_ c5 hf
      refine lv_iconst (v := (-1)) hx hb dX1_farthest_20 (by decide) ?_
      cases hf
      exact rt_i hx hb hr hlk hH dX1_farthest_21
def fX1_atWhom_L22 : Nat → Mem_ → Nat → Int32 → Int32 → Int32 → Int32 → Option (Int32 × Mem_)
  | 0, _, _, _, _, _, _ => none
  | fuel + 1, M, x0, x1, x2, x3, x4 =>
    if 9 ≤ x4 then
      some (x2, M)
    else
      (ck_ M x0 0).bind fun u5 =>
      bw_ (fX1_winsWith M x0 x1 x4) fun r6 M7 =>
      if (b2_ r6) = 0 then
        (gR_ M7 x0 0 2).bind fun v9 =>
        (gR_ M7 v9 1 3).bind fun v10 =>
        (gR_ M7 x0 0 2).bind fun v11 =>
        (gI_ M7 v11 1 10).bind fun v12 =>
        (aI_ M7 v10 0 v12).bind fun v13 =>
        if x3 < v13 then
          (gR_ M7 x0 0 2).bind fun v14 =>
          (gR_ M7 v14 1 3).bind fun v15 =>
          (gR_ M7 x0 0 2).bind fun v16 =>
          (gI_ M7 v16 1 10).bind fun v17 =>
          (aI_ M7 v15 0 v17).bind fun v18 =>
          lt_ (x4 + 1) fun v19 =>
          fX1_atWhom_L22 fuel M7 x0 x1 x4 v18 v19
        else
          lt_ (x4 + 1) fun v20 =>
          fX1_atWhom_L22 fuel M7 x0 x1 x2 x3 v20
      else
        lt_ (x4 + 1) fun v8 =>
        fX1_atWhom_L22 fuel M7 x0 x1 x2 x3 v8
def fX1_atWhom (M : Mem_) (a0 : Nat) (a1 : Int32) : Option (Int32 × Mem_) :=
  (gR_ M a0 0 0).bind fun v1 =>
  (ck_ M v1 1).bind fun u2 =>
  (fX2_isStroke M v1 a1).bind fun r3 =>
  if (b2_ r3) = 0 then
    some ((-1), M)
  else
    fX1_atWhom_L22 1000 M a0 a1 (-4) (-4) 0
theorem kdX1_atWhom : yX1_atWhom.cls ≠ "java/lang/invoke/MethodHandle" ∧ yX1_atWhom.cls ≠ "java/lang/invoke/VarHandle" ∧ (parseMethodDescriptor yX1_atWhom.desc).map (fun d => d.parameters.length) = some 1 := by decide +kernel
set_option maxHeartbeats 4000000 in
theorem mX1_atWhom (l : Launch) (G : GT_) (M : Mem_) (n : Nat) (a0 : Nat) (a1 : Int32) (r : Int32) (M1 : Mem_) (hf : fX1_atWhom M a0 a1 = some (r, M1)) : Ct_ G l yX1_atWhom (ws_ yX1_atWhom cX1_atWhom 5 (some .int)) ({ frames := 5, cells := 0, slots := 0, locals := 122 }) 0 0 [.ref a0, .int a1] M n (some (.int r)) M1 n := by
  refine en_ (by decide) (Nat.le_of_ble_eq_true rfl) ?_
  intro p e s m below meth c hx hb hr hlk hml hown hts hname hKn hH ls hl
  have hown : s.vm.findClass RX1 = some m.cls := hown
  have hl : lv_has ls 5 [(0, .ref a0), (1, .int a1)] := hl
  have w22 : ∀ (fuel : Nat), ∀ (M : Mem_) (x0 : Nat) (x1 : Int32) (x2 : Int32) (x3 : Int32) (x4 : Int32) (H : Heap) (locs : List Loc) (ls : Array Slot), St_ G n M s H locs → lv_has ls 5 [(0, .ref x0), (1, .int x1), (2, .int x2), (3, .int x3), (4, .int x4)] → fX1_atWhom_L22 fuel M x0 x1 x2 x3 x4 = some (r, M1) → W p l e ({ frames := 5, cells := 0, slots := 0, locals := 122 } : Room) s m ([.ref a0, .int a1] : List Value).toArray below meth c H locs 0 0 (MQ below (Qc_ G (some (.int r)) M1 n) ([.ref a0, .int a1] : List Value).toArray s 0 0 (fun q => G.1 ≤ q)) (F0 m 22 ls []) := by
    intro fuel
    induction fuel with
    | zero =>
      intro M x0 x1 x2 x3 x4 H locs ls hH hl hf
      cases hf
    | succ fuel ih =>
      intro M x0 x1 x2 x3 x4 H locs ls hH hl hf
      unfold fX1_atWhom_L22 at hf
      refine lv_iload hx hb dX1_atWhom_22 (lv_at hl 4 rfl) ?_
      refine lv_bipush (v := 9) hx hb dX1_atWhom_24 (by decide) ?_
      refine lv_icmp_ge (tgt := 86) hx hb dX1_atWhom_26 (by decide) (fun c23 => ?_) (fun c23 => ?_)
      · have hf := ip_ c23 hf
        refine lv_iload_n hx hb dX1_atWhom_86 rfl (lv_at hl 2 rfl) ?_
        cases hf
        exact rt_i hx hb hr hlk hH dX1_atWhom_87
      · have hf := in_ c23 hf
        refine lv_aload_n hx hb dX1_atWhom_29 rfl (lv_at hl 0 rfl) ?_
        refine lv_iload_n hx hb dX1_atWhom_30 rfl (lv_at hl 1 rfl) ?_
        refine lv_iload hx hb dX1_atWhom_31 (lv_at hl 4 rfl) ?_
        obtain ⟨u5, eu5, hf⟩ := bs_ hf
        obtain ⟨r6, M7, er6, hf⟩ := bws_ hf
        refine cl_i0 hH (rn_V ⟨hx, hb, hml, hown, hts⟩ hKn hH (mX1_winsWith l G M n x0 x1 x4 r6 M7 er6) (cwV 2 hts (lw_V q658 q660 qs21 q67 q661) rfl rfl rfl ⟨rfl, kdX1_winsWith⟩ ⟨Nat.le_of_ble_eq_true rfl, Nat.le_of_ble_eq_true rfl⟩) eu5 rfl rfl hl.1 (Nat.le_of_ble_eq_true rfl) dX1_atWhom_33 ⟨(Nat.le_of_ble_eq_true rfl), (Nat.le_of_ble_eq_true rfl)⟩ rfl) (fun H locs hH => ?_)
        refine lv_if_ne (tgt := 80) hx hb dX1_atWhom_36 (by decide) (fun c22 => ?_) (fun c22 => ?_)
        · have hf := in_ c22 hf
          obtain ⟨v8, ev8⟩ : ∃ z : Int32, z = x4 + 1 := ⟨_, rfl⟩
          have hf := lu_ ev8 hf
          refine lv_iinc (v := v8) (lv' := [(4, .int v8), (0, .ref x0), (1, .int x1), (2, .int x2), (3, .int x3)]) hx hb dX1_atWhom_80 hl (k := 4) rfl (by rw [ev8]; rfl) (by decide) rfl (fun ls hl => ?_)
          refine lv_goto (tgt := 22) hx hb dX1_atWhom_83 (by decide) ?_
          exact ih M7 x0 x1 x2 x3 v8 _ _ ls hH (lv_sub hl [1, 2, 3, 4, 0] rfl) hf
        · have hf := ip_ c22 hf
          refine lv_aload_n hx hb dX1_atWhom_39 rfl (lv_at hl 0 rfl) ?_
          obtain ⟨v9, ev9, hf⟩ := bs_ hf
          refine mg_gR hx hb hts hown hKn hH ev9 in_X1 rfl (by decide) (hts _ q939) (fun _ h9 => h9) dX1_atWhom_40 ?_
          obtain ⟨v10, ev10, hf⟩ := bs_ hf
          refine mg_gR hx hb hts hown hKn hH ev10 in_X2 rfl (by decide) (hts _ q878) (fun _ h9 => h9) dX1_atWhom_43 ?_
          refine lv_aload_n hx hb dX1_atWhom_46 rfl (lv_at hl 0 rfl) ?_
          obtain ⟨v11, ev11, hf⟩ := bs_ hf
          refine mg_gR hx hb hts hown hKn hH ev11 in_X1 rfl (by decide) (hts _ q939) (fun _ h9 => h9) dX1_atWhom_47 ?_
          obtain ⟨v12, ev12, hf⟩ := bs_ hf
          refine mg_gI hx hb hts hown hKn hH ev12 in_X2 rfl (by decide) (hts _ q892) (fun _ h9 => h9) dX1_atWhom_50 ?_
          obtain ⟨v13, ev13, hf⟩ := bs_ hf
          refine mg_iald hx hb hKn hH ev13 dX1_atWhom_53 ?_
          refine lv_iload_n hx hb dX1_atWhom_54 rfl (lv_at hl 3 rfl) ?_
          refine lv_icmp_gt (tgt := 61) hx hb dX1_atWhom_55 (by decide) (fun c21 => ?_) (fun c21 => ?_)
          · have hf := ip_ c21 hf
            refine lv_iload hx hb dX1_atWhom_61 (lv_at hl 4 rfl) ?_
            refine lv_istore_n (lv' := [(2, .int x4), (0, .ref x0), (1, .int x1), (3, .int x3), (4, .int x4)]) hx hb dX1_atWhom_63 rfl hl (by decide) rfl (fun ls hl => ?_)
            refine lv_aload_n hx hb dX1_atWhom_64 rfl (lv_at hl 1 rfl) ?_
            obtain ⟨v14, ev14, hf⟩ := bs_ hf
            refine mg_gR hx hb hts hown hKn hH ev14 in_X1 rfl (by decide) (hts _ q939) (fun _ h9 => h9) dX1_atWhom_65 ?_
            obtain ⟨v15, ev15, hf⟩ := bs_ hf
            refine mg_gR hx hb hts hown hKn hH ev15 in_X2 rfl (by decide) (hts _ q878) (fun _ h9 => h9) dX1_atWhom_68 ?_
            refine lv_aload_n hx hb dX1_atWhom_71 rfl (lv_at hl 1 rfl) ?_
            obtain ⟨v16, ev16, hf⟩ := bs_ hf
            refine mg_gR hx hb hts hown hKn hH ev16 in_X1 rfl (by decide) (hts _ q939) (fun _ h9 => h9) dX1_atWhom_72 ?_
            obtain ⟨v17, ev17, hf⟩ := bs_ hf
            refine mg_gI hx hb hts hown hKn hH ev17 in_X2 rfl (by decide) (hts _ q892) (fun _ h9 => h9) dX1_atWhom_75 ?_
            obtain ⟨v18, ev18, hf⟩ := bs_ hf
            refine mg_iald hx hb hKn hH ev18 dX1_atWhom_78 ?_
            refine lv_istore_n (lv' := [(3, .int v18), (2, .int x4), (0, .ref x0), (1, .int x1), (4, .int x4)]) hx hb dX1_atWhom_79 rfl hl (by decide) rfl (fun ls hl => ?_)
            obtain ⟨v19, ev19⟩ : ∃ z : Int32, z = x4 + 1 := ⟨_, rfl⟩
            have hf := lu_ ev19 hf
            refine lv_iinc (v := v19) (lv' := [(4, .int v19), (3, .int v18), (2, .int x4), (0, .ref x0), (1, .int x1)]) hx hb dX1_atWhom_80 hl (k := 4) rfl (by rw [ev19]; rfl) (by decide) rfl (fun ls hl => ?_)
            refine lv_goto (tgt := 22) hx hb dX1_atWhom_83 (by decide) ?_
            exact ih M7 x0 x1 x4 v18 v19 _ _ ls hH (lv_sub hl [3, 4, 2, 1, 0] rfl) hf
          · have hf := in_ c21 hf
            refine lv_goto (tgt := 80) hx hb dX1_atWhom_58 (by decide) ?_
            obtain ⟨v20, ev20⟩ : ∃ z : Int32, z = x4 + 1 := ⟨_, rfl⟩
            have hf := lu_ ev20 hf
            refine lv_iinc (v := v20) (lv' := [(4, .int v20), (0, .ref x0), (1, .int x1), (2, .int x2), (3, .int x3)]) hx hb dX1_atWhom_80 hl (k := 4) rfl (by rw [ev20]; rfl) (by decide) rfl (fun ls hl => ?_)
            refine lv_goto (tgt := 22) hx hb dX1_atWhom_83 (by decide) ?_
            exact ih M7 x0 x1 x2 x3 v20 _ _ ls hH (lv_sub hl [1, 2, 3, 4, 0] rfl) hf
  unfold fX1_atWhom at hf
  refine lv_aload_n hx hb dX1_atWhom_0 rfl (lv_at hl 0 rfl) ?_
  obtain ⟨v1, ev1, hf⟩ := bs_ hf
  refine mg_gR hx hb hts hown hKn hH ev1 in_X1 rfl (by decide) (hts _ q937) (fun _ h9 => h9) dX1_atWhom_1 ?_
  refine lv_iload_n hx hb dX1_atWhom_4 rfl (lv_at hl 1 rfl) ?_
  obtain ⟨u2, eu2, hf⟩ := bs_ hf
  obtain ⟨r3, er3, hf⟩ := bs_ hf
  refine cl_i0 hH (rn_V ⟨hx, hb, hml, hown, hts⟩ hKn hH (mX2_isStroke l G M n v1 a1 r3 er3) (cwV 1 hts (lw_V q400 q401 q402 q68 q403) rfl rfl rfl ⟨rfl, kdX2_isStroke⟩ ⟨Nat.le_of_ble_eq_true rfl, Nat.le_of_ble_eq_true rfl⟩) eu2 rfl rfl hl.1 (Nat.le_of_ble_eq_true rfl) dX1_atWhom_5 ⟨(Nat.le_of_ble_eq_true rfl), (Nat.le_of_ble_eq_true rfl)⟩ rfl) (fun H locs hH => ?_)
  refine lv_if_ne (tgt := 13) hx hb dX1_atWhom_8 (by decide) (fun c4 => ?_) (fun c4 => ?_)
  · have hf := in_ c4 hf
    refine lv_bipush (v := (-4)) hx hb dX1_atWhom_13 (by decide) ?_
    refine lv_istore_n (lv' := [(2, .int (-4)), (0, .ref a0), (1, .int a1)]) hx hb dX1_atWhom_15 rfl hl (by decide) rfl (fun ls hl => ?_)
    refine lv_bipush (v := (-4)) hx hb dX1_atWhom_16 (by decide) ?_
    refine lv_istore_n (lv' := [(3, .int (-4)), (2, .int (-4)), (0, .ref a0), (1, .int a1)]) hx hb dX1_atWhom_18 rfl hl (by decide) rfl (fun ls hl => ?_)
    refine lv_iconst (v := 0) hx hb dX1_atWhom_19 (by decide) ?_
    refine lv_istore (lv' := [(4, .int 0), (3, .int (-4)), (2, .int (-4)), (0, .ref a0), (1, .int a1)]) hx hb dX1_atWhom_20 hl (by decide) rfl (fun ls hl => ?_)
    exact w22 1000 M a0 a1 (-4) (-4) 0 _ _ ls hH (lv_sub hl [3, 4, 2, 1, 0] rfl) hf
  · have hf := ip_ c4 hf
    refine lv_iconst (v := (-1)) hx hb dX1_atWhom_11 (by decide) ?_
    cases hf
    exact rt_i hx hb hr hlk hH dX1_atWhom_12
def fX1_winsLater_L57 (K43 : Mem_ → Nat → Int32 → Int32 → Int32 → Option (Bool × Mem_)) : Nat → Mem_ → Nat → Int32 → Int32 → Int32 → Int32 → Option (Bool × Mem_)
  | 0, _, _, _, _, _, _ => none
  | fuel + 1, M, x0, x1, x2, x3, x4 =>
    if 9 ≤ x4 then
      lt_ (x3 + 1) fun v22 =>
      K43 M x0 x1 x2 v22
    else
      (gR_ M x0 0 2).bind fun v23 =>
      (gR_ M x0 0 3).bind fun v24 =>
      (ck_ M v23 1).bind fun u25 =>
      (fX2_takes M v23 v24).bind fun M27 =>
      (gR_ M27 x0 0 2).bind fun v28 =>
      (ck_ M27 v28 1).bind fun u29 =>
      bw_ (fX2_hits M27 v28 x3 x4) fun r30 M31 =>
      if (b2_ r30) = 0 then
        lt_ (x4 + 1) fun v32 =>
        fX1_winsLater_L57 K43 fuel M31 x0 x1 x2 x3 v32
      else
        some (true, M31)
def fX1_winsLater_L43 : Nat → Mem_ → Nat → Int32 → Int32 → Int32 → Option (Bool × Mem_)
  | 0, _, _, _, _, _ => none
  | fuel + 1, M, x0, x1, x2, x3 =>
    (gR_ M x0 0 0).bind fun v19 =>
    (gI_ M v19 1 9).bind fun v20 =>
    if v20 ≤ x3 then
      some (false, M)
    else
      fX1_winsLater_L57 (fX1_winsLater_L43 fuel) 1000 M x0 x1 x2 x3 0
def fX1_winsLater (M : Mem_) (a0 : Nat) (a1 : Int32) (a2 : Int32) : Option (Bool × Mem_) :=
  (ck_ M a0 0).bind fun u1 =>
  (fX1_minds M a0).bind fun M3 =>
  (gR_ M3 a0 0 2).bind fun v4 =>
  (ck_ M3 v4 1).bind fun u5 =>
  bw_ (fX2_hits M3 v4 a1 a2) fun r6 M7 =>
  if (b2_ r6) = 0 then
    (gR_ M7 a0 0 2).bind fun v8 =>
    (ck_ M7 v8 1).bind fun u9 =>
    bw_ (fX2_hits M7 v8 0 4) fun r10 M11 =>
    if (b2_ r10) = 0 then
      (gR_ M11 a0 0 3).bind fun v12 =>
      (gR_ M11 a0 0 2).bind fun v13 =>
      (ck_ M11 v12 1).bind fun u14 =>
      (fX2_takes M11 v12 v13).bind fun M16 =>
      fX1_winsLater_L43 1000 M16 a0 a1 a2 0
    else
      some (false, M11)
  else
    some (false, M7)
theorem kdX1_winsLater : yX1_winsLater.cls ≠ "java/lang/invoke/MethodHandle" ∧ yX1_winsLater.cls ≠ "java/lang/invoke/VarHandle" ∧ (parseMethodDescriptor yX1_winsLater.desc).map (fun d => d.parameters.length) = some 2 := by decide +kernel
set_option maxHeartbeats 4000000 in
theorem mX1_winsLater (l : Launch) (G : GT_) (M : Mem_) (n : Nat) (a0 : Nat) (a1 : Int32) (a2 : Int32) (r : Bool) (M1 : Mem_) (hf : fX1_winsLater M a0 a1 a2 = some (r, M1)) : Ct_ G l yX1_winsLater (ws_ yX1_winsLater cX1_winsLater 5 (some .boolean)) ({ frames := 4, cells := 0, slots := 0, locals := 100 }) 0 0 [.ref a0, .int a1, .int a2] M n (some (.int (b2_ r))) M1 n := by
  refine en_ (by decide) (Nat.le_of_ble_eq_true rfl) ?_
  intro p e s m below meth c hx hb hr hlk hml hown hts hname hKn hH ls hl
  have hown : s.vm.findClass RX1 = some m.cls := hown
  have hl : lv_has ls 5 [(0, .ref a0), (1, .int a1), (2, .int a2)] := hl
  have w57 : ∀ (K43 : Mem_ → Nat → Int32 → Int32 → Int32 → Option (Bool × Mem_)), (∀ (M : Mem_) (x0 : Nat) (x1 : Int32) (x2 : Int32) (x3 : Int32) (H : Heap) (locs : List Loc) (ls : Array Slot), St_ G n M s H locs → lv_has ls 5 [(0, .ref x0), (1, .int x1), (2, .int x2), (3, .int x3)] → K43 M x0 x1 x2 x3 = some (r, M1) → W p l e ({ frames := 4, cells := 0, slots := 0, locals := 100 } : Room) s m ([.ref a0, .int a1, .int a2] : List Value).toArray below meth c H locs 0 0 (MQ below (Qc_ G (some (.int (b2_ r))) M1 n) ([.ref a0, .int a1, .int a2] : List Value).toArray s 0 0 (fun q => G.1 ≤ q)) (F0 m 43 ls [])) → ∀ (fuel : Nat), ∀ (M : Mem_) (x0 : Nat) (x1 : Int32) (x2 : Int32) (x3 : Int32) (x4 : Int32) (H : Heap) (locs : List Loc) (ls : Array Slot), St_ G n M s H locs → lv_has ls 5 [(0, .ref x0), (1, .int x1), (2, .int x2), (3, .int x3), (4, .int x4)] → fX1_winsLater_L57 K43 fuel M x0 x1 x2 x3 x4 = some (r, M1) → W p l e ({ frames := 4, cells := 0, slots := 0, locals := 100 } : Room) s m ([.ref a0, .int a1, .int a2] : List Value).toArray below meth c H locs 0 0 (MQ below (Qc_ G (some (.int (b2_ r))) M1 n) ([.ref a0, .int a1, .int a2] : List Value).toArray s 0 0 (fun q => G.1 ≤ q)) (F0 m 57 ls []) := by
    intro K43 hK43 fuel
    induction fuel with
    | zero =>
      intro M x0 x1 x2 x3 x4 H locs ls hH hl hf
      cases hf
    | succ fuel ih =>
      intro M x0 x1 x2 x3 x4 H locs ls hH hl hf
      unfold fX1_winsLater_L57 at hf
      refine lv_iload hx hb dX1_winsLater_57 (lv_at hl 4 rfl) ?_
      refine lv_bipush (v := 9) hx hb dX1_winsLater_59 (by decide) ?_
      refine lv_icmp_ge (tgt := 96) hx hb dX1_winsLater_61 (by decide) (fun c34 => ?_) (fun c34 => ?_)
      · have hf := ip_ c34 hf
        obtain ⟨v22, ev22⟩ : ∃ z : Int32, z = x3 + 1 := ⟨_, rfl⟩
        have hf := lu_ ev22 hf
        refine lv_iinc (v := v22) (lv' := [(3, .int v22), (0, .ref x0), (1, .int x1), (2, .int x2), (4, .int x4)]) hx hb dX1_winsLater_96 hl (k := 3) rfl (by rw [ev22]; rfl) (by decide) rfl (fun ls hl => ?_)
        refine lv_goto (tgt := 43) hx hb dX1_winsLater_99 (by decide) ?_
        exact hK43 M x0 x1 x2 v22 _ _ ls hH (lv_sub hl [1, 2, 3, 0] rfl) hf
      · have hf := in_ c34 hf
        refine lv_aload_n hx hb dX1_winsLater_64 rfl (lv_at hl 0 rfl) ?_
        obtain ⟨v23, ev23, hf⟩ := bs_ hf
        refine mg_gR hx hb hts hown hKn hH ev23 in_X1 rfl (by decide) (hts _ q939) (fun _ h9 => h9) dX1_winsLater_65 ?_
        refine lv_aload_n hx hb dX1_winsLater_68 rfl (lv_at hl 0 rfl) ?_
        obtain ⟨v24, ev24, hf⟩ := bs_ hf
        refine mg_gR hx hb hts hown hKn hH ev24 in_X1 rfl (by decide) (hts _ q940) (fun _ h9 => h9) dX1_winsLater_69 ?_
        obtain ⟨u25, eu25, hf⟩ := bs_ hf
        obtain ⟨M27, er26, hf⟩ := bs_ hf
        refine cl_v0 hH (rn_V ⟨hx, hb, hml, hown, hts⟩ hKn hH (mX2_takes l G M n v23 v24 M27 er26) (cwV 1 hts (lw_V q299 q300 q301 q68 q302) rfl rfl rfl ⟨rfl, kdX2_takes⟩ ⟨Nat.le_of_ble_eq_true rfl, Nat.le_of_ble_eq_true rfl⟩) eu25 rfl rfl hl.1 (Nat.le_of_ble_eq_true rfl) dX1_winsLater_72 ⟨(Nat.le_of_ble_eq_true rfl), (Nat.le_of_ble_eq_true rfl)⟩ rfl) (fun H locs hH => ?_)
        refine lv_aload_n hx hb dX1_winsLater_75 rfl (lv_at hl 0 rfl) ?_
        obtain ⟨v28, ev28, hf⟩ := bs_ hf
        refine mg_gR hx hb hts hown hKn hH ev28 in_X1 rfl (by decide) (hts _ q939) (fun _ h9 => h9) dX1_winsLater_76 ?_
        refine lv_iload_n hx hb dX1_winsLater_79 rfl (lv_at hl 3 rfl) ?_
        refine lv_iload hx hb dX1_winsLater_80 (lv_at hl 4 rfl) ?_
        obtain ⟨u29, eu29, hf⟩ := bs_ hf
        obtain ⟨r30, M31, er30, hf⟩ := bws_ hf
        refine cl_i0 hH (rn_V ⟨hx, hb, hml, hown, hts⟩ hKn hH (mX2_hits l G M27 n v28 x3 x4 r30 M31 er30) (cwV 2 hts (lw_V q411 q412 q413 q68 q414) rfl rfl rfl ⟨rfl, kdX2_hits⟩ ⟨Nat.le_of_ble_eq_true rfl, Nat.le_of_ble_eq_true rfl⟩) eu29 rfl rfl hl.1 (Nat.le_of_ble_eq_true rfl) dX1_winsLater_82 ⟨(Nat.le_of_ble_eq_true rfl), (Nat.le_of_ble_eq_true rfl)⟩ rfl) (fun H locs hH => ?_)
        refine lv_if_eq (tgt := 90) hx hb dX1_winsLater_85 (by decide) (fun c33 => ?_) (fun c33 => ?_)
        · have hf := ip_ c33 hf
          obtain ⟨v32, ev32⟩ : ∃ z : Int32, z = x4 + 1 := ⟨_, rfl⟩
          have hf := lu_ ev32 hf
          refine lv_iinc (v := v32) (lv' := [(4, .int v32), (0, .ref x0), (1, .int x1), (2, .int x2), (3, .int x3)]) hx hb dX1_winsLater_90 hl (k := 4) rfl (by rw [ev32]; rfl) (by decide) rfl (fun ls hl => ?_)
          refine lv_goto (tgt := 57) hx hb dX1_winsLater_93 (by decide) ?_
          exact ih M31 x0 x1 x2 x3 v32 _ _ ls hH (lv_sub hl [1, 2, 3, 4, 0] rfl) hf
        · have hf := in_ c33 hf
          refine lv_iconst (v := 1) hx hb dX1_winsLater_88 (by decide) ?_
          cases hf
          exact rt_b (b := true) hx hb hr hlk hH dX1_winsLater_89
  have w43 : ∀ (fuel : Nat), ∀ (M : Mem_) (x0 : Nat) (x1 : Int32) (x2 : Int32) (x3 : Int32) (H : Heap) (locs : List Loc) (ls : Array Slot), St_ G n M s H locs → lv_has ls 5 [(0, .ref x0), (1, .int x1), (2, .int x2), (3, .int x3)] → fX1_winsLater_L43 fuel M x0 x1 x2 x3 = some (r, M1) → W p l e ({ frames := 4, cells := 0, slots := 0, locals := 100 } : Room) s m ([.ref a0, .int a1, .int a2] : List Value).toArray below meth c H locs 0 0 (MQ below (Qc_ G (some (.int (b2_ r))) M1 n) ([.ref a0, .int a1, .int a2] : List Value).toArray s 0 0 (fun q => G.1 ≤ q)) (F0 m 43 ls []) := by
    intro fuel
    induction fuel with
    | zero =>
      intro M x0 x1 x2 x3 H locs ls hH hl hf
      cases hf
    | succ fuel ih =>
      intro M x0 x1 x2 x3 H locs ls hH hl hf
      unfold fX1_winsLater_L43 at hf
      refine lv_iload_n hx hb dX1_winsLater_43 rfl (lv_at hl 3 rfl) ?_
      refine lv_aload_n hx hb dX1_winsLater_44 rfl (lv_at hl 0 rfl) ?_
      obtain ⟨v19, ev19, hf⟩ := bs_ hf
      refine mg_gR hx hb hts hown hKn hH ev19 in_X1 rfl (by decide) (hts _ q937) (fun _ h9 => h9) dX1_winsLater_45 ?_
      obtain ⟨v20, ev20, hf⟩ := bs_ hf
      refine mg_gI hx hb hts hown hKn hH ev20 in_X2 rfl (by decide) (hts _ q890) (fun _ h9 => h9) dX1_winsLater_48 ?_
      refine lv_icmp_ge (tgt := 102) hx hb dX1_winsLater_51 (by decide) (fun c21 => ?_) (fun c21 => ?_)
      · have hf := ip_ c21 hf
        refine lv_iconst (v := 0) hx hb dX1_winsLater_102 (by decide) ?_
        cases hf
        exact rt_b (b := false) hx hb hr hlk hH dX1_winsLater_103
      · have hf := in_ c21 hf
        refine lv_iconst (v := 0) hx hb dX1_winsLater_54 (by decide) ?_
        refine lv_istore (lv' := [(4, .int 0), (0, .ref x0), (1, .int x1), (2, .int x2), (3, .int x3)]) hx hb dX1_winsLater_55 hl (by decide) rfl (fun ls hl => ?_)
        exact w57 _ ih 1000 M x0 x1 x2 x3 0 _ _ ls hH (lv_sub hl [1, 2, 3, 4, 0] rfl) hf
  unfold fX1_winsLater at hf
  refine lv_aload_n hx hb dX1_winsLater_0 rfl (lv_at hl 0 rfl) ?_
  obtain ⟨u1, eu1, hf⟩ := bs_ hf
  obtain ⟨M3, er2, hf⟩ := bs_ hf
  refine cl_v0 hH (rn_V ⟨hx, hb, hml, hown, hts⟩ hKn hH (mX1_minds l G M n a0 M3 er2) (cwV 0 hts (lw_V q662 q664 qs22 q67 q665) rfl rfl rfl ⟨rfl, kdX1_minds⟩ ⟨Nat.le_of_ble_eq_true rfl, Nat.le_of_ble_eq_true rfl⟩) eu1 rfl rfl hl.1 (Nat.le_of_ble_eq_true rfl) dX1_winsLater_1 ⟨(Nat.le_of_ble_eq_true rfl), (Nat.le_of_ble_eq_true rfl)⟩ rfl) (fun H locs hH => ?_)
  refine lv_aload_n hx hb dX1_winsLater_4 rfl (lv_at hl 0 rfl) ?_
  obtain ⟨v4, ev4, hf⟩ := bs_ hf
  refine mg_gR hx hb hts hown hKn hH ev4 in_X1 rfl (by decide) (hts _ q939) (fun _ h9 => h9) dX1_winsLater_5 ?_
  refine lv_iload_n hx hb dX1_winsLater_8 rfl (lv_at hl 1 rfl) ?_
  refine lv_iload_n hx hb dX1_winsLater_9 rfl (lv_at hl 2 rfl) ?_
  obtain ⟨u5, eu5, hf⟩ := bs_ hf
  obtain ⟨r6, M7, er6, hf⟩ := bws_ hf
  refine cl_i0 hH (rn_V ⟨hx, hb, hml, hown, hts⟩ hKn hH (mX2_hits l G M3 n v4 a1 a2 r6 M7 er6) (cwV 2 hts (lw_V q411 q412 q413 q68 q414) rfl rfl rfl ⟨rfl, kdX2_hits⟩ ⟨Nat.le_of_ble_eq_true rfl, Nat.le_of_ble_eq_true rfl⟩) eu5 rfl rfl hl.1 (Nat.le_of_ble_eq_true rfl) dX1_winsLater_10 ⟨(Nat.le_of_ble_eq_true rfl), (Nat.le_of_ble_eq_true rfl)⟩ rfl) (fun H locs hH => ?_)
  refine lv_if_ne (tgt := 28) hx hb dX1_winsLater_13 (by decide) (fun c18 => ?_) (fun c18 => ?_)
  · have hf := in_ c18 hf
    refine lv_iconst (v := 0) hx hb dX1_winsLater_28 (by decide) ?_
    cases hf
    exact rt_b (b := false) hx hb hr hlk hH dX1_winsLater_29
  · have hf := ip_ c18 hf
    refine lv_aload_n hx hb dX1_winsLater_16 rfl (lv_at hl 0 rfl) ?_
    obtain ⟨v8, ev8, hf⟩ := bs_ hf
    refine mg_gR hx hb hts hown hKn hH ev8 in_X1 rfl (by decide) (hts _ q939) (fun _ h9 => h9) dX1_winsLater_17 ?_
    refine lv_iconst (v := 0) hx hb dX1_winsLater_20 (by decide) ?_
    refine lv_iconst (v := 4) hx hb dX1_winsLater_21 (by decide) ?_
    obtain ⟨u9, eu9, hf⟩ := bs_ hf
    obtain ⟨r10, M11, er10, hf⟩ := bws_ hf
    refine cl_i0 hH (rn_V ⟨hx, hb, hml, hown, hts⟩ hKn hH (mX2_hits l G M7 n v8 0 4 r10 M11 er10) (cwV 2 hts (lw_V q411 q412 q413 q68 q414) rfl rfl rfl ⟨rfl, kdX2_hits⟩ ⟨Nat.le_of_ble_eq_true rfl, Nat.le_of_ble_eq_true rfl⟩) eu9 rfl rfl hl.1 (Nat.le_of_ble_eq_true rfl) dX1_winsLater_22 ⟨(Nat.le_of_ble_eq_true rfl), (Nat.le_of_ble_eq_true rfl)⟩ rfl) (fun H locs hH => ?_)
    refine lv_if_eq (tgt := 30) hx hb dX1_winsLater_25 (by decide) (fun c17 => ?_) (fun c17 => ?_)
    · have hf := ip_ c17 hf
      refine lv_aload_n hx hb dX1_winsLater_30 rfl (lv_at hl 0 rfl) ?_
      obtain ⟨v12, ev12, hf⟩ := bs_ hf
      refine mg_gR hx hb hts hown hKn hH ev12 in_X1 rfl (by decide) (hts _ q940) (fun _ h9 => h9) dX1_winsLater_31 ?_
      refine lv_aload_n hx hb dX1_winsLater_34 rfl (lv_at hl 0 rfl) ?_
      obtain ⟨v13, ev13, hf⟩ := bs_ hf
      refine mg_gR hx hb hts hown hKn hH ev13 in_X1 rfl (by decide) (hts _ q939) (fun _ h9 => h9) dX1_winsLater_35 ?_
      obtain ⟨u14, eu14, hf⟩ := bs_ hf
      obtain ⟨M16, er15, hf⟩ := bs_ hf
      refine cl_v0 hH (rn_V ⟨hx, hb, hml, hown, hts⟩ hKn hH (mX2_takes l G M11 n v12 v13 M16 er15) (cwV 1 hts (lw_V q299 q300 q301 q68 q302) rfl rfl rfl ⟨rfl, kdX2_takes⟩ ⟨Nat.le_of_ble_eq_true rfl, Nat.le_of_ble_eq_true rfl⟩) eu14 rfl rfl hl.1 (Nat.le_of_ble_eq_true rfl) dX1_winsLater_38 ⟨(Nat.le_of_ble_eq_true rfl), (Nat.le_of_ble_eq_true rfl)⟩ rfl) (fun H locs hH => ?_)
      refine lv_iconst (v := 0) hx hb dX1_winsLater_41 (by decide) ?_
      refine lv_istore_n (lv' := [(3, .int 0), (0, .ref a0), (1, .int a1), (2, .int a2)]) hx hb dX1_winsLater_42 rfl hl (by decide) rfl (fun ls hl => ?_)
      exact w43 1000 M16 a0 a1 a2 0 _ _ ls hH (lv_sub hl [1, 2, 3, 0] rfl) hf
    · have hf := in_ c17 hf
      refine lv_iconst (v := 0) hx hb dX1_winsLater_28 (by decide) ?_
      cases hf
      exact rt_b (b := false) hx hb hr hlk hH dX1_winsLater_29
def fX1_laterHit_L15 (K2 : Mem_ → Nat → Int32 → Option (Int32 × Mem_)) : Nat → Mem_ → Nat → Int32 → Int32 → Option (Int32 × Mem_)
  | 0, _, _, _, _ => none
  | fuel + 1, M, x0, x1, x2 =>
    if 9 ≤ x2 then
      lt_ (x1 + 1) fun v4 =>
      K2 M x0 v4
    else
      (ck_ M x0 0).bind fun u5 =>
      bw_ (fX1_winsLater M x0 x1 x2) fun r6 M7 =>
      if (b2_ r6) = 0 then
        lt_ (x2 + 1) fun v8 =>
        fX1_laterHit_L15 K2 fuel M7 x0 x1 v8
      else
        some (((10 * x1) + x2), M7)
def fX1_laterHit_L2 : Nat → Mem_ → Nat → Int32 → Option (Int32 × Mem_)
  | 0, _, _, _ => none
  | fuel + 1, M, x0, x1 =>
    (gR_ M x0 0 0).bind fun v1 =>
    (gI_ M v1 1 9).bind fun v2 =>
    if v2 ≤ x1 then
      some ((-4), M)
    else
      fX1_laterHit_L15 (fX1_laterHit_L2 fuel) 1000 M x0 x1 0
def fX1_laterHit (M : Mem_) (a0 : Nat) : Option (Int32 × Mem_) :=
  fX1_laterHit_L2 1000 M a0 0
theorem kdX1_laterHit : yX1_laterHit.cls ≠ "java/lang/invoke/MethodHandle" ∧ yX1_laterHit.cls ≠ "java/lang/invoke/VarHandle" ∧ (parseMethodDescriptor yX1_laterHit.desc).map (fun d => d.parameters.length) = some 0 := by decide +kernel
set_option maxHeartbeats 4000000 in
theorem mX1_laterHit (l : Launch) (G : GT_) (M : Mem_) (n : Nat) (a0 : Nat) (r : Int32) (M1 : Mem_) (hf : fX1_laterHit M a0 = some (r, M1)) : Ct_ G l yX1_laterHit (ws_ yX1_laterHit cX1_laterHit 3 (some .int)) ({ frames := 5, cells := 0, slots := 0, locals := 124 }) 0 0 [.ref a0] M n (some (.int r)) M1 n := by
  refine en_ (by decide) (Nat.le_of_ble_eq_true rfl) ?_
  intro p e s m below meth c hx hb hr hlk hml hown hts hname hKn hH ls hl
  have hown : s.vm.findClass RX1 = some m.cls := hown
  have hl : lv_has ls 3 [(0, .ref a0)] := hl
  have w15 : ∀ (K2 : Mem_ → Nat → Int32 → Option (Int32 × Mem_)), (∀ (M : Mem_) (x0 : Nat) (x1 : Int32) (H : Heap) (locs : List Loc) (ls : Array Slot), St_ G n M s H locs → lv_has ls 3 [(0, .ref x0), (1, .int x1)] → K2 M x0 x1 = some (r, M1) → W p l e ({ frames := 5, cells := 0, slots := 0, locals := 124 } : Room) s m ([.ref a0] : List Value).toArray below meth c H locs 0 0 (MQ below (Qc_ G (some (.int r)) M1 n) ([.ref a0] : List Value).toArray s 0 0 (fun q => G.1 ≤ q)) (F0 m 2 ls [])) → ∀ (fuel : Nat), ∀ (M : Mem_) (x0 : Nat) (x1 : Int32) (x2 : Int32) (H : Heap) (locs : List Loc) (ls : Array Slot), St_ G n M s H locs → lv_has ls 3 [(0, .ref x0), (1, .int x1), (2, .int x2)] → fX1_laterHit_L15 K2 fuel M x0 x1 x2 = some (r, M1) → W p l e ({ frames := 5, cells := 0, slots := 0, locals := 124 } : Room) s m ([.ref a0] : List Value).toArray below meth c H locs 0 0 (MQ below (Qc_ G (some (.int r)) M1 n) ([.ref a0] : List Value).toArray s 0 0 (fun q => G.1 ≤ q)) (F0 m 15 ls []) := by
    intro K2 hK2 fuel
    induction fuel with
    | zero =>
      intro M x0 x1 x2 H locs ls hH hl hf
      cases hf
    | succ fuel ih =>
      intro M x0 x1 x2 H locs ls hH hl hf
      unfold fX1_laterHit_L15 at hf
      refine lv_iload_n hx hb dX1_laterHit_15 rfl (lv_at hl 2 rfl) ?_
      refine lv_bipush (v := 9) hx hb dX1_laterHit_16 (by decide) ?_
      refine lv_icmp_ge (tgt := 43) hx hb dX1_laterHit_18 (by decide) (fun c10 => ?_) (fun c10 => ?_)
      · have hf := ip_ c10 hf
        obtain ⟨v4, ev4⟩ : ∃ z : Int32, z = x1 + 1 := ⟨_, rfl⟩
        have hf := lu_ ev4 hf
        refine lv_iinc (v := v4) (lv' := [(1, .int v4), (0, .ref x0), (2, .int x2)]) hx hb dX1_laterHit_43 hl (k := 1) rfl (by rw [ev4]; rfl) (by decide) rfl (fun ls hl => ?_)
        refine lv_goto (tgt := 2) hx hb dX1_laterHit_46 (by decide) ?_
        exact hK2 M x0 v4 _ _ ls hH (lv_sub hl [1, 0] rfl) hf
      · have hf := in_ c10 hf
        refine lv_aload_n hx hb dX1_laterHit_21 rfl (lv_at hl 0 rfl) ?_
        refine lv_iload_n hx hb dX1_laterHit_22 rfl (lv_at hl 1 rfl) ?_
        refine lv_iload_n hx hb dX1_laterHit_23 rfl (lv_at hl 2 rfl) ?_
        obtain ⟨u5, eu5, hf⟩ := bs_ hf
        obtain ⟨r6, M7, er6, hf⟩ := bws_ hf
        refine cl_i0 hH (rn_V ⟨hx, hb, hml, hown, hts⟩ hKn hH (mX1_winsLater l G M n x0 x1 x2 r6 M7 er6) (cwV 2 hts (lw_V q700 q702 qs25 q67 q703) rfl rfl rfl ⟨rfl, kdX1_winsLater⟩ ⟨Nat.le_of_ble_eq_true rfl, Nat.le_of_ble_eq_true rfl⟩) eu5 rfl rfl hl.1 (Nat.le_of_ble_eq_true rfl) dX1_laterHit_24 ⟨(Nat.le_of_ble_eq_true rfl), (Nat.le_of_ble_eq_true rfl)⟩ rfl) (fun H locs hH => ?_)
        refine lv_if_eq (tgt := 37) hx hb dX1_laterHit_27 (by decide) (fun c9 => ?_) (fun c9 => ?_)
        · have hf := ip_ c9 hf
          obtain ⟨v8, ev8⟩ : ∃ z : Int32, z = x2 + 1 := ⟨_, rfl⟩
          have hf := lu_ ev8 hf
          refine lv_iinc (v := v8) (lv' := [(2, .int v8), (0, .ref x0), (1, .int x1)]) hx hb dX1_laterHit_37 hl (k := 2) rfl (by rw [ev8]; rfl) (by decide) rfl (fun ls hl => ?_)
          refine lv_goto (tgt := 15) hx hb dX1_laterHit_40 (by decide) ?_
          exact ih M7 x0 x1 v8 _ _ ls hH (lv_sub hl [1, 2, 0] rfl) hf
        · have hf := in_ c9 hf
          refine lv_bipush (v := 10) hx hb dX1_laterHit_30 (by decide) ?_
          refine lv_iload_n hx hb dX1_laterHit_32 rfl (lv_at hl 1 rfl) ?_
          refine lv_imul hx hb dX1_laterHit_33 ?_
          refine lv_iload_n hx hb dX1_laterHit_34 rfl (lv_at hl 2 rfl) ?_
          refine lv_iadd hx hb dX1_laterHit_35 ?_
          cases hf
          exact rt_i hx hb hr hlk hH dX1_laterHit_36
  have w2 : ∀ (fuel : Nat), ∀ (M : Mem_) (x0 : Nat) (x1 : Int32) (H : Heap) (locs : List Loc) (ls : Array Slot), St_ G n M s H locs → lv_has ls 3 [(0, .ref x0), (1, .int x1)] → fX1_laterHit_L2 fuel M x0 x1 = some (r, M1) → W p l e ({ frames := 5, cells := 0, slots := 0, locals := 124 } : Room) s m ([.ref a0] : List Value).toArray below meth c H locs 0 0 (MQ below (Qc_ G (some (.int r)) M1 n) ([.ref a0] : List Value).toArray s 0 0 (fun q => G.1 ≤ q)) (F0 m 2 ls []) := by
    intro fuel
    induction fuel with
    | zero =>
      intro M x0 x1 H locs ls hH hl hf
      cases hf
    | succ fuel ih =>
      intro M x0 x1 H locs ls hH hl hf
      unfold fX1_laterHit_L2 at hf
      refine lv_iload_n hx hb dX1_laterHit_2 rfl (lv_at hl 1 rfl) ?_
      refine lv_aload_n hx hb dX1_laterHit_3 rfl (lv_at hl 0 rfl) ?_
      obtain ⟨v1, ev1, hf⟩ := bs_ hf
      refine mg_gR hx hb hts hown hKn hH ev1 in_X1 rfl (by decide) (hts _ q937) (fun _ h9 => h9) dX1_laterHit_4 ?_
      obtain ⟨v2, ev2, hf⟩ := bs_ hf
      refine mg_gI hx hb hts hown hKn hH ev2 in_X2 rfl (by decide) (hts _ q890) (fun _ h9 => h9) dX1_laterHit_7 ?_
      refine lv_icmp_ge (tgt := 49) hx hb dX1_laterHit_10 (by decide) (fun c3 => ?_) (fun c3 => ?_)
      · have hf := ip_ c3 hf
        refine lv_bipush (v := (-4)) hx hb dX1_laterHit_49 (by decide) ?_
        cases hf
        exact rt_i hx hb hr hlk hH dX1_laterHit_51
      · have hf := in_ c3 hf
        refine lv_iconst (v := 0) hx hb dX1_laterHit_13 (by decide) ?_
        refine lv_istore_n (lv' := [(2, .int 0), (0, .ref x0), (1, .int x1)]) hx hb dX1_laterHit_14 rfl hl (by decide) rfl (fun ls hl => ?_)
        exact w15 _ ih 1000 M x0 x1 0 _ _ ls hH (lv_sub hl [1, 2, 0] rfl) hf
  unfold fX1_laterHit at hf
  refine lv_iconst (v := 0) hx hb dX1_laterHit_0 (by decide) ?_
  refine lv_istore_n (lv' := [(1, .int 0), (0, .ref a0)]) hx hb dX1_laterHit_1 rfl hl (by decide) rfl (fun ls hl => ?_)
  exact w2 1000 M a0 0 _ _ ls hH (lv_sub hl [1, 0] rfl) hf
def fX1_fewest (M : Mem_) (a0 : Nat) (a1 : Int32) : Option (Int32 × Mem_) :=
  lt_ (fX1_isIn a1 0 1) fun r1 =>
  if (b2_ r1) = 0 then
    some ((-1), M)
  else
    (gR_ M a0 0 0).bind fun v2 =>
    (gI_ M v2 1 9).bind fun v3 =>
    if v3 = 0 then
      some ((-3), M)
    else
      (ck_ M a0 0).bind fun u4 =>
      bw_ (fX1_forced M a0) fun r5 M6 =>
      if r5 < 0 then
        (ck_ M6 a0 0).bind fun u7 =>
        bw_ (fX1_laterHit M6 a0) fun r8 M9 =>
        if a1 = 1 then
          some (r8, M9)
        else
          if 0 ≤ r8 then
            some (3, M9)
          else
            some (r8, M9)
      else
        if a1 = 0 then
          some (1, M6)
        else
          some (r5, M6)
theorem kdX1_fewest : yX1_fewest.cls ≠ "java/lang/invoke/MethodHandle" ∧ yX1_fewest.cls ≠ "java/lang/invoke/VarHandle" ∧ (parseMethodDescriptor yX1_fewest.desc).map (fun d => d.parameters.length) = some 1 := by decide +kernel
set_option maxHeartbeats 4000000 in
theorem mX1_fewest (l : Launch) (G : GT_) (M : Mem_) (n : Nat) (a0 : Nat) (a1 : Int32) (r : Int32) (M1 : Mem_) (hf : fX1_fewest M a0 a1 = some (r, M1)) : Ct_ G l yX1_fewest (ws_ yX1_fewest cX1_fewest 4 (some .int)) ({ frames := 6, cells := 0, slots := 0, locals := 146 }) 0 0 [.ref a0, .int a1] M n (some (.int r)) M1 n := by
  refine en_ (by decide) (Nat.le_of_ble_eq_true rfl) ?_
  intro p e s m below meth c hx hb hr hlk hml hown hts hname hKn hH ls hl
  have hown : s.vm.findClass RX1 = some m.cls := hown
  have hl : lv_has ls 4 [(0, .ref a0), (1, .int a1)] := hl
  unfold fX1_fewest at hf
  generalize s.heap = H at hH ⊢
  refine lv_iload_n hx hb dX1_fewest_0 rfl (lv_at hl 1 rfl) ?_
  refine lv_iconst (v := 0) hx hb dX1_fewest_1 (by decide) ?_
  refine lv_iconst (v := 1) hx hb dX1_fewest_2 (by decide) ?_
  obtain ⟨r1, er1⟩ : ∃ z, z = fX1_isIn a1 0 1 := ⟨_, rfl⟩
  have hf := lu_ er1 hf
  refine cl_i0 hH (rn_S ⟨hx, hb, hml, hown, hts⟩ hKn hH (mX1_isIn l G M n a1 0 1 r1 er1.symm) (va_cwS 3 hts (lw_S q199 q200 q67 q201) rfl rfl rfl kdX1_isIn ⟨Nat.le_of_ble_eq_true rfl, Nat.le_of_ble_eq_true rfl⟩) rfl hl.1 (Nat.le_of_ble_eq_true rfl) dX1_fewest_3 ⟨(Nat.le_of_ble_eq_true rfl), (Nat.le_of_ble_eq_true rfl)⟩ rfl) (fun H locs hH => ?_)
  refine lv_if_ne (tgt := 11) hx hb dX1_fewest_6 (by decide) (fun c15 => ?_) (fun c15 => ?_)
  · have hf := in_ c15 hf
    refine lv_aload_n hx hb dX1_fewest_11 rfl (lv_at hl 0 rfl) ?_
    obtain ⟨v2, ev2, hf⟩ := bs_ hf
    refine mg_gR hx hb hts hown hKn hH ev2 in_X1 rfl (by decide) (hts _ q937) (fun _ h9 => h9) dX1_fewest_12 ?_
    obtain ⟨v3, ev3, hf⟩ := bs_ hf
    refine mg_gI hx hb hts hown hKn hH ev3 in_X2 rfl (by decide) (hts _ q890) (fun _ h9 => h9) dX1_fewest_15 ?_
    refine lv_if_ne (tgt := 24) hx hb dX1_fewest_18 (by decide) (fun c14 => ?_) (fun c14 => ?_)
    · have hf := in_ c14 hf
      refine lv_aload_n hx hb dX1_fewest_24 rfl (lv_at hl 0 rfl) ?_
      obtain ⟨u4, eu4, hf⟩ := bs_ hf
      obtain ⟨r5, M6, er5, hf⟩ := bws_ hf
      refine cl_i0 hH (rn_V ⟨hx, hb, hml, hown, hts⟩ hKn hH (mX1_forced l G M n a0 r5 M6 er5) (cwV 0 hts (lw_V q695 q675 q676 q67 q677) rfl rfl rfl ⟨rfl, kdX1_forced⟩ ⟨Nat.le_of_ble_eq_true rfl, Nat.le_of_ble_eq_true rfl⟩) eu4 rfl rfl hl.1 (Nat.le_of_ble_eq_true rfl) dX1_fewest_25 ⟨(Nat.le_of_ble_eq_true rfl), (Nat.le_of_ble_eq_true rfl)⟩ rfl) (fun H locs hH => ?_)
      refine lv_istore_n (lv' := [(2, .int r5), (0, .ref a0), (1, .int a1)]) hx hb dX1_fewest_28 rfl hl (by decide) rfl (fun ls hl => ?_)
      refine lv_iload_n hx hb dX1_fewest_29 rfl (lv_at hl 0 rfl) ?_
      refine lv_if_lt (tgt := 43) hx hb dX1_fewest_30 (by decide) (fun c13 => ?_) (fun c13 => ?_)
      · have hf := ip_ c13 hf
        refine lv_aload_n hx hb dX1_fewest_43 rfl (lv_at hl 1 rfl) ?_
        obtain ⟨u7, eu7, hf⟩ := bs_ hf
        obtain ⟨r8, M9, er8, hf⟩ := bws_ hf
        refine cl_i0 hH (rn_V ⟨hx, hb, hml, hown, hts⟩ hKn hH (mX1_laterHit l G M6 n a0 r8 M9 er8) (cwV 0 hts (lw_V q696 q698 qs24 q67 q699) rfl rfl rfl ⟨rfl, kdX1_laterHit⟩ ⟨Nat.le_of_ble_eq_true rfl, Nat.le_of_ble_eq_true rfl⟩) eu7 rfl rfl hl.1 (Nat.le_of_ble_eq_true rfl) dX1_fewest_44 ⟨(Nat.le_of_ble_eq_true rfl), (Nat.le_of_ble_eq_true rfl)⟩ rfl) (fun H locs hH => ?_)
        refine lv_istore_n (lv' := [(3, .int r8), (2, .int r5), (0, .ref a0), (1, .int a1)]) hx hb dX1_fewest_47 rfl hl (by decide) rfl (fun ls hl => ?_)
        refine lv_iload_n hx hb dX1_fewest_48 rfl (lv_at hl 3 rfl) ?_
        refine lv_iconst (v := 1) hx hb dX1_fewest_49 (by decide) ?_
        refine lv_icmp_eq (tgt := 57) hx hb dX1_fewest_50 (by decide) (fun c11 => ?_) (fun c11 => ?_)
        · have hf := ip_ c11 hf
          refine lv_iload_n hx hb dX1_fewest_57 rfl (lv_at hl 0 rfl) ?_
          refine lv_goto (tgt := 62) hx hb dX1_fewest_58 (by decide) ?_
          cases hf
          exact rt_i hx hb hr hlk hH dX1_fewest_62
        · have hf := in_ c11 hf
          refine lv_iload_n hx hb dX1_fewest_53 rfl (lv_at hl 0 rfl) ?_
          refine lv_if_ge (tgt := 61) hx hb dX1_fewest_54 (by decide) (fun c10 => ?_) (fun c10 => ?_)
          · have hf := ip_ c10 hf
            refine lv_iconst (v := 3) hx hb dX1_fewest_61 (by decide) ?_
            cases hf
            exact rt_i hx hb hr hlk hH dX1_fewest_62
          · have hf := in_ c10 hf
            refine lv_iload_n hx hb dX1_fewest_57 rfl (lv_at hl 0 rfl) ?_
            refine lv_goto (tgt := 62) hx hb dX1_fewest_58 (by decide) ?_
            cases hf
            exact rt_i hx hb hr hlk hH dX1_fewest_62
      · have hf := in_ c13 hf
        refine lv_iload_n hx hb dX1_fewest_33 rfl (lv_at hl 2 rfl) ?_
        refine lv_if_ne (tgt := 41) hx hb dX1_fewest_34 (by decide) (fun c12 => ?_) (fun c12 => ?_)
        · have hf := in_ c12 hf
          refine lv_iload_n hx hb dX1_fewest_41 rfl (lv_at hl 0 rfl) ?_
          cases hf
          exact rt_i hx hb hr hlk hH dX1_fewest_42
        · have hf := ip_ c12 hf
          refine lv_iconst (v := 1) hx hb dX1_fewest_37 (by decide) ?_
          refine lv_goto (tgt := 42) hx hb dX1_fewest_38 (by decide) ?_
          cases hf
          exact rt_i hx hb hr hlk hH dX1_fewest_42
    · have hf := ip_ c14 hf
      refine lv_bipush (v := (-3)) hx hb dX1_fewest_21 (by decide) ?_
      cases hf
      exact rt_i hx hb hr hlk hH dX1_fewest_23
  · have hf := ip_ c15 hf
    refine lv_iconst (v := (-1)) hx hb dX1_fewest_9 (by decide) ?_
    cases hf
    exact rt_i hx hb hr hlk hH dX1_fewest_10
def fX1_stands_2 (M : Mem_) (a0 : Nat) (a1 : Int32) (a2 : Int32) : Option (Bool × Mem_) :=
  (gR_ M a0 0 2).bind fun v1 =>
  (ck_ M v1 1).bind fun u2 =>
  (fX2_turn M v1).bind fun r3 =>
  if r3 = a1 then
    (gR_ M a0 0 2).bind fun v19 =>
    lt_ ((2 - (2 * a1))) fun v20 =>
    (pF_ M v19 1 10 (.int v20)).bind fun M21 =>
    (gR_ M21 a0 0 2).bind fun v22 =>
    (ck_ M21 v22 1).bind fun u23 =>
    bw_ (fX2_hits M21 v22 0 a2) fun r24 M25 =>
    if (b2_ r24) = 0 then
      (gR_ M25 a0 0 2).bind fun v26 =>
      (ck_ M25 v26 1).bind fun u27 =>
      bw_ (fX2_hits M25 v26 0 4) fun r28 M29 =>
      if (b2_ r28) = 0 then
        (gR_ M29 a0 0 2).bind fun v30 =>
        (ck_ M29 v30 1).bind fun u31 =>
        bw_ (fX2_hits M29 v30 0 (8 - a2)) fun r32 M33 =>
        if (b2_ r32) = 0 then
          some (true, M33)
        else
          some (false, M33)
      else
        some (true, M29)
    else
      some (false, M25)
  else
    (gR_ M a0 0 2).bind fun v4 =>
    (ck_ M v4 1).bind fun u5 =>
    bw_ (fX2_hits M v4 0 a2) fun r6 M7 =>
    if (b2_ r6) = 0 then
      (gR_ M7 a0 0 2).bind fun v8 =>
      (ck_ M7 v8 1).bind fun u9 =>
      bw_ (fX2_hits M7 v8 0 4) fun r10 M11 =>
      if (b2_ r10) = 0 then
        (gR_ M11 a0 0 2).bind fun v12 =>
        (ck_ M11 v12 1).bind fun u13 =>
        bw_ (fX2_hits M11 v12 0 (8 - a2)) fun r14 M15 =>
        if (b2_ r14) = 0 then
          some (true, M15)
        else
          some (false, M15)
      else
        some (true, M11)
    else
      some (false, M7)
theorem kdX1_stands_2 : yX1_stands_2.cls ≠ "java/lang/invoke/MethodHandle" ∧ yX1_stands_2.cls ≠ "java/lang/invoke/VarHandle" ∧ (parseMethodDescriptor yX1_stands_2.desc).map (fun d => d.parameters.length) = some 2 := by decide +kernel
set_option maxHeartbeats 4000000 in
theorem mX1_stands_2 (l : Launch) (G : GT_) (M : Mem_) (n : Nat) (a0 : Nat) (a1 : Int32) (a2 : Int32) (r : Bool) (M1 : Mem_) (hf : fX1_stands_2 M a0 a1 a2 = some (r, M1)) : Ct_ G l yX1_stands_2 (ws_ yX1_stands_2 cX1_stands_2 3 (some .boolean)) ({ frames := 4, cells := 0, slots := 0, locals := 100 }) 0 0 [.ref a0, .int a1, .int a2] M n (some (.int (b2_ r))) M1 n := by
  refine en_ (by decide) (Nat.le_of_ble_eq_true rfl) ?_
  intro p e s m below meth c hx hb hr hlk hml hown hts hname hKn hH ls hl
  have hown : s.vm.findClass RX1 = some m.cls := hown
  have hl : lv_has ls 3 [(0, .ref a0), (1, .int a1), (2, .int a2)] := hl
  unfold fX1_stands_2 at hf
  generalize s.heap = H at hH ⊢
  refine lv_aload_n hx hb dX1_stands_2_0 rfl (lv_at hl 0 rfl) ?_
  obtain ⟨v1, ev1, hf⟩ := bs_ hf
  refine mg_gR hx hb hts hown hKn hH ev1 in_X1 rfl (by decide) (hts _ q939) (fun _ h9 => h9) dX1_stands_2_1 ?_
  obtain ⟨u2, eu2, hf⟩ := bs_ hf
  obtain ⟨r3, er3, hf⟩ := bs_ hf
  refine cl_i0 hH (rn_V ⟨hx, hb, hml, hown, hts⟩ hKn hH (mX2_turn l G M n v1 r3 er3) (cwV 0 hts (lw_V q611 q416 q417 q68 q418) rfl rfl rfl ⟨rfl, kdX2_turn⟩ ⟨Nat.le_of_ble_eq_true rfl, Nat.le_of_ble_eq_true rfl⟩) eu2 rfl rfl hl.1 (Nat.le_of_ble_eq_true rfl) dX1_stands_2_4 ⟨(Nat.le_of_ble_eq_true rfl), (Nat.le_of_ble_eq_true rfl)⟩ rfl) (fun H locs hH => ?_)
  refine lv_iload_n hx hb dX1_stands_2_7 rfl (lv_at hl 1 rfl) ?_
  refine lv_icmp_ne (tgt := 23) hx hb dX1_stands_2_8 (by decide) (fun c37 => ?_) (fun c37 => ?_)
  · have hf := in_ c37 hf
    refine lv_aload_n hx hb dX1_stands_2_23 rfl (lv_at hl 0 rfl) ?_
    obtain ⟨v4, ev4, hf⟩ := bs_ hf
    refine mg_gR hx hb hts hown hKn hH ev4 in_X1 rfl (by decide) (hts _ q939) (fun _ h9 => h9) dX1_stands_2_24 ?_
    refine lv_iconst (v := 0) hx hb dX1_stands_2_27 (by decide) ?_
    refine lv_iload_n hx hb dX1_stands_2_28 rfl (lv_at hl 2 rfl) ?_
    obtain ⟨u5, eu5, hf⟩ := bs_ hf
    obtain ⟨r6, M7, er6, hf⟩ := bws_ hf
    refine cl_i0 hH (rn_V ⟨hx, hb, hml, hown, hts⟩ hKn hH (mX2_hits l G M n v4 0 a2 r6 M7 er6) (cwV 2 hts (lw_V q411 q412 q413 q68 q414) rfl rfl rfl ⟨rfl, kdX2_hits⟩ ⟨Nat.le_of_ble_eq_true rfl, Nat.le_of_ble_eq_true rfl⟩) eu5 rfl rfl hl.1 (Nat.le_of_ble_eq_true rfl) dX1_stands_2_29 ⟨(Nat.le_of_ble_eq_true rfl), (Nat.le_of_ble_eq_true rfl)⟩ rfl) (fun H locs hH => ?_)
    refine lv_if_eq (tgt := 37) hx hb dX1_stands_2_32 (by decide) (fun c18 => ?_) (fun c18 => ?_)
    · have hf := ip_ c18 hf
      refine lv_aload_n hx hb dX1_stands_2_37 rfl (lv_at hl 0 rfl) ?_
      obtain ⟨v8, ev8, hf⟩ := bs_ hf
      refine mg_gR hx hb hts hown hKn hH ev8 in_X1 rfl (by decide) (hts _ q939) (fun _ h9 => h9) dX1_stands_2_38 ?_
      refine lv_iconst (v := 0) hx hb dX1_stands_2_41 (by decide) ?_
      refine lv_iconst (v := 4) hx hb dX1_stands_2_42 (by decide) ?_
      obtain ⟨u9, eu9, hf⟩ := bs_ hf
      obtain ⟨r10, M11, er10, hf⟩ := bws_ hf
      refine cl_i0 hH (rn_V ⟨hx, hb, hml, hown, hts⟩ hKn hH (mX2_hits l G M7 n v8 0 4 r10 M11 er10) (cwV 2 hts (lw_V q411 q412 q413 q68 q414) rfl rfl rfl ⟨rfl, kdX2_hits⟩ ⟨Nat.le_of_ble_eq_true rfl, Nat.le_of_ble_eq_true rfl⟩) eu9 rfl rfl hl.1 (Nat.le_of_ble_eq_true rfl) dX1_stands_2_43 ⟨(Nat.le_of_ble_eq_true rfl), (Nat.le_of_ble_eq_true rfl)⟩ rfl) (fun H locs hH => ?_)
      refine lv_if_ne (tgt := 64) hx hb dX1_stands_2_46 (by decide) (fun c17 => ?_) (fun c17 => ?_)
      · have hf := in_ c17 hf
        refine lv_iconst (v := 1) hx hb dX1_stands_2_64 (by decide) ?_
        refine lv_goto (tgt := 69) hx hb dX1_stands_2_65 (by decide) ?_
        cases hf
        exact rt_b (b := true) hx hb hr hlk hH dX1_stands_2_69
      · have hf := ip_ c17 hf
        refine lv_aload_n hx hb dX1_stands_2_49 rfl (lv_at hl 0 rfl) ?_
        obtain ⟨v12, ev12, hf⟩ := bs_ hf
        refine mg_gR hx hb hts hown hKn hH ev12 in_X1 rfl (by decide) (hts _ q939) (fun _ h9 => h9) dX1_stands_2_50 ?_
        refine lv_iconst (v := 0) hx hb dX1_stands_2_53 (by decide) ?_
        refine lv_bipush (v := 8) hx hb dX1_stands_2_54 (by decide) ?_
        refine lv_iload_n hx hb dX1_stands_2_56 rfl (lv_at hl 2 rfl) ?_
        refine lv_isub hx hb dX1_stands_2_57 ?_
        obtain ⟨u13, eu13, hf⟩ := bs_ hf
        obtain ⟨r14, M15, er14, hf⟩ := bws_ hf
        refine cl_i0 hH (rn_V ⟨hx, hb, hml, hown, hts⟩ hKn hH (mX2_hits l G M11 n v12 0 (8 - a2) r14 M15 er14) (cwV 2 hts (lw_V q411 q412 q413 q68 q414) rfl rfl rfl ⟨rfl, kdX2_hits⟩ ⟨Nat.le_of_ble_eq_true rfl, Nat.le_of_ble_eq_true rfl⟩) eu13 rfl rfl hl.1 (Nat.le_of_ble_eq_true rfl) dX1_stands_2_58 ⟨(Nat.le_of_ble_eq_true rfl), (Nat.le_of_ble_eq_true rfl)⟩ rfl) (fun H locs hH => ?_)
        refine lv_if_ne (tgt := 68) hx hb dX1_stands_2_61 (by decide) (fun c16 => ?_) (fun c16 => ?_)
        · have hf := in_ c16 hf
          refine lv_iconst (v := 0) hx hb dX1_stands_2_68 (by decide) ?_
          cases hf
          exact rt_b (b := false) hx hb hr hlk hH dX1_stands_2_69
        · have hf := ip_ c16 hf
          refine lv_iconst (v := 1) hx hb dX1_stands_2_64 (by decide) ?_
          refine lv_goto (tgt := 69) hx hb dX1_stands_2_65 (by decide) ?_
          cases hf
          exact rt_b (b := true) hx hb hr hlk hH dX1_stands_2_69
    · have hf := in_ c18 hf
      refine lv_iconst (v := 0) hx hb dX1_stands_2_35 (by decide) ?_
      cases hf
      exact rt_b (b := false) hx hb hr hlk hH dX1_stands_2_36
  · have hf := ip_ c37 hf
    refine lv_aload_n hx hb dX1_stands_2_11 rfl (lv_at hl 0 rfl) ?_
    obtain ⟨v19, ev19, hf⟩ := bs_ hf
    refine mg_gR hx hb hts hown hKn hH ev19 in_X1 rfl (by decide) (hts _ q939) (fun _ h9 => h9) dX1_stands_2_12 ?_
    refine lv_iconst (v := 2) hx hb dX1_stands_2_15 (by decide) ?_
    refine lv_iconst (v := 2) hx hb dX1_stands_2_16 (by decide) ?_
    refine lv_iload_n hx hb dX1_stands_2_17 rfl (lv_at hl 1 rfl) ?_
    refine lv_imul hx hb dX1_stands_2_18 ?_
    refine lv_isub hx hb dX1_stands_2_19 ?_
    refine lv_topi (fun v20 ev20 => ?_)
    have hf := lu_ ev20 hf
    obtain ⟨M21, eM21, hf⟩ := bs_ hf
    refine mg_pF hx hb hts hown hKn hH eM21 in_X2 tyX2_ok nmX2 rfl (by decide) (hts _ q892) (fun _ h9 => h9) rfl rfl rfl dX1_stands_2_20 (fun H locs hH => ?_)
    refine lv_aload_n hx hb dX1_stands_2_23 rfl (lv_at hl 0 rfl) ?_
    obtain ⟨v22, ev22, hf⟩ := bs_ hf
    refine mg_gR hx hb hts hown hKn hH ev22 in_X1 rfl (by decide) (hts _ q939) (fun _ h9 => h9) dX1_stands_2_24 ?_
    refine lv_iconst (v := 0) hx hb dX1_stands_2_27 (by decide) ?_
    refine lv_iload_n hx hb dX1_stands_2_28 rfl (lv_at hl 2 rfl) ?_
    obtain ⟨u23, eu23, hf⟩ := bs_ hf
    obtain ⟨r24, M25, er24, hf⟩ := bws_ hf
    refine cl_i0 hH (rn_V ⟨hx, hb, hml, hown, hts⟩ hKn hH (mX2_hits l G M21 n v22 0 a2 r24 M25 er24) (cwV 2 hts (lw_V q411 q412 q413 q68 q414) rfl rfl rfl ⟨rfl, kdX2_hits⟩ ⟨Nat.le_of_ble_eq_true rfl, Nat.le_of_ble_eq_true rfl⟩) eu23 rfl rfl hl.1 (Nat.le_of_ble_eq_true rfl) dX1_stands_2_29 ⟨(Nat.le_of_ble_eq_true rfl), (Nat.le_of_ble_eq_true rfl)⟩ rfl) (fun H locs hH => ?_)
    refine lv_if_eq (tgt := 37) hx hb dX1_stands_2_32 (by decide) (fun c36 => ?_) (fun c36 => ?_)
    · have hf := ip_ c36 hf
      refine lv_aload_n hx hb dX1_stands_2_37 rfl (lv_at hl 0 rfl) ?_
      obtain ⟨v26, ev26, hf⟩ := bs_ hf
      refine mg_gR hx hb hts hown hKn hH ev26 in_X1 rfl (by decide) (hts _ q939) (fun _ h9 => h9) dX1_stands_2_38 ?_
      refine lv_iconst (v := 0) hx hb dX1_stands_2_41 (by decide) ?_
      refine lv_iconst (v := 4) hx hb dX1_stands_2_42 (by decide) ?_
      obtain ⟨u27, eu27, hf⟩ := bs_ hf
      obtain ⟨r28, M29, er28, hf⟩ := bws_ hf
      refine cl_i0 hH (rn_V ⟨hx, hb, hml, hown, hts⟩ hKn hH (mX2_hits l G M25 n v26 0 4 r28 M29 er28) (cwV 2 hts (lw_V q411 q412 q413 q68 q414) rfl rfl rfl ⟨rfl, kdX2_hits⟩ ⟨Nat.le_of_ble_eq_true rfl, Nat.le_of_ble_eq_true rfl⟩) eu27 rfl rfl hl.1 (Nat.le_of_ble_eq_true rfl) dX1_stands_2_43 ⟨(Nat.le_of_ble_eq_true rfl), (Nat.le_of_ble_eq_true rfl)⟩ rfl) (fun H locs hH => ?_)
      refine lv_if_ne (tgt := 64) hx hb dX1_stands_2_46 (by decide) (fun c35 => ?_) (fun c35 => ?_)
      · have hf := in_ c35 hf
        refine lv_iconst (v := 1) hx hb dX1_stands_2_64 (by decide) ?_
        refine lv_goto (tgt := 69) hx hb dX1_stands_2_65 (by decide) ?_
        cases hf
        exact rt_b (b := true) hx hb hr hlk hH dX1_stands_2_69
      · have hf := ip_ c35 hf
        refine lv_aload_n hx hb dX1_stands_2_49 rfl (lv_at hl 0 rfl) ?_
        obtain ⟨v30, ev30, hf⟩ := bs_ hf
        refine mg_gR hx hb hts hown hKn hH ev30 in_X1 rfl (by decide) (hts _ q939) (fun _ h9 => h9) dX1_stands_2_50 ?_
        refine lv_iconst (v := 0) hx hb dX1_stands_2_53 (by decide) ?_
        refine lv_bipush (v := 8) hx hb dX1_stands_2_54 (by decide) ?_
        refine lv_iload_n hx hb dX1_stands_2_56 rfl (lv_at hl 2 rfl) ?_
        refine lv_isub hx hb dX1_stands_2_57 ?_
        obtain ⟨u31, eu31, hf⟩ := bs_ hf
        obtain ⟨r32, M33, er32, hf⟩ := bws_ hf
        refine cl_i0 hH (rn_V ⟨hx, hb, hml, hown, hts⟩ hKn hH (mX2_hits l G M29 n v30 0 (8 - a2) r32 M33 er32) (cwV 2 hts (lw_V q411 q412 q413 q68 q414) rfl rfl rfl ⟨rfl, kdX2_hits⟩ ⟨Nat.le_of_ble_eq_true rfl, Nat.le_of_ble_eq_true rfl⟩) eu31 rfl rfl hl.1 (Nat.le_of_ble_eq_true rfl) dX1_stands_2_58 ⟨(Nat.le_of_ble_eq_true rfl), (Nat.le_of_ble_eq_true rfl)⟩ rfl) (fun H locs hH => ?_)
        refine lv_if_ne (tgt := 68) hx hb dX1_stands_2_61 (by decide) (fun c34 => ?_) (fun c34 => ?_)
        · have hf := in_ c34 hf
          refine lv_iconst (v := 0) hx hb dX1_stands_2_68 (by decide) ?_
          cases hf
          exact rt_b (b := false) hx hb hr hlk hH dX1_stands_2_69
        · have hf := ip_ c34 hf
          refine lv_iconst (v := 1) hx hb dX1_stands_2_64 (by decide) ?_
          refine lv_goto (tgt := 69) hx hb dX1_stands_2_65 (by decide) ?_
          cases hf
          exact rt_b (b := true) hx hb hr hlk hH dX1_stands_2_69
    · have hf := in_ c36 hf
      refine lv_iconst (v := 0) hx hb dX1_stands_2_35 (by decide) ?_
      cases hf
      exact rt_b (b := false) hx hb hr hlk hH dX1_stands_2_36
def fX1_standsBy_L6 : Nat → Mem_ → Nat → Int32 → Int32 → Int32 → Int32 → Int32 → Option (Int32 × Mem_)
  | 0, _, _, _, _, _, _, _ => none
  | fuel + 1, M, x0, x1, x2, x3, x4, x5 =>
    if 9 ≤ x5 then
      some (x4, M)
    else
      (ck_ M x0 0).bind fun u1 =>
      (fX1_minds M x0).bind fun M3 =>
      if x2 = 0 then
        (gR_ M3 x0 0 2).bind fun v15 =>
        (gR_ M3 v15 1 4).bind fun v16 =>
        (sI_ M3 v16 0 x1 x3).bind fun M17 =>
        (ck_ M17 x0 0).bind fun u18 =>
        bw_ (fX1_stands_2 M17 x0 x1 x5) fun r19 M20 =>
        if (b2_ r19) = 0 then
          lt_ ((x4 + 0)) fun v21 =>
          lt_ (x5 + 1) fun v22 =>
          fX1_standsBy_L6 fuel M20 x0 x1 x2 x3 v21 v22
        else
          lt_ ((x4 + 1)) fun v23 =>
          lt_ (x5 + 1) fun v24 =>
          fX1_standsBy_L6 fuel M20 x0 x1 x2 x3 v23 v24
      else
        (gR_ M3 x0 0 2).bind fun v4 =>
        (gR_ M3 v4 1 5).bind fun v5 =>
        (sI_ M3 v5 0 x1 x3).bind fun M6 =>
        (ck_ M6 x0 0).bind fun u7 =>
        bw_ (fX1_stands_2 M6 x0 x1 x5) fun r8 M9 =>
        if (b2_ r8) = 0 then
          lt_ ((x4 + 0)) fun v10 =>
          lt_ (x5 + 1) fun v11 =>
          fX1_standsBy_L6 fuel M9 x0 x1 x2 x3 v10 v11
        else
          lt_ ((x4 + 1)) fun v12 =>
          lt_ (x5 + 1) fun v13 =>
          fX1_standsBy_L6 fuel M9 x0 x1 x2 x3 v12 v13
def fX1_standsBy (M : Mem_) (a0 : Nat) (a1 : Int32) (a2 : Int32) (a3 : Int32) : Option (Int32 × Mem_) :=
  fX1_standsBy_L6 1000 M a0 a1 a2 a3 0 0
theorem kdX1_standsBy : yX1_standsBy.cls ≠ "java/lang/invoke/MethodHandle" ∧ yX1_standsBy.cls ≠ "java/lang/invoke/VarHandle" ∧ (parseMethodDescriptor yX1_standsBy.desc).map (fun d => d.parameters.length) = some 3 := by decide +kernel
set_option maxHeartbeats 4000000 in
theorem mX1_standsBy (l : Launch) (G : GT_) (M : Mem_) (n : Nat) (a0 : Nat) (a1 : Int32) (a2 : Int32) (a3 : Int32) (r : Int32) (M1 : Mem_) (hf : fX1_standsBy M a0 a1 a2 a3 = some (r, M1)) : Ct_ G l yX1_standsBy (ws_ yX1_standsBy cX1_standsBy 6 (some .int)) ({ frames := 5, cells := 0, slots := 0, locals := 122 }) 0 0 [.ref a0, .int a1, .int a2, .int a3] M n (some (.int r)) M1 n := by
  refine en_ (by decide) (Nat.le_of_ble_eq_true rfl) ?_
  intro p e s m below meth c hx hb hr hlk hml hown hts hname hKn hH ls hl
  have hown : s.vm.findClass RX1 = some m.cls := hown
  have hl : lv_has ls 6 [(0, .ref a0), (1, .int a1), (2, .int a2), (3, .int a3)] := hl
  have w6 : ∀ (fuel : Nat), ∀ (M : Mem_) (x0 : Nat) (x1 : Int32) (x2 : Int32) (x3 : Int32) (x4 : Int32) (x5 : Int32) (H : Heap) (locs : List Loc) (ls : Array Slot), St_ G n M s H locs → lv_has ls 6 [(0, .ref x0), (1, .int x1), (2, .int x2), (3, .int x3), (4, .int x4), (5, .int x5)] → fX1_standsBy_L6 fuel M x0 x1 x2 x3 x4 x5 = some (r, M1) → W p l e ({ frames := 5, cells := 0, slots := 0, locals := 122 } : Room) s m ([.ref a0, .int a1, .int a2, .int a3] : List Value).toArray below meth c H locs 0 0 (MQ below (Qc_ G (some (.int r)) M1 n) ([.ref a0, .int a1, .int a2, .int a3] : List Value).toArray s 0 0 (fun q => G.1 ≤ q)) (F0 m 6 ls []) := by
    intro fuel
    induction fuel with
    | zero =>
      intro M x0 x1 x2 x3 x4 x5 H locs ls hH hl hf
      cases hf
    | succ fuel ih =>
      intro M x0 x1 x2 x3 x4 x5 H locs ls hH hl hf
      unfold fX1_standsBy_L6 at hf
      refine lv_iload hx hb dX1_standsBy_6 (lv_at hl 5 rfl) ?_
      refine lv_bipush (v := 9) hx hb dX1_standsBy_8 (by decide) ?_
      refine lv_icmp_ge (tgt := 70) hx hb dX1_standsBy_10 (by decide) (fun c27 => ?_) (fun c27 => ?_)
      · have hf := ip_ c27 hf
        refine lv_iload hx hb dX1_standsBy_70 (lv_at hl 4 rfl) ?_
        cases hf
        exact rt_i hx hb hr hlk hH dX1_standsBy_72
      · have hf := in_ c27 hf
        refine lv_aload_n hx hb dX1_standsBy_13 rfl (lv_at hl 0 rfl) ?_
        obtain ⟨u1, eu1, hf⟩ := bs_ hf
        obtain ⟨M3, er2, hf⟩ := bs_ hf
        refine cl_v0 hH (rn_V ⟨hx, hb, hml, hown, hts⟩ hKn hH (mX1_minds l G M n x0 M3 er2) (cwV 0 hts (lw_V q662 q664 qs22 q67 q665) rfl rfl rfl ⟨rfl, kdX1_minds⟩ ⟨Nat.le_of_ble_eq_true rfl, Nat.le_of_ble_eq_true rfl⟩) eu1 rfl rfl hl.1 (Nat.le_of_ble_eq_true rfl) dX1_standsBy_14 ⟨(Nat.le_of_ble_eq_true rfl), (Nat.le_of_ble_eq_true rfl)⟩ rfl) (fun H locs hH => ?_)
        refine lv_iload_n hx hb dX1_standsBy_17 rfl (lv_at hl 2 rfl) ?_
        refine lv_if_ne (tgt := 34) hx hb dX1_standsBy_18 (by decide) (fun c26 => ?_) (fun c26 => ?_)
        · have hf := in_ c26 hf
          refine lv_aload_n hx hb dX1_standsBy_34 rfl (lv_at hl 0 rfl) ?_
          obtain ⟨v4, ev4, hf⟩ := bs_ hf
          refine mg_gR hx hb hts hown hKn hH ev4 in_X1 rfl (by decide) (hts _ q939) (fun _ h9 => h9) dX1_standsBy_35 ?_
          obtain ⟨v5, ev5, hf⟩ := bs_ hf
          refine mg_gR hx hb hts hown hKn hH ev5 in_X2 rfl (by decide) (hts _ q882) (fun _ h9 => h9) dX1_standsBy_38 ?_
          refine lv_iload_n hx hb dX1_standsBy_41 rfl (lv_at hl 1 rfl) ?_
          refine lv_iload_n hx hb dX1_standsBy_42 rfl (lv_at hl 3 rfl) ?_
          obtain ⟨M6, eM6, hf⟩ := bs_ hf
          refine mg_iast hx hb hKn hH eM6 dX1_standsBy_43 (fun H locs hH => ?_)
          refine lv_iload hx hb dX1_standsBy_44 (lv_at hl 4 rfl) ?_
          refine lv_aload_n hx hb dX1_standsBy_46 rfl (lv_at hl 0 rfl) ?_
          refine lv_iload_n hx hb dX1_standsBy_47 rfl (lv_at hl 1 rfl) ?_
          refine lv_iload hx hb dX1_standsBy_48 (lv_at hl 5 rfl) ?_
          obtain ⟨u7, eu7, hf⟩ := bs_ hf
          obtain ⟨r8, M9, er8, hf⟩ := bws_ hf
          refine cl_i0 hH (rn_V ⟨hx, hb, hml, hown, hts⟩ hKn hH (mX1_stands_2 l G M6 n x0 x1 x5 r8 M9 er8) (cwV 2 hts (lw_V q716 q718 qs28 q67 q719) rfl rfl rfl ⟨rfl, kdX1_stands_2⟩ ⟨Nat.le_of_ble_eq_true rfl, Nat.le_of_ble_eq_true rfl⟩) eu7 rfl rfl hl.1 (Nat.le_of_ble_eq_true rfl) dX1_standsBy_50 ⟨(Nat.le_of_ble_eq_true rfl), (Nat.le_of_ble_eq_true rfl)⟩ rfl) (fun H locs hH => ?_)
          refine lv_if_eq (tgt := 60) hx hb dX1_standsBy_53 (by decide) (fun c14 => ?_) (fun c14 => ?_)
          · have hf := ip_ c14 hf
            refine lv_iconst (v := 0) hx hb dX1_standsBy_60 (by decide) ?_
            refine lv_iadd hx hb dX1_standsBy_61 ?_
            refine lv_topi (fun v10 ev10 => ?_)
            have hf := lu_ ev10 hf
            refine lv_istore (lv' := [(4, .int v10), (0, .ref x0), (1, .int x1), (2, .int x2), (3, .int x3), (5, .int x5)]) hx hb dX1_standsBy_62 hl (by decide) rfl (fun ls hl => ?_)
            obtain ⟨v11, ev11⟩ : ∃ z : Int32, z = x5 + 1 := ⟨_, rfl⟩
            have hf := lu_ ev11 hf
            refine lv_iinc (v := v11) (lv' := [(5, .int v11), (4, .int v10), (0, .ref x0), (1, .int x1), (2, .int x2), (3, .int x3)]) hx hb dX1_standsBy_64 hl (k := 5) rfl (by rw [ev11]; rfl) (by decide) rfl (fun ls hl => ?_)
            refine lv_goto (tgt := 6) hx hb dX1_standsBy_67 (by decide) ?_
            exact ih M9 x0 x1 x2 x3 v10 v11 _ _ ls hH (lv_sub hl [2, 3, 4, 5, 1, 0] rfl) hf
          · have hf := in_ c14 hf
            refine lv_iconst (v := 1) hx hb dX1_standsBy_56 (by decide) ?_
            refine lv_goto (tgt := 61) hx hb dX1_standsBy_57 (by decide) ?_
            refine lv_iadd hx hb dX1_standsBy_61 ?_
            refine lv_topi (fun v12 ev12 => ?_)
            have hf := lu_ ev12 hf
            refine lv_istore (lv' := [(4, .int v12), (0, .ref x0), (1, .int x1), (2, .int x2), (3, .int x3), (5, .int x5)]) hx hb dX1_standsBy_62 hl (by decide) rfl (fun ls hl => ?_)
            obtain ⟨v13, ev13⟩ : ∃ z : Int32, z = x5 + 1 := ⟨_, rfl⟩
            have hf := lu_ ev13 hf
            refine lv_iinc (v := v13) (lv' := [(5, .int v13), (4, .int v12), (0, .ref x0), (1, .int x1), (2, .int x2), (3, .int x3)]) hx hb dX1_standsBy_64 hl (k := 5) rfl (by rw [ev13]; rfl) (by decide) rfl (fun ls hl => ?_)
            refine lv_goto (tgt := 6) hx hb dX1_standsBy_67 (by decide) ?_
            exact ih M9 x0 x1 x2 x3 v12 v13 _ _ ls hH (lv_sub hl [2, 3, 4, 5, 1, 0] rfl) hf
        · have hf := ip_ c26 hf
          refine lv_aload_n hx hb dX1_standsBy_21 rfl (lv_at hl 0 rfl) ?_
          obtain ⟨v15, ev15, hf⟩ := bs_ hf
          refine mg_gR hx hb hts hown hKn hH ev15 in_X1 rfl (by decide) (hts _ q939) (fun _ h9 => h9) dX1_standsBy_22 ?_
          obtain ⟨v16, ev16, hf⟩ := bs_ hf
          refine mg_gR hx hb hts hown hKn hH ev16 in_X2 rfl (by decide) (hts _ q880) (fun _ h9 => h9) dX1_standsBy_25 ?_
          refine lv_iload_n hx hb dX1_standsBy_28 rfl (lv_at hl 1 rfl) ?_
          refine lv_iload_n hx hb dX1_standsBy_29 rfl (lv_at hl 3 rfl) ?_
          obtain ⟨M17, eM17, hf⟩ := bs_ hf
          refine mg_iast hx hb hKn hH eM17 dX1_standsBy_30 (fun H locs hH => ?_)
          refine lv_goto (tgt := 44) hx hb dX1_standsBy_31 (by decide) ?_
          refine lv_iload hx hb dX1_standsBy_44 (lv_at hl 4 rfl) ?_
          refine lv_aload_n hx hb dX1_standsBy_46 rfl (lv_at hl 0 rfl) ?_
          refine lv_iload_n hx hb dX1_standsBy_47 rfl (lv_at hl 1 rfl) ?_
          refine lv_iload hx hb dX1_standsBy_48 (lv_at hl 5 rfl) ?_
          obtain ⟨u18, eu18, hf⟩ := bs_ hf
          obtain ⟨r19, M20, er19, hf⟩ := bws_ hf
          refine cl_i0 hH (rn_V ⟨hx, hb, hml, hown, hts⟩ hKn hH (mX1_stands_2 l G M17 n x0 x1 x5 r19 M20 er19) (cwV 2 hts (lw_V q716 q718 qs28 q67 q719) rfl rfl rfl ⟨rfl, kdX1_stands_2⟩ ⟨Nat.le_of_ble_eq_true rfl, Nat.le_of_ble_eq_true rfl⟩) eu18 rfl rfl hl.1 (Nat.le_of_ble_eq_true rfl) dX1_standsBy_50 ⟨(Nat.le_of_ble_eq_true rfl), (Nat.le_of_ble_eq_true rfl)⟩ rfl) (fun H locs hH => ?_)
          refine lv_if_eq (tgt := 60) hx hb dX1_standsBy_53 (by decide) (fun c25 => ?_) (fun c25 => ?_)
          · have hf := ip_ c25 hf
            refine lv_iconst (v := 0) hx hb dX1_standsBy_60 (by decide) ?_
            refine lv_iadd hx hb dX1_standsBy_61 ?_
            refine lv_topi (fun v21 ev21 => ?_)
            have hf := lu_ ev21 hf
            refine lv_istore (lv' := [(4, .int v21), (0, .ref x0), (1, .int x1), (2, .int x2), (3, .int x3), (5, .int x5)]) hx hb dX1_standsBy_62 hl (by decide) rfl (fun ls hl => ?_)
            obtain ⟨v22, ev22⟩ : ∃ z : Int32, z = x5 + 1 := ⟨_, rfl⟩
            have hf := lu_ ev22 hf
            refine lv_iinc (v := v22) (lv' := [(5, .int v22), (4, .int v21), (0, .ref x0), (1, .int x1), (2, .int x2), (3, .int x3)]) hx hb dX1_standsBy_64 hl (k := 5) rfl (by rw [ev22]; rfl) (by decide) rfl (fun ls hl => ?_)
            refine lv_goto (tgt := 6) hx hb dX1_standsBy_67 (by decide) ?_
            exact ih M20 x0 x1 x2 x3 v21 v22 _ _ ls hH (lv_sub hl [2, 3, 4, 5, 1, 0] rfl) hf
          · have hf := in_ c25 hf
            refine lv_iconst (v := 1) hx hb dX1_standsBy_56 (by decide) ?_
            refine lv_goto (tgt := 61) hx hb dX1_standsBy_57 (by decide) ?_
            refine lv_iadd hx hb dX1_standsBy_61 ?_
            refine lv_topi (fun v23 ev23 => ?_)
            have hf := lu_ ev23 hf
            refine lv_istore (lv' := [(4, .int v23), (0, .ref x0), (1, .int x1), (2, .int x2), (3, .int x3), (5, .int x5)]) hx hb dX1_standsBy_62 hl (by decide) rfl (fun ls hl => ?_)
            obtain ⟨v24, ev24⟩ : ∃ z : Int32, z = x5 + 1 := ⟨_, rfl⟩
            have hf := lu_ ev24 hf
            refine lv_iinc (v := v24) (lv' := [(5, .int v24), (4, .int v23), (0, .ref x0), (1, .int x1), (2, .int x2), (3, .int x3)]) hx hb dX1_standsBy_64 hl (k := 5) rfl (by rw [ev24]; rfl) (by decide) rfl (fun ls hl => ?_)
            refine lv_goto (tgt := 6) hx hb dX1_standsBy_67 (by decide) ?_
            exact ih M20 x0 x1 x2 x3 v23 v24 _ _ ls hH (lv_sub hl [2, 3, 4, 5, 1, 0] rfl) hf
  unfold fX1_standsBy at hf
  refine lv_iconst (v := 0) hx hb dX1_standsBy_0 (by decide) ?_
  refine lv_istore (lv' := [(4, .int 0), (0, .ref a0), (1, .int a1), (2, .int a2), (3, .int a3)]) hx hb dX1_standsBy_1 hl (by decide) rfl (fun ls hl => ?_)
  refine lv_iconst (v := 0) hx hb dX1_standsBy_3 (by decide) ?_
  refine lv_istore (lv' := [(5, .int 0), (4, .int 0), (0, .ref a0), (1, .int a1), (2, .int a2), (3, .int a3)]) hx hb dX1_standsBy_4 hl (by decide) rfl (fun ls hl => ?_)
  exact w6 1000 M a0 a1 a2 a3 0 0 _ _ ls hH (lv_sub hl [2, 3, 4, 5, 1, 0] rfl) hf
def fX1_bestOf_L6 : Nat → Mem_ → Nat → Int32 → Int32 → Int32 → Int32 → Int32 → Int32 → Option (Int32 × Mem_)
  | 0, _, _, _, _, _, _, _, _ => none
  | fuel + 1, M, x0, x1, x2, x3, x4, x5, x6 =>
    if x3 ≤ x6 then
      if x4 = 0 then
        some (x5, M)
      else
        (ck_ M x0 0).bind fun u1 =>
        bw_ (fX1_standsBy M x0 x1 x2 x5) fun r2 M3 =>
        some (r2, M3)
    else
      (ck_ M x0 0).bind fun u5 =>
      bw_ (fX1_standsBy M x0 x1 x2 x6) fun r6 M7 =>
      (ck_ M7 x0 0).bind fun u8 =>
      bw_ (fX1_standsBy M7 x0 x1 x2 x5) fun r9 M10 =>
      if r6 ≤ r9 then
        lt_ (x6 + 1) fun v11 =>
        fX1_bestOf_L6 fuel M10 x0 x1 x2 x3 x4 x5 v11
      else
        lt_ (x6 + 1) fun v12 =>
        fX1_bestOf_L6 fuel M10 x0 x1 x2 x3 x4 x6 v12
def fX1_bestOf (M : Mem_) (a0 : Nat) (a1 : Int32) (a2 : Int32) (a3 : Int32) (a4 : Int32) : Option (Int32 × Mem_) :=
  fX1_bestOf_L6 1000 M a0 a1 a2 a3 a4 0 1
theorem kdX1_bestOf : yX1_bestOf.cls ≠ "java/lang/invoke/MethodHandle" ∧ yX1_bestOf.cls ≠ "java/lang/invoke/VarHandle" ∧ (parseMethodDescriptor yX1_bestOf.desc).map (fun d => d.parameters.length) = some 4 := by decide +kernel
set_option maxHeartbeats 4000000 in
theorem mX1_bestOf (l : Launch) (G : GT_) (M : Mem_) (n : Nat) (a0 : Nat) (a1 : Int32) (a2 : Int32) (a3 : Int32) (a4 : Int32) (r : Int32) (M1 : Mem_) (hf : fX1_bestOf M a0 a1 a2 a3 a4 = some (r, M1)) : Ct_ G l yX1_bestOf (ws_ yX1_bestOf cX1_bestOf 7 (some .int)) ({ frames := 6, cells := 0, slots := 0, locals := 147 }) 0 0 [.ref a0, .int a1, .int a2, .int a3, .int a4] M n (some (.int r)) M1 n := by
  refine en_ (by decide) (Nat.le_of_ble_eq_true rfl) ?_
  intro p e s m below meth c hx hb hr hlk hml hown hts hname hKn hH ls hl
  have hown : s.vm.findClass RX1 = some m.cls := hown
  have hl : lv_has ls 7 [(0, .ref a0), (1, .int a1), (2, .int a2), (3, .int a3), (4, .int a4)] := hl
  have w6 : ∀ (fuel : Nat), ∀ (M : Mem_) (x0 : Nat) (x1 : Int32) (x2 : Int32) (x3 : Int32) (x4 : Int32) (x5 : Int32) (x6 : Int32) (H : Heap) (locs : List Loc) (ls : Array Slot), St_ G n M s H locs → lv_has ls 7 [(0, .ref x0), (1, .int x1), (2, .int x2), (3, .int x3), (4, .int x4), (5, .int x5), (6, .int x6)] → fX1_bestOf_L6 fuel M x0 x1 x2 x3 x4 x5 x6 = some (r, M1) → W p l e ({ frames := 6, cells := 0, slots := 0, locals := 147 } : Room) s m ([.ref a0, .int a1, .int a2, .int a3, .int a4] : List Value).toArray below meth c H locs 0 0 (MQ below (Qc_ G (some (.int r)) M1 n) ([.ref a0, .int a1, .int a2, .int a3, .int a4] : List Value).toArray s 0 0 (fun q => G.1 ≤ q)) (F0 m 6 ls []) := by
    intro fuel
    induction fuel with
    | zero =>
      intro M x0 x1 x2 x3 x4 x5 x6 H locs ls hH hl hf
      cases hf
    | succ fuel ih =>
      intro M x0 x1 x2 x3 x4 x5 x6 H locs ls hH hl hf
      unfold fX1_bestOf_L6 at hf
      refine lv_iload hx hb dX1_bestOf_6 (lv_at hl 6 rfl) ?_
      refine lv_iload_n hx hb dX1_bestOf_8 rfl (lv_at hl 3 rfl) ?_
      refine lv_icmp_ge (tgt := 46) hx hb dX1_bestOf_9 (by decide) (fun c14 => ?_) (fun c14 => ?_)
      · have hf := ip_ c14 hf
        refine lv_iload hx hb dX1_bestOf_46 (lv_at hl 4 rfl) ?_
        refine lv_if_eq (tgt := 62) hx hb dX1_bestOf_48 (by decide) (fun c4 => ?_) (fun c4 => ?_)
        · have hf := ip_ c4 hf
          refine lv_iload hx hb dX1_bestOf_62 (lv_at hl 5 rfl) ?_
          cases hf
          exact rt_i hx hb hr hlk hH dX1_bestOf_64
        · have hf := in_ c4 hf
          refine lv_aload_n hx hb dX1_bestOf_51 rfl (lv_at hl 0 rfl) ?_
          refine lv_iload_n hx hb dX1_bestOf_52 rfl (lv_at hl 1 rfl) ?_
          refine lv_iload_n hx hb dX1_bestOf_53 rfl (lv_at hl 2 rfl) ?_
          refine lv_iload hx hb dX1_bestOf_54 (lv_at hl 5 rfl) ?_
          obtain ⟨u1, eu1, hf⟩ := bs_ hf
          obtain ⟨r2, M3, er2, hf⟩ := bws_ hf
          refine cl_i0 hH (rn_V ⟨hx, hb, hml, hown, hts⟩ hKn hH (mX1_standsBy l G M n x0 x1 x2 x5 r2 M3 er2) (cwV 3 hts (lw_V q712 q714 qs27 q67 q715) rfl rfl rfl ⟨rfl, kdX1_standsBy⟩ ⟨Nat.le_of_ble_eq_true rfl, Nat.le_of_ble_eq_true rfl⟩) eu1 rfl rfl hl.1 (Nat.le_of_ble_eq_true rfl) dX1_bestOf_56 ⟨(Nat.le_of_ble_eq_true rfl), (Nat.le_of_ble_eq_true rfl)⟩ rfl) (fun H locs hH => ?_)
          refine lv_goto (tgt := 64) hx hb dX1_bestOf_59 (by decide) ?_
          cases hf
          exact rt_i hx hb hr hlk hH dX1_bestOf_64
      · have hf := in_ c14 hf
        refine lv_aload_n hx hb dX1_bestOf_12 rfl (lv_at hl 0 rfl) ?_
        refine lv_iload_n hx hb dX1_bestOf_13 rfl (lv_at hl 1 rfl) ?_
        refine lv_iload_n hx hb dX1_bestOf_14 rfl (lv_at hl 2 rfl) ?_
        refine lv_iload hx hb dX1_bestOf_15 (lv_at hl 6 rfl) ?_
        obtain ⟨u5, eu5, hf⟩ := bs_ hf
        obtain ⟨r6, M7, er6, hf⟩ := bws_ hf
        refine cl_i0 hH (rn_V ⟨hx, hb, hml, hown, hts⟩ hKn hH (mX1_standsBy l G M n x0 x1 x2 x6 r6 M7 er6) (cwV 3 hts (lw_V q712 q714 qs27 q67 q715) rfl rfl rfl ⟨rfl, kdX1_standsBy⟩ ⟨Nat.le_of_ble_eq_true rfl, Nat.le_of_ble_eq_true rfl⟩) eu5 rfl rfl hl.1 (Nat.le_of_ble_eq_true rfl) dX1_bestOf_17 ⟨(Nat.le_of_ble_eq_true rfl), (Nat.le_of_ble_eq_true rfl)⟩ rfl) (fun H locs hH => ?_)
        refine lv_aload_n hx hb dX1_bestOf_20 rfl (lv_at hl 0 rfl) ?_
        refine lv_iload_n hx hb dX1_bestOf_21 rfl (lv_at hl 1 rfl) ?_
        refine lv_iload_n hx hb dX1_bestOf_22 rfl (lv_at hl 2 rfl) ?_
        refine lv_iload hx hb dX1_bestOf_23 (lv_at hl 5 rfl) ?_
        obtain ⟨u8, eu8, hf⟩ := bs_ hf
        obtain ⟨r9, M10, er9, hf⟩ := bws_ hf
        refine cl_i0 hH (rn_V ⟨hx, hb, hml, hown, hts⟩ hKn hH (mX1_standsBy l G M7 n x0 x1 x2 x5 r9 M10 er9) (cwV 3 hts (lw_V q712 q714 qs27 q67 q715) rfl rfl rfl ⟨rfl, kdX1_standsBy⟩ ⟨Nat.le_of_ble_eq_true rfl, Nat.le_of_ble_eq_true rfl⟩) eu8 rfl rfl hl.1 (Nat.le_of_ble_eq_true rfl) dX1_bestOf_25 ⟨(Nat.le_of_ble_eq_true rfl), (Nat.le_of_ble_eq_true rfl)⟩ rfl) (fun H locs hH => ?_)
        refine lv_icmp_le (tgt := 36) hx hb dX1_bestOf_28 (by decide) (fun c13 => ?_) (fun c13 => ?_)
        · have hf := ip_ c13 hf
          refine lv_iload hx hb dX1_bestOf_36 (lv_at hl 5 rfl) ?_
          refine lv_istore (lv' := [(5, .int x5), (0, .ref x0), (1, .int x1), (2, .int x2), (3, .int x3), (4, .int x4), (6, .int x6)]) hx hb dX1_bestOf_38 hl (by decide) rfl (fun ls hl => ?_)
          obtain ⟨v11, ev11⟩ : ∃ z : Int32, z = x6 + 1 := ⟨_, rfl⟩
          have hf := lu_ ev11 hf
          refine lv_iinc (v := v11) (lv' := [(6, .int v11), (5, .int x5), (0, .ref x0), (1, .int x1), (2, .int x2), (3, .int x3), (4, .int x4)]) hx hb dX1_bestOf_40 hl (k := 6) rfl (by rw [ev11]; rfl) (by decide) rfl (fun ls hl => ?_)
          refine lv_goto (tgt := 6) hx hb dX1_bestOf_43 (by decide) ?_
          exact ih M10 x0 x1 x2 x3 x4 x5 v11 _ _ ls hH (lv_sub hl [2, 3, 4, 5, 6, 1, 0] rfl) hf
        · have hf := in_ c13 hf
          refine lv_iload hx hb dX1_bestOf_31 (lv_at hl 6 rfl) ?_
          refine lv_goto (tgt := 38) hx hb dX1_bestOf_33 (by decide) ?_
          refine lv_istore (lv' := [(5, .int x6), (0, .ref x0), (1, .int x1), (2, .int x2), (3, .int x3), (4, .int x4), (6, .int x6)]) hx hb dX1_bestOf_38 hl (by decide) rfl (fun ls hl => ?_)
          obtain ⟨v12, ev12⟩ : ∃ z : Int32, z = x6 + 1 := ⟨_, rfl⟩
          have hf := lu_ ev12 hf
          refine lv_iinc (v := v12) (lv' := [(6, .int v12), (5, .int x6), (0, .ref x0), (1, .int x1), (2, .int x2), (3, .int x3), (4, .int x4)]) hx hb dX1_bestOf_40 hl (k := 6) rfl (by rw [ev12]; rfl) (by decide) rfl (fun ls hl => ?_)
          refine lv_goto (tgt := 6) hx hb dX1_bestOf_43 (by decide) ?_
          exact ih M10 x0 x1 x2 x3 x4 x6 v12 _ _ ls hH (lv_sub hl [2, 3, 4, 5, 6, 1, 0] rfl) hf
  unfold fX1_bestOf at hf
  refine lv_iconst (v := 0) hx hb dX1_bestOf_0 (by decide) ?_
  refine lv_istore (lv' := [(5, .int 0), (0, .ref a0), (1, .int a1), (2, .int a2), (3, .int a3), (4, .int a4)]) hx hb dX1_bestOf_1 hl (by decide) rfl (fun ls hl => ?_)
  refine lv_iconst (v := 1) hx hb dX1_bestOf_3 (by decide) ?_
  refine lv_istore (lv' := [(6, .int 1), (5, .int 0), (0, .ref a0), (1, .int a1), (2, .int a2), (3, .int a3), (4, .int a4)]) hx hb dX1_bestOf_4 hl (by decide) rfl (fun ls hl => ?_)
  exact w6 1000 M a0 a1 a2 a3 a4 0 1 _ _ ls hH (lv_sub hl [2, 3, 4, 5, 6, 1, 0] rfl) hf
def fX1_bestForm (M : Mem_) (a0 : Nat) (a1 : Int32) (a2 : Int32) : Option (Int32 × Mem_) :=
  lt_ (fX1_isIn a1 0 1) fun r1 =>
  if (b2_ r1) = 0 then
    some ((-1), M)
  else
    lt_ (fX1_isIn a2 0 1) fun r2 =>
    if (b2_ r2) = 0 then
      some ((-1), M)
    else
      (gR_ M a0 0 0).bind fun v3 =>
      (gI_ M v3 1 9).bind fun v4 =>
      if v4 = 0 then
        some ((-3), M)
      else
        if a2 = 1 then
          (ck_ M a0 0).bind fun u8 =>
          bw_ (fX1_bestOf M a0 a1 0 2 1) fun r9 M10 =>
          some (r9, M10)
        else
          (ck_ M a0 0).bind fun u5 =>
          bw_ (fX1_bestOf M a0 a1 0 2 0) fun r6 M7 =>
          some (r6, M7)
theorem kdX1_bestForm : yX1_bestForm.cls ≠ "java/lang/invoke/MethodHandle" ∧ yX1_bestForm.cls ≠ "java/lang/invoke/VarHandle" ∧ (parseMethodDescriptor yX1_bestForm.desc).map (fun d => d.parameters.length) = some 2 := by decide +kernel
set_option maxHeartbeats 4000000 in
theorem mX1_bestForm (l : Launch) (G : GT_) (M : Mem_) (n : Nat) (a0 : Nat) (a1 : Int32) (a2 : Int32) (r : Int32) (M1 : Mem_) (hf : fX1_bestForm M a0 a1 a2 = some (r, M1)) : Ct_ G l yX1_bestForm (ws_ yX1_bestForm cX1_bestForm 3 (some .int)) ({ frames := 7, cells := 0, slots := 0, locals := 173 }) 0 0 [.ref a0, .int a1, .int a2] M n (some (.int r)) M1 n := by
  refine en_ (by decide) (Nat.le_of_ble_eq_true rfl) ?_
  intro p e s m below meth c hx hb hr hlk hml hown hts hname hKn hH ls hl
  have hown : s.vm.findClass RX1 = some m.cls := hown
  have hl : lv_has ls 3 [(0, .ref a0), (1, .int a1), (2, .int a2)] := hl
  unfold fX1_bestForm at hf
  generalize s.heap = H at hH ⊢
  refine lv_iload_n hx hb dX1_bestForm_0 rfl (lv_at hl 1 rfl) ?_
  refine lv_iconst (v := 0) hx hb dX1_bestForm_1 (by decide) ?_
  refine lv_iconst (v := 1) hx hb dX1_bestForm_2 (by decide) ?_
  obtain ⟨r1, er1⟩ : ∃ z, z = fX1_isIn a1 0 1 := ⟨_, rfl⟩
  have hf := lu_ er1 hf
  refine cl_i0 hH (rn_S ⟨hx, hb, hml, hown, hts⟩ hKn hH (mX1_isIn l G M n a1 0 1 r1 er1.symm) (va_cwS 3 hts (lw_S q199 q200 q67 q201) rfl rfl rfl kdX1_isIn ⟨Nat.le_of_ble_eq_true rfl, Nat.le_of_ble_eq_true rfl⟩) rfl hl.1 (Nat.le_of_ble_eq_true rfl) dX1_bestForm_3 ⟨(Nat.le_of_ble_eq_true rfl), (Nat.le_of_ble_eq_true rfl)⟩ rfl) (fun H locs hH => ?_)
  refine lv_if_eq (tgt := 18) hx hb dX1_bestForm_6 (by decide) (fun c14 => ?_) (fun c14 => ?_)
  · have hf := ip_ c14 hf
    refine lv_iconst (v := (-1)) hx hb dX1_bestForm_18 (by decide) ?_
    cases hf
    exact rt_i hx hb hr hlk hH dX1_bestForm_19
  · have hf := in_ c14 hf
    refine lv_iload_n hx hb dX1_bestForm_9 rfl (lv_at hl 2 rfl) ?_
    refine lv_iconst (v := 0) hx hb dX1_bestForm_10 (by decide) ?_
    refine lv_iconst (v := 1) hx hb dX1_bestForm_11 (by decide) ?_
    obtain ⟨r2, er2⟩ : ∃ z, z = fX1_isIn a2 0 1 := ⟨_, rfl⟩
    have hf := lu_ er2 hf
    refine cl_i0 hH (rn_S ⟨hx, hb, hml, hown, hts⟩ hKn hH (mX1_isIn l G M n a2 0 1 r2 er2.symm) (va_cwS 3 hts (lw_S q199 q200 q67 q201) rfl rfl rfl kdX1_isIn ⟨Nat.le_of_ble_eq_true rfl, Nat.le_of_ble_eq_true rfl⟩) rfl hl.1 (Nat.le_of_ble_eq_true rfl) dX1_bestForm_12 ⟨(Nat.le_of_ble_eq_true rfl), (Nat.le_of_ble_eq_true rfl)⟩ rfl) (fun H locs hH => ?_)
    refine lv_if_ne (tgt := 20) hx hb dX1_bestForm_15 (by decide) (fun c13 => ?_) (fun c13 => ?_)
    · have hf := in_ c13 hf
      refine lv_aload_n hx hb dX1_bestForm_20 rfl (lv_at hl 0 rfl) ?_
      obtain ⟨v3, ev3, hf⟩ := bs_ hf
      refine mg_gR hx hb hts hown hKn hH ev3 in_X1 rfl (by decide) (hts _ q937) (fun _ h9 => h9) dX1_bestForm_21 ?_
      obtain ⟨v4, ev4, hf⟩ := bs_ hf
      refine mg_gI hx hb hts hown hKn hH ev4 in_X2 rfl (by decide) (hts _ q890) (fun _ h9 => h9) dX1_bestForm_24 ?_
      refine lv_if_ne (tgt := 35) hx hb dX1_bestForm_27 (by decide) (fun c12 => ?_) (fun c12 => ?_)
      · have hf := in_ c12 hf
        refine lv_aload_n hx hb dX1_bestForm_35 rfl (lv_at hl 0 rfl) ?_
        refine lv_iload_n hx hb dX1_bestForm_36 rfl (lv_at hl 1 rfl) ?_
        refine lv_iconst (v := 0) hx hb dX1_bestForm_37 (by decide) ?_
        refine lv_iconst (v := 2) hx hb dX1_bestForm_38 (by decide) ?_
        refine lv_iload_n hx hb dX1_bestForm_39 rfl (lv_at hl 2 rfl) ?_
        refine lv_iconst (v := 1) hx hb dX1_bestForm_40 (by decide) ?_
        refine lv_icmp_ne (tgt := 48) hx hb dX1_bestForm_41 (by decide) (fun c11 => ?_) (fun c11 => ?_)
        · have hf := in_ c11 hf
          refine lv_iconst (v := 0) hx hb dX1_bestForm_48 (by decide) ?_
          obtain ⟨u5, eu5, hf⟩ := bs_ hf
          obtain ⟨r6, M7, er6, hf⟩ := bws_ hf
          refine cl_i0 hH (rn_V ⟨hx, hb, hml, hown, hts⟩ hKn hH (mX1_bestOf l G M n a0 a1 0 2 0 r6 M7 er6) (cwV 4 hts (lw_V q708 q710 qs26 q67 q711) rfl rfl rfl ⟨rfl, kdX1_bestOf⟩ ⟨Nat.le_of_ble_eq_true rfl, Nat.le_of_ble_eq_true rfl⟩) eu5 rfl rfl hl.1 (Nat.le_of_ble_eq_true rfl) dX1_bestForm_49 ⟨(Nat.le_of_ble_eq_true rfl), (Nat.le_of_ble_eq_true rfl)⟩ rfl) (fun H locs hH => ?_)
          cases hf
          exact rt_i hx hb hr hlk hH dX1_bestForm_52
        · have hf := ip_ c11 hf
          refine lv_iconst (v := 1) hx hb dX1_bestForm_44 (by decide) ?_
          refine lv_goto (tgt := 49) hx hb dX1_bestForm_45 (by decide) ?_
          obtain ⟨u8, eu8, hf⟩ := bs_ hf
          obtain ⟨r9, M10, er9, hf⟩ := bws_ hf
          refine cl_i0 hH (rn_V ⟨hx, hb, hml, hown, hts⟩ hKn hH (mX1_bestOf l G M n a0 a1 0 2 1 r9 M10 er9) (cwV 4 hts (lw_V q708 q710 qs26 q67 q711) rfl rfl rfl ⟨rfl, kdX1_bestOf⟩ ⟨Nat.le_of_ble_eq_true rfl, Nat.le_of_ble_eq_true rfl⟩) eu8 rfl rfl hl.1 (Nat.le_of_ble_eq_true rfl) dX1_bestForm_49 ⟨(Nat.le_of_ble_eq_true rfl), (Nat.le_of_ble_eq_true rfl)⟩ rfl) (fun H locs hH => ?_)
          cases hf
          exact rt_i hx hb hr hlk hH dX1_bestForm_52
      · have hf := ip_ c12 hf
        refine lv_bipush (v := (-3)) hx hb dX1_bestForm_30 (by decide) ?_
        refine lv_goto (tgt := 52) hx hb dX1_bestForm_32 (by decide) ?_
        cases hf
        exact rt_i hx hb hr hlk hH dX1_bestForm_52
    · have hf := ip_ c13 hf
      refine lv_iconst (v := (-1)) hx hb dX1_bestForm_18 (by decide) ?_
      cases hf
      exact rt_i hx hb hr hlk hH dX1_bestForm_19
