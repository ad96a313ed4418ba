set_option maxRecDepth 100000
def fX4_blows (M : Mem_) (a0 : Nat) (a1 : Int32) : Option (Int32 × Mem_) :=
  lt_ (fX4_isIn a1 0 2) fun r1 =>
  if (b2_ r1) = 0 then
    some ((-1), M)
  else
    (gR_ M a0 3 0).bind fun v2 =>
    (aI_ M v2 0 3).bind fun v3 =>
    lt_ ((v3 + 1)) fun v4 =>
    (gR_ M a0 3 0).bind fun v5 =>
    (sI_ M v5 0 3 (a1 - 1)).bind fun M6 =>
    some (v4, M6)
theorem kdX4_blows : yX4_blows.cls ≠ "java/lang/invoke/MethodHandle" ∧ yX4_blows.cls ≠ "java/lang/invoke/VarHandle" ∧ (parseMethodDescriptor yX4_blows.desc).map (fun d => d.parameters.length) = some 1 := by decide +kernel
set_option maxHeartbeats 4000000 in
theorem mX4_blows (l : Launch) (G : GT_) (M : Mem_) (n : Nat) (a0 : Nat) (a1 : Int32) (r : Int32) (M1 : Mem_) (hf : fX4_blows M a0 a1 = some (r, M1)) : Ct_ G l yX4_blows (ws_ yX4_blows cX4_blows 3 (some .int)) ({ frames := 1, cells := 0, slots := 0, locals := 22 }) 0 0 [.ref a0, .int a1] M n (some (.int r)) M1 n := by
  refine en_ (by decide) (Nat.le_of_ble_eq_true rfl) ?_
  intro p e s m below meth c hx hb hr hlk hml hown hts hname hKn hH ls hl
  have hown : s.vm.findClass RX4 = some m.cls := hown
  have hl : lv_has ls 3 [(0, .ref a0), (1, .int a1)] := hl
  unfold fX4_blows at hf
  generalize s.heap = H at hH ⊢
  refine lv_iload_n hx hb dX4_blows_0 rfl (lv_at hl 1 rfl) ?_
  refine lv_iconst (v := 0) hx hb dX4_blows_1 (by decide) ?_
  refine lv_iconst (v := 2) hx hb dX4_blows_2 (by decide) ?_
  obtain ⟨r1, er1⟩ : ∃ z, z = fX4_isIn a1 0 2 := ⟨_, rfl⟩
  have hf := lu_ er1 hf
  refine cl_i0 hH (rn_S ⟨hx, hb, hml, hown, hts⟩ hKn hH (mX4_isIn l G M n a1 0 2 r1 er1.symm) (va_cwS 3 hts (lw_S q1248 q1249 q70 q1250) rfl rfl rfl kdX4_isIn ⟨Nat.le_of_ble_eq_true rfl, Nat.le_of_ble_eq_true rfl⟩) rfl hl.1 (Nat.le_of_ble_eq_true rfl) dX4_blows_3 ⟨(Nat.le_of_ble_eq_true rfl), (Nat.le_of_ble_eq_true rfl)⟩ rfl) (fun H locs hH => ?_)
  refine lv_if_ne (tgt := 11) hx hb dX4_blows_6 (by decide) (fun c7 => ?_) (fun c7 => ?_)
  · have hf := in_ c7 hf
    refine lv_aload_n hx hb dX4_blows_11 rfl (lv_at hl 0 rfl) ?_
    obtain ⟨v2, ev2, hf⟩ := bs_ hf
    refine mg_gR hx hb hts hown hKn hH ev2 in_X4 rfl (by decide) (hts _ q1176) (fun _ h9 => h9) dX4_blows_12 ?_
    refine lv_iconst (v := 3) hx hb dX4_blows_15 (by decide) ?_
    obtain ⟨v3, ev3, hf⟩ := bs_ hf
    refine mg_iald hx hb hKn hH ev3 dX4_blows_16 ?_
    refine lv_iconst (v := 1) hx hb dX4_blows_17 (by decide) ?_
    refine lv_iadd hx hb dX4_blows_18 ?_
    refine lv_topi (fun v4 ev4 => ?_)
    have hf := lu_ ev4 hf
    refine lv_istore_n (lv' := [(2, .int v4), (0, .ref a0), (1, .int a1)]) hx hb dX4_blows_19 rfl hl (by decide) rfl (fun ls hl => ?_)
    refine lv_aload_n hx hb dX4_blows_20 rfl (lv_at hl 1 rfl) ?_
    obtain ⟨v5, ev5, hf⟩ := bs_ hf
    refine mg_gR hx hb hts hown hKn hH ev5 in_X4 rfl (by decide) (hts _ q1176) (fun _ h9 => h9) dX4_blows_21 ?_
    refine lv_iconst (v := 3) hx hb dX4_blows_24 (by decide) ?_
    refine lv_iload_n hx hb dX4_blows_25 rfl (lv_at hl 2 rfl) ?_
    refine lv_iconst (v := 1) hx hb dX4_blows_26 (by decide) ?_
    refine lv_isub hx hb dX4_blows_27 ?_
    obtain ⟨M6, eM6, hf⟩ := bs_ hf
    refine mg_iast hx hb hKn hH eM6 dX4_blows_28 (fun H locs hH => ?_)
    refine lv_iload_n hx hb dX4_blows_29 rfl (lv_at hl 0 rfl) ?_
    cases hf
    exact rt_i hx hb hr hlk hH dX4_blows_30
  · have hf := ip_ c7 hf
    refine lv_iconst (v := (-1)) hx hb dX4_blows_9 (by decide) ?_
    cases hf
    exact rt_i hx hb hr hlk hH dX4_blows_10
def fX4_hit (M : Mem_) (a0 : Nat) (a1 : Int32) (a2 : Int32) : Option (Int32 × Mem_) :=
  (ck_ M a0 3).bind fun u1 =>
  (fX4_isStroke M a0 a1).bind fun r2 =>
  if (b2_ r2) = 0 then
    some ((-1), M)
  else
    lt_ (fX4_isCell a2) fun r3 =>
    if (b2_ r3) = 0 then
      some ((-1), M)
    else
      (ck_ M a0 3).bind fun u4 =>
      (fX4_isOver M a0).bind fun r5 =>
      if (b2_ r5) = 0 then
        (gR_ M a0 3 0).bind fun v6 =>
        (ck_ M a0 3).bind fun u7 =>
        bw_ (fX4_hits M a0 v6 a1 a2) fun r8 M9 =>
        (gR_ M9 a0 3 0).bind fun v10 =>
        (aI_ M9 v10 0 2).bind fun v11 =>
        some (v11, M9)
      else
        some ((-3), M)
theorem kdX4_hit : yX4_hit.cls ≠ "java/lang/invoke/MethodHandle" ∧ yX4_hit.cls ≠ "java/lang/invoke/VarHandle" ∧ (parseMethodDescriptor yX4_hit.desc).map (fun d => d.parameters.length) = some 2 := by decide +kernel
set_option maxHeartbeats 4000000 in
theorem mX4_hit (l : Launch) (G : GT_) (M : Mem_) (n : Nat) (a0 : Nat) (a1 : Int32) (a2 : Int32) (r : Int32) (M1 : Mem_) (hf : fX4_hit M a0 a1 a2 = some (r, M1)) : Ct_ G l yX4_hit (ws_ yX4_hit cX4_hit 4 (some .int)) ({ frames := 4, cells := 0, slots := 0, locals := 99 }) 0 0 [.ref a0, .int a1, .int a2] M n (some (.int r)) M1 n := by
  refine en_ (by decide) (Nat.le_of_ble_eq_true rfl) ?_
  intro p e s m below meth c hx hb hr hlk hml hown hts hname hKn hH ls hl
  have hown : s.vm.findClass RX4 = some m.cls := hown
  have hl : lv_has ls 4 [(0, .ref a0), (1, .int a1), (2, .int a2)] := hl
  unfold fX4_hit at hf
  generalize s.heap = H at hH ⊢
  refine lv_aload_n hx hb dX4_hit_0 rfl (lv_at hl 0 rfl) ?_
  refine lv_iload_n hx hb dX4_hit_1 rfl (lv_at hl 1 rfl) ?_
  obtain ⟨u1, eu1, hf⟩ := bs_ hf
  obtain ⟨r2, er2, hf⟩ := bs_ hf
  refine cl_i0 hH (rn_V ⟨hx, hb, hml, hown, hts⟩ hKn hH (mX4_isStroke l G M n a0 a1 r2 er2) (cwV 1 hts (lw_V q1283 q1285 qs44 q70 q1286) rfl rfl rfl ⟨rfl, kdX4_isStroke⟩ ⟨Nat.le_of_ble_eq_true rfl, Nat.le_of_ble_eq_true rfl⟩) eu1 rfl rfl hl.1 (Nat.le_of_ble_eq_true rfl) dX4_hit_2 ⟨(Nat.le_of_ble_eq_true rfl), (Nat.le_of_ble_eq_true rfl)⟩ rfl) (fun H locs hH => ?_)
  refine lv_if_eq (tgt := 15) hx hb dX4_hit_5 (by decide) (fun c14 => ?_) (fun c14 => ?_)
  · have hf := ip_ c14 hf
    refine lv_iconst (v := (-1)) hx hb dX4_hit_15 (by decide) ?_
    cases hf
    exact rt_i hx hb hr hlk hH dX4_hit_16
  · have hf := in_ c14 hf
    refine lv_iload_n hx hb dX4_hit_8 rfl (lv_at hl 2 rfl) ?_
    obtain ⟨r3, er3⟩ : ∃ z, z = fX4_isCell a2 := ⟨_, rfl⟩
    have hf := lu_ er3 hf
    refine cl_i0 hH (rn_S ⟨hx, hb, hml, hown, hts⟩ hKn hH (mX4_isCell l G M n a2 r3 er3.symm) (va_cwS 1 hts (lw_S q1280 q1281 q70 q1282) rfl rfl rfl kdX4_isCell ⟨Nat.le_of_ble_eq_true rfl, Nat.le_of_ble_eq_true rfl⟩) rfl hl.1 (Nat.le_of_ble_eq_true rfl) dX4_hit_9 ⟨(Nat.le_of_ble_eq_true rfl), (Nat.le_of_ble_eq_true rfl)⟩ rfl) (fun H locs hH => ?_)
    refine lv_if_ne (tgt := 17) hx hb dX4_hit_12 (by decide) (fun c13 => ?_) (fun c13 => ?_)
    · have hf := in_ c13 hf
      refine lv_aload_n hx hb dX4_hit_17 rfl (lv_at hl 0 rfl) ?_
      obtain ⟨u4, eu4, hf⟩ := bs_ hf
      obtain ⟨r5, er5, hf⟩ := bs_ hf
      refine cl_i0 hH (rn_V ⟨hx, hb, hml, hown, hts⟩ hKn hH (mX4_isOver l G M n a0 r5 er5) (cwV 0 hts (lw_V q1287 q1289 qs45 q70 q1290) rfl rfl rfl ⟨rfl, kdX4_isOver⟩ ⟨Nat.le_of_ble_eq_true rfl, Nat.le_of_ble_eq_true rfl⟩) eu4 rfl rfl hl.1 (Nat.le_of_ble_eq_true rfl) dX4_hit_18 ⟨(Nat.le_of_ble_eq_true rfl), (Nat.le_of_ble_eq_true rfl)⟩ rfl) (fun H locs hH => ?_)
      refine lv_if_eq (tgt := 27) hx hb dX4_hit_21 (by decide) (fun c12 => ?_) (fun c12 => ?_)
      · have hf := ip_ c12 hf
        refine lv_aload_n hx hb dX4_hit_27 rfl (lv_at hl 0 rfl) ?_
        refine lv_aload_n hx hb dX4_hit_28 rfl (lv_at hl 0 rfl) ?_
        obtain ⟨v6, ev6, hf⟩ := bs_ hf
        refine mg_gR hx hb hts hown hKn hH ev6 in_X4 rfl (by decide) (hts _ q1176) (fun _ h9 => h9) dX4_hit_29 ?_
        refine lv_iload_n hx hb dX4_hit_32 rfl (lv_at hl 1 rfl) ?_
        refine lv_iload_n hx hb dX4_hit_33 rfl (lv_at hl 2 rfl) ?_
        obtain ⟨u7, eu7, hf⟩ := bs_ hf
        obtain ⟨r8, M9, er8, hf⟩ := bws_ hf
        refine cl_i0 hH (rn_V ⟨hx, hb, hml, hown, hts⟩ hKn hH (mX4_hits l G M n a0 v6 a1 a2 r8 M9 er8) (cwV 3 hts (lw_V q1291 q1293 qs46 q70 q1294) rfl rfl rfl ⟨rfl, kdX4_hits⟩ ⟨Nat.le_of_ble_eq_true rfl, Nat.le_of_ble_eq_true rfl⟩) eu7 rfl rfl hl.1 (Nat.le_of_ble_eq_true rfl) dX4_hit_34 ⟨(Nat.le_of_ble_eq_true rfl), (Nat.le_of_ble_eq_true rfl)⟩ rfl) (fun H locs hH => ?_)
        refine lv_istore_n (lv' := [(3, .int (b2_ r8)), (0, .ref a0), (1, .int a1), (2, .int a2)]) hx hb dX4_hit_37 rfl hl (by decide) rfl (fun ls hl => ?_)
        refine lv_aload_n hx hb dX4_hit_38 rfl (lv_at hl 1 rfl) ?_
        obtain ⟨v10, ev10, hf⟩ := bs_ hf
        refine mg_gR hx hb hts hown hKn hH ev10 in_X4 rfl (by decide) (hts _ q1176) (fun _ h9 => h9) dX4_hit_39 ?_
        refine lv_iconst (v := 2) hx hb dX4_hit_42 (by decide) ?_
        obtain ⟨v11, ev11, hf⟩ := bs_ hf
        refine mg_iald hx hb hKn hH ev11 dX4_hit_43 ?_
        cases hf
        exact rt_i hx hb hr hlk hH dX4_hit_44
      · have hf := in_ c12 hf
        refine lv_bipush (v := (-3)) hx hb dX4_hit_24 (by decide) ?_
        cases hf
        exact rt_i hx hb hr hlk hH dX4_hit_26
    · have hf := ip_ c13 hf
      refine lv_iconst (v := (-1)) hx hb dX4_hit_15 (by decide) ?_
      cases hf
      exact rt_i hx hb hr hlk hH dX4_hit_16
def fX4_isHit (M : Mem_) (a0 : Nat) (a1 : Int32) (a2 : Int32) : Option Bool :=
  (ck_ M a0 3).bind fun u1 =>
  (fX4_isStroke M a0 a1).bind fun r2 =>
  if (b2_ r2) = 0 then
    some false
  else
    lt_ (fX4_isCell a2) fun r3 =>
    if (b2_ r3) = 0 then
      some false
    else
      some true
theorem kdX4_isHit : yX4_isHit.cls ≠ "java/lang/invoke/MethodHandle" ∧ yX4_isHit.cls ≠ "java/lang/invoke/VarHandle" ∧ (parseMethodDescriptor yX4_isHit.desc).map (fun d => d.parameters.length) = some 2 := by decide +kernel
set_option maxHeartbeats 4000000 in
theorem mX4_isHit (l : Launch) (G : GT_) (M : Mem_) (n : Nat) (a0 : Nat) (a1 : Int32) (a2 : Int32) (r : Bool) (hf : fX4_isHit M a0 a1 a2 = some r) : Ct_ G l yX4_isHit (ws_ yX4_isHit cX4_isHit 3 (some .boolean)) ({ frames := 2, cells := 0, slots := 0, locals := 43 }) 0 0 [.ref a0, .int a1, .int a2] M n (some (.int (b2_ r))) M n := by
  refine en_ (by decide) (Nat.le_of_ble_eq_true rfl) ?_
  intro p e s m below meth c hx hb hr hlk hml hown hts hname hKn hH ls hl
  have hown : s.vm.findClass RX4 = some m.cls := hown
  have hl : lv_has ls 3 [(0, .ref a0), (1, .int a1), (2, .int a2)] := hl
  unfold fX4_isHit at hf
  generalize s.heap = H at hH ⊢
  refine lv_aload_n hx hb dX4_isHit_0 rfl (lv_at hl 0 rfl) ?_
  refine lv_iload_n hx hb dX4_isHit_1 rfl (lv_at hl 1 rfl) ?_
  obtain ⟨u1, eu1, hf⟩ := bs_ hf
  obtain ⟨r2, er2, hf⟩ := bs_ hf
  refine cl_i0 hH (rn_V ⟨hx, hb, hml, hown, hts⟩ hKn hH (mX4_isStroke l G M n a0 a1 r2 er2) (cwV 1 hts (lw_V q1283 q1285 qs44 q70 q1286) rfl rfl rfl ⟨rfl, kdX4_isStroke⟩ ⟨Nat.le_of_ble_eq_true rfl, Nat.le_of_ble_eq_true rfl⟩) eu1 rfl rfl hl.1 (Nat.le_of_ble_eq_true rfl) dX4_isHit_2 ⟨(Nat.le_of_ble_eq_true rfl), (Nat.le_of_ble_eq_true rfl)⟩ rfl) (fun H locs hH => ?_)
  refine lv_if_eq (tgt := 19) hx hb dX4_isHit_5 (by decide) (fun c5 => ?_) (fun c5 => ?_)
  · have hf := ip_ c5 hf
    refine lv_iconst (v := 0) hx hb dX4_isHit_19 (by decide) ?_
    cases hf
    exact rt_b (b := false) hx hb hr hlk hH dX4_isHit_20
  · have hf := in_ c5 hf
    refine lv_iload_n hx hb dX4_isHit_8 rfl (lv_at hl 2 rfl) ?_
    obtain ⟨r3, er3⟩ : ∃ z, z = fX4_isCell a2 := ⟨_, rfl⟩
    have hf := lu_ er3 hf
    refine cl_i0 hH (rn_S ⟨hx, hb, hml, hown, hts⟩ hKn hH (mX4_isCell l G M n a2 r3 er3.symm) (va_cwS 1 hts (lw_S q1280 q1281 q70 q1282) rfl rfl rfl kdX4_isCell ⟨Nat.le_of_ble_eq_true rfl, Nat.le_of_ble_eq_true rfl⟩) rfl hl.1 (Nat.le_of_ble_eq_true rfl) dX4_isHit_9 ⟨(Nat.le_of_ble_eq_true rfl), (Nat.le_of_ble_eq_true rfl)⟩ rfl) (fun H locs hH => ?_)
    refine lv_if_eq (tgt := 19) hx hb dX4_isHit_12 (by decide) (fun c4 => ?_) (fun c4 => ?_)
    · have hf := ip_ c4 hf
      refine lv_iconst (v := 0) hx hb dX4_isHit_19 (by decide) ?_
      cases hf
      exact rt_b (b := false) hx hb hr hlk hH dX4_isHit_20
    · have hf := in_ c4 hf
      refine lv_iconst (v := 1) hx hb dX4_isHit_15 (by decide) ?_
      refine lv_goto (tgt := 20) hx hb dX4_isHit_16 (by decide) ?_
      cases hf
      exact rt_b (b := true) hx hb hr hlk hH dX4_isHit_20
def fX4_otherSide (M : Mem_) (a0 : Nat) : Option Int32 :=
  (gR_ M a0 3 0).bind fun v1 =>
  (aI_ M v1 0 2).bind fun v2 =>
  lt_ (fX4_sideOf v2) fun r3 =>
  some (1 - r3)
theorem kdX4_otherSide : yX4_otherSide.cls ≠ "java/lang/invoke/MethodHandle" ∧ yX4_otherSide.cls ≠ "java/lang/invoke/VarHandle" ∧ (parseMethodDescriptor yX4_otherSide.desc).map (fun d => d.parameters.length) = some 0 := by decide +kernel
set_option maxHeartbeats 4000000 in
theorem mX4_otherSide (l : Launch) (G : GT_) (M : Mem_) (n : Nat) (a0 : Nat) (r : Int32) (hf : fX4_otherSide M a0 = some r) : Ct_ G l yX4_otherSide (ws_ yX4_otherSide cX4_otherSide 1 (some .int)) ({ frames := 1, cells := 0, slots := 0, locals := 20 }) 0 0 [.ref a0] M n (some (.int r)) M n := by
  refine en_ (by decide) (Nat.le_of_ble_eq_true rfl) ?_
  intro p e s m below meth c hx hb hr hlk hml hown hts hname hKn hH ls hl
  have hown : s.vm.findClass RX4 = some m.cls := hown
  have hl : lv_has ls 1 [(0, .ref a0)] := hl
  unfold fX4_otherSide at hf
  generalize s.heap = H at hH ⊢
  refine lv_iconst (v := 1) hx hb dX4_otherSide_0 (by decide) ?_
  refine lv_aload_n hx hb dX4_otherSide_1 rfl (lv_at hl 0 rfl) ?_
  obtain ⟨v1, ev1, hf⟩ := bs_ hf
  refine mg_gR hx hb hts hown hKn hH ev1 in_X4 rfl (by decide) (hts _ q1176) (fun _ h9 => h9) dX4_otherSide_2 ?_
  refine lv_iconst (v := 2) hx hb dX4_otherSide_5 (by decide) ?_
  obtain ⟨v2, ev2, hf⟩ := bs_ hf
  refine mg_iald hx hb hKn hH ev2 dX4_otherSide_6 ?_
  obtain ⟨r3, er3⟩ : ∃ z, z = fX4_sideOf v2 := ⟨_, rfl⟩
  have hf := lu_ er3 hf
  refine cl_i0 hH (rn_S ⟨hx, hb, hml, hown, hts⟩ hKn hH (mX4_sideOf l G M n v2 r3 er3.symm) (va_cwS 1 hts (lw_S q1295 q1296 q70 q1297) rfl rfl rfl kdX4_sideOf ⟨Nat.le_of_ble_eq_true rfl, Nat.le_of_ble_eq_true rfl⟩) rfl hl.1 (Nat.le_of_ble_eq_true rfl) dX4_otherSide_7 ⟨(Nat.le_of_ble_eq_true rfl), (Nat.le_of_ble_eq_true rfl)⟩ rfl) (fun H locs hH => ?_)
  refine lv_isub hx hb dX4_otherSide_10 ?_
  cases hf
  exact rt_i hx hb hr hlk hH dX4_otherSide_11
def fX4_whoseNow (M : Mem_) (a0 : Nat) (a1 : Int32) (a2 : Int32) : Option Int32 :=
  (gR_ M a0 3 0).bind fun v1 =>
  (ck_ M a0 3).bind fun u2 =>
  (fX4_otherSide M a0).bind fun r3 =>
  (gR_ M a0 3 0).bind fun v4 =>
  (fX4_fallsIn M v4 a1 a2).bind fun r5 =>
  (fX4_whoseIn M v1 r3 r5).bind fun r6 =>
  some r6
theorem kdX4_whoseNow : yX4_whoseNow.cls ≠ "java/lang/invoke/MethodHandle" ∧ yX4_whoseNow.cls ≠ "java/lang/invoke/VarHandle" ∧ (parseMethodDescriptor yX4_whoseNow.desc).map (fun d => d.parameters.length) = some 2 := by decide +kernel
set_option maxHeartbeats 4000000 in
theorem mX4_whoseNow (l : Launch) (G : GT_) (M : Mem_) (n : Nat) (a0 : Nat) (a1 : Int32) (a2 : Int32) (r : Int32) (hf : fX4_whoseNow M a0 a1 a2 = some r) : Ct_ G l yX4_whoseNow (ws_ yX4_whoseNow cX4_whoseNow 3 (some .int)) ({ frames := 3, cells := 0, slots := 0, locals := 69 }) 0 0 [.ref a0, .int a1, .int a2] M n (some (.int r)) M n := by
  refine en_ (by decide) (Nat.le_of_ble_eq_true rfl) ?_
  intro p e s m below meth c hx hb hr hlk hml hown hts hname hKn hH ls hl
  have hown : s.vm.findClass RX4 = some m.cls := hown
  have hl : lv_has ls 3 [(0, .ref a0), (1, .int a1), (2, .int a2)] := hl
  unfold fX4_whoseNow at hf
  generalize s.heap = H at hH ⊢
  refine lv_aload_n hx hb dX4_whoseNow_0 rfl (lv_at hl 0 rfl) ?_
  obtain ⟨v1, ev1, hf⟩ := bs_ hf
  refine mg_gR hx hb hts hown hKn hH ev1 in_X4 rfl (by decide) (hts _ q1176) (fun _ h9 => h9) dX4_whoseNow_1 ?_
  refine lv_aload_n hx hb dX4_whoseNow_4 rfl (lv_at hl 0 rfl) ?_
  obtain ⟨u2, eu2, hf⟩ := bs_ hf
  obtain ⟨r3, er3, hf⟩ := bs_ hf
  refine cl_i0 hH (rn_V ⟨hx, hb, hml, hown, hts⟩ hKn hH (mX4_otherSide l G M n a0 r3 er3) (cwV 0 hts (lw_V q1404 q1406 qs52 q70 q1407) rfl rfl rfl ⟨rfl, kdX4_otherSide⟩ ⟨Nat.le_of_ble_eq_true rfl, Nat.le_of_ble_eq_true rfl⟩) eu2 rfl rfl hl.1 (Nat.le_of_ble_eq_true rfl) dX4_whoseNow_5 ⟨(Nat.le_of_ble_eq_true rfl), (Nat.le_of_ble_eq_true rfl)⟩ rfl) (fun H locs hH => ?_)
  refine lv_aload_n hx hb dX4_whoseNow_8 rfl (lv_at hl 0 rfl) ?_
  obtain ⟨v4, ev4, hf⟩ := bs_ hf
  refine mg_gR hx hb hts hown hKn hH ev4 in_X4 rfl (by decide) (hts _ q1176) (fun _ h9 => h9) dX4_whoseNow_9 ?_
  refine lv_iload_n hx hb dX4_whoseNow_12 rfl (lv_at hl 1 rfl) ?_
  refine lv_iload_n hx hb dX4_whoseNow_13 rfl (lv_at hl 2 rfl) ?_
  obtain ⟨r5, er5, hf⟩ := bs_ hf
  refine cl_i0 hH (rn_S ⟨hx, hb, hml, hown, hts⟩ hKn hH (mX4_fallsIn l G M n v4 a1 a2 r5 er5) (va_cwS 3 hts (lw_S q1298 q1299 q70 q1300) rfl rfl rfl kdX4_fallsIn ⟨Nat.le_of_ble_eq_true rfl, Nat.le_of_ble_eq_true rfl⟩) rfl hl.1 (Nat.le_of_ble_eq_true rfl) dX4_whoseNow_14 ⟨(Nat.le_of_ble_eq_true rfl), (Nat.le_of_ble_eq_true rfl)⟩ rfl) (fun H locs hH => ?_)
  obtain ⟨r6, er6, hf⟩ := bs_ hf
  refine cl_i0 hH (rn_S ⟨hx, hb, hml, hown, hts⟩ hKn hH (mX4_whoseIn l G M n v1 r3 r5 r6 er6) (va_cwS 3 hts (lw_S q1307 q1308 q70 q1309) rfl rfl rfl kdX4_whoseIn ⟨Nat.le_of_ble_eq_true rfl, Nat.le_of_ble_eq_true rfl⟩) rfl hl.1 (Nat.le_of_ble_eq_true rfl) dX4_whoseNow_17 ⟨(Nat.le_of_ble_eq_true rfl), (Nat.le_of_ble_eq_true rfl)⟩ rfl) (fun H locs hH => ?_)
  cases hf
  exact rt_i hx hb hr hlk hH dX4_whoseNow_20
def fX4_whose (M : Mem_) (a0 : Nat) (a1 : Int32) (a2 : Int32) : Option Int32 :=
  (ck_ M a0 3).bind fun u1 =>
  (fX4_isHit M a0 a1 a2).bind fun r2 =>
  if (b2_ r2) = 0 then
    some (-1)
  else
    (ck_ M a0 3).bind fun u3 =>
    (fX4_whoseNow M a0 a1 a2).bind fun r4 =>
    some r4
theorem kdX4_whose : yX4_whose.cls ≠ "java/lang/invoke/MethodHandle" ∧ yX4_whose.cls ≠ "java/lang/invoke/VarHandle" ∧ (parseMethodDescriptor yX4_whose.desc).map (fun d => d.parameters.length) = some 2 := by decide +kernel
set_option maxHeartbeats 4000000 in
theorem mX4_whose (l : Launch) (G : GT_) (M : Mem_) (n : Nat) (a0 : Nat) (a1 : Int32) (a2 : Int32) (r : Int32) (hf : fX4_whose M a0 a1 a2 = some r) : Ct_ G l yX4_whose (ws_ yX4_whose cX4_whose 3 (some .int)) ({ frames := 4, cells := 0, slots := 0, locals := 91 }) 0 0 [.ref a0, .int a1, .int a2] M n (some (.int r)) M n := by
  refine en_ (by decide) (Nat.le_of_ble_eq_true rfl) ?_
  intro p e s m below meth c hx hb hr hlk hml hown hts hname hKn hH ls hl
  have hown : s.vm.findClass RX4 = some m.cls := hown
  have hl : lv_has ls 3 [(0, .ref a0), (1, .int a1), (2, .int a2)] := hl
  unfold fX4_whose at hf
  generalize s.heap = H at hH ⊢
  refine lv_aload_n hx hb dX4_whose_0 rfl (lv_at hl 0 rfl) ?_
  refine lv_iload_n hx hb dX4_whose_1 rfl (lv_at hl 1 rfl) ?_
  refine lv_iload_n hx hb dX4_whose_2 rfl (lv_at hl 2 rfl) ?_
  obtain ⟨u1, eu1, hf⟩ := bs_ hf
  obtain ⟨r2, er2, hf⟩ := bs_ hf
  refine cl_i0 hH (rn_V ⟨hx, hb, hml, hown, hts⟩ hKn hH (mX4_isHit l G M n a0 a1 a2 r2 er2) (cwV 2 hts (lw_V q1396 q1398 qs50 q70 q1399) rfl rfl rfl ⟨rfl, kdX4_isHit⟩ ⟨Nat.le_of_ble_eq_true rfl, Nat.le_of_ble_eq_true rfl⟩) eu1 rfl rfl hl.1 (Nat.le_of_ble_eq_true rfl) dX4_whose_3 ⟨(Nat.le_of_ble_eq_true rfl), (Nat.le_of_ble_eq_true rfl)⟩ rfl) (fun H locs hH => ?_)
  refine lv_if_eq (tgt := 18) hx hb dX4_whose_6 (by decide) (fun c5 => ?_) (fun c5 => ?_)
  · have hf := ip_ c5 hf
    refine lv_iconst (v := (-1)) hx hb dX4_whose_18 (by decide) ?_
    cases hf
    exact rt_i hx hb hr hlk hH dX4_whose_19
  · have hf := in_ c5 hf
    refine lv_aload_n hx hb dX4_whose_9 rfl (lv_at hl 0 rfl) ?_
    refine lv_iload_n hx hb dX4_whose_10 rfl (lv_at hl 1 rfl) ?_
    refine lv_iload_n hx hb dX4_whose_11 rfl (lv_at hl 2 rfl) ?_
    obtain ⟨u3, eu3, hf⟩ := bs_ hf
    obtain ⟨r4, er4, hf⟩ := bs_ hf
    refine cl_i0 hH (rn_V ⟨hx, hb, hml, hown, hts⟩ hKn hH (mX4_whoseNow l G M n a0 a1 a2 r4 er4) (cwV 2 hts (lw_V q1400 q1402 qs51 q70 q1403) rfl rfl rfl ⟨rfl, kdX4_whoseNow⟩ ⟨Nat.le_of_ble_eq_true rfl, Nat.le_of_ble_eq_true rfl⟩) eu3 rfl rfl hl.1 (Nat.le_of_ble_eq_true rfl) dX4_whose_12 ⟨(Nat.le_of_ble_eq_true rfl), (Nat.le_of_ble_eq_true rfl)⟩ rfl) (fun H locs hH => ?_)
    refine lv_goto (tgt := 19) hx hb dX4_whose_15 (by decide) ?_
    cases hf
    exact rt_i hx hb hr hlk hH dX4_whose_19
def fX4_isWon (M : Mem_) (a0 : Nat) (a1 : Int32) (a2 : Int32) : Option (Bool × Mem_) :=
  (gR_ M a0 3 0).bind fun v1 =>
  (gR_ M a0 3 1).bind fun v2 =>
  (fX4_copies M v1 v2).bind fun M4 =>
  (gR_ M4 a0 3 1).bind fun v5 =>
  (ck_ M4 a0 3).bind fun u6 =>
  bw_ (fX4_hits M4 a0 v5 a1 a2) fun r7 M8 =>
  some (r7, M8)
theorem kdX4_isWon : yX4_isWon.cls ≠ "java/lang/invoke/MethodHandle" ∧ yX4_isWon.cls ≠ "java/lang/invoke/VarHandle" ∧ (parseMethodDescriptor yX4_isWon.desc).map (fun d => d.parameters.length) = some 2 := by decide +kernel
set_option maxHeartbeats 4000000 in
theorem mX4_isWon (l : Launch) (G : GT_) (M : Mem_) (n : Nat) (a0 : Nat) (a1 : Int32) (a2 : Int32) (r : Bool) (M1 : Mem_) (hf : fX4_isWon M a0 a1 a2 = some (r, M1)) : Ct_ G l yX4_isWon (ws_ yX4_isWon cX4_isWon 3 (some .boolean)) ({ frames := 4, cells := 0, slots := 0, locals := 99 }) 0 0 [.ref a0, .int a1, .int a2] M n (some (.int (b2_ r))) M1 n := by
  refine en_ (by decide) (Nat.le_of_ble_eq_true rfl) ?_
  intro p e s m below meth c hx hb hr hlk hml hown hts hname hKn hH ls hl
  have hown : s.vm.findClass RX4 = some m.cls := hown
  have hl : lv_has ls 3 [(0, .ref a0), (1, .int a1), (2, .int a2)] := hl
  unfold fX4_isWon at hf
  generalize s.heap = H at hH ⊢
  refine lv_aload_n hx hb dX4_isWon_0 rfl (lv_at hl 0 rfl) ?_
  obtain ⟨v1, ev1, hf⟩ := bs_ hf
  refine mg_gR hx hb hts hown hKn hH ev1 in_X4 rfl (by decide) (hts _ q1176) (fun _ h9 => h9) dX4_isWon_1 ?_
  refine lv_aload_n hx hb dX4_isWon_4 rfl (lv_at hl 0 rfl) ?_
  obtain ⟨v2, ev2, hf⟩ := bs_ hf
  refine mg_gR hx hb hts hown hKn hH ev2 in_X4 rfl (by decide) (hts _ q1177) (fun _ h9 => h9) dX4_isWon_5 ?_
  obtain ⟨M4, er3, hf⟩ := bs_ hf
  refine cl_v0 hH (rn_S ⟨hx, hb, hml, hown, hts⟩ hKn hH (mX4_copies l G M n v1 v2 M4 er3) (va_cwS 2 hts (lw_S q1263 q1264 q70 q1265) rfl rfl rfl kdX4_copies ⟨Nat.le_of_ble_eq_true rfl, Nat.le_of_ble_eq_true rfl⟩) rfl hl.1 (Nat.le_of_ble_eq_true rfl) dX4_isWon_8 ⟨(Nat.le_of_ble_eq_true rfl), (Nat.le_of_ble_eq_true rfl)⟩ rfl) (fun H locs hH => ?_)
  refine lv_aload_n hx hb dX4_isWon_11 rfl (lv_at hl 0 rfl) ?_
  refine lv_aload_n hx hb dX4_isWon_12 rfl (lv_at hl 0 rfl) ?_
  obtain ⟨v5, ev5, hf⟩ := bs_ hf
  refine mg_gR hx hb hts hown hKn hH ev5 in_X4 rfl (by decide) (hts _ q1177) (fun _ h9 => h9) dX4_isWon_13 ?_
  refine lv_iload_n hx hb dX4_isWon_16 rfl (lv_at hl 1 rfl) ?_
  refine lv_iload_n hx hb dX4_isWon_17 rfl (lv_at hl 2 rfl) ?_
  obtain ⟨u6, eu6, hf⟩ := bs_ hf
  obtain ⟨r7, M8, er7, hf⟩ := bws_ hf
  refine cl_i0 hH (rn_V ⟨hx, hb, hml, hown, hts⟩ hKn hH (mX4_hits l G M4 n a0 v5 a1 a2 r7 M8 er7) (cwV 3 hts (lw_V q1291 q1293 qs46 q70 q1294) rfl rfl rfl ⟨rfl, kdX4_hits⟩ ⟨Nat.le_of_ble_eq_true rfl, Nat.le_of_ble_eq_true rfl⟩) eu6 rfl rfl hl.1 (Nat.le_of_ble_eq_true rfl) dX4_isWon_18 ⟨(Nat.le_of_ble_eq_true rfl), (Nat.le_of_ble_eq_true rfl)⟩ rfl) (fun H locs hH => ?_)
  cases hf
  exact rt_b (b := _) hx hb hr hlk hH dX4_isWon_21
def fX4_wins (M : Mem_) (a0 : Nat) (a1 : Int32) (a2 : Int32) : Option (Int32 × Mem_) :=
  (ck_ M a0 3).bind fun u1 =>
  (fX4_isHit M a0 a1 a2).bind fun r2 =>
  if (b2_ r2) = 0 then
    some ((-1), M)
  else
    (ck_ M a0 3).bind fun u3 =>
    bw_ (fX4_isWon M a0 a1 a2) fun r4 M5 =>
    if (b2_ r4) = 0 then
      some (0, M5)
    else
      some (1, M5)
theorem kdX4_wins : yX4_wins.cls ≠ "java/lang/invoke/MethodHandle" ∧ yX4_wins.cls ≠ "java/lang/invoke/VarHandle" ∧ (parseMethodDescriptor yX4_wins.desc).map (fun d => d.parameters.length) = some 2 := by decide +kernel
set_option maxHeartbeats 4000000 in
theorem mX4_wins (l : Launch) (G : GT_) (M : Mem_) (n : Nat) (a0 : Nat) (a1 : Int32) (a2 : Int32) (r : Int32) (M1 : Mem_) (hf : fX4_wins M a0 a1 a2 = some (r, M1)) : Ct_ G l yX4_wins (ws_ yX4_wins cX4_wins 3 (some .int)) ({ frames := 5, cells := 0, slots := 0, locals := 121 }) 0 0 [.ref a0, .int a1, .int a2] M n (some (.int r)) M1 n := by
  refine en_ (by decide) (Nat.le_of_ble_eq_true rfl) ?_
  intro p e s m below meth c hx hb hr hlk hml hown hts hname hKn hH ls hl
  have hown : s.vm.findClass RX4 = some m.cls := hown
  have hl : lv_has ls 3 [(0, .ref a0), (1, .int a1), (2, .int a2)] := hl
  unfold fX4_wins at hf
  generalize s.heap = H at hH ⊢
  refine lv_aload_n hx hb dX4_wins_0 rfl (lv_at hl 0 rfl) ?_
  refine lv_iload_n hx hb dX4_wins_1 rfl (lv_at hl 1 rfl) ?_
  refine lv_iload_n hx hb dX4_wins_2 rfl (lv_at hl 2 rfl) ?_
  obtain ⟨u1, eu1, hf⟩ := bs_ hf
  obtain ⟨r2, er2, hf⟩ := bs_ hf
  refine cl_i0 hH (rn_V ⟨hx, hb, hml, hown, hts⟩ hKn hH (mX4_isHit l G M n a0 a1 a2 r2 er2) (cwV 2 hts (lw_V q1396 q1398 qs50 q70 q1399) rfl rfl rfl ⟨rfl, kdX4_isHit⟩ ⟨Nat.le_of_ble_eq_true rfl, Nat.le_of_ble_eq_true rfl⟩) eu1 rfl rfl hl.1 (Nat.le_of_ble_eq_true rfl) dX4_wins_3 ⟨(Nat.le_of_ble_eq_true rfl), (Nat.le_of_ble_eq_true rfl)⟩ rfl) (fun H locs hH => ?_)
  refine lv_if_ne (tgt := 13) hx hb dX4_wins_6 (by decide) (fun c7 => ?_) (fun c7 => ?_)
  · have hf := in_ c7 hf
    refine lv_aload_n hx hb dX4_wins_13 rfl (lv_at hl 0 rfl) ?_
    refine lv_iload_n hx hb dX4_wins_14 rfl (lv_at hl 1 rfl) ?_
    refine lv_iload_n hx hb dX4_wins_15 rfl (lv_at hl 2 rfl) ?_
    obtain ⟨u3, eu3, hf⟩ := bs_ hf
    obtain ⟨r4, M5, er4, hf⟩ := bws_ hf
    refine cl_i0 hH (rn_V ⟨hx, hb, hml, hown, hts⟩ hKn hH (mX4_isWon l G M n a0 a1 a2 r4 M5 er4) (cwV 2 hts (lw_V q1412 q1414 qs53 q70 q1415) rfl rfl rfl ⟨rfl, kdX4_isWon⟩ ⟨Nat.le_of_ble_eq_true rfl, Nat.le_of_ble_eq_true rfl⟩) eu3 rfl rfl hl.1 (Nat.le_of_ble_eq_true rfl) dX4_wins_16 ⟨(Nat.le_of_ble_eq_true rfl), (Nat.le_of_ble_eq_true rfl)⟩ rfl) (fun H locs hH => ?_)
    refine lv_if_eq (tgt := 26) hx hb dX4_wins_19 (by decide) (fun c6 => ?_) (fun c6 => ?_)
    · have hf := ip_ c6 hf
      refine lv_iconst (v := 0) hx hb dX4_wins_26 (by decide) ?_
      cases hf
      exact rt_i hx hb hr hlk hH dX4_wins_27
    · have hf := in_ c6 hf
      refine lv_iconst (v := 1) hx hb dX4_wins_22 (by decide) ?_
      refine lv_goto (tgt := 27) hx hb dX4_wins_23 (by decide) ?_
      cases hf
      exact rt_i hx hb hr hlk hH dX4_wins_27
  · have hf := ip_ c7 hf
    refine lv_iconst (v := (-1)) hx hb dX4_wins_9 (by decide) ?_
    refine lv_goto (tgt := 27) hx hb dX4_wins_10 (by decide) ?_
    cases hf
    exact rt_i hx hb hr hlk hH dX4_wins_27
def fX4_falls (M : Mem_) (a0 : Nat) (a1 : Int32) (a2 : Int32) : Option Int32 :=
  (ck_ M a0 3).bind fun u1 =>
  (fX4_isHit M a0 a1 a2).bind fun r2 =>
  if (b2_ r2) = 0 then
    some (-1)
  else
    (gR_ M a0 3 0).bind fun v3 =>
    (fX4_fallsIn M v3 a1 a2).bind fun r4 =>
    some r4
theorem kdX4_falls : yX4_falls.cls ≠ "java/lang/invoke/MethodHandle" ∧ yX4_falls.cls ≠ "java/lang/invoke/VarHandle" ∧ (parseMethodDescriptor yX4_falls.desc).map (fun d => d.parameters.length) = some 2 := by decide +kernel
set_option maxHeartbeats 4000000 in
theorem mX4_falls (l : Launch) (G : GT_) (M : Mem_) (n : Nat) (a0 : Nat) (a1 : Int32) (a2 : Int32) (r : Int32) (hf : fX4_falls M a0 a1 a2 = some r) : Ct_ G l yX4_falls (ws_ yX4_falls cX4_falls 3 (some .int)) ({ frames := 3, cells := 0, slots := 0, locals := 65 }) 0 0 [.ref a0, .int a1, .int a2] M n (some (.int r)) M n := by
  refine en_ (by decide) (Nat.le_of_ble_eq_true rfl) ?_
  intro p e s m below meth c hx hb hr hlk hml hown hts hname hKn hH ls hl
  have hown : s.vm.findClass RX4 = some m.cls := hown
  have hl : lv_has ls 3 [(0, .ref a0), (1, .int a1), (2, .int a2)] := hl
  unfold fX4_falls at hf
  generalize s.heap = H at hH ⊢
  refine lv_aload_n hx hb dX4_falls_0 rfl (lv_at hl 0 rfl) ?_
  refine lv_iload_n hx hb dX4_falls_1 rfl (lv_at hl 1 rfl) ?_
  refine lv_iload_n hx hb dX4_falls_2 rfl (lv_at hl 2 rfl) ?_
  obtain ⟨u1, eu1, hf⟩ := bs_ hf
  obtain ⟨r2, er2, hf⟩ := bs_ hf
  refine cl_i0 hH (rn_V ⟨hx, hb, hml, hown, hts⟩ hKn hH (mX4_isHit l G M n a0 a1 a2 r2 er2) (cwV 2 hts (lw_V q1396 q1398 qs50 q70 q1399) rfl rfl rfl ⟨rfl, kdX4_isHit⟩ ⟨Nat.le_of_ble_eq_true rfl, Nat.le_of_ble_eq_true rfl⟩) eu1 rfl rfl hl.1 (Nat.le_of_ble_eq_true rfl) dX4_falls_3 ⟨(Nat.le_of_ble_eq_true rfl), (Nat.le_of_ble_eq_true rfl)⟩ rfl) (fun H locs hH => ?_)
  refine lv_if_eq (tgt := 21) hx hb dX4_falls_6 (by decide) (fun c5 => ?_) (fun c5 => ?_)
  · have hf := ip_ c5 hf
    refine lv_iconst (v := (-1)) hx hb dX4_falls_21 (by decide) ?_
    cases hf
    exact rt_i hx hb hr hlk hH dX4_falls_22
  · have hf := in_ c5 hf
    refine lv_aload_n hx hb dX4_falls_9 rfl (lv_at hl 0 rfl) ?_
    obtain ⟨v3, ev3, hf⟩ := bs_ hf
    refine mg_gR hx hb hts hown hKn hH ev3 in_X4 rfl (by decide) (hts _ q1176) (fun _ h9 => h9) dX4_falls_10 ?_
    refine lv_iload_n hx hb dX4_falls_13 rfl (lv_at hl 1 rfl) ?_
    refine lv_iload_n hx hb dX4_falls_14 rfl (lv_at hl 2 rfl) ?_
    obtain ⟨r4, er4, hf⟩ := bs_ hf
    refine cl_i0 hH (rn_S ⟨hx, hb, hml, hown, hts⟩ hKn hH (mX4_fallsIn l G M n v3 a1 a2 r4 er4) (va_cwS 3 hts (lw_S q1298 q1299 q70 q1300) rfl rfl rfl kdX4_fallsIn ⟨Nat.le_of_ble_eq_true rfl, Nat.le_of_ble_eq_true rfl⟩) rfl hl.1 (Nat.le_of_ble_eq_true rfl) dX4_falls_15 ⟨(Nat.le_of_ble_eq_true rfl), (Nat.le_of_ble_eq_true rfl)⟩ rfl) (fun H locs hH => ?_)
    refine lv_goto (tgt := 22) hx hb dX4_falls_18 (by decide) ?_
    cases hf
    exact rt_i hx hb hr hlk hH dX4_falls_22
def fX4_openTo_L4 : Nat → Mem_ → Nat → Int32 → Int32 → Int32 → Option (Int32 × Mem_)
  | 0, _, _, _, _, _ => none
  | fuel + 1, M, x0, x1, x2, x3 =>
    if 9 ≤ x3 then
      some (x2, M)
    else
      (ck_ M x0 3).bind fun u1 =>
      bw_ (fX4_isWon M x0 x1 x3) fun r2 M3 =>
      if (b2_ r2) = 0 then
        lt_ ((x2 ||| 0)) fun v4 =>
        lt_ (x3 + 1) fun v5 =>
        fX4_openTo_L4 fuel M3 x0 x1 v4 v5
      else
        lt_ ((x2 ||| (1 <<< (x3 &&& 31)))) fun v6 =>
        lt_ (x3 + 1) fun v7 =>
        fX4_openTo_L4 fuel M3 x0 x1 v6 v7
def fX4_openTo (M : Mem_) (a0 : Nat) (a1 : Int32) : Option (Int32 × Mem_) :=
  fX4_openTo_L4 1000 M a0 a1 0 0
theorem kdX4_openTo : yX4_openTo.cls ≠ "java/lang/invoke/MethodHandle" ∧ yX4_openTo.cls ≠ "java/lang/invoke/VarHandle" ∧ (parseMethodDescriptor yX4_openTo.desc).map (fun d => d.parameters.length) = some 1 := by decide +kernel
set_option maxHeartbeats 4000000 in
theorem mX4_openTo (l : Launch) (G : GT_) (M : Mem_) (n : Nat) (a0 : Nat) (a1 : Int32) (r : Int32) (M1 : Mem_) (hf : fX4_openTo M a0 a1 = some (r, M1)) : Ct_ G l yX4_openTo (ws_ yX4_openTo cX4_openTo 4 (some .int)) ({ frames := 5, cells := 0, slots := 0, locals := 121 }) 0 0 [.ref a0, .int a1] M n (some (.int r)) M1 n := by
  refine en_ (by decide) (Nat.le_of_ble_eq_true rfl) ?_
  intro p e s m below meth c hx hb hr hlk hml hown hts hname hKn hH ls hl
  have hown : s.vm.findClass RX4 = some m.cls := hown
  have hl : lv_has ls 4 [(0, .ref a0), (1, .int a1)] := hl
  have w4 : ∀ (fuel : Nat), ∀ (M : Mem_) (x0 : Nat) (x1 : Int32) (x2 : Int32) (x3 : Int32) (H : Heap) (locs : List Loc) (ls : Array Slot), St_ G n M s H locs → lv_has ls 4 [(0, .ref x0), (1, .int x1), (2, .int x2), (3, .int x3)] → fX4_openTo_L4 fuel M x0 x1 x2 x3 = some (r, M1) → W p l e ({ frames := 5, cells := 0, slots := 0, locals := 121 } : Room) s m ([.ref a0, .int a1] : List Value).toArray below meth c H locs 0 0 (MQ below (Qc_ G (some (.int r)) M1 n) ([.ref a0, .int a1] : List Value).toArray s 0 0 (fun q => G.1 ≤ q)) (F0 m 4 ls []) := by
    intro fuel
    induction fuel with
    | zero =>
      intro M x0 x1 x2 x3 H locs ls hH hl hf
      cases hf
    | succ fuel ih =>
      intro M x0 x1 x2 x3 H locs ls hH hl hf
      unfold fX4_openTo_L4 at hf
      refine lv_iload_n hx hb dX4_openTo_4 rfl (lv_at hl 3 rfl) ?_
      refine lv_bipush (v := 9) hx hb dX4_openTo_5 (by decide) ?_
      refine lv_icmp_ge (tgt := 35) hx hb dX4_openTo_7 (by decide) (fun c9 => ?_) (fun c9 => ?_)
      · have hf := ip_ c9 hf
        refine lv_iload_n hx hb dX4_openTo_35 rfl (lv_at hl 2 rfl) ?_
        cases hf
        exact rt_i hx hb hr hlk hH dX4_openTo_36
      · have hf := in_ c9 hf
        refine lv_iload_n hx hb dX4_openTo_10 rfl (lv_at hl 2 rfl) ?_
        refine lv_aload_n hx hb dX4_openTo_11 rfl (lv_at hl 0 rfl) ?_
        refine lv_iload_n hx hb dX4_openTo_12 rfl (lv_at hl 1 rfl) ?_
        refine lv_iload_n hx hb dX4_openTo_13 rfl (lv_at hl 3 rfl) ?_
        obtain ⟨u1, eu1, hf⟩ := bs_ hf
        obtain ⟨r2, M3, er2, hf⟩ := bws_ hf
        refine cl_i0 hH (rn_V ⟨hx, hb, hml, hown, hts⟩ hKn hH (mX4_isWon l G M n x0 x1 x3 r2 M3 er2) (cwV 2 hts (lw_V q1412 q1414 qs53 q70 q1415) rfl rfl rfl ⟨rfl, kdX4_isWon⟩ ⟨Nat.le_of_ble_eq_true rfl, Nat.le_of_ble_eq_true rfl⟩) eu1 rfl rfl hl.1 (Nat.le_of_ble_eq_true rfl) dX4_openTo_14 ⟨(Nat.le_of_ble_eq_true rfl), (Nat.le_of_ble_eq_true rfl)⟩ rfl) (fun H locs hH => ?_)
        refine lv_if_eq (tgt := 26) hx hb dX4_openTo_17 (by decide) (fun c8 => ?_) (fun c8 => ?_)
        · have hf := ip_ c8 hf
          refine lv_iconst (v := 0) hx hb dX4_openTo_26 (by decide) ?_
          refine lv_ior hx hb dX4_openTo_27 ?_
          refine lv_topi (fun v4 ev4 => ?_)
          have hf := lu_ ev4 hf
          refine lv_istore_n (lv' := [(2, .int v4), (0, .ref x0), (1, .int x1), (3, .int x3)]) hx hb dX4_openTo_28 rfl hl (by decide) rfl (fun ls hl => ?_)
          obtain ⟨v5, ev5⟩ : ∃ z : Int32, z = x3 + 1 := ⟨_, rfl⟩
          have hf := lu_ ev5 hf
          refine lv_iinc (v := v5) (lv' := [(3, .int v5), (2, .int v4), (0, .ref x0), (1, .int x1)]) hx hb dX4_openTo_29 hl (k := 3) rfl (by rw [ev5]; rfl) (by decide) rfl (fun ls hl => ?_)
          refine lv_goto (tgt := 4) hx hb dX4_openTo_32 (by decide) ?_
          exact ih M3 x0 x1 v4 v5 _ _ ls hH (lv_sub hl [2, 3, 1, 0] rfl) hf
        · have hf := in_ c8 hf
          refine lv_iconst (v := 1) hx hb dX4_openTo_20 (by decide) ?_
          refine lv_iload_n hx hb dX4_openTo_21 rfl (lv_at hl 3 rfl) ?_
          refine lv_ishl hx hb dX4_openTo_22 ?_
          refine lv_goto (tgt := 27) hx hb dX4_openTo_23 (by decide) ?_
          refine lv_ior hx hb dX4_openTo_27 ?_
          refine lv_topi (fun v6 ev6 => ?_)
          have hf := lu_ ev6 hf
          refine lv_istore_n (lv' := [(2, .int v6), (0, .ref x0), (1, .int x1), (3, .int x3)]) hx hb dX4_openTo_28 rfl hl (by decide) rfl (fun ls hl => ?_)
          obtain ⟨v7, ev7⟩ : ∃ z : Int32, z = x3 + 1 := ⟨_, rfl⟩
          have hf := lu_ ev7 hf
          refine lv_iinc (v := v7) (lv' := [(3, .int v7), (2, .int v6), (0, .ref x0), (1, .int x1)]) hx hb dX4_openTo_29 hl (k := 3) rfl (by rw [ev7]; rfl) (by decide) rfl (fun ls hl => ?_)
          refine lv_goto (tgt := 4) hx hb dX4_openTo_32 (by decide) ?_
          exact ih M3 x0 x1 v6 v7 _ _ ls hH (lv_sub hl [2, 3, 1, 0] rfl) hf
  unfold fX4_openTo at hf
  refine lv_iconst (v := 0) hx hb dX4_openTo_0 (by decide) ?_
  refine lv_istore_n (lv' := [(2, .int 0), (0, .ref a0), (1, .int a1)]) hx hb dX4_openTo_1 rfl hl (by decide) rfl (fun ls hl => ?_)
  refine lv_iconst (v := 0) hx hb dX4_openTo_2 (by decide) ?_
  refine lv_istore_n (lv' := [(3, .int 0), (2, .int 0), (0, .ref a0), (1, .int a1)]) hx hb dX4_openTo_3 rfl hl (by decide) rfl (fun ls hl => ?_)
  exact w4 1000 M a0 a1 0 0 _ _ ls hH (lv_sub hl [2, 3, 1, 0] rfl) hf
def fX4_open (M : Mem_) (a0 : Nat) (a1 : Int32) : Option (Int32 × Mem_) :=
  (ck_ M a0 3).bind fun u1 =>
  (fX4_isStroke M a0 a1).bind fun r2 =>
  if (b2_ r2) = 0 then
    some ((-1), M)
  else
    (ck_ M a0 3).bind fun u3 =>
    bw_ (fX4_openTo M a0 a1) fun r4 M5 =>
    some (r4, M5)
theorem kdX4_open : yX4_open.cls ≠ "java/lang/invoke/MethodHandle" ∧ yX4_open.cls ≠ "java/lang/invoke/VarHandle" ∧ (parseMethodDescriptor yX4_open.desc).map (fun d => d.parameters.length) = some 1 := by decide +kernel
set_option maxHeartbeats 4000000 in
theorem mX4_open (l : Launch) (G : GT_) (M : Mem_) (n : Nat) (a0 : Nat) (a1 : Int32) (r : Int32) (M1 : Mem_) (hf : fX4_open M a0 a1 = some (r, M1)) : Ct_ G l yX4_open (ws_ yX4_open cX4_open 2 (some .int)) ({ frames := 6, cells := 0, slots := 0, locals := 144 }) 0 0 [.ref a0, .int a1] M n (some (.int r)) M1 n := by
  refine en_ (by decide) (Nat.le_of_ble_eq_true rfl) ?_
  intro p e s m below meth c hx hb hr hlk hml hown hts hname hKn hH ls hl
  have hown : s.vm.findClass RX4 = some m.cls := hown
  have hl : lv_has ls 2 [(0, .ref a0), (1, .int a1)] := hl
  unfold fX4_open at hf
  generalize s.heap = H at hH ⊢
  refine lv_aload_n hx hb dX4_open_0 rfl (lv_at hl 0 rfl) ?_
  refine lv_iload_n hx hb dX4_open_1 rfl (lv_at hl 1 rfl) ?_
  obtain ⟨u1, eu1, hf⟩ := bs_ hf
  obtain ⟨r2, er2, hf⟩ := bs_ hf
  refine cl_i0 hH (rn_V ⟨hx, hb, hml, hown, hts⟩ hKn hH (mX4_isStroke l G M n a0 a1 r2 er2) (cwV 1 hts (lw_V q1283 q1285 qs44 q70 q1286) rfl rfl rfl ⟨rfl, kdX4_isStroke⟩ ⟨Nat.le_of_ble_eq_true rfl, Nat.le_of_ble_eq_true rfl⟩) eu1 rfl rfl hl.1 (Nat.le_of_ble_eq_true rfl) dX4_open_2 ⟨(Nat.le_of_ble_eq_true rfl), (Nat.le_of_ble_eq_true rfl)⟩ rfl) (fun H locs hH => ?_)
  refine lv_if_eq (tgt := 16) hx hb dX4_open_5 (by decide) (fun c6 => ?_) (fun c6 => ?_)
  · have hf := ip_ c6 hf
    refine lv_iconst (v := (-1)) hx hb dX4_open_16 (by decide) ?_
    cases hf
    exact rt_i hx hb hr hlk hH dX4_open_17
  · have hf := in_ c6 hf
    refine lv_aload_n hx hb dX4_open_8 rfl (lv_at hl 0 rfl) ?_
    refine lv_iload_n hx hb dX4_open_9 rfl (lv_at hl 1 rfl) ?_
    obtain ⟨u3, eu3, hf⟩ := bs_ hf
    obtain ⟨r4, M5, er4, hf⟩ := bws_ hf
    refine cl_i0 hH (rn_V ⟨hx, hb, hml, hown, hts⟩ hKn hH (mX4_openTo l G M n a0 a1 r4 M5 er4) (cwV 1 hts (lw_V q1424 q1426 qs54 q70 q1427) rfl rfl rfl ⟨rfl, kdX4_openTo⟩ ⟨Nat.le_of_ble_eq_true rfl, Nat.le_of_ble_eq_true rfl⟩) eu3 rfl rfl hl.1 (Nat.le_of_ble_eq_true rfl) dX4_open_10 ⟨(Nat.le_of_ble_eq_true rfl), (Nat.le_of_ble_eq_true rfl)⟩ rfl) (fun H locs hH => ?_)
    refine lv_goto (tgt := 17) hx hb dX4_open_13 (by decide) ?_
    cases hf
    exact rt_i hx hb hr hlk hH dX4_open_17
def fX4_forced_L2 : Nat → Mem_ → Nat → Int32 → Option (Int32 × Mem_)
  | 0, _, _, _ => none
  | fuel + 1, M, x0, x1 =>
    (gR_ M x0 3 0).bind fun v1 =>
    (aI_ M v1 0 0).bind fun v2 =>
    if (9 * v2) ≤ x1 then
      some ((-4), M)
    else
      (ck_ M x0 3).bind fun u3 =>
      bw_ (fX4_isWon M x0 (x1 / 9) (x1 - x1 / 9 * 9)) fun r4 M5 =>
      if (b2_ r4) = 0 then
        lt_ (x1 + 1) fun v6 =>
        fX4_forced_L2 fuel M5 x0 v6
      else
        some (((10 * (x1 / 9)) + (x1 - x1 / 9 * 9)), M5)
def fX4_forced (M : Mem_) (a0 : Nat) : Option (Int32 × Mem_) :=
  fX4_forced_L2 1000 M a0 0
theorem kdX4_forced : yX4_forced.cls ≠ "java/lang/invoke/MethodHandle" ∧ yX4_forced.cls ≠ "java/lang/invoke/VarHandle" ∧ (parseMethodDescriptor yX4_forced.desc).map (fun d => d.parameters.length) = some 0 := by decide +kernel
set_option maxHeartbeats 4000000 in
theorem mX4_forced (l : Launch) (G : GT_) (M : Mem_) (n : Nat) (a0 : Nat) (r : Int32) (M1 : Mem_) (hf : fX4_forced M a0 = some (r, M1)) : Ct_ G l yX4_forced (ws_ yX4_forced cX4_forced 2 (some .int)) ({ frames := 5, cells := 0, slots := 0, locals := 121 }) 0 0 [.ref a0] M n (some (.int r)) M1 n := by
  refine en_ (by decide) (Nat.le_of_ble_eq_true rfl) ?_
  intro p e s m below meth c hx hb hr hlk hml hown hts hname hKn hH ls hl
  have hown : s.vm.findClass RX4 = some m.cls := hown
  have hl : lv_has ls 2 [(0, .ref a0)] := hl
  have w2 : ∀ (fuel : Nat), ∀ (M : Mem_) (x0 : Nat) (x1 : Int32) (H : Heap) (locs : List Loc) (ls : Array Slot), St_ G n M s H locs → lv_has ls 2 [(0, .ref x0), (1, .int x1)] → fX4_forced_L2 fuel M x0 x1 = some (r, M1) → W p l e ({ frames := 5, cells := 0, slots := 0, locals := 121 } : Room) s m ([.ref a0] : List Value).toArray below meth c H locs 0 0 (MQ below (Qc_ G (some (.int r)) M1 n) ([.ref a0] : List Value).toArray s 0 0 (fun q => G.1 ≤ q)) (F0 m 2 ls []) := by
    intro fuel
    induction fuel with
    | zero =>
      intro M x0 x1 H locs ls hH hl hf
      cases hf
    | succ fuel ih =>
      intro M x0 x1 H locs ls hH hl hf
      unfold fX4_forced_L2 at hf
      refine lv_iload_n hx hb dX4_forced_2 rfl (lv_at hl 1 rfl) ?_
      refine lv_bipush (v := 9) hx hb dX4_forced_3 (by decide) ?_
      refine lv_aload_n hx hb dX4_forced_5 rfl (lv_at hl 0 rfl) ?_
      obtain ⟨v1, ev1, hf⟩ := bs_ hf
      refine mg_gR hx hb hts hown hKn hH ev1 in_X4 rfl (by decide) (hts _ q1176) (fun _ h9 => h9) dX4_forced_6 ?_
      refine lv_iconst (v := 0) hx hb dX4_forced_9 (by decide) ?_
      obtain ⟨v2, ev2, hf⟩ := bs_ hf
      refine mg_iald hx hb hKn hH ev2 dX4_forced_10 ?_
      refine lv_imul hx hb dX4_forced_11 ?_
      refine lv_icmp_ge (tgt := 49) hx hb dX4_forced_12 (by decide) (fun c8 => ?_) (fun c8 => ?_)
      · have hf := ip_ c8 hf
        refine lv_bipush (v := (-4)) hx hb dX4_forced_49 (by decide) ?_
        cases hf
        exact rt_i hx hb hr hlk hH dX4_forced_51
      · have hf := in_ c8 hf
        refine lv_aload_n hx hb dX4_forced_15 rfl (lv_at hl 0 rfl) ?_
        refine lv_iload_n hx hb dX4_forced_16 rfl (lv_at hl 1 rfl) ?_
        refine lv_bipush (v := 9) hx hb dX4_forced_17 (by decide) ?_
        refine lv_idiv hx hb dX4_forced_19 (by decide) ?_
        refine lv_iload_n hx hb dX4_forced_20 rfl (lv_at hl 1 rfl) ?_
        refine lv_bipush (v := 9) hx hb dX4_forced_21 (by decide) ?_
        refine lv_irem hx hb dX4_forced_23 (by decide) ?_
        obtain ⟨u3, eu3, hf⟩ := bs_ hf
        obtain ⟨r4, M5, er4, hf⟩ := bws_ hf
        refine cl_i0 hH (rn_V ⟨hx, hb, hml, hown, hts⟩ hKn hH (mX4_isWon l G M n x0 (x1 / 9) (x1 - x1 / 9 * 9) r4 M5 er4) (cwV 2 hts (lw_V q1412 q1414 qs53 q70 q1415) rfl rfl rfl ⟨rfl, kdX4_isWon⟩ ⟨Nat.le_of_ble_eq_true rfl, Nat.le_of_ble_eq_true rfl⟩) eu3 rfl rfl hl.1 (Nat.le_of_ble_eq_true rfl) dX4_forced_24 ⟨(Nat.le_of_ble_eq_true rfl), (Nat.le_of_ble_eq_true rfl)⟩ rfl) (fun H locs hH => ?_)
        refine lv_if_eq (tgt := 43) hx hb dX4_forced_27 (by decide) (fun c7 => ?_) (fun c7 => ?_)
        · have hf := ip_ c7 hf
          obtain ⟨v6, ev6⟩ : ∃ z : Int32, z = x1 + 1 := ⟨_, rfl⟩
          have hf := lu_ ev6 hf
          refine lv_iinc (v := v6) (lv' := [(1, .int v6), (0, .ref x0)]) hx hb dX4_forced_43 hl (k := 1) rfl (by rw [ev6]; rfl) (by decide) rfl (fun ls hl => ?_)
          refine lv_goto (tgt := 2) hx hb dX4_forced_46 (by decide) ?_
          exact ih M5 x0 v6 _ _ ls hH (lv_sub hl [1, 0] rfl) hf
        · have hf := in_ c7 hf
          refine lv_bipush (v := 10) hx hb dX4_forced_30 (by decide) ?_
          refine lv_iload_n hx hb dX4_forced_32 rfl (lv_at hl 1 rfl) ?_
          refine lv_bipush (v := 9) hx hb dX4_forced_33 (by decide) ?_
          refine lv_idiv hx hb dX4_forced_35 (by decide) ?_
          refine lv_imul hx hb dX4_forced_36 ?_
          refine lv_iload_n hx hb dX4_forced_37 rfl (lv_at hl 1 rfl) ?_
          refine lv_bipush (v := 9) hx hb dX4_forced_38 (by decide) ?_
          refine lv_irem hx hb dX4_forced_40 (by decide) ?_
          refine lv_iadd hx hb dX4_forced_41 ?_
          cases hf
          exact rt_i hx hb hr hlk hH dX4_forced_42
  unfold fX4_forced at hf
  refine lv_iconst (v := 0) hx hb dX4_forced_0 (by decide) ?_
  refine lv_istore_n (lv' := [(1, .int 0), (0, .ref a0)]) hx hb dX4_forced_1 rfl hl (by decide) rfl (fun ls hl => ?_)
  exact w2 1000 M a0 0 _ _ ls hH (lv_sub hl [1, 0] rfl) hf
def fX4_leads (M : Mem_) (a0 : Nat) (a1 : Int32) (a2 : Int32) : Option Int32 :=
  (ck_ M a0 3).bind fun u1 =>
  (fX4_whoseNow M a0 a1 a2).bind fun r2 =>
  if r2 = 9 then
    some 99
  else
    (gR_ M a0 3 0).bind fun v3 =>
    lt_ (fX4_ofP r2 0) fun r4 =>
    (aI_ M v3 0 r4).bind fun v5 =>
    (gR_ M a0 3 0).bind fun v6 =>
    (fX4_fallsIn M v6 a1 a2).bind fun r7 =>
    lt_ (fX4_wayOf v5 r7) fun r8 =>
    some r8
theorem kdX4_leads : yX4_leads.cls ≠ "java/lang/invoke/MethodHandle" ∧ yX4_leads.cls ≠ "java/lang/invoke/VarHandle" ∧ (parseMethodDescriptor yX4_leads.desc).map (fun d => d.parameters.length) = some 2 := by decide +kernel
set_option maxHeartbeats 4000000 in
theorem mX4_leads (l : Launch) (G : GT_) (M : Mem_) (n : Nat) (a0 : Nat) (a1 : Int32) (a2 : Int32) (r : Int32) (hf : fX4_leads M a0 a1 a2 = some r) : Ct_ G l yX4_leads (ws_ yX4_leads cX4_leads 4 (some .int)) ({ frames := 4, cells := 0, slots := 0, locals := 91 }) 0 0 [.ref a0, .int a1, .int a2] M n (some (.int r)) M n := by
  refine en_ (by decide) (Nat.le_of_ble_eq_true rfl) ?_
  intro p e s m below meth c hx hb hr hlk hml hown hts hname hKn hH ls hl
  have hown : s.vm.findClass RX4 = some m.cls := hown
  have hl : lv_has ls 4 [(0, .ref a0), (1, .int a1), (2, .int a2)] := hl
  unfold fX4_leads at hf
  generalize s.heap = H at hH ⊢
  refine lv_aload_n hx hb dX4_leads_0 rfl (lv_at hl 0 rfl) ?_
  refine lv_iload_n hx hb dX4_leads_1 rfl (lv_at hl 1 rfl) ?_
  refine lv_iload_n hx hb dX4_leads_2 rfl (lv_at hl 2 rfl) ?_
  obtain ⟨u1, eu1, hf⟩ := bs_ hf
  obtain ⟨r2, er2, hf⟩ := bs_ hf
  refine cl_i0 hH (rn_V ⟨hx, hb, hml, hown, hts⟩ hKn hH (mX4_whoseNow l G M n a0 a1 a2 r2 er2) (cwV 2 hts (lw_V q1400 q1402 qs51 q70 q1403) rfl rfl rfl ⟨rfl, kdX4_whoseNow⟩ ⟨Nat.le_of_ble_eq_true rfl, Nat.le_of_ble_eq_true rfl⟩) eu1 rfl rfl hl.1 (Nat.le_of_ble_eq_true rfl) dX4_leads_3 ⟨(Nat.le_of_ble_eq_true rfl), (Nat.le_of_ble_eq_true rfl)⟩ rfl) (fun H locs hH => ?_)
  refine lv_istore_n (lv' := [(3, .int r2), (0, .ref a0), (1, .int a1), (2, .int a2)]) hx hb dX4_leads_6 rfl hl (by decide) rfl (fun ls hl => ?_)
  refine lv_iload_n hx hb dX4_leads_7 rfl (lv_at hl 0 rfl) ?_
  refine lv_bipush (v := 9) hx hb dX4_leads_8 (by decide) ?_
  refine lv_icmp_ne (tgt := 18) hx hb dX4_leads_10 (by decide) (fun c9 => ?_) (fun c9 => ?_)
  · have hf := in_ c9 hf
    refine lv_aload_n hx hb dX4_leads_18 rfl (lv_at hl 1 rfl) ?_
    obtain ⟨v3, ev3, hf⟩ := bs_ hf
    refine mg_gR hx hb hts hown hKn hH ev3 in_X4 rfl (by decide) (hts _ q1176) (fun _ h9 => h9) dX4_leads_19 ?_
    refine lv_iload_n hx hb dX4_leads_22 rfl (lv_at hl 0 rfl) ?_
    refine lv_iconst (v := 0) hx hb dX4_leads_23 (by decide) ?_
    obtain ⟨r4, er4⟩ : ∃ z, z = fX4_ofP r2 0 := ⟨_, rfl⟩
    have hf := lu_ er4 hf
    refine cl_i0 hH (rn_S ⟨hx, hb, hml, hown, hts⟩ hKn hH (mX4_ofP l G M n r2 0 r4 er4.symm) (va_cwS 2 hts (lw_S q1170 q1171 q70 q1172) rfl rfl rfl kdX4_ofP ⟨Nat.le_of_ble_eq_true rfl, Nat.le_of_ble_eq_true rfl⟩) rfl hl.1 (Nat.le_of_ble_eq_true rfl) dX4_leads_24 ⟨(Nat.le_of_ble_eq_true rfl), (Nat.le_of_ble_eq_true rfl)⟩ rfl) (fun H locs hH => ?_)
    obtain ⟨v5, ev5, hf⟩ := bs_ hf
    refine mg_iald hx hb hKn hH ev5 dX4_leads_27 ?_
    refine lv_aload_n hx hb dX4_leads_28 rfl (lv_at hl 1 rfl) ?_
    obtain ⟨v6, ev6, hf⟩ := bs_ hf
    refine mg_gR hx hb hts hown hKn hH ev6 in_X4 rfl (by decide) (hts _ q1176) (fun _ h9 => h9) dX4_leads_29 ?_
    refine lv_iload_n hx hb dX4_leads_32 rfl (lv_at hl 2 rfl) ?_
    refine lv_iload_n hx hb dX4_leads_33 rfl (lv_at hl 3 rfl) ?_
    obtain ⟨r7, er7, hf⟩ := bs_ hf
    refine cl_i0 hH (rn_S ⟨hx, hb, hml, hown, hts⟩ hKn hH (mX4_fallsIn l G M n v6 a1 a2 r7 er7) (va_cwS 3 hts (lw_S q1298 q1299 q70 q1300) rfl rfl rfl kdX4_fallsIn ⟨Nat.le_of_ble_eq_true rfl, Nat.le_of_ble_eq_true rfl⟩) rfl hl.1 (Nat.le_of_ble_eq_true rfl) dX4_leads_34 ⟨(Nat.le_of_ble_eq_true rfl), (Nat.le_of_ble_eq_true rfl)⟩ rfl) (fun H locs hH => ?_)
    obtain ⟨r8, er8⟩ : ∃ z, z = fX4_wayOf v5 r7 := ⟨_, rfl⟩
    have hf := lu_ er8 hf
    refine cl_i0 hH (rn_S ⟨hx, hb, hml, hown, hts⟩ hKn hH (mX4_wayOf l G M n v5 r7 r8 er8.symm) (va_cwS 2 hts (lw_S q1310 q1311 q70 q1312) rfl rfl rfl kdX4_wayOf ⟨Nat.le_of_ble_eq_true rfl, Nat.le_of_ble_eq_true rfl⟩) rfl hl.1 (Nat.le_of_ble_eq_true rfl) dX4_leads_37 ⟨(Nat.le_of_ble_eq_true rfl), (Nat.le_of_ble_eq_true rfl)⟩ rfl) (fun H locs hH => ?_)
    cases hf
    exact rt_i hx hb hr hlk hH dX4_leads_40
  · have hf := ip_ c9 hf
    refine lv_bipush (v := 99) hx hb dX4_leads_13 (by decide) ?_
    refine lv_goto (tgt := 40) hx hb dX4_leads_15 (by decide) ?_
    cases hf
    exact rt_i hx hb hr hlk hH dX4_leads_40
def fX4_farthest_L24 : Nat → Mem_ → Nat → Int32 → Int32 → Int32 → Int32 → Option Int32
  | 0, _, _, _, _, _, _ => none
  | fuel + 1, M, x0, x1, x2, x3, x4 =>
    if 9 ≤ x4 then
      if x2 = 0 then
        some x3
      else
        (ck_ M x0 3).bind fun u6 =>
        (fX4_leads M x0 x1 x3).bind fun r7 =>
        some r7
    else
      (ck_ M x0 3).bind fun u9 =>
      (fX4_leads M x0 x1 x4).bind fun r10 =>
      (ck_ M x0 3).bind fun u11 =>
      (fX4_leads M x0 x1 x3).bind fun r12 =>
      if r10 ≤ r12 then
        lt_ (x4 + 1) fun v13 =>
        fX4_farthest_L24 fuel M x0 x1 x2 x3 v13
      else
        lt_ (x4 + 1) fun v14 =>
        fX4_farthest_L24 fuel M x0 x1 x2 x4 v14
def fX4_farthest (M : Mem_) (a0 : Nat) (a1 : Int32) (a2 : Int32) : Option Int32 :=
  (ck_ M a0 3).bind fun u1 =>
  (fX4_isStroke M a0 a1).bind fun r2 =>
  if (b2_ r2) = 0 then
    some (-1)
  else
    lt_ (fX4_isIn a2 0 1) fun r3 =>
    if (b2_ r3) = 0 then
      some (-1)
    else
      fX4_farthest_L24 1000 M a0 a1 a2 0 0
theorem kdX4_farthest : yX4_farthest.cls ≠ "java/lang/invoke/MethodHandle" ∧ yX4_farthest.cls ≠ "java/lang/invoke/VarHandle" ∧ (parseMethodDescriptor yX4_farthest.desc).map (fun d => d.parameters.length) = some 2 := by decide +kernel
set_option maxHeartbeats 4000000 in
theorem mX4_farthest (l : Launch) (G : GT_) (M : Mem_) (n : Nat) (a0 : Nat) (a1 : Int32) (a2 : Int32) (r : Int32) (hf : fX4_farthest M a0 a1 a2 = some r) : Ct_ G l yX4_farthest (ws_ yX4_farthest cX4_farthest 5 (some .int)) ({ frames := 5, cells := 0, slots := 0, locals := 114 }) 0 0 [.ref a0, .int a1, .int a2] M n (some (.int r)) M n := by
  refine en_ (by decide) (Nat.le_of_ble_eq_true rfl) ?_
  intro p e s m below meth c hx hb hr hlk hml hown hts hname hKn hH ls hl
  have hown : s.vm.findClass RX4 = some m.cls := hown
  have hl : lv_has ls 5 [(0, .ref a0), (1, .int a1), (2, .int a2)] := hl
  have w24 : ∀ (fuel : Nat), ∀ (M : Mem_) (x0 : Nat) (x1 : Int32) (x2 : Int32) (x3 : Int32) (x4 : Int32) (H : Heap) (locs : List Loc) (ls : Array Slot), St_ G n M s H locs → lv_has ls 5 [(0, .ref x0), (1, .int x1), (2, .int x2), (3, .int x3), (4, .int x4)] → fX4_farthest_L24 fuel M x0 x1 x2 x3 x4 = some r → W p l e ({ frames := 5, cells := 0, slots := 0, locals := 114 } : Room) s m ([.ref a0, .int a1, .int a2] : List Value).toArray below meth c H locs 0 0 (MQ below (Qc_ G (some (.int r)) M n) ([.ref a0, .int a1, .int a2] : List Value).toArray s 0 0 (fun q => G.1 ≤ q)) (F0 m 24 ls []) := by
    intro fuel
    induction fuel with
    | zero =>
      intro M x0 x1 x2 x3 x4 H locs ls hH hl hf
      cases hf
    | succ fuel ih =>
      intro M x0 x1 x2 x3 x4 H locs ls hH hl hf
      unfold fX4_farthest_L24 at hf
      refine lv_iload hx hb dX4_farthest_24 (lv_at hl 4 rfl) ?_
      refine lv_bipush (v := 9) hx hb dX4_farthest_26 (by decide) ?_
      refine lv_icmp_ge (tgt := 56) hx hb dX4_farthest_28 (by decide) (fun c16 => ?_) (fun c16 => ?_)
      · have hf := ip_ c16 hf
        refine lv_iload_n hx hb dX4_farthest_56 rfl (lv_at hl 2 rfl) ?_
        refine lv_if_ne (tgt := 64) hx hb dX4_farthest_57 (by decide) (fun c8 => ?_) (fun c8 => ?_)
        · have hf := in_ c8 hf
          refine lv_aload_n hx hb dX4_farthest_64 rfl (lv_at hl 0 rfl) ?_
          refine lv_iload_n hx hb dX4_farthest_65 rfl (lv_at hl 1 rfl) ?_
          refine lv_iload_n hx hb dX4_farthest_66 rfl (lv_at hl 3 rfl) ?_
          obtain ⟨u6, eu6, hf⟩ := bs_ hf
          obtain ⟨r7, er7, hf⟩ := bs_ hf
          refine cl_i0 hH (rn_V ⟨hx, hb, hml, hown, hts⟩ hKn hH (mX4_leads l G M n x0 x1 x3 r7 er7) (cwV 2 hts (lw_V q1436 q1438 qs55 q70 q1439) rfl rfl rfl ⟨rfl, kdX4_leads⟩ ⟨Nat.le_of_ble_eq_true rfl, Nat.le_of_ble_eq_true rfl⟩) eu6 rfl rfl hl.1 (Nat.le_of_ble_eq_true rfl) dX4_farthest_67 ⟨(Nat.le_of_ble_eq_true rfl), (Nat.le_of_ble_eq_true rfl)⟩ rfl) (fun H locs hH => ?_)
          cases hf
          exact rt_i hx hb hr hlk hH dX4_farthest_70
        · have hf := ip_ c8 hf
          refine lv_iload_n hx hb dX4_farthest_60 rfl (lv_at hl 3 rfl) ?_
          refine lv_goto (tgt := 70) hx hb dX4_farthest_61 (by decide) ?_
          cases hf
          exact rt_i hx hb hr hlk hH dX4_farthest_70
      · have hf := in_ c16 hf
        refine lv_aload_n hx hb dX4_farthest_31 rfl (lv_at hl 0 rfl) ?_
        refine lv_iload_n hx hb dX4_farthest_32 rfl (lv_at hl 1 rfl) ?_
        refine lv_iload hx hb dX4_farthest_33 (lv_at hl 4 rfl) ?_
        obtain ⟨u9, eu9, hf⟩ := bs_ hf
        obtain ⟨r10, er10, hf⟩ := bs_ hf
        refine cl_i0 hH (rn_V ⟨hx, hb, hml, hown, hts⟩ hKn hH (mX4_leads l G M n x0 x1 x4 r10 er10) (cwV 2 hts (lw_V q1436 q1438 qs55 q70 q1439) rfl rfl rfl ⟨rfl, kdX4_leads⟩ ⟨Nat.le_of_ble_eq_true rfl, Nat.le_of_ble_eq_true rfl⟩) eu9 rfl rfl hl.1 (Nat.le_of_ble_eq_true rfl) dX4_farthest_35 ⟨(Nat.le_of_ble_eq_true rfl), (Nat.le_of_ble_eq_true rfl)⟩ rfl) (fun H locs hH => ?_)
        refine lv_aload_n hx hb dX4_farthest_38 rfl (lv_at hl 0 rfl) ?_
        refine lv_iload_n hx hb dX4_farthest_39 rfl (lv_at hl 1 rfl) ?_
        refine lv_iload_n hx hb dX4_farthest_40 rfl (lv_at hl 3 rfl) ?_
        obtain ⟨u11, eu11, hf⟩ := bs_ hf
        obtain ⟨r12, er12, hf⟩ := bs_ hf
        refine cl_i0 hH (rn_V ⟨hx, hb, hml, hown, hts⟩ hKn hH (mX4_leads l G M n x0 x1 x3 r12 er12) (cwV 2 hts (lw_V q1436 q1438 qs55 q70 q1439) rfl rfl rfl ⟨rfl, kdX4_leads⟩ ⟨Nat.le_of_ble_eq_true rfl, Nat.le_of_ble_eq_true rfl⟩) eu11 rfl rfl hl.1 (Nat.le_of_ble_eq_true rfl) dX4_farthest_41 ⟨(Nat.le_of_ble_eq_true rfl), (Nat.le_of_ble_eq_true rfl)⟩ rfl) (fun H locs hH => ?_)
        refine lv_icmp_le (tgt := 50) hx hb dX4_farthest_44 (by decide) (fun c15 => ?_) (fun c15 => ?_)
        · have hf := ip_ c15 hf
          obtain ⟨v13, ev13⟩ : ∃ z : Int32, z = x4 + 1 := ⟨_, rfl⟩
          have hf := lu_ ev13 hf
          refine lv_iinc (v := v13) (lv' := [(4, .int v13), (0, .ref x0), (1, .int x1), (2, .int x2), (3, .int x3)]) hx hb dX4_farthest_50 hl (k := 4) rfl (by rw [ev13]; rfl) (by decide) rfl (fun ls hl => ?_)
          refine lv_goto (tgt := 24) hx hb dX4_farthest_53 (by decide) ?_
          exact ih M x0 x1 x2 x3 v13 _ _ ls hH (lv_sub hl [1, 2, 3, 4, 0] rfl) hf
        · have hf := in_ c15 hf
          refine lv_iload hx hb dX4_farthest_47 (lv_at hl 4 rfl) ?_
          refine lv_istore_n (lv' := [(3, .int x4), (0, .ref x0), (1, .int x1), (2, .int x2), (4, .int x4)]) hx hb dX4_farthest_49 rfl hl (by decide) rfl (fun ls hl => ?_)
          obtain ⟨v14, ev14⟩ : ∃ z : Int32, z = x4 + 1 := ⟨_, rfl⟩
          have hf := lu_ ev14 hf
          refine lv_iinc (v := v14) (lv' := [(4, .int v14), (3, .int x4), (0, .ref x0), (1, .int x1), (2, .int x2)]) hx hb dX4_farthest_50 hl (k := 4) rfl (by rw [ev14]; rfl) (by decide) rfl (fun ls hl => ?_)
          refine lv_goto (tgt := 24) hx hb dX4_farthest_53 (by decide) ?_
          exact ih M x0 x1 x2 x4 v14 _ _ ls hH (lv_sub hl [2, 3, 4, 1, 0] rfl) hf
  unfold fX4_farthest at hf
  refine lv_aload_n hx hb dX4_farthest_0 rfl (lv_at hl 0 rfl) ?_
  refine lv_iload_n hx hb dX4_farthest_1 rfl (lv_at hl 1 rfl) ?_
  obtain ⟨u1, eu1, hf⟩ := bs_ hf
  obtain ⟨r2, er2, hf⟩ := bs_ hf
  refine cl_i0 hH (rn_V ⟨hx, hb, hml, hown, hts⟩ hKn hH (mX4_isStroke l G M n a0 a1 r2 er2) (cwV 1 hts (lw_V q1283 q1285 qs44 q70 q1286) rfl rfl rfl ⟨rfl, kdX4_isStroke⟩ ⟨Nat.le_of_ble_eq_true rfl, Nat.le_of_ble_eq_true rfl⟩) eu1 rfl rfl hl.1 (Nat.le_of_ble_eq_true rfl) dX4_farthest_2 ⟨(Nat.le_of_ble_eq_true rfl), (Nat.le_of_ble_eq_true rfl)⟩ rfl) (fun H locs hH => ?_)
  refine lv_if_eq (tgt := 17) hx hb dX4_farthest_5 (by decide) (fun c5 => ?_) (fun c5 => ?_)
  · have hf := ip_ c5 hf
    refine lv_iconst (v := (-1)) hx hb dX4_farthest_17 (by decide) ?_
    cases hf
    exact rt_i hx hb hr hlk hH dX4_farthest_18
  · have hf := in_ c5 hf
    refine lv_iload_n hx hb dX4_farthest_8 rfl (lv_at hl 2 rfl) ?_
    refine lv_iconst (v := 0) hx hb dX4_farthest_9 (by decide) ?_
    refine lv_iconst (v := 1) hx hb dX4_farthest_10 (by decide) ?_
    obtain ⟨r3, er3⟩ : ∃ z, z = fX4_isIn a2 0 1 := ⟨_, rfl⟩
    have hf := lu_ er3 hf
    refine cl_i0 hH (rn_S ⟨hx, hb, hml, hown, hts⟩ hKn hH (mX4_isIn l G M n a2 0 1 r3 er3.symm) (va_cwS 3 hts (lw_S q1248 q1249 q70 q1250) rfl rfl rfl kdX4_isIn ⟨Nat.le_of_ble_eq_true rfl, Nat.le_of_ble_eq_true rfl⟩) rfl hl.1 (Nat.le_of_ble_eq_true rfl) dX4_farthest_11 ⟨(Nat.le_of_ble_eq_true rfl), (Nat.le_of_ble_eq_true rfl)⟩ rfl) (fun H locs hH => ?_)
    refine lv_if_ne (tgt := 19) hx hb dX4_farthest_14 (by decide) (fun c4 => ?_) (fun c4 => ?_)
    · have hf := in_ c4 hf
      refine lv_iconst (v := 0) hx hb dX4_farthest_19 (by decide) ?_
      refine lv_istore_n (lv' := [(3, .int 0), (0, .ref a0), (1, .int a1), (2, .int a2)]) hx hb dX4_farthest_20 rfl hl (by decide) rfl (fun ls hl => ?_)
      refine lv_iconst (v := 0) hx hb dX4_farthest_21 (by decide) ?_
      refine lv_istore (lv' := [(4, .int 0), (3, .int 0), (0, .ref a0), (1, .int a1), (2, .int a2)]) hx hb dX4_farthest_22 hl (by decide) rfl (fun ls hl => ?_)
      exact w24 1000 M a0 a1 a2 0 0 _ _ ls hH (lv_sub hl [2, 3, 4, 1, 0] rfl) hf
    · have hf := ip_ c4 hf
      refine lv_iconst (v := (-1)) hx hb dX4_farthest_17 (by decide) ?_
      cases hf
      exact rt_i hx hb hr hlk hH dX4_farthest_18
def fX4_atWhom_L18 : Nat → Mem_ → Nat → Int32 → Int32 → Int32 → Int32 → Option (Int32 × Mem_)
  | 0, _, _, _, _, _, _ => none
  | fuel + 1, M, x0, x1, x2, x3, x4 =>
    if 9 ≤ x4 then
      some (x2, M)
    else
      (ck_ M x0 3).bind fun u4 =>
      bw_ (fX4_isWon M x0 x1 x4) fun r5 M6 =>
      if (b2_ r5) = 0 then
        (gR_ M6 x0 3 1).bind fun v8 =>
        (gR_ M6 x0 3 1).bind fun v9 =>
        (aI_ M6 v9 0 2).bind fun v10 =>
        lt_ (fX4_ofP v10 2) fun r11 =>
        (aI_ M6 v8 0 r11).bind fun v12 =>
        if x3 < v12 then
          (gR_ M6 x0 3 1).bind fun v13 =>
          (gR_ M6 x0 3 1).bind fun v14 =>
          (aI_ M6 v14 0 2).bind fun v15 =>
          lt_ (fX4_ofP v15 2) fun r16 =>
          (aI_ M6 v13 0 r16).bind fun v17 =>
          lt_ (x4 + 1) fun v18 =>
          fX4_atWhom_L18 fuel M6 x0 x1 x4 v17 v18
        else
          lt_ (x4 + 1) fun v19 =>
          fX4_atWhom_L18 fuel M6 x0 x1 x2 x3 v19
      else
        lt_ (x4 + 1) fun v7 =>
        fX4_atWhom_L18 fuel M6 x0 x1 x2 x3 v7
def fX4_atWhom (M : Mem_) (a0 : Nat) (a1 : Int32) : Option (Int32 × Mem_) :=
  (ck_ M a0 3).bind fun u1 =>
  (fX4_isStroke M a0 a1).bind fun r2 =>
  if (b2_ r2) = 0 then
    some ((-1), M)
  else
    fX4_atWhom_L18 1000 M a0 a1 (-4) (-1) 0
theorem kdX4_atWhom : yX4_atWhom.cls ≠ "java/lang/invoke/MethodHandle" ∧ yX4_atWhom.cls ≠ "java/lang/invoke/VarHandle" ∧ (parseMethodDescriptor yX4_atWhom.desc).map (fun d => d.parameters.length) = some 1 := by decide +kernel
set_option maxHeartbeats 4000000 in
theorem mX4_atWhom (l : Launch) (G : GT_) (M : Mem_) (n : Nat) (a0 : Nat) (a1 : Int32) (r : Int32) (M1 : Mem_) (hf : fX4_atWhom M a0 a1 = some (r, M1)) : Ct_ G l yX4_atWhom (ws_ yX4_atWhom cX4_atWhom 5 (some .int)) ({ frames := 5, cells := 0, slots := 0, locals := 121 }) 0 0 [.ref a0, .int a1] M n (some (.int r)) M1 n := by
  refine en_ (by decide) (Nat.le_of_ble_eq_true rfl) ?_
  intro p e s m below meth c hx hb hr hlk hml hown hts hname hKn hH ls hl
  have hown : s.vm.findClass RX4 = some m.cls := hown
  have hl : lv_has ls 5 [(0, .ref a0), (1, .int a1)] := hl
  have w18 : ∀ (fuel : Nat), ∀ (M : Mem_) (x0 : Nat) (x1 : Int32) (x2 : Int32) (x3 : Int32) (x4 : Int32) (H : Heap) (locs : List Loc) (ls : Array Slot), St_ G n M s H locs → lv_has ls 5 [(0, .ref x0), (1, .int x1), (2, .int x2), (3, .int x3), (4, .int x4)] → fX4_atWhom_L18 fuel M x0 x1 x2 x3 x4 = some (r, M1) → W p l e ({ frames := 5, cells := 0, slots := 0, locals := 121 } : Room) s m ([.ref a0, .int a1] : List Value).toArray below meth c H locs 0 0 (MQ below (Qc_ G (some (.int r)) M1 n) ([.ref a0, .int a1] : List Value).toArray s 0 0 (fun q => G.1 ≤ q)) (F0 m 18 ls []) := by
    intro fuel
    induction fuel with
    | zero =>
      intro M x0 x1 x2 x3 x4 H locs ls hH hl hf
      cases hf
    | succ fuel ih =>
      intro M x0 x1 x2 x3 x4 H locs ls hH hl hf
      unfold fX4_atWhom_L18 at hf
      refine lv_iload hx hb dX4_atWhom_18 (lv_at hl 4 rfl) ?_
      refine lv_bipush (v := 9) hx hb dX4_atWhom_20 (by decide) ?_
      refine lv_icmp_ge (tgt := 82) hx hb dX4_atWhom_22 (by decide) (fun c22 => ?_) (fun c22 => ?_)
      · have hf := ip_ c22 hf
        refine lv_iload_n hx hb dX4_atWhom_82 rfl (lv_at hl 2 rfl) ?_
        cases hf
        exact rt_i hx hb hr hlk hH dX4_atWhom_83
      · have hf := in_ c22 hf
        refine lv_aload_n hx hb dX4_atWhom_25 rfl (lv_at hl 0 rfl) ?_
        refine lv_iload_n hx hb dX4_atWhom_26 rfl (lv_at hl 1 rfl) ?_
        refine lv_iload hx hb dX4_atWhom_27 (lv_at hl 4 rfl) ?_
        obtain ⟨u4, eu4, hf⟩ := bs_ hf
        obtain ⟨r5, M6, er5, hf⟩ := bws_ hf
        refine cl_i0 hH (rn_V ⟨hx, hb, hml, hown, hts⟩ hKn hH (mX4_isWon l G M n x0 x1 x4 r5 M6 er5) (cwV 2 hts (lw_V q1412 q1414 qs53 q70 q1415) rfl rfl rfl ⟨rfl, kdX4_isWon⟩ ⟨Nat.le_of_ble_eq_true rfl, Nat.le_of_ble_eq_true rfl⟩) eu4 rfl rfl hl.1 (Nat.le_of_ble_eq_true rfl) dX4_atWhom_29 ⟨(Nat.le_of_ble_eq_true rfl), (Nat.le_of_ble_eq_true rfl)⟩ rfl) (fun H locs hH => ?_)
        refine lv_if_ne (tgt := 76) hx hb dX4_atWhom_32 (by decide) (fun c21 => ?_) (fun c21 => ?_)
        · have hf := in_ c21 hf
          obtain ⟨v7, ev7⟩ : ∃ z : Int32, z = x4 + 1 := ⟨_, rfl⟩
          have hf := lu_ ev7 hf
          refine lv_iinc (v := v7) (lv' := [(4, .int v7), (0, .ref x0), (1, .int x1), (2, .int x2), (3, .int x3)]) hx hb dX4_atWhom_76 hl (k := 4) rfl (by rw [ev7]; rfl) (by decide) rfl (fun ls hl => ?_)
          refine lv_goto (tgt := 18) hx hb dX4_atWhom_79 (by decide) ?_
          exact ih M6 x0 x1 x2 x3 v7 _ _ ls hH (lv_sub hl [1, 2, 3, 4, 0] rfl) hf
        · have hf := ip_ c21 hf
          refine lv_aload_n hx hb dX4_atWhom_35 rfl (lv_at hl 0 rfl) ?_
          obtain ⟨v8, ev8, hf⟩ := bs_ hf
          refine mg_gR hx hb hts hown hKn hH ev8 in_X4 rfl (by decide) (hts _ q1177) (fun _ h9 => h9) dX4_atWhom_36 ?_
          refine lv_aload_n hx hb dX4_atWhom_39 rfl (lv_at hl 0 rfl) ?_
          obtain ⟨v9, ev9, hf⟩ := bs_ hf
          refine mg_gR hx hb hts hown hKn hH ev9 in_X4 rfl (by decide) (hts _ q1177) (fun _ h9 => h9) dX4_atWhom_40 ?_
          refine lv_iconst (v := 2) hx hb dX4_atWhom_43 (by decide) ?_
          obtain ⟨v10, ev10, hf⟩ := bs_ hf
          refine mg_iald hx hb hKn hH ev10 dX4_atWhom_44 ?_
          refine lv_iconst (v := 2) hx hb dX4_atWhom_45 (by decide) ?_
          obtain ⟨r11, er11⟩ : ∃ z, z = fX4_ofP v10 2 := ⟨_, rfl⟩
          have hf := lu_ er11 hf
          refine cl_i0 hH (rn_S ⟨hx, hb, hml, hown, hts⟩ hKn hH (mX4_ofP l G M6 n v10 2 r11 er11.symm) (va_cwS 2 hts (lw_S q1170 q1171 q70 q1172) rfl rfl rfl kdX4_ofP ⟨Nat.le_of_ble_eq_true rfl, Nat.le_of_ble_eq_true rfl⟩) rfl hl.1 (Nat.le_of_ble_eq_true rfl) dX4_atWhom_46 ⟨(Nat.le_of_ble_eq_true rfl), (Nat.le_of_ble_eq_true rfl)⟩ rfl) (fun H locs hH => ?_)
          obtain ⟨v12, ev12, hf⟩ := bs_ hf
          refine mg_iald hx hb hKn hH ev12 dX4_atWhom_49 ?_
          refine lv_iload_n hx hb dX4_atWhom_50 rfl (lv_at hl 3 rfl) ?_
          refine lv_icmp_gt (tgt := 57) hx hb dX4_atWhom_51 (by decide) (fun c20 => ?_) (fun c20 => ?_)
          · have hf := ip_ c20 hf
            refine lv_iload hx hb dX4_atWhom_57 (lv_at hl 4 rfl) ?_
            refine lv_istore_n (lv' := [(2, .int x4), (0, .ref x0), (1, .int x1), (3, .int x3), (4, .int x4)]) hx hb dX4_atWhom_59 rfl hl (by decide) rfl (fun ls hl => ?_)
            refine lv_aload_n hx hb dX4_atWhom_60 rfl (lv_at hl 1 rfl) ?_
            obtain ⟨v13, ev13, hf⟩ := bs_ hf
            refine mg_gR hx hb hts hown hKn hH ev13 in_X4 rfl (by decide) (hts _ q1177) (fun _ h9 => h9) dX4_atWhom_61 ?_
            refine lv_aload_n hx hb dX4_atWhom_64 rfl (lv_at hl 1 rfl) ?_
            obtain ⟨v14, ev14, hf⟩ := bs_ hf
            refine mg_gR hx hb hts hown hKn hH ev14 in_X4 rfl (by decide) (hts _ q1177) (fun _ h9 => h9) dX4_atWhom_65 ?_
            refine lv_iconst (v := 2) hx hb dX4_atWhom_68 (by decide) ?_
            obtain ⟨v15, ev15, hf⟩ := bs_ hf
            refine mg_iald hx hb hKn hH ev15 dX4_atWhom_69 ?_
            refine lv_iconst (v := 2) hx hb dX4_atWhom_70 (by decide) ?_
            obtain ⟨r16, er16⟩ : ∃ z, z = fX4_ofP v15 2 := ⟨_, rfl⟩
            have hf := lu_ er16 hf
            refine cl_i0 hH (rn_S ⟨hx, hb, hml, hown, hts⟩ hKn hH (mX4_ofP l G M6 n v15 2 r16 er16.symm) (va_cwS 2 hts (lw_S q1170 q1171 q70 q1172) rfl rfl rfl kdX4_ofP ⟨Nat.le_of_ble_eq_true rfl, Nat.le_of_ble_eq_true rfl⟩) rfl hl.1 (Nat.le_of_ble_eq_true rfl) dX4_atWhom_71 ⟨(Nat.le_of_ble_eq_true rfl), (Nat.le_of_ble_eq_true rfl)⟩ rfl) (fun H locs hH => ?_)
            obtain ⟨v17, ev17, hf⟩ := bs_ hf
            refine mg_iald hx hb hKn hH ev17 dX4_atWhom_74 ?_
            refine lv_istore_n (lv' := [(3, .int v17), (2, .int x4), (0, .ref x0), (1, .int x1), (4, .int x4)]) hx hb dX4_atWhom_75 rfl hl (by decide) rfl (fun ls hl => ?_)
            obtain ⟨v18, ev18⟩ : ∃ z : Int32, z = x4 + 1 := ⟨_, rfl⟩
            have hf := lu_ ev18 hf
            refine lv_iinc (v := v18) (lv' := [(4, .int v18), (3, .int v17), (2, .int x4), (0, .ref x0), (1, .int x1)]) hx hb dX4_atWhom_76 hl (k := 4) rfl (by rw [ev18]; rfl) (by decide) rfl (fun ls hl => ?_)
            refine lv_goto (tgt := 18) hx hb dX4_atWhom_79 (by decide) ?_
            exact ih M6 x0 x1 x4 v17 v18 _ _ ls hH (lv_sub hl [3, 4, 2, 1, 0] rfl) hf
          · have hf := in_ c20 hf
            refine lv_goto (tgt := 76) hx hb dX4_atWhom_54 (by decide) ?_
            obtain ⟨v19, ev19⟩ : ∃ z : Int32, z = x4 + 1 := ⟨_, rfl⟩
            have hf := lu_ ev19 hf
            refine lv_iinc (v := v19) (lv' := [(4, .int v19), (0, .ref x0), (1, .int x1), (2, .int x2), (3, .int x3)]) hx hb dX4_atWhom_76 hl (k := 4) rfl (by rw [ev19]; rfl) (by decide) rfl (fun ls hl => ?_)
            refine lv_goto (tgt := 18) hx hb dX4_atWhom_79 (by decide) ?_
            exact ih M6 x0 x1 x2 x3 v19 _ _ ls hH (lv_sub hl [1, 2, 3, 4, 0] rfl) hf
  unfold fX4_atWhom at hf
  refine lv_aload_n hx hb dX4_atWhom_0 rfl (lv_at hl 0 rfl) ?_
  refine lv_iload_n hx hb dX4_atWhom_1 rfl (lv_at hl 1 rfl) ?_
  obtain ⟨u1, eu1, hf⟩ := bs_ hf
  obtain ⟨r2, er2, hf⟩ := bs_ hf
  refine cl_i0 hH (rn_V ⟨hx, hb, hml, hown, hts⟩ hKn hH (mX4_isStroke l G M n a0 a1 r2 er2) (cwV 1 hts (lw_V q1283 q1285 qs44 q70 q1286) rfl rfl rfl ⟨rfl, kdX4_isStroke⟩ ⟨Nat.le_of_ble_eq_true rfl, Nat.le_of_ble_eq_true rfl⟩) eu1 rfl rfl hl.1 (Nat.le_of_ble_eq_true rfl) dX4_atWhom_2 ⟨(Nat.le_of_ble_eq_true rfl), (Nat.le_of_ble_eq_true rfl)⟩ rfl) (fun H locs hH => ?_)
  refine lv_if_ne (tgt := 10) hx hb dX4_atWhom_5 (by decide) (fun c3 => ?_) (fun c3 => ?_)
  · have hf := in_ c3 hf
    refine lv_bipush (v := (-4)) hx hb dX4_atWhom_10 (by decide) ?_
    refine lv_istore_n (lv' := [(2, .int (-4)), (0, .ref a0), (1, .int a1)]) hx hb dX4_atWhom_12 rfl hl (by decide) rfl (fun ls hl => ?_)
    refine lv_iconst (v := (-1)) hx hb dX4_atWhom_13 (by decide) ?_
    refine lv_istore_n (lv' := [(3, .int (-1)), (2, .int (-4)), (0, .ref a0), (1, .int a1)]) hx hb dX4_atWhom_14 rfl hl (by decide) rfl (fun ls hl => ?_)
    refine lv_iconst (v := 0) hx hb dX4_atWhom_15 (by decide) ?_
    refine lv_istore (lv' := [(4, .int 0), (3, .int (-1)), (2, .int (-4)), (0, .ref a0), (1, .int a1)]) hx hb dX4_atWhom_16 hl (by decide) rfl (fun ls hl => ?_)
    exact w18 1000 M a0 a1 (-4) (-1) 0 _ _ ls hH (lv_sub hl [3, 4, 2, 1, 0] rfl) hf
  · have hf := ip_ c3 hf
    refine lv_iconst (v := (-1)) hx hb dX4_atWhom_8 (by decide) ?_
    cases hf
    exact rt_i hx hb hr hlk hH dX4_atWhom_9
def fX4_isWonInThree (M : Mem_) (a0 : Nat) (a1 : Int32) (a2 : Int32) : Option (Bool × Mem_) :=
  (ck_ M a0 3).bind fun u1 =>
  bw_ (fX4_isWon M a0 (a1 / 9) (a1 - a1 / 9 * 9)) fun r2 M3 =>
  if (b2_ r2) = 0 then
    (gR_ M3 a0 3 1).bind fun v4 =>
    (ck_ M3 a0 3).bind fun u5 =>
    bw_ (fX4_hits M3 a0 v4 0 4) fun r6 M7 =>
    if (b2_ r6) = 0 then
      (gR_ M7 a0 3 1).bind fun v8 =>
      (ck_ M7 a0 3).bind fun u9 =>
      bw_ (fX4_hits M7 a0 v8 (a2 / 9) (a2 - a2 / 9 * 9)) fun r10 M11 =>
      some (r10, M11)
    else
      some (false, M7)
  else
    some (false, M3)
theorem kdX4_isWonInThree : yX4_isWonInThree.cls ≠ "java/lang/invoke/MethodHandle" ∧ yX4_isWonInThree.cls ≠ "java/lang/invoke/VarHandle" ∧ (parseMethodDescriptor yX4_isWonInThree.desc).map (fun d => d.parameters.length) = some 2 := by decide +kernel
set_option maxHeartbeats 4000000 in
theorem mX4_isWonInThree (l : Launch) (G : GT_) (M : Mem_) (n : Nat) (a0 : Nat) (a1 : Int32) (a2 : Int32) (r : Bool) (M1 : Mem_) (hf : fX4_isWonInThree M a0 a1 a2 = some (r, M1)) : Ct_ G l yX4_isWonInThree (ws_ yX4_isWonInThree cX4_isWonInThree 3 (some .boolean)) ({ frames := 5, cells := 0, slots := 0, locals := 121 }) 0 0 [.ref a0, .int a1, .int a2] M n (some (.int (b2_ r))) M1 n := by
  refine en_ (by decide) (Nat.le_of_ble_eq_true rfl) ?_
  intro p e s m below meth c hx hb hr hlk hml hown hts hname hKn hH ls hl
  have hown : s.vm.findClass RX4 = some m.cls := hown
  have hl : lv_has ls 3 [(0, .ref a0), (1, .int a1), (2, .int a2)] := hl
  unfold fX4_isWonInThree at hf
  generalize s.heap = H at hH ⊢
  refine lv_aload_n hx hb dX4_isWonInThree_0 rfl (lv_at hl 0 rfl) ?_
  refine lv_iload_n hx hb dX4_isWonInThree_1 rfl (lv_at hl 1 rfl) ?_
  refine lv_bipush (v := 9) hx hb dX4_isWonInThree_2 (by decide) ?_
  refine lv_idiv hx hb dX4_isWonInThree_4 (by decide) ?_
  refine lv_iload_n hx hb dX4_isWonInThree_5 rfl (lv_at hl 1 rfl) ?_
  refine lv_bipush (v := 9) hx hb dX4_isWonInThree_6 (by decide) ?_
  refine lv_irem hx hb dX4_isWonInThree_8 (by decide) ?_
  obtain ⟨u1, eu1, hf⟩ := bs_ hf
  obtain ⟨r2, M3, er2, hf⟩ := bws_ hf
  refine cl_i0 hH (rn_V ⟨hx, hb, hml, hown, hts⟩ hKn hH (mX4_isWon l G M n a0 (a1 / 9) (a1 - a1 / 9 * 9) r2 M3 er2) (cwV 2 hts (lw_V q1412 q1414 qs53 q70 q1415) rfl rfl rfl ⟨rfl, kdX4_isWon⟩ ⟨Nat.le_of_ble_eq_true rfl, Nat.le_of_ble_eq_true rfl⟩) eu1 rfl rfl hl.1 (Nat.le_of_ble_eq_true rfl) dX4_isWonInThree_9 ⟨(Nat.le_of_ble_eq_true rfl), (Nat.le_of_ble_eq_true rfl)⟩ rfl) (fun H locs hH => ?_)
  refine lv_if_ne (tgt := 28) hx hb dX4_isWonInThree_12 (by decide) (fun c13 => ?_) (fun c13 => ?_)
  · have hf := in_ c13 hf
    refine lv_iconst (v := 0) hx hb dX4_isWonInThree_28 (by decide) ?_
    cases hf
    exact rt_b (b := false) hx hb hr hlk hH dX4_isWonInThree_29
  · have hf := ip_ c13 hf
    refine lv_aload_n hx hb dX4_isWonInThree_15 rfl (lv_at hl 0 rfl) ?_
    refine lv_aload_n hx hb dX4_isWonInThree_16 rfl (lv_at hl 0 rfl) ?_
    obtain ⟨v4, ev4, hf⟩ := bs_ hf
    refine mg_gR hx hb hts hown hKn hH ev4 in_X4 rfl (by decide) (hts _ q1177) (fun _ h9 => h9) dX4_isWonInThree_17 ?_
    refine lv_iconst (v := 0) hx hb dX4_isWonInThree_20 (by decide) ?_
    refine lv_iconst (v := 4) hx hb dX4_isWonInThree_21 (by decide) ?_
    obtain ⟨u5, eu5, hf⟩ := bs_ hf
    obtain ⟨r6, M7, er6, hf⟩ := bws_ hf
    refine cl_i0 hH (rn_V ⟨hx, hb, hml, hown, hts⟩ hKn hH (mX4_hits l G M3 n a0 v4 0 4 r6 M7 er6) (cwV 3 hts (lw_V q1291 q1293 qs46 q70 q1294) rfl rfl rfl ⟨rfl, kdX4_hits⟩ ⟨Nat.le_of_ble_eq_true rfl, Nat.le_of_ble_eq_true rfl⟩) eu5 rfl rfl hl.1 (Nat.le_of_ble_eq_true rfl) dX4_isWonInThree_22 ⟨(Nat.le_of_ble_eq_true rfl), (Nat.le_of_ble_eq_true rfl)⟩ rfl) (fun H locs hH => ?_)
    refine lv_if_eq (tgt := 30) hx hb dX4_isWonInThree_25 (by decide) (fun c12 => ?_) (fun c12 => ?_)
    · have hf := ip_ c12 hf
      refine lv_aload_n hx hb dX4_isWonInThree_30 rfl (lv_at hl 0 rfl) ?_
      refine lv_aload_n hx hb dX4_isWonInThree_31 rfl (lv_at hl 0 rfl) ?_
      obtain ⟨v8, ev8, hf⟩ := bs_ hf
      refine mg_gR hx hb hts hown hKn hH ev8 in_X4 rfl (by decide) (hts _ q1177) (fun _ h9 => h9) dX4_isWonInThree_32 ?_
      refine lv_iload_n hx hb dX4_isWonInThree_35 rfl (lv_at hl 2 rfl) ?_
      refine lv_bipush (v := 9) hx hb dX4_isWonInThree_36 (by decide) ?_
      refine lv_idiv hx hb dX4_isWonInThree_38 (by decide) ?_
      refine lv_iload_n hx hb dX4_isWonInThree_39 rfl (lv_at hl 2 rfl) ?_
      refine lv_bipush (v := 9) hx hb dX4_isWonInThree_40 (by decide) ?_
      refine lv_irem hx hb dX4_isWonInThree_42 (by decide) ?_
      obtain ⟨u9, eu9, hf⟩ := bs_ hf
      obtain ⟨r10, M11, er10, hf⟩ := bws_ hf
      refine cl_i0 hH (rn_V ⟨hx, hb, hml, hown, hts⟩ hKn hH (mX4_hits l G M7 n a0 v8 (a2 / 9) (a2 - a2 / 9 * 9) r10 M11 er10) (cwV 3 hts (lw_V q1291 q1293 qs46 q70 q1294) rfl rfl rfl ⟨rfl, kdX4_hits⟩ ⟨Nat.le_of_ble_eq_true rfl, Nat.le_of_ble_eq_true rfl⟩) eu9 rfl rfl hl.1 (Nat.le_of_ble_eq_true rfl) dX4_isWonInThree_43 ⟨(Nat.le_of_ble_eq_true rfl), (Nat.le_of_ble_eq_true rfl)⟩ rfl) (fun H locs hH => ?_)
      cases hf
      exact rt_b (b := _) hx hb hr hlk hH dX4_isWonInThree_46
    · have hf := in_ c12 hf
      refine lv_iconst (v := 0) hx hb dX4_isWonInThree_28 (by decide) ?_
      cases hf
      exact rt_b (b := false) hx hb hr hlk hH dX4_isWonInThree_29
def fX4_fewest_L64 (K55 : Mem_ → Nat → Int32 → Int32 → Int32 → Int32 → Option (Int32 × Mem_)) : Nat → Mem_ → Nat → Int32 → Int32 → Int32 → Int32 → Int32 → Option (Int32 × Mem_)
  | 0, _, _, _, _, _, _, _ => none
  | fuel + 1, M, x0, x1, x2, x3, x4, x5 =>
    if x3 ≤ x5 then
      lt_ (x4 + 1) fun v15 =>
      K55 M x0 x1 x2 x3 v15
    else
      (ck_ M x0 3).bind fun u16 =>
      bw_ (fX4_isWonInThree M x0 x4 x5) fun r17 M18 =>
      if (b2_ r17) = 0 then
        lt_ (x5 + 1) fun v19 =>
        fX4_fewest_L64 K55 fuel M18 x0 x1 x2 x3 x4 v19
      else
        if x1 = 0 then
          some (3, M18)
        else
          some (((10 * (x4 / 9)) + (x4 - x4 / 9 * 9)), M18)
def fX4_fewest_L55 : Nat → Mem_ → Nat → Int32 → Int32 → Int32 → Int32 → Option (Int32 × Mem_)
  | 0, _, _, _, _, _, _ => none
  | fuel + 1, M, x0, x1, x2, x3, x4 =>
    if x3 ≤ x4 then
      some ((-4), M)
    else
      fX4_fewest_L64 (fX4_fewest_L55 fuel) 1000 M x0 x1 x2 x3 x4 0
def fX4_fewest (M : Mem_) (a0 : Nat) (a1 : Int32) : Option (Int32 × Mem_) :=
  lt_ (fX4_isIn a1 0 1) fun r1 =>
  if (b2_ r1) = 0 then
    some ((-1), M)
  else
    (gR_ M a0 3 0).bind fun v2 =>
    (aI_ M v2 0 0).bind fun v3 =>
    if v3 = 0 then
      some ((-3), M)
    else
      (ck_ M a0 3).bind fun u4 =>
      bw_ (fX4_forced M a0) fun r5 M6 =>
      if r5 < 0 then
        (gR_ M6 a0 3 0).bind fun v7 =>
        (aI_ M6 v7 0 0).bind fun v8 =>
        lt_ ((9 * v8)) fun v9 =>
        fX4_fewest_L55 1000 M6 a0 a1 r5 v9 0
      else
        if a1 = 0 then
          some (1, M6)
        else
          some (r5, M6)
theorem kdX4_fewest : yX4_fewest.cls ≠ "java/lang/invoke/MethodHandle" ∧ yX4_fewest.cls ≠ "java/lang/invoke/VarHandle" ∧ (parseMethodDescriptor yX4_fewest.desc).map (fun d => d.parameters.length) = some 1 := by decide +kernel
set_option maxHeartbeats 4000000 in
theorem mX4_fewest (l : Launch) (G : GT_) (M : Mem_) (n : Nat) (a0 : Nat) (a1 : Int32) (r : Int32) (M1 : Mem_) (hf : fX4_fewest M a0 a1 = some (r, M1)) : Ct_ G l yX4_fewest (ws_ yX4_fewest cX4_fewest 6 (some .int)) ({ frames := 6, cells := 0, slots := 0, locals := 143 }) 0 0 [.ref a0, .int a1] M n (some (.int r)) M1 n := by
  refine en_ (by decide) (Nat.le_of_ble_eq_true rfl) ?_
  intro p e s m below meth c hx hb hr hlk hml hown hts hname hKn hH ls hl
  have hown : s.vm.findClass RX4 = some m.cls := hown
  have hl : lv_has ls 6 [(0, .ref a0), (1, .int a1)] := hl
  have w64 : ∀ (K55 : Mem_ → Nat → Int32 → Int32 → Int32 → Int32 → Option (Int32 × Mem_)), (∀ (M : Mem_) (x0 : Nat) (x1 : Int32) (x2 : Int32) (x3 : Int32) (x4 : Int32) (H : Heap) (locs : List Loc) (ls : Array Slot), St_ G n M s H locs → lv_has ls 6 [(0, .ref x0), (1, .int x1), (2, .int x2), (3, .int x3), (4, .int x4)] → K55 M x0 x1 x2 x3 x4 = some (r, M1) → W p l e ({ frames := 6, cells := 0, slots := 0, locals := 143 } : Room) s m ([.ref a0, .int a1] : List Value).toArray below meth c H locs 0 0 (MQ below (Qc_ G (some (.int r)) M1 n) ([.ref a0, .int a1] : List Value).toArray s 0 0 (fun q => G.1 ≤ q)) (F0 m 55 ls [])) → ∀ (fuel : Nat), ∀ (M : Mem_) (x0 : Nat) (x1 : Int32) (x2 : Int32) (x3 : Int32) (x4 : Int32) (x5 : Int32) (H : Heap) (locs : List Loc) (ls : Array Slot), St_ G n M s H locs → lv_has ls 6 [(0, .ref x0), (1, .int x1), (2, .int x2), (3, .int x3), (4, .int x4), (5, .int x5)] → fX4_fewest_L64 K55 fuel M x0 x1 x2 x3 x4 x5 = some (r, M1) → W p l e ({ frames := 6, cells := 0, slots := 0, locals := 143 } : Room) s m ([.ref a0, .int a1] : List Value).toArray below meth c H locs 0 0 (MQ below (Qc_ G (some (.int r)) M1 n) ([.ref a0, .int a1] : List Value).toArray s 0 0 (fun q => G.1 ≤ q)) (F0 m 64 ls []) := by
    intro K55 hK55 fuel
    induction fuel with
    | zero =>
      intro M x0 x1 x2 x3 x4 x5 H locs ls hH hl hf
      cases hf
    | succ fuel ih =>
      intro M x0 x1 x2 x3 x4 x5 H locs ls hH hl hf
      unfold fX4_fewest_L64 at hf
      refine lv_iload hx hb dX4_fewest_64 (lv_at hl 5 rfl) ?_
      refine lv_iload_n hx hb dX4_fewest_66 rfl (lv_at hl 3 rfl) ?_
      refine lv_icmp_ge (tgt := 110) hx hb dX4_fewest_67 (by decide) (fun c22 => ?_) (fun c22 => ?_)
      · have hf := ip_ c22 hf
        obtain ⟨v15, ev15⟩ : ∃ z : Int32, z = x4 + 1 := ⟨_, rfl⟩
        have hf := lu_ ev15 hf
        refine lv_iinc (v := v15) (lv' := [(4, .int v15), (0, .ref x0), (1, .int x1), (2, .int x2), (3, .int x3), (5, .int x5)]) hx hb dX4_fewest_110 hl (k := 4) rfl (by rw [ev15]; rfl) (by decide) rfl (fun ls hl => ?_)
        refine lv_goto (tgt := 55) hx hb dX4_fewest_113 (by decide) ?_
        exact hK55 M x0 x1 x2 x3 v15 _ _ ls hH (lv_sub hl [1, 2, 3, 4, 0] rfl) hf
      · have hf := in_ c22 hf
        refine lv_aload_n hx hb dX4_fewest_70 rfl (lv_at hl 0 rfl) ?_
        refine lv_iload hx hb dX4_fewest_71 (lv_at hl 4 rfl) ?_
        refine lv_iload hx hb dX4_fewest_73 (lv_at hl 5 rfl) ?_
        obtain ⟨u16, eu16, hf⟩ := bs_ hf
        obtain ⟨r17, M18, er17, hf⟩ := bws_ hf
        refine cl_i0 hH (rn_V ⟨hx, hb, hml, hown, hts⟩ hKn hH (mX4_isWonInThree l G M n x0 x4 x5 r17 M18 er17) (cwV 2 hts (lw_V q1449 q1451 qs56 q70 q1452) rfl rfl rfl ⟨rfl, kdX4_isWonInThree⟩ ⟨Nat.le_of_ble_eq_true rfl, Nat.le_of_ble_eq_true rfl⟩) eu16 rfl rfl hl.1 (Nat.le_of_ble_eq_true rfl) dX4_fewest_75 ⟨(Nat.le_of_ble_eq_true rfl), (Nat.le_of_ble_eq_true rfl)⟩ rfl) (fun H locs hH => ?_)
        refine lv_if_eq (tgt := 104) hx hb dX4_fewest_78 (by decide) (fun c21 => ?_) (fun c21 => ?_)
        · have hf := ip_ c21 hf
          obtain ⟨v19, ev19⟩ : ∃ z : Int32, z = x5 + 1 := ⟨_, rfl⟩
          have hf := lu_ ev19 hf
          refine lv_iinc (v := v19) (lv' := [(5, .int v19), (0, .ref x0), (1, .int x1), (2, .int x2), (3, .int x3), (4, .int x4)]) hx hb dX4_fewest_104 hl (k := 5) rfl (by rw [ev19]; rfl) (by decide) rfl (fun ls hl => ?_)
          refine lv_goto (tgt := 64) hx hb dX4_fewest_107 (by decide) ?_
          exact ih M18 x0 x1 x2 x3 x4 v19 _ _ ls hH (lv_sub hl [1, 2, 3, 4, 5, 0] rfl) hf
        · have hf := in_ c21 hf
          refine lv_iload_n hx hb dX4_fewest_81 rfl (lv_at hl 1 rfl) ?_
          refine lv_if_ne (tgt := 89) hx hb dX4_fewest_82 (by decide) (fun c20 => ?_) (fun c20 => ?_)
          · have hf := in_ c20 hf
            refine lv_bipush (v := 10) hx hb dX4_fewest_89 (by decide) ?_
            refine lv_iload hx hb dX4_fewest_91 (lv_at hl 4 rfl) ?_
            refine lv_bipush (v := 9) hx hb dX4_fewest_93 (by decide) ?_
            refine lv_idiv hx hb dX4_fewest_95 (by decide) ?_
            refine lv_imul hx hb dX4_fewest_96 ?_
            refine lv_iload hx hb dX4_fewest_97 (lv_at hl 4 rfl) ?_
            refine lv_bipush (v := 9) hx hb dX4_fewest_99 (by decide) ?_
            refine lv_irem hx hb dX4_fewest_101 (by decide) ?_
            refine lv_iadd hx hb dX4_fewest_102 ?_
            cases hf
            exact rt_i hx hb hr hlk hH dX4_fewest_103
          · have hf := ip_ c20 hf
            refine lv_iconst (v := 3) hx hb dX4_fewest_85 (by decide) ?_
            refine lv_goto (tgt := 103) hx hb dX4_fewest_86 (by decide) ?_
            cases hf
            exact rt_i hx hb hr hlk hH dX4_fewest_103
  have w55 : ∀ (fuel : Nat), ∀ (M : Mem_) (x0 : Nat) (x1 : Int32) (x2 : Int32) (x3 : Int32) (x4 : Int32) (H : Heap) (locs : List Loc) (ls : Array Slot), St_ G n M s H locs → lv_has ls 6 [(0, .ref x0), (1, .int x1), (2, .int x2), (3, .int x3), (4, .int x4)] → fX4_fewest_L55 fuel M x0 x1 x2 x3 x4 = some (r, M1) → W p l e ({ frames := 6, cells := 0, slots := 0, locals := 143 } : Room) s m ([.ref a0, .int a1] : List Value).toArray below meth c H locs 0 0 (MQ below (Qc_ G (some (.int r)) M1 n) ([.ref a0, .int a1] : List Value).toArray s 0 0 (fun q => G.1 ≤ q)) (F0 m 55 ls []) := by
    intro fuel
    induction fuel with
    | zero =>
      intro M x0 x1 x2 x3 x4 H locs ls hH hl hf
      cases hf
    | succ fuel ih =>
      intro M x0 x1 x2 x3 x4 H locs ls hH hl hf
      unfold fX4_fewest_L55 at hf
      refine lv_iload hx hb dX4_fewest_55 (lv_at hl 4 rfl) ?_
      refine lv_iload_n hx hb dX4_fewest_57 rfl (lv_at hl 3 rfl) ?_
      refine lv_icmp_ge (tgt := 116) hx hb dX4_fewest_58 (by decide) (fun c14 => ?_) (fun c14 => ?_)
      · have hf := ip_ c14 hf
        refine lv_bipush (v := (-4)) hx hb dX4_fewest_116 (by decide) ?_
        cases hf
        exact rt_i hx hb hr hlk hH dX4_fewest_118
      · have hf := in_ c14 hf
        refine lv_iconst (v := 0) hx hb dX4_fewest_61 (by decide) ?_
        refine lv_istore (lv' := [(5, .int 0), (0, .ref x0), (1, .int x1), (2, .int x2), (3, .int x3), (4, .int x4)]) hx hb dX4_fewest_62 hl (by decide) rfl (fun ls hl => ?_)
        exact w64 _ ih 1000 M x0 x1 x2 x3 x4 0 _ _ ls hH (lv_sub hl [1, 2, 3, 4, 5, 0] rfl) hf
  unfold fX4_fewest at hf
  refine lv_iload_n hx hb dX4_fewest_0 rfl (lv_at hl 1 rfl) ?_
  refine lv_iconst (v := 0) hx hb dX4_fewest_1 (by decide) ?_
  refine lv_iconst (v := 1) hx hb dX4_fewest_2 (by decide) ?_
  obtain ⟨r1, er1⟩ : ∃ z, z = fX4_isIn a1 0 1 := ⟨_, rfl⟩
  have hf := lu_ er1 hf
  refine cl_i0 hH (rn_S ⟨hx, hb, hml, hown, hts⟩ hKn hH (mX4_isIn l G M n a1 0 1 r1 er1.symm) (va_cwS 3 hts (lw_S q1248 q1249 q70 q1250) rfl rfl rfl kdX4_isIn ⟨Nat.le_of_ble_eq_true rfl, Nat.le_of_ble_eq_true rfl⟩) rfl hl.1 (Nat.le_of_ble_eq_true rfl) dX4_fewest_3 ⟨(Nat.le_of_ble_eq_true rfl), (Nat.le_of_ble_eq_true rfl)⟩ rfl) (fun H locs hH => ?_)
  refine lv_if_ne (tgt := 11) hx hb dX4_fewest_6 (by decide) (fun c13 => ?_) (fun c13 => ?_)
  · have hf := in_ c13 hf
    refine lv_aload_n hx hb dX4_fewest_11 rfl (lv_at hl 0 rfl) ?_
    obtain ⟨v2, ev2, hf⟩ := bs_ hf
    refine mg_gR hx hb hts hown hKn hH ev2 in_X4 rfl (by decide) (hts _ q1176) (fun _ h9 => h9) dX4_fewest_12 ?_
    refine lv_iconst (v := 0) hx hb dX4_fewest_15 (by decide) ?_
    obtain ⟨v3, ev3, hf⟩ := bs_ hf
    refine mg_iald hx hb hKn hH ev3 dX4_fewest_16 ?_
    refine lv_if_ne (tgt := 23) hx hb dX4_fewest_17 (by decide) (fun c12 => ?_) (fun c12 => ?_)
    · have hf := in_ c12 hf
      refine lv_aload_n hx hb dX4_fewest_23 rfl (lv_at hl 0 rfl) ?_
      obtain ⟨u4, eu4, hf⟩ := bs_ hf
      obtain ⟨r5, M6, er5, hf⟩ := bws_ hf
      refine cl_i0 hH (rn_V ⟨hx, hb, hml, hown, hts⟩ hKn hH (mX4_forced l G M n a0 r5 M6 er5) (cwV 0 hts (lw_V q1448 q1429 q1430 q70 q1431) rfl rfl rfl ⟨rfl, kdX4_forced⟩ ⟨Nat.le_of_ble_eq_true rfl, Nat.le_of_ble_eq_true rfl⟩) eu4 rfl rfl hl.1 (Nat.le_of_ble_eq_true rfl) dX4_fewest_24 ⟨(Nat.le_of_ble_eq_true rfl), (Nat.le_of_ble_eq_true rfl)⟩ rfl) (fun H locs hH => ?_)
      refine lv_istore_n (lv' := [(2, .int r5), (0, .ref a0), (1, .int a1)]) hx hb dX4_fewest_27 rfl hl (by decide) rfl (fun ls hl => ?_)
      refine lv_iload_n hx hb dX4_fewest_28 rfl (lv_at hl 0 rfl) ?_
      refine lv_if_lt (tgt := 42) hx hb dX4_fewest_29 (by decide) (fun c11 => ?_) (fun c11 => ?_)
      · have hf := ip_ c11 hf
        refine lv_bipush (v := 9) hx hb dX4_fewest_42 (by decide) ?_
        refine lv_aload_n hx hb dX4_fewest_44 rfl (lv_at hl 1 rfl) ?_
        obtain ⟨v7, ev7, hf⟩ := bs_ hf
        refine mg_gR hx hb hts hown hKn hH ev7 in_X4 rfl (by decide) (hts _ q1176) (fun _ h9 => h9) dX4_fewest_45 ?_
        refine lv_iconst (v := 0) hx hb dX4_fewest_48 (by decide) ?_
        obtain ⟨v8, ev8, hf⟩ := bs_ hf
        refine mg_iald hx hb hKn hH ev8 dX4_fewest_49 ?_
        refine lv_imul hx hb dX4_fewest_50 ?_
        refine lv_topi (fun v9 ev9 => ?_)
        have hf := lu_ ev9 hf
        refine lv_istore_n (lv' := [(3, .int v9), (2, .int r5), (0, .ref a0), (1, .int a1)]) hx hb dX4_fewest_51 rfl hl (by decide) rfl (fun ls hl => ?_)
        refine lv_iconst (v := 0) hx hb dX4_fewest_52 (by decide) ?_
        refine lv_istore (lv' := [(4, .int 0), (3, .int v9), (2, .int r5), (0, .ref a0), (1, .int a1)]) hx hb dX4_fewest_53 hl (by decide) rfl (fun ls hl => ?_)
        exact w55 1000 M6 a0 a1 r5 v9 0 _ _ ls hH (lv_sub hl [3, 4, 2, 1, 0] rfl) hf
      · have hf := in_ c11 hf
        refine lv_iload_n hx hb dX4_fewest_32 rfl (lv_at hl 2 rfl) ?_
        refine lv_if_ne (tgt := 40) hx hb dX4_fewest_33 (by decide) (fun c10 => ?_) (fun c10 => ?_)
        · have hf := in_ c10 hf
          refine lv_iload_n hx hb dX4_fewest_40 rfl (lv_at hl 0 rfl) ?_
          cases hf
          exact rt_i hx hb hr hlk hH dX4_fewest_41
        · have hf := ip_ c10 hf
          refine lv_iconst (v := 1) hx hb dX4_fewest_36 (by decide) ?_
          refine lv_goto (tgt := 41) hx hb dX4_fewest_37 (by decide) ?_
          cases hf
          exact rt_i hx hb hr hlk hH dX4_fewest_41
    · have hf := ip_ c12 hf
      refine lv_bipush (v := (-3)) hx hb dX4_fewest_20 (by decide) ?_
      cases hf
      exact rt_i hx hb hr hlk hH dX4_fewest_22
  · have hf := ip_ c13 hf
    refine lv_iconst (v := (-1)) hx hb dX4_fewest_9 (by decide) ?_
    cases hf
    exact rt_i hx hb hr hlk hH dX4_fewest_10
