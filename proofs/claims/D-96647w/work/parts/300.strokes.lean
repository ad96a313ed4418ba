set_option maxRecDepth 100000
def fX17_falls (a0 : Nat) (a1 : Int32) (a2 : Int32) : Int32 :=
  a1
theorem kdX17_falls : yX17_falls.cls ≠ "java/lang/invoke/MethodHandle" ∧ yX17_falls.cls ≠ "java/lang/invoke/VarHandle" ∧ (parseMethodDescriptor yX17_falls.desc).map (fun d => d.parameters.length) = some 2 := by decide +kernel
set_option maxHeartbeats 4000000 in
theorem mX17_falls (l : Launch) (G : GT_) (M : Mem_) (n : Nat) (a0 : Nat) (a1 : Int32) (a2 : Int32) (r : Int32) (hf : fX17_falls a0 a1 a2 = r) : Ct_ G l yX17_falls (ws_ yX17_falls cX17_falls 3 (some .int)) ({ frames := 0, cells := 0, slots := 0, locals := 0 }) 0 0 [.ref a0, .int a1, .int a2] M n (some (.int r)) M n := by
  refine en_ (by decide) (Nat.le_of_ble_eq_true rfl) ?_
  intro p e s m below meth c hx hb hr hlk hml hown hts hname hKn hH ls hl
  have hown : s.vm.findClass RX17 = some m.cls := hown
  have hl : lv_has ls 3 [(0, .ref a0), (1, .int a1), (2, .int a2)] := hl
  unfold fX17_falls at hf
  generalize s.heap = H at hH ⊢
  refine lv_iload_n hx hb dX17_falls_0 rfl (lv_at hl 1 rfl) ?_
  subst hf
  exact rt_i hx hb hr hlk hH dX17_falls_1
def fX18_tires (a0 : Nat) : Int32 :=
  1
theorem kdX18_tires : yX18_tires.cls ≠ "java/lang/invoke/MethodHandle" ∧ yX18_tires.cls ≠ "java/lang/invoke/VarHandle" ∧ (parseMethodDescriptor yX18_tires.desc).map (fun d => d.parameters.length) = some 0 := by decide +kernel
set_option maxHeartbeats 4000000 in
theorem mX18_tires (l : Launch) (G : GT_) (M : Mem_) (n : Nat) (a0 : Nat) (r : Int32) (hf : fX18_tires a0 = r) : Ct_ G l yX18_tires (ws_ yX18_tires cX18_tires 1 (some .int)) ({ frames := 0, cells := 0, slots := 0, locals := 0 }) 0 0 [.ref a0] M n (some (.int r)) M n := by
  refine en_ (by decide) (Nat.le_of_ble_eq_true rfl) ?_
  intro p e s m below meth c hx hb hr hlk hml hown hts hname hKn hH ls hl
  have hown : s.vm.findClass RX18 = some m.cls := hown
  have hl : lv_has ls 1 [(0, .ref a0)] := hl
  unfold fX18_tires at hf
  generalize s.heap = H at hH ⊢
  refine lv_iconst (v := 1) hx hb dX18_tires_0 (by decide) ?_
  subst hf
  exact rt_i hx hb hr hlk hH dX18_tires_1
def fX8_init (M : Mem_) (a0 : Nat) (a1 : Int32) : Option Mem_ :=
  (pG_ M a0 a1).bind fun M1 =>
  some M1
theorem kdX8_init : yX8_init.cls ≠ "java/lang/invoke/MethodHandle" ∧ yX8_init.cls ≠ "java/lang/invoke/VarHandle" ∧ (parseMethodDescriptor yX8_init.desc).map (fun d => d.parameters.length) = some 1 := by decide +kernel
set_option maxHeartbeats 4000000 in
theorem mX8_init (l : Launch) (G : GT_) (M : Mem_) (n : Nat) (a0 : Nat) (a1 : Int32) (M1 : Mem_) (hf : fX8_init M a0 a1 = some M1) : Ct_ G l yX8_init (ws_ yX8_init cX8_init 2 none) ({ frames := 1, cells := 0, slots := 0, locals := 12 }) 0 0 [.ref a0, .int a1] M n (none) M1 n := by
  refine en_ (by decide) (Nat.le_of_ble_eq_true rfl) ?_
  intro p e s m below meth c hx hb hr hlk hml hown hts hname hKn hH ls hl
  have hown : s.vm.findClass RX8 = some m.cls := hown
  have hl : lv_has ls 2 [(0, .ref a0), (1, .int a1)] := hl
  unfold fX8_init at hf
  generalize s.heap = H at hH ⊢
  refine lv_aload_n hx hb dX8_init_0 rfl (lv_at hl 0 rfl) ?_
  refine W.objInit hx hb hown (hts _ q324) (hts _ q116) (hts _ q117) rfl (by rw [hml]; exact hl.1) rfl dX8_init_1 (Nat.le_of_ble_eq_true rfl) (Nat.le_of_ble_eq_true rfl) ?_
  refine W.eq (g2 := F0 m 4 ls []) rfl ?_
  refine lv_aload_n hx hb dX8_init_4 rfl (lv_at hl 0 rfl) ?_
  refine lv_iload_n hx hb dX8_init_5 rfl (lv_at hl 1 rfl) ?_
  obtain ⟨M1, eM1, hf⟩ := bs_ hf
  refine mg_pG hx hb hts hown hKn hH eM1 (hts _ q325) hname dX8_init_6 (fun H locs hH => ?_)
  cases hf
  exact rt_v hx hb hr hlk hH dX8_init_9
def fX10_init (M : Mem_) (a0 : Nat) (a1 : Int32) : Option Mem_ :=
  (fX8_init M a0 a1).bind fun M2 =>
  some M2
theorem kdX10_init : yX10_init.cls ≠ "java/lang/invoke/MethodHandle" ∧ yX10_init.cls ≠ "java/lang/invoke/VarHandle" ∧ (parseMethodDescriptor yX10_init.desc).map (fun d => d.parameters.length) = some 1 := by decide +kernel
set_option maxHeartbeats 4000000 in
theorem mX10_init (l : Launch) (G : GT_) (M : Mem_) (n : Nat) (a0 : Nat) (a1 : Int32) (M1 : Mem_) (hf : fX10_init M a0 a1 = some M1) : Ct_ G l yX10_init (ws_ yX10_init cX10_init 2 none) ({ frames := 2, cells := 0, slots := 0, locals := 33 }) 0 0 [.ref a0, .int a1] M n (none) M1 n := by
  refine en_ (by decide) (Nat.le_of_ble_eq_true rfl) ?_
  intro p e s m below meth c hx hb hr hlk hml hown hts hname hKn hH ls hl
  have hown : s.vm.findClass RX10 = some m.cls := hown
  have hl : lv_has ls 2 [(0, .ref a0), (1, .int a1)] := hl
  unfold fX10_init at hf
  generalize s.heap = H at hH ⊢
  refine lv_aload_n hx hb dX10_init_0 rfl (lv_at hl 0 rfl) ?_
  refine lv_iload_n hx hb dX10_init_1 rfl (lv_at hl 1 rfl) ?_
  obtain ⟨M2, er1, hf⟩ := bs_ hf
  refine cl_v0 hH (rn_I ⟨hx, hb, hml, hown, hts⟩ hKn hH (mX8_init l G M n a0 a1 M2 er1) (cwI 1 hts (lw_meth q323) rfl rfl rfl (hts _ q81) (hts _ q349) (hts _ q322) rfl kdX8_init ⟨Nat.le_of_ble_eq_true rfl, Nat.le_of_ble_eq_true rfl⟩) rfl hl.1 (Nat.le_of_ble_eq_true rfl) dX10_init_2 ⟨(Nat.le_of_ble_eq_true rfl), (Nat.le_of_ble_eq_true rfl)⟩ rfl) (fun H locs hH => ?_)
  cases hf
  exact rt_v hx hb hr hlk hH dX10_init_5
def fX1_rowOf (a0 : Int32) : Int32 :=
  (a0 / 3)
theorem kdX1_rowOf : yX1_rowOf.cls ≠ "java/lang/invoke/MethodHandle" ∧ yX1_rowOf.cls ≠ "java/lang/invoke/VarHandle" ∧ (parseMethodDescriptor yX1_rowOf.desc).map (fun d => d.parameters.length) = some 1 := by decide +kernel
set_option maxHeartbeats 4000000 in
theorem mX1_rowOf (l : Launch) (G : GT_) (M : Mem_) (n : Nat) (a0 : Int32) (r : Int32) (hf : fX1_rowOf a0 = r) : Ct_ G l yX1_rowOf (ws_ yX1_rowOf cX1_rowOf 1 (some .int)) ({ frames := 0, cells := 0, slots := 0, locals := 0 }) 0 0 [.int a0] M n (some (.int r)) M n := by
  refine en_ (by decide) (Nat.le_of_ble_eq_true rfl) ?_
  intro p e s m below meth c hx hb hr hlk hml hown hts hname hKn hH ls hl
  have hown : s.vm.findClass RX1 = some m.cls := hown
  have hl : lv_has ls 1 [(0, .int a0)] := hl
  unfold fX1_rowOf at hf
  generalize s.heap = H at hH ⊢
  refine lv_iload_n hx hb dX1_rowOf_0 rfl (lv_at hl 0 rfl) ?_
  refine lv_iconst (v := 3) hx hb dX1_rowOf_1 (by decide) ?_
  refine lv_idiv hx hb dX1_rowOf_2 (by decide) ?_
  subst hf
  exact rt_i hx hb hr hlk hH dX1_rowOf_3
def fX8_time (a0 : Nat) (a1 : Int32) : Int32 :=
  3
theorem kdX8_time : yX8_time.cls ≠ "java/lang/invoke/MethodHandle" ∧ yX8_time.cls ≠ "java/lang/invoke/VarHandle" ∧ (parseMethodDescriptor yX8_time.desc).map (fun d => d.parameters.length) = some 1 := by decide +kernel
set_option maxHeartbeats 4000000 in
theorem mX8_time (l : Launch) (G : GT_) (M : Mem_) (n : Nat) (a0 : Nat) (a1 : Int32) (r : Int32) (hf : fX8_time a0 a1 = r) : Ct_ G l yX8_time (ws_ yX8_time cX8_time 2 (some .int)) ({ frames := 0, cells := 0, slots := 0, locals := 0 }) 0 0 [.ref a0, .int a1] M n (some (.int r)) M n := by
  refine en_ (by decide) (Nat.le_of_ble_eq_true rfl) ?_
  intro p e s m below meth c hx hb hr hlk hml hown hts hname hKn hH ls hl
  have hown : s.vm.findClass RX8 = some m.cls := hown
  have hl : lv_has ls 2 [(0, .ref a0), (1, .int a1)] := hl
  unfold fX8_time at hf
  generalize s.heap = H at hH ⊢
  refine lv_iconst (v := 3) hx hb dX8_time_0 (by decide) ?_
  subst hf
  exact rt_i hx hb hr hlk hH dX8_time_1
def fX10_time (M : Mem_) (a0 : Nat) (a1 : Int32) : Option Int32 :=
  lt_ (fX1_rowOf a1) fun r1 =>
  if r1 = 0 then
    some 2
  else
    (kd_ M a0).bind fun u2 =>
    lt_ (fX8_time a0 a1) fun r3 =>
    some r3
theorem kdX10_time : yX10_time.cls ≠ "java/lang/invoke/MethodHandle" ∧ yX10_time.cls ≠ "java/lang/invoke/VarHandle" ∧ (parseMethodDescriptor yX10_time.desc).map (fun d => d.parameters.length) = some 1 := by decide +kernel
set_option maxHeartbeats 4000000 in
theorem mX10_time (l : Launch) (G : GT_) (M : Mem_) (n : Nat) (a0 : Nat) (a1 : Int32) (r : Int32) (hf : fX10_time M a0 a1 = some r) : Ct_ G l yX10_time (ws_ yX10_time cX10_time 2 (some .int)) ({ frames := 1, cells := 0, slots := 0, locals := 21 }) 0 0 [.ref a0, .int a1] M n (some (.int r)) M n := by
  refine en_ (by decide) (Nat.le_of_ble_eq_true rfl) ?_
  intro p e s m below meth c hx hb hr hlk hml hown hts hname hKn hH ls hl
  have hown : s.vm.findClass RX10 = some m.cls := hown
  have hl : lv_has ls 2 [(0, .ref a0), (1, .int a1)] := hl
  unfold fX10_time at hf
  generalize s.heap = H at hH ⊢
  refine lv_iload_n hx hb dX10_time_0 rfl (lv_at hl 1 rfl) ?_
  obtain ⟨r1, er1⟩ : ∃ z, z = fX1_rowOf a1 := ⟨_, rfl⟩
  have hf := lu_ er1 hf
  refine cl_i0 hH (rn_SN ⟨hx, hb, hml, hown, hts⟩ hKn hH (mX1_rowOf l G M n a1 r1 er1.symm) ⟨va_cnB 1 hts (lw_meth q429) rfl rfl rfl (hKn.2.1 _ (List.mem_of_getElem? (i := 2) rfl)) (hts _ q67) kdX1_rowOf ⟨Nat.le_of_ble_eq_true rfl, Nat.le_of_ble_eq_true rfl⟩, hts _ q428, trivial⟩ rfl hl.1 (Nat.le_of_ble_eq_true rfl) dX10_time_1 ⟨(Nat.le_of_ble_eq_true rfl), (Nat.le_of_ble_eq_true rfl)⟩ rfl) (fun H locs hH => ?_)
  refine lv_if_ne (tgt := 11) hx hb dX10_time_4 (by decide) (fun c4 => ?_) (fun c4 => ?_)
  · have hf := in_ c4 hf
    refine lv_aload_n hx hb dX10_time_11 rfl (lv_at hl 0 rfl) ?_
    refine lv_iload_n hx hb dX10_time_12 rfl (lv_at hl 1 rfl) ?_
    obtain ⟨u2, eu2, hf⟩ := bs_ hf
    obtain ⟨r3, er3⟩ : ∃ z, z = fX8_time a0 a1 := ⟨_, rfl⟩
    have hf := lu_ er3 hf
    refine cl_i0 hH (rn_SU ⟨hx, hb, hml, hown, hts⟩ hKn hH (mX8_time l G M n a0 a1 r3 er3.symm) (va_cwSU 1 hts (lw_SU q461 q455 q351 q453 q81 q481) rfl rfl rfl ⟨by decide, kdX8_time.2.2⟩ ⟨Nat.le_of_ble_eq_true rfl, Nat.le_of_ble_eq_true rfl⟩) eu2 rfl hl.1 (Nat.le_of_ble_eq_true rfl) dX10_time_13 ⟨(Nat.le_of_ble_eq_true rfl), (Nat.le_of_ble_eq_true rfl)⟩ rfl) (fun H locs hH => ?_)
    cases hf
    exact rt_i hx hb hr hlk hH dX10_time_16
  · have hf := ip_ c4 hf
    refine lv_iconst (v := 2) hx hb dX10_time_7 (by decide) ?_
    refine lv_goto (tgt := 16) hx hb dX10_time_8 (by decide) ?_
    cases hf
    exact rt_i hx hb hr hlk hH dX10_time_16
def fX10_tires (M : Mem_) (a0 : Nat) : Option Int32 :=
  (kd_ M a0).bind fun u1 =>
  (gF_ M a0).bind fun v2 =>
  some (1 + (v2 / 3))
theorem kdX10_tires : yX10_tires.cls ≠ "java/lang/invoke/MethodHandle" ∧ yX10_tires.cls ≠ "java/lang/invoke/VarHandle" ∧ (parseMethodDescriptor yX10_tires.desc).map (fun d => d.parameters.length) = some 0 := by decide +kernel
set_option maxHeartbeats 4000000 in
theorem mX10_tires (l : Launch) (G : GT_) (M : Mem_) (n : Nat) (a0 : Nat) (r : Int32) (hf : fX10_tires M a0 = some r) : Ct_ G l yX10_tires (ws_ yX10_tires cX10_tires 1 (some .int)) ({ frames := 1, cells := 0, slots := 0, locals := 20 }) 0 0 [.ref a0] M n (some (.int r)) M n := by
  refine en_ (by decide) (Nat.le_of_ble_eq_true rfl) ?_
  intro p e s m below meth c hx hb hr hlk hml hown hts hname hKn hH ls hl
  have hown : s.vm.findClass RX10 = some m.cls := hown
  have hl : lv_has ls 1 [(0, .ref a0)] := hl
  unfold fX10_tires at hf
  generalize s.heap = H at hH ⊢
  refine lv_aload_n hx hb dX10_tires_0 rfl (lv_at hl 0 rfl) ?_
  obtain ⟨u1, eu1, hf⟩ := bs_ hf
  refine cl_i0 hH (rn_SD (x := ⟨"SideBySide$Stroke", "tires", "()I"⟩) (y := yX18_tires) (owner := "SideBySide$Tires") ⟨hx, hb, hml, hown, hts⟩ hKn hH (bk_tires hts hx (Nat.le_of_ble_eq_true rfl) (Nat.le_of_ble_eq_true rfl)) rfl (by decide) (va_Nw.use rfl (hKn.2.2.2.2.2.2.1 _ (List.mem_of_getElem? (i := 4) rfl))) (va_Nw.use rfl (hKn.2.2.2.2.2.2.1 _ (List.mem_of_getElem? (i := 3) rfl))) (hts _ q351) (hKn.2.2.2.2.2.1 _ (List.mem_of_getElem? (i := 7) rfl)) (hts _ q487) q488 (by decide +kernel) eu1 rfl hl.1 (Nat.le_of_ble_eq_true rfl) dX10_tires_1 ⟨(Nat.le_of_ble_eq_true rfl), (Nat.le_of_ble_eq_true rfl)⟩ rfl) (fun H locs hH => ?_)
  refine lv_aload_n hx hb dX10_tires_4 rfl (lv_at hl 0 rfl) ?_
  obtain ⟨v2, ev2, hf⟩ := bs_ hf
  refine mg_gF hx hb hts hown hKn hH ev2 (hts _ q330) (u_same (hts _ q331)) dX10_tires_5 ?_
  refine lv_iconst (v := 3) hx hb dX10_tires_8 (by decide) ?_
  refine lv_idiv hx hb dX10_tires_9 (by decide) ?_
  refine lv_iadd hx hb dX10_tires_10 ?_
  cases hf
  exact rt_i hx hb hr hlk hH dX10_tires_11
def fX10_kind (a0 : Nat) : Int32 :=
  2
theorem kdX10_kind : yX10_kind.cls ≠ "java/lang/invoke/MethodHandle" ∧ yX10_kind.cls ≠ "java/lang/invoke/VarHandle" ∧ (parseMethodDescriptor yX10_kind.desc).map (fun d => d.parameters.length) = some 0 := by decide +kernel
set_option maxHeartbeats 4000000 in
theorem mX10_kind (l : Launch) (G : GT_) (M : Mem_) (n : Nat) (a0 : Nat) (r : Int32) (hf : fX10_kind a0 = r) : Ct_ G l yX10_kind (ws_ yX10_kind cX10_kind 1 (some .int)) ({ frames := 0, cells := 0, slots := 0, locals := 0 }) 0 0 [.ref a0] M n (some (.int r)) M n := by
  refine en_ (by decide) (Nat.le_of_ble_eq_true rfl) ?_
  intro p e s m below meth c hx hb hr hlk hml hown hts hname hKn hH ls hl
  have hown : s.vm.findClass RX10 = some m.cls := hown
  have hl : lv_has ls 1 [(0, .ref a0)] := hl
  unfold fX10_kind at hf
  generalize s.heap = H at hH ⊢
  refine lv_iconst (v := 2) hx hb dX10_kind_0 (by decide) ?_
  subst hf
  exact rt_i hx hb hr hlk hH dX10_kind_1
def fX8_cost (a0 : Nat) : Int32 :=
  2
theorem kdX8_cost : yX8_cost.cls ≠ "java/lang/invoke/MethodHandle" ∧ yX8_cost.cls ≠ "java/lang/invoke/VarHandle" ∧ (parseMethodDescriptor yX8_cost.desc).map (fun d => d.parameters.length) = some 0 := by decide +kernel
set_option maxHeartbeats 4000000 in
theorem mX8_cost (l : Launch) (G : GT_) (M : Mem_) (n : Nat) (a0 : Nat) (r : Int32) (hf : fX8_cost a0 = r) : Ct_ G l yX8_cost (ws_ yX8_cost cX8_cost 1 (some .int)) ({ frames := 0, cells := 0, slots := 0, locals := 0 }) 0 0 [.ref a0] M n (some (.int r)) M n := by
  refine en_ (by decide) (Nat.le_of_ble_eq_true rfl) ?_
  intro p e s m below meth c hx hb hr hlk hml hown hts hname hKn hH ls hl
  have hown : s.vm.findClass RX8 = some m.cls := hown
  have hl : lv_has ls 1 [(0, .ref a0)] := hl
  unfold fX8_cost at hf
  generalize s.heap = H at hH ⊢
  refine lv_iconst (v := 2) hx hb dX8_cost_0 (by decide) ?_
  subst hf
  exact rt_i hx hb hr hlk hH dX8_cost_1
def fX10_cost (M : Mem_) (a0 : Nat) : Option Int32 :=
  (kd_ M a0).bind fun u1 =>
  lt_ (fX8_cost a0) fun r2 =>
  (gF_ M a0).bind fun v3 =>
  some (r2 + v3)
theorem kdX10_cost : yX10_cost.cls ≠ "java/lang/invoke/MethodHandle" ∧ yX10_cost.cls ≠ "java/lang/invoke/VarHandle" ∧ (parseMethodDescriptor yX10_cost.desc).map (fun d => d.parameters.length) = some 0 := by decide +kernel
set_option maxHeartbeats 4000000 in
theorem mX10_cost (l : Launch) (G : GT_) (M : Mem_) (n : Nat) (a0 : Nat) (r : Int32) (hf : fX10_cost M a0 = some r) : Ct_ G l yX10_cost (ws_ yX10_cost cX10_cost 1 (some .int)) ({ frames := 1, cells := 0, slots := 0, locals := 20 }) 0 0 [.ref a0] M n (some (.int r)) M n := by
  refine en_ (by decide) (Nat.le_of_ble_eq_true rfl) ?_
  intro p e s m below meth c hx hb hr hlk hml hown hts hname hKn hH ls hl
  have hown : s.vm.findClass RX10 = some m.cls := hown
  have hl : lv_has ls 1 [(0, .ref a0)] := hl
  unfold fX10_cost at hf
  generalize s.heap = H at hH ⊢
  refine lv_aload_n hx hb dX10_cost_0 rfl (lv_at hl 0 rfl) ?_
  obtain ⟨u1, eu1, hf⟩ := bs_ hf
  obtain ⟨r2, er2⟩ : ∃ z, z = fX8_cost a0 := ⟨_, rfl⟩
  have hf := lu_ er2 hf
  refine cl_i0 hH (rn_SU ⟨hx, hb, hml, hown, hts⟩ hKn hH (mX8_cost l G M n a0 r2 er2.symm) (va_cwSU 0 hts (lw_SU q1056 q1049 q351 q1047 q81 q1074) rfl rfl rfl ⟨by decide, kdX8_cost.2.2⟩ ⟨Nat.le_of_ble_eq_true rfl, Nat.le_of_ble_eq_true rfl⟩) eu1 rfl hl.1 (Nat.le_of_ble_eq_true rfl) dX10_cost_1 ⟨(Nat.le_of_ble_eq_true rfl), (Nat.le_of_ble_eq_true rfl)⟩ rfl) (fun H locs hH => ?_)
  refine lv_aload_n hx hb dX10_cost_4 rfl (lv_at hl 0 rfl) ?_
  obtain ⟨v3, ev3, hf⟩ := bs_ hf
  refine mg_gF hx hb hts hown hKn hH ev3 (hts _ q330) (u_same (hts _ q331)) dX10_cost_5 ?_
  refine lv_iadd hx hb dX10_cost_8 ?_
  cases hf
  exact rt_i hx hb hr hlk hH dX10_cost_9
def fX11_init (M : Mem_) (a0 : Nat) (a1 : Int32) : Option Mem_ :=
  (fX8_init M a0 a1).bind fun M2 =>
  some M2
theorem kdX11_init : yX11_init.cls ≠ "java/lang/invoke/MethodHandle" ∧ yX11_init.cls ≠ "java/lang/invoke/VarHandle" ∧ (parseMethodDescriptor yX11_init.desc).map (fun d => d.parameters.length) = some 1 := by decide +kernel
set_option maxHeartbeats 4000000 in
theorem mX11_init (l : Launch) (G : GT_) (M : Mem_) (n : Nat) (a0 : Nat) (a1 : Int32) (M1 : Mem_) (hf : fX11_init M a0 a1 = some M1) : Ct_ G l yX11_init (ws_ yX11_init cX11_init 2 none) ({ frames := 2, cells := 0, slots := 0, locals := 33 }) 0 0 [.ref a0, .int a1] M n (none) M1 n := by
  refine en_ (by decide) (Nat.le_of_ble_eq_true rfl) ?_
  intro p e s m below meth c hx hb hr hlk hml hown hts hname hKn hH ls hl
  have hown : s.vm.findClass RX11 = some m.cls := hown
  have hl : lv_has ls 2 [(0, .ref a0), (1, .int a1)] := hl
  unfold fX11_init at hf
  generalize s.heap = H at hH ⊢
  refine lv_aload_n hx hb dX11_init_0 rfl (lv_at hl 0 rfl) ?_
  refine lv_iload_n hx hb dX11_init_1 rfl (lv_at hl 1 rfl) ?_
  obtain ⟨M2, er1, hf⟩ := bs_ hf
  refine cl_v0 hH (rn_I ⟨hx, hb, hml, hown, hts⟩ hKn hH (mX8_init l G M n a0 a1 M2 er1) (cwI 1 hts (lw_meth q323) rfl rfl rfl (hts _ q81) (hts _ q357) (hts _ q322) rfl kdX8_init ⟨Nat.le_of_ble_eq_true rfl, Nat.le_of_ble_eq_true rfl⟩) rfl hl.1 (Nat.le_of_ble_eq_true rfl) dX11_init_2 ⟨(Nat.le_of_ble_eq_true rfl), (Nat.le_of_ble_eq_true rfl)⟩ rfl) (fun H locs hH => ?_)
  cases hf
  exact rt_v hx hb hr hlk hH dX11_init_5
def fX11_time (M : Mem_) (a0 : Nat) (a1 : Int32) : Option Int32 :=
  (kd_ M a0).bind fun u1 =>
  lt_ (fX8_time a0 a1) fun r2 =>
  some (r2 + 3)
theorem kdX11_time : yX11_time.cls ≠ "java/lang/invoke/MethodHandle" ∧ yX11_time.cls ≠ "java/lang/invoke/VarHandle" ∧ (parseMethodDescriptor yX11_time.desc).map (fun d => d.parameters.length) = some 1 := by decide +kernel
set_option maxHeartbeats 4000000 in
theorem mX11_time (l : Launch) (G : GT_) (M : Mem_) (n : Nat) (a0 : Nat) (a1 : Int32) (r : Int32) (hf : fX11_time M a0 a1 = some r) : Ct_ G l yX11_time (ws_ yX11_time cX11_time 2 (some .int)) ({ frames := 1, cells := 0, slots := 0, locals := 21 }) 0 0 [.ref a0, .int a1] M n (some (.int r)) M n := by
  refine en_ (by decide) (Nat.le_of_ble_eq_true rfl) ?_
  intro p e s m below meth c hx hb hr hlk hml hown hts hname hKn hH ls hl
  have hown : s.vm.findClass RX11 = some m.cls := hown
  have hl : lv_has ls 2 [(0, .ref a0), (1, .int a1)] := hl
  unfold fX11_time at hf
  generalize s.heap = H at hH ⊢
  refine lv_aload_n hx hb dX11_time_0 rfl (lv_at hl 0 rfl) ?_
  refine lv_iload_n hx hb dX11_time_1 rfl (lv_at hl 1 rfl) ?_
  obtain ⟨u1, eu1, hf⟩ := bs_ hf
  obtain ⟨r2, er2⟩ : ∃ z, z = fX8_time a0 a1 := ⟨_, rfl⟩
  have hf := lu_ er2 hf
  refine cl_i0 hH (rn_SU ⟨hx, hb, hml, hown, hts⟩ hKn hH (mX8_time l G M n a0 a1 r2 er2.symm) (va_cwSU 1 hts (lw_SU q468 q455 q359 q453 q81 q481) rfl rfl rfl ⟨by decide, kdX8_time.2.2⟩ ⟨Nat.le_of_ble_eq_true rfl, Nat.le_of_ble_eq_true rfl⟩) eu1 rfl hl.1 (Nat.le_of_ble_eq_true rfl) dX11_time_2 ⟨(Nat.le_of_ble_eq_true rfl), (Nat.le_of_ble_eq_true rfl)⟩ rfl) (fun H locs hH => ?_)
  refine lv_iconst (v := 3) hx hb dX11_time_5 (by decide) ?_
  refine lv_iadd hx hb dX11_time_6 ?_
  cases hf
  exact rt_i hx hb hr hlk hH dX11_time_7
def fX11_tires (M : Mem_) (a0 : Nat) : Option Int32 :=
  (kd_ M a0).bind fun u1 =>
  some (1 + 1)
theorem kdX11_tires : yX11_tires.cls ≠ "java/lang/invoke/MethodHandle" ∧ yX11_tires.cls ≠ "java/lang/invoke/VarHandle" ∧ (parseMethodDescriptor yX11_tires.desc).map (fun d => d.parameters.length) = some 0 := by decide +kernel
set_option maxHeartbeats 4000000 in
theorem mX11_tires (l : Launch) (G : GT_) (M : Mem_) (n : Nat) (a0 : Nat) (r : Int32) (hf : fX11_tires M a0 = some r) : Ct_ G l yX11_tires (ws_ yX11_tires cX11_tires 1 (some .int)) ({ frames := 1, cells := 0, slots := 0, locals := 20 }) 0 0 [.ref a0] M n (some (.int r)) M n := by
  refine en_ (by decide) (Nat.le_of_ble_eq_true rfl) ?_
  intro p e s m below meth c hx hb hr hlk hml hown hts hname hKn hH ls hl
  have hown : s.vm.findClass RX11 = some m.cls := hown
  have hl : lv_has ls 1 [(0, .ref a0)] := hl
  unfold fX11_tires at hf
  generalize s.heap = H at hH ⊢
  refine lv_aload_n hx hb dX11_tires_0 rfl (lv_at hl 0 rfl) ?_
  obtain ⟨u1, eu1, hf⟩ := bs_ hf
  refine cl_i0 hH (rn_SD (x := ⟨"SideBySide$Stroke", "tires", "()I"⟩) (y := yX18_tires) (owner := "SideBySide$Tires") ⟨hx, hb, hml, hown, hts⟩ hKn hH (bk_tires hts hx (Nat.le_of_ble_eq_true rfl) (Nat.le_of_ble_eq_true rfl)) rfl (by decide) (va_Nw.use rfl (hKn.2.2.2.2.2.2.1 _ (List.mem_of_getElem? (i := 5) rfl))) (va_Nw.use rfl (hKn.2.2.2.2.2.2.1 _ (List.mem_of_getElem? (i := 3) rfl))) (hts _ q359) (hKn.2.2.2.2.2.1 _ (List.mem_of_getElem? (i := 7) rfl)) (hts _ q487) q488 (by decide +kernel) eu1 rfl hl.1 (Nat.le_of_ble_eq_true rfl) dX11_tires_1 ⟨(Nat.le_of_ble_eq_true rfl), (Nat.le_of_ble_eq_true rfl)⟩ rfl) (fun H locs hH => ?_)
  refine lv_iconst (v := 1) hx hb dX11_tires_4 (by decide) ?_
  refine lv_iadd hx hb dX11_tires_5 ?_
  cases hf
  exact rt_i hx hb hr hlk hH dX11_tires_6
def fX11_kind (a0 : Nat) : Int32 :=
  3
theorem kdX11_kind : yX11_kind.cls ≠ "java/lang/invoke/MethodHandle" ∧ yX11_kind.cls ≠ "java/lang/invoke/VarHandle" ∧ (parseMethodDescriptor yX11_kind.desc).map (fun d => d.parameters.length) = some 0 := by decide +kernel
set_option maxHeartbeats 4000000 in
theorem mX11_kind (l : Launch) (G : GT_) (M : Mem_) (n : Nat) (a0 : Nat) (r : Int32) (hf : fX11_kind a0 = r) : Ct_ G l yX11_kind (ws_ yX11_kind cX11_kind 1 (some .int)) ({ frames := 0, cells := 0, slots := 0, locals := 0 }) 0 0 [.ref a0] M n (some (.int r)) M n := by
  refine en_ (by decide) (Nat.le_of_ble_eq_true rfl) ?_
  intro p e s m below meth c hx hb hr hlk hml hown hts hname hKn hH ls hl
  have hown : s.vm.findClass RX11 = some m.cls := hown
  have hl : lv_has ls 1 [(0, .ref a0)] := hl
  unfold fX11_kind at hf
  generalize s.heap = H at hH ⊢
  refine lv_iconst (v := 3) hx hb dX11_kind_0 (by decide) ?_
  subst hf
  exact rt_i hx hb hr hlk hH dX11_kind_1
def fX11_cost (a0 : Nat) : Int32 :=
  1
theorem kdX11_cost : yX11_cost.cls ≠ "java/lang/invoke/MethodHandle" ∧ yX11_cost.cls ≠ "java/lang/invoke/VarHandle" ∧ (parseMethodDescriptor yX11_cost.desc).map (fun d => d.parameters.length) = some 0 := by decide +kernel
set_option maxHeartbeats 4000000 in
theorem mX11_cost (l : Launch) (G : GT_) (M : Mem_) (n : Nat) (a0 : Nat) (r : Int32) (hf : fX11_cost a0 = r) : Ct_ G l yX11_cost (ws_ yX11_cost cX11_cost 1 (some .int)) ({ frames := 0, cells := 0, slots := 0, locals := 0 }) 0 0 [.ref a0] M n (some (.int r)) M n := by
  refine en_ (by decide) (Nat.le_of_ble_eq_true rfl) ?_
  intro p e s m below meth c hx hb hr hlk hml hown hts hname hKn hH ls hl
  have hown : s.vm.findClass RX11 = some m.cls := hown
  have hl : lv_has ls 1 [(0, .ref a0)] := hl
  unfold fX11_cost at hf
  generalize s.heap = H at hH ⊢
  refine lv_iconst (v := 1) hx hb dX11_cost_0 (by decide) ?_
  subst hf
  exact rt_i hx hb hr hlk hH dX11_cost_1
def fX12_init (M : Mem_) (a0 : Nat) (a1 : Int32) : Option Mem_ :=
  (fX10_init M a0 a1).bind fun M2 =>
  some M2
theorem kdX12_init : yX12_init.cls ≠ "java/lang/invoke/MethodHandle" ∧ yX12_init.cls ≠ "java/lang/invoke/VarHandle" ∧ (parseMethodDescriptor yX12_init.desc).map (fun d => d.parameters.length) = some 1 := by decide +kernel
set_option maxHeartbeats 4000000 in
theorem mX12_init (l : Launch) (G : GT_) (M : Mem_) (n : Nat) (a0 : Nat) (a1 : Int32) (M1 : Mem_) (hf : fX12_init M a0 a1 = some M1) : Ct_ G l yX12_init (ws_ yX12_init cX12_init 2 none) ({ frames := 3, cells := 0, slots := 0, locals := 54 }) 0 0 [.ref a0, .int a1] M n (none) M1 n := by
  refine en_ (by decide) (Nat.le_of_ble_eq_true rfl) ?_
  intro p e s m below meth c hx hb hr hlk hml hown hts hname hKn hH ls hl
  have hown : s.vm.findClass RX12 = some m.cls := hown
  have hl : lv_has ls 2 [(0, .ref a0), (1, .int a1)] := hl
  unfold fX12_init at hf
  generalize s.heap = H at hH ⊢
  refine lv_aload_n hx hb dX12_init_0 rfl (lv_at hl 0 rfl) ?_
  refine lv_iload_n hx hb dX12_init_1 rfl (lv_at hl 1 rfl) ?_
  obtain ⟨M2, er1, hf⟩ := bs_ hf
  refine cl_v0 hH (rn_I ⟨hx, hb, hml, hown, hts⟩ hKn hH (mX10_init l G M n a0 a1 M2 er1) (cwI 1 hts (lw_meth q348) rfl rfl rfl (hts _ q83) (hts _ q365) (hts _ q347) rfl kdX10_init ⟨Nat.le_of_ble_eq_true rfl, Nat.le_of_ble_eq_true rfl⟩) rfl hl.1 (Nat.le_of_ble_eq_true rfl) dX12_init_2 ⟨(Nat.le_of_ble_eq_true rfl), (Nat.le_of_ble_eq_true rfl)⟩ rfl) (fun H locs hH => ?_)
  cases hf
  exact rt_v hx hb hr hlk hH dX12_init_5
def fX12_time (M : Mem_) (a0 : Nat) (a1 : Int32) : Option Int32 :=
  (kd_ M a0).bind fun u1 =>
  (fX10_time M a0 a1).bind fun r2 =>
  some (r2 - 1)
theorem kdX12_time : yX12_time.cls ≠ "java/lang/invoke/MethodHandle" ∧ yX12_time.cls ≠ "java/lang/invoke/VarHandle" ∧ (parseMethodDescriptor yX12_time.desc).map (fun d => d.parameters.length) = some 1 := by decide +kernel
set_option maxHeartbeats 4000000 in
theorem mX12_time (l : Launch) (G : GT_) (M : Mem_) (n : Nat) (a0 : Nat) (a1 : Int32) (r : Int32) (hf : fX12_time M a0 a1 = some r) : Ct_ G l yX12_time (ws_ yX12_time cX12_time 2 (some .int)) ({ frames := 2, cells := 0, slots := 0, locals := 42 }) 0 0 [.ref a0, .int a1] M n (some (.int r)) M n := by
  refine en_ (by decide) (Nat.le_of_ble_eq_true rfl) ?_
  intro p e s m below meth c hx hb hr hlk hml hown hts hname hKn hH ls hl
  have hown : s.vm.findClass RX12 = some m.cls := hown
  have hl : lv_has ls 2 [(0, .ref a0), (1, .int a1)] := hl
  unfold fX12_time at hf
  generalize s.heap = H at hH ⊢
  refine lv_aload_n hx hb dX12_time_0 rfl (lv_at hl 0 rfl) ?_
  refine lv_iload_n hx hb dX12_time_1 rfl (lv_at hl 1 rfl) ?_
  obtain ⟨u1, eu1, hf⟩ := bs_ hf
  obtain ⟨r2, er2, hf⟩ := bs_ hf
  refine cl_i0 hH (rn_SU ⟨hx, hb, hml, hown, hts⟩ hKn hH (mX10_time l G M n a0 a1 r2 er2) (va_cwSU 1 hts (lw_SU q473 q1613 q367 q458 q83 q459) rfl rfl rfl ⟨by decide, kdX10_time.2.2⟩ ⟨Nat.le_of_ble_eq_true rfl, Nat.le_of_ble_eq_true rfl⟩) eu1 rfl hl.1 (Nat.le_of_ble_eq_true rfl) dX12_time_2 ⟨(Nat.le_of_ble_eq_true rfl), (Nat.le_of_ble_eq_true rfl)⟩ rfl) (fun H locs hH => ?_)
  refine lv_iconst (v := 1) hx hb dX12_time_5 (by decide) ?_
  refine lv_isub hx hb dX12_time_6 ?_
  cases hf
  exact rt_i hx hb hr hlk hH dX12_time_7
def fX12_kind (a0 : Nat) : Int32 :=
  4
theorem kdX12_kind : yX12_kind.cls ≠ "java/lang/invoke/MethodHandle" ∧ yX12_kind.cls ≠ "java/lang/invoke/VarHandle" ∧ (parseMethodDescriptor yX12_kind.desc).map (fun d => d.parameters.length) = some 0 := by decide +kernel
set_option maxHeartbeats 4000000 in
theorem mX12_kind (l : Launch) (G : GT_) (M : Mem_) (n : Nat) (a0 : Nat) (r : Int32) (hf : fX12_kind a0 = r) : Ct_ G l yX12_kind (ws_ yX12_kind cX12_kind 1 (some .int)) ({ frames := 0, cells := 0, slots := 0, locals := 0 }) 0 0 [.ref a0] M n (some (.int r)) M n := by
  refine en_ (by decide) (Nat.le_of_ble_eq_true rfl) ?_
  intro p e s m below meth c hx hb hr hlk hml hown hts hname hKn hH ls hl
  have hown : s.vm.findClass RX12 = some m.cls := hown
  have hl : lv_has ls 1 [(0, .ref a0)] := hl
  unfold fX12_kind at hf
  generalize s.heap = H at hH ⊢
  refine lv_iconst (v := 4) hx hb dX12_kind_0 (by decide) ?_
  subst hf
  exact rt_i hx hb hr hlk hH dX12_kind_1
def fX12_cost (M : Mem_) (a0 : Nat) : Option Int32 :=
  (kd_ M a0).bind fun u1 =>
  (fX10_cost M a0).bind fun r2 =>
  some (r2 / 2)
theorem kdX12_cost : yX12_cost.cls ≠ "java/lang/invoke/MethodHandle" ∧ yX12_cost.cls ≠ "java/lang/invoke/VarHandle" ∧ (parseMethodDescriptor yX12_cost.desc).map (fun d => d.parameters.length) = some 0 := by decide +kernel
set_option maxHeartbeats 4000000 in
theorem mX12_cost (l : Launch) (G : GT_) (M : Mem_) (n : Nat) (a0 : Nat) (r : Int32) (hf : fX12_cost M a0 = some r) : Ct_ G l yX12_cost (ws_ yX12_cost cX12_cost 1 (some .int)) ({ frames := 2, cells := 0, slots := 0, locals := 40 }) 0 0 [.ref a0] M n (some (.int r)) M n := by
  refine en_ (by decide) (Nat.le_of_ble_eq_true rfl) ?_
  intro p e s m below meth c hx hb hr hlk hml hown hts hname hKn hH ls hl
  have hown : s.vm.findClass RX12 = some m.cls := hown
  have hl : lv_has ls 1 [(0, .ref a0)] := hl
  unfold fX12_cost at hf
  generalize s.heap = H at hH ⊢
  refine lv_aload_n hx hb dX12_cost_0 rfl (lv_at hl 0 rfl) ?_
  obtain ⟨u1, eu1, hf⟩ := bs_ hf
  obtain ⟨r2, er2, hf⟩ := bs_ hf
  refine cl_i0 hH (rn_SU ⟨hx, hb, hml, hown, hts⟩ hKn hH (mX10_cost l G M n a0 r2 er2) (va_cwSU 0 hts (lw_SU q1067 q1616 q367 q1054 q83 q1055) rfl rfl rfl ⟨by decide, kdX10_cost.2.2⟩ ⟨Nat.le_of_ble_eq_true rfl, Nat.le_of_ble_eq_true rfl⟩) eu1 rfl hl.1 (Nat.le_of_ble_eq_true rfl) dX12_cost_1 ⟨(Nat.le_of_ble_eq_true rfl), (Nat.le_of_ble_eq_true rfl)⟩ rfl) (fun H locs hH => ?_)
  refine lv_iconst (v := 2) hx hb dX12_cost_4 (by decide) ?_
  refine lv_idiv hx hb dX12_cost_5 (by decide) ?_
  cases hf
  exact rt_i hx hb hr hlk hH dX12_cost_6
def fX13_init (M : Mem_) (a0 : Nat) (a1 : Int32) : Option Mem_ :=
  (fX11_init M a0 a1).bind fun M2 =>
  some M2
theorem kdX13_init : yX13_init.cls ≠ "java/lang/invoke/MethodHandle" ∧ yX13_init.cls ≠ "java/lang/invoke/VarHandle" ∧ (parseMethodDescriptor yX13_init.desc).map (fun d => d.parameters.length) = some 1 := by decide +kernel
set_option maxHeartbeats 4000000 in
theorem mX13_init (l : Launch) (G : GT_) (M : Mem_) (n : Nat) (a0 : Nat) (a1 : Int32) (M1 : Mem_) (hf : fX13_init M a0 a1 = some M1) : Ct_ G l yX13_init (ws_ yX13_init cX13_init 2 none) ({ frames := 3, cells := 0, slots := 0, locals := 54 }) 0 0 [.ref a0, .int a1] M n (none) M1 n := by
  refine en_ (by decide) (Nat.le_of_ble_eq_true rfl) ?_
  intro p e s m below meth c hx hb hr hlk hml hown hts hname hKn hH ls hl
  have hown : s.vm.findClass RX13 = some m.cls := hown
  have hl : lv_has ls 2 [(0, .ref a0), (1, .int a1)] := hl
  unfold fX13_init at hf
  generalize s.heap = H at hH ⊢
  refine lv_aload_n hx hb dX13_init_0 rfl (lv_at hl 0 rfl) ?_
  refine lv_iload_n hx hb dX13_init_1 rfl (lv_at hl 1 rfl) ?_
  obtain ⟨M2, er1, hf⟩ := bs_ hf
  refine cl_v0 hH (rn_I ⟨hx, hb, hml, hown, hts⟩ hKn hH (mX11_init l G M n a0 a1 M2 er1) (cwI 1 hts (lw_meth q356) rfl rfl rfl (hts _ q84) (hts _ q373) (hts _ q355) rfl kdX11_init ⟨Nat.le_of_ble_eq_true rfl, Nat.le_of_ble_eq_true rfl⟩) rfl hl.1 (Nat.le_of_ble_eq_true rfl) dX13_init_2 ⟨(Nat.le_of_ble_eq_true rfl), (Nat.le_of_ble_eq_true rfl)⟩ rfl) (fun H locs hH => ?_)
  cases hf
  exact rt_v hx hb hr hlk hH dX13_init_5
def fX13_time (M : Mem_) (a0 : Nat) (a1 : Int32) : Option Int32 :=
  (kd_ M a0).bind fun u1 =>
  (fX11_time M a0 a1).bind fun r2 =>
  some (r2 / 2)
theorem kdX13_time : yX13_time.cls ≠ "java/lang/invoke/MethodHandle" ∧ yX13_time.cls ≠ "java/lang/invoke/VarHandle" ∧ (parseMethodDescriptor yX13_time.desc).map (fun d => d.parameters.length) = some 1 := by decide +kernel
set_option maxHeartbeats 4000000 in
theorem mX13_time (l : Launch) (G : GT_) (M : Mem_) (n : Nat) (a0 : Nat) (a1 : Int32) (r : Int32) (hf : fX13_time M a0 a1 = some r) : Ct_ G l yX13_time (ws_ yX13_time cX13_time 2 (some .int)) ({ frames := 2, cells := 0, slots := 0, locals := 42 }) 0 0 [.ref a0, .int a1] M n (some (.int r)) M n := by
  refine en_ (by decide) (Nat.le_of_ble_eq_true rfl) ?_
  intro p e s m below meth c hx hb hr hlk hml hown hts hname hKn hH ls hl
  have hown : s.vm.findClass RX13 = some m.cls := hown
  have hl : lv_has ls 2 [(0, .ref a0), (1, .int a1)] := hl
  unfold fX13_time at hf
  generalize s.heap = H at hH ⊢
  refine lv_aload_n hx hb dX13_time_0 rfl (lv_at hl 0 rfl) ?_
  refine lv_iload_n hx hb dX13_time_1 rfl (lv_at hl 1 rfl) ?_
  obtain ⟨u1, eu1, hf⟩ := bs_ hf
  obtain ⟨r2, er2, hf⟩ := bs_ hf
  refine cl_i0 hH (rn_SU ⟨hx, hb, hml, hown, hts⟩ hKn hH (mX11_time l G M n a0 a1 r2 er2) (va_cwSU 1 hts (lw_SU q465 q1612 q375 q466 q84 q467) rfl rfl rfl ⟨by decide, kdX11_time.2.2⟩ ⟨Nat.le_of_ble_eq_true rfl, Nat.le_of_ble_eq_true rfl⟩) eu1 rfl hl.1 (Nat.le_of_ble_eq_true rfl) dX13_time_2 ⟨(Nat.le_of_ble_eq_true rfl), (Nat.le_of_ble_eq_true rfl)⟩ rfl) (fun H locs hH => ?_)
  refine lv_iconst (v := 2) hx hb dX13_time_5 (by decide) ?_
  refine lv_idiv hx hb dX13_time_6 (by decide) ?_
  cases hf
  exact rt_i hx hb hr hlk hH dX13_time_7
def fX13_tires (M : Mem_) (a0 : Nat) : Option Int32 :=
  (kd_ M a0).bind fun u1 =>
  (fX11_tires M a0).bind fun r2 =>
  some (r2 - 1)
theorem kdX13_tires : yX13_tires.cls ≠ "java/lang/invoke/MethodHandle" ∧ yX13_tires.cls ≠ "java/lang/invoke/VarHandle" ∧ (parseMethodDescriptor yX13_tires.desc).map (fun d => d.parameters.length) = some 0 := by decide +kernel
set_option maxHeartbeats 4000000 in
theorem mX13_tires (l : Launch) (G : GT_) (M : Mem_) (n : Nat) (a0 : Nat) (r : Int32) (hf : fX13_tires M a0 = some r) : Ct_ G l yX13_tires (ws_ yX13_tires cX13_tires 1 (some .int)) ({ frames := 2, cells := 0, slots := 0, locals := 40 }) 0 0 [.ref a0] M n (some (.int r)) M n := by
  refine en_ (by decide) (Nat.le_of_ble_eq_true rfl) ?_
  intro p e s m below meth c hx hb hr hlk hml hown hts hname hKn hH ls hl
  have hown : s.vm.findClass RX13 = some m.cls := hown
  have hl : lv_has ls 1 [(0, .ref a0)] := hl
  unfold fX13_tires at hf
  generalize s.heap = H at hH ⊢
  refine lv_aload_n hx hb dX13_tires_0 rfl (lv_at hl 0 rfl) ?_
  obtain ⟨u1, eu1, hf⟩ := bs_ hf
  obtain ⟨r2, er2, hf⟩ := bs_ hf
  refine cl_i0 hH (rn_SU ⟨hx, hb, hml, hown, hts⟩ hKn hH (mX11_tires l G M n a0 r2 er2) (va_cwSU 0 hts (lw_SU q492 q1614 q375 q493 q84 q494) rfl rfl rfl ⟨by decide, kdX11_tires.2.2⟩ ⟨Nat.le_of_ble_eq_true rfl, Nat.le_of_ble_eq_true rfl⟩) eu1 rfl hl.1 (Nat.le_of_ble_eq_true rfl) dX13_tires_1 ⟨(Nat.le_of_ble_eq_true rfl), (Nat.le_of_ble_eq_true rfl)⟩ rfl) (fun H locs hH => ?_)
  refine lv_iconst (v := 1) hx hb dX13_tires_4 (by decide) ?_
  refine lv_isub hx hb dX13_tires_5 ?_
  cases hf
  exact rt_i hx hb hr hlk hH dX13_tires_6
def fX13_kind (a0 : Nat) : Int32 :=
  5
theorem kdX13_kind : yX13_kind.cls ≠ "java/lang/invoke/MethodHandle" ∧ yX13_kind.cls ≠ "java/lang/invoke/VarHandle" ∧ (parseMethodDescriptor yX13_kind.desc).map (fun d => d.parameters.length) = some 0 := by decide +kernel
set_option maxHeartbeats 4000000 in
theorem mX13_kind (l : Launch) (G : GT_) (M : Mem_) (n : Nat) (a0 : Nat) (r : Int32) (hf : fX13_kind a0 = r) : Ct_ G l yX13_kind (ws_ yX13_kind cX13_kind 1 (some .int)) ({ frames := 0, cells := 0, slots := 0, locals := 0 }) 0 0 [.ref a0] M n (some (.int r)) M n := by
  refine en_ (by decide) (Nat.le_of_ble_eq_true rfl) ?_
  intro p e s m below meth c hx hb hr hlk hml hown hts hname hKn hH ls hl
  have hown : s.vm.findClass RX13 = some m.cls := hown
  have hl : lv_has ls 1 [(0, .ref a0)] := hl
  unfold fX13_kind at hf
  generalize s.heap = H at hH ⊢
  refine lv_iconst (v := 5) hx hb dX13_kind_0 (by decide) ?_
  subst hf
  exact rt_i hx hb hr hlk hH dX13_kind_1
def fX13_cost (M : Mem_) (a0 : Nat) : Option Int32 :=
  (kd_ M a0).bind fun u1 =>
  lt_ (fX11_cost a0) fun r2 =>
  some (r2 + 2)
theorem kdX13_cost : yX13_cost.cls ≠ "java/lang/invoke/MethodHandle" ∧ yX13_cost.cls ≠ "java/lang/invoke/VarHandle" ∧ (parseMethodDescriptor yX13_cost.desc).map (fun d => d.parameters.length) = some 0 := by decide +kernel
set_option maxHeartbeats 4000000 in
theorem mX13_cost (l : Launch) (G : GT_) (M : Mem_) (n : Nat) (a0 : Nat) (r : Int32) (hf : fX13_cost M a0 = some r) : Ct_ G l yX13_cost (ws_ yX13_cost cX13_cost 1 (some .int)) ({ frames := 1, cells := 0, slots := 0, locals := 20 }) 0 0 [.ref a0] M n (some (.int r)) M n := by
  refine en_ (by decide) (Nat.le_of_ble_eq_true rfl) ?_
  intro p e s m below meth c hx hb hr hlk hml hown hts hname hKn hH ls hl
  have hown : s.vm.findClass RX13 = some m.cls := hown
  have hl : lv_has ls 1 [(0, .ref a0)] := hl
  unfold fX13_cost at hf
  generalize s.heap = H at hH ⊢
  refine lv_aload_n hx hb dX13_cost_0 rfl (lv_at hl 0 rfl) ?_
  obtain ⟨u1, eu1, hf⟩ := bs_ hf
  obtain ⟨r2, er2⟩ : ∃ z, z = fX11_cost a0 := ⟨_, rfl⟩
  have hf := lu_ er2 hf
  refine cl_i0 hH (rn_SU ⟨hx, hb, hml, hown, hts⟩ hKn hH (mX11_cost l G M n a0 r2 er2.symm) (va_cwSU 0 hts (lw_SU q1060 q1615 q375 q1061 q84 q1062) rfl rfl rfl ⟨by decide, kdX11_cost.2.2⟩ ⟨Nat.le_of_ble_eq_true rfl, Nat.le_of_ble_eq_true rfl⟩) eu1 rfl hl.1 (Nat.le_of_ble_eq_true rfl) dX13_cost_1 ⟨(Nat.le_of_ble_eq_true rfl), (Nat.le_of_ble_eq_true rfl)⟩ rfl) (fun H locs hH => ?_)
  refine lv_iconst (v := 2) hx hb dX13_cost_4 (by decide) ?_
  refine lv_iadd hx hb dX13_cost_5 ?_
  cases hf
  exact rt_i hx hb hr hlk hH dX13_cost_6
def fX14_init (M : Mem_) (a0 : Nat) (a1 : Int32) : Option Mem_ :=
  (fX8_init M a0 a1).bind fun M2 =>
  some M2
theorem kdX14_init : yX14_init.cls ≠ "java/lang/invoke/MethodHandle" ∧ yX14_init.cls ≠ "java/lang/invoke/VarHandle" ∧ (parseMethodDescriptor yX14_init.desc).map (fun d => d.parameters.length) = some 1 := by decide +kernel
set_option maxHeartbeats 4000000 in
theorem mX14_init (l : Launch) (G : GT_) (M : Mem_) (n : Nat) (a0 : Nat) (a1 : Int32) (M1 : Mem_) (hf : fX14_init M a0 a1 = some M1) : Ct_ G l yX14_init (ws_ yX14_init cX14_init 2 none) ({ frames := 2, cells := 0, slots := 0, locals := 33 }) 0 0 [.ref a0, .int a1] M n (none) M1 n := by
  refine en_ (by decide) (Nat.le_of_ble_eq_true rfl) ?_
  intro p e s m below meth c hx hb hr hlk hml hown hts hname hKn hH ls hl
  have hown : s.vm.findClass RX14 = some m.cls := hown
  have hl : lv_has ls 2 [(0, .ref a0), (1, .int a1)] := hl
  unfold fX14_init at hf
  generalize s.heap = H at hH ⊢
  refine lv_aload_n hx hb dX14_init_0 rfl (lv_at hl 0 rfl) ?_
  refine lv_iload_n hx hb dX14_init_1 rfl (lv_at hl 1 rfl) ?_
  obtain ⟨M2, er1, hf⟩ := bs_ hf
  refine cl_v0 hH (rn_I ⟨hx, hb, hml, hown, hts⟩ hKn hH (mX8_init l G M n a0 a1 M2 er1) (cwI 1 hts (lw_meth q323) rfl rfl rfl (hts _ q81) (hts _ q381) (hts _ q322) rfl kdX8_init ⟨Nat.le_of_ble_eq_true rfl, Nat.le_of_ble_eq_true rfl⟩) rfl hl.1 (Nat.le_of_ble_eq_true rfl) dX14_init_2 ⟨(Nat.le_of_ble_eq_true rfl), (Nat.le_of_ble_eq_true rfl)⟩ rfl) (fun H locs hH => ?_)
  cases hf
  exact rt_v hx hb hr hlk hH dX14_init_5
def fX14_falls (a0 : Nat) (a1 : Int32) (a2 : Int32) : Int32 :=
  lt_ (fX1_rowOf a1) fun r1 =>
  ((3 * r1) + 1)
theorem kdX14_falls : yX14_falls.cls ≠ "java/lang/invoke/MethodHandle" ∧ yX14_falls.cls ≠ "java/lang/invoke/VarHandle" ∧ (parseMethodDescriptor yX14_falls.desc).map (fun d => d.parameters.length) = some 2 := by decide +kernel
set_option maxHeartbeats 4000000 in
theorem mX14_falls (l : Launch) (G : GT_) (M : Mem_) (n : Nat) (a0 : Nat) (a1 : Int32) (a2 : Int32) (r : Int32) (hf : fX14_falls a0 a1 a2 = r) : Ct_ G l yX14_falls (ws_ yX14_falls cX14_falls 3 (some .int)) ({ frames := 1, cells := 0, slots := 0, locals := 20 }) 0 0 [.ref a0, .int a1, .int a2] M n (some (.int r)) M n := by
  refine en_ (by decide) (Nat.le_of_ble_eq_true rfl) ?_
  intro p e s m below meth c hx hb hr hlk hml hown hts hname hKn hH ls hl
  have hown : s.vm.findClass RX14 = some m.cls := hown
  have hl : lv_has ls 3 [(0, .ref a0), (1, .int a1), (2, .int a2)] := hl
  unfold fX14_falls at hf
  generalize s.heap = H at hH ⊢
  refine lv_iconst (v := 3) hx hb dX14_falls_0 (by decide) ?_
  refine lv_iload_n hx hb dX14_falls_1 rfl (lv_at hl 1 rfl) ?_
  obtain ⟨r1, er1⟩ : ∃ z, z = fX1_rowOf a1 := ⟨_, rfl⟩
  have hf := lu_ er1 hf
  refine cl_i0 hH (rn_SN ⟨hx, hb, hml, hown, hts⟩ hKn hH (mX1_rowOf l G M n a1 r1 er1.symm) ⟨va_cnB 1 hts (lw_meth q429) rfl rfl rfl (hKn.2.1 _ (List.mem_of_getElem? (i := 3) rfl)) (hts _ q67) kdX1_rowOf ⟨Nat.le_of_ble_eq_true rfl, Nat.le_of_ble_eq_true rfl⟩, hts _ q428, trivial⟩ rfl hl.1 (Nat.le_of_ble_eq_true rfl) dX14_falls_2 ⟨(Nat.le_of_ble_eq_true rfl), (Nat.le_of_ble_eq_true rfl)⟩ rfl) (fun H locs hH => ?_)
  refine lv_imul hx hb dX14_falls_5 ?_
  refine lv_iconst (v := 1) hx hb dX14_falls_6 (by decide) ?_
  refine lv_iadd hx hb dX14_falls_7 ?_
  subst hf
  exact rt_i hx hb hr hlk hH dX14_falls_8
def fX14_kind (a0 : Nat) : Int32 :=
  6
theorem kdX14_kind : yX14_kind.cls ≠ "java/lang/invoke/MethodHandle" ∧ yX14_kind.cls ≠ "java/lang/invoke/VarHandle" ∧ (parseMethodDescriptor yX14_kind.desc).map (fun d => d.parameters.length) = some 0 := by decide +kernel
set_option maxHeartbeats 4000000 in
theorem mX14_kind (l : Launch) (G : GT_) (M : Mem_) (n : Nat) (a0 : Nat) (r : Int32) (hf : fX14_kind a0 = r) : Ct_ G l yX14_kind (ws_ yX14_kind cX14_kind 1 (some .int)) ({ frames := 0, cells := 0, slots := 0, locals := 0 }) 0 0 [.ref a0] M n (some (.int r)) M n := by
  refine en_ (by decide) (Nat.le_of_ble_eq_true rfl) ?_
  intro p e s m below meth c hx hb hr hlk hml hown hts hname hKn hH ls hl
  have hown : s.vm.findClass RX14 = some m.cls := hown
  have hl : lv_has ls 1 [(0, .ref a0)] := hl
  unfold fX14_kind at hf
  generalize s.heap = H at hH ⊢
  refine lv_bipush (v := 6) hx hb dX14_kind_0 (by decide) ?_
  subst hf
  exact rt_i hx hb hr hlk hH dX14_kind_2
def fX14_cost (M : Mem_) (a0 : Nat) : Option Int32 :=
  (gF_ M a0).bind fun v1 =>
  some v1
theorem kdX14_cost : yX14_cost.cls ≠ "java/lang/invoke/MethodHandle" ∧ yX14_cost.cls ≠ "java/lang/invoke/VarHandle" ∧ (parseMethodDescriptor yX14_cost.desc).map (fun d => d.parameters.length) = some 0 := by decide +kernel
set_option maxHeartbeats 4000000 in
theorem mX14_cost (l : Launch) (G : GT_) (M : Mem_) (n : Nat) (a0 : Nat) (r : Int32) (hf : fX14_cost M a0 = some r) : Ct_ G l yX14_cost (ws_ yX14_cost cX14_cost 1 (some .int)) ({ frames := 0, cells := 0, slots := 0, locals := 0 }) 0 0 [.ref a0] M n (some (.int r)) M n := by
  refine en_ (by decide) (Nat.le_of_ble_eq_true rfl) ?_
  intro p e s m below meth c hx hb hr hlk hml hown hts hname hKn hH ls hl
  have hown : s.vm.findClass RX14 = some m.cls := hown
  have hl : lv_has ls 1 [(0, .ref a0)] := hl
  unfold fX14_cost at hf
  generalize s.heap = H at hH ⊢
  refine lv_aload_n hx hb dX14_cost_0 rfl (lv_at hl 0 rfl) ?_
  obtain ⟨v1, ev1, hf⟩ := bs_ hf
  refine mg_gF hx hb hts hown hKn hH ev1 (hts _ q328) (u_same (hts _ q329)) dX14_cost_1 ?_
  cases hf
  exact rt_i hx hb hr hlk hH dX14_cost_4
def fX15_init (M : Mem_) (a0 : Nat) (a1 : Int32) : Option Mem_ :=
  (fX11_init M a0 a1).bind fun M2 =>
  some M2
theorem kdX15_init : yX15_init.cls ≠ "java/lang/invoke/MethodHandle" ∧ yX15_init.cls ≠ "java/lang/invoke/VarHandle" ∧ (parseMethodDescriptor yX15_init.desc).map (fun d => d.parameters.length) = some 1 := by decide +kernel
set_option maxHeartbeats 4000000 in
theorem mX15_init (l : Launch) (G : GT_) (M : Mem_) (n : Nat) (a0 : Nat) (a1 : Int32) (M1 : Mem_) (hf : fX15_init M a0 a1 = some M1) : Ct_ G l yX15_init (ws_ yX15_init cX15_init 2 none) ({ frames := 3, cells := 0, slots := 0, locals := 54 }) 0 0 [.ref a0, .int a1] M n (none) M1 n := by
  refine en_ (by decide) (Nat.le_of_ble_eq_true rfl) ?_
  intro p e s m below meth c hx hb hr hlk hml hown hts hname hKn hH ls hl
  have hown : s.vm.findClass RX15 = some m.cls := hown
  have hl : lv_has ls 2 [(0, .ref a0), (1, .int a1)] := hl
  unfold fX15_init at hf
  generalize s.heap = H at hH ⊢
  refine lv_aload_n hx hb dX15_init_0 rfl (lv_at hl 0 rfl) ?_
  refine lv_iload_n hx hb dX15_init_1 rfl (lv_at hl 1 rfl) ?_
  obtain ⟨M2, er1, hf⟩ := bs_ hf
  refine cl_v0 hH (rn_I ⟨hx, hb, hml, hown, hts⟩ hKn hH (mX11_init l G M n a0 a1 M2 er1) (cwI 1 hts (lw_meth q356) rfl rfl rfl (hts _ q84) (hts _ q389) (hts _ q355) rfl kdX11_init ⟨Nat.le_of_ble_eq_true rfl, Nat.le_of_ble_eq_true rfl⟩) rfl hl.1 (Nat.le_of_ble_eq_true rfl) dX15_init_2 ⟨(Nat.le_of_ble_eq_true rfl), (Nat.le_of_ble_eq_true rfl)⟩ rfl) (fun H locs hH => ?_)
  cases hf
  exact rt_v hx hb hr hlk hH dX15_init_5
def fX1_columnOf (a0 : Int32) : Int32 :=
  (a0 - a0 / 3 * 3)
theorem kdX1_columnOf : yX1_columnOf.cls ≠ "java/lang/invoke/MethodHandle" ∧ yX1_columnOf.cls ≠ "java/lang/invoke/VarHandle" ∧ (parseMethodDescriptor yX1_columnOf.desc).map (fun d => d.parameters.length) = some 1 := by decide +kernel
set_option maxHeartbeats 4000000 in
theorem mX1_columnOf (l : Launch) (G : GT_) (M : Mem_) (n : Nat) (a0 : Int32) (r : Int32) (hf : fX1_columnOf a0 = r) : Ct_ G l yX1_columnOf (ws_ yX1_columnOf cX1_columnOf 1 (some .int)) ({ frames := 0, cells := 0, slots := 0, locals := 0 }) 0 0 [.int a0] M n (some (.int r)) M n := by
  refine en_ (by decide) (Nat.le_of_ble_eq_true rfl) ?_
  intro p e s m below meth c hx hb hr hlk hml hown hts hname hKn hH ls hl
  have hown : s.vm.findClass RX1 = some m.cls := hown
  have hl : lv_has ls 1 [(0, .int a0)] := hl
  unfold fX1_columnOf at hf
  generalize s.heap = H at hH ⊢
  refine lv_iload_n hx hb dX1_columnOf_0 rfl (lv_at hl 0 rfl) ?_
  refine lv_iconst (v := 3) hx hb dX1_columnOf_1 (by decide) ?_
  refine lv_irem hx hb dX1_columnOf_2 (by decide) ?_
  subst hf
  exact rt_i hx hb hr hlk hH dX1_columnOf_3
def fX15_falls (a0 : Nat) (a1 : Int32) (a2 : Int32) : Int32 :=
  lt_ (fX1_rowOf a1) fun r1 =>
  lt_ (fX1_columnOf a1) fun r2 =>
  lt_ (if (r2 + a2) < 2 then (r2 + a2) else 2) fun v3 =>
  lt_ (if 0 < v3 then v3 else 0) fun v4 =>
  ((3 * r1) + v4)
theorem kdX15_falls : yX15_falls.cls ≠ "java/lang/invoke/MethodHandle" ∧ yX15_falls.cls ≠ "java/lang/invoke/VarHandle" ∧ (parseMethodDescriptor yX15_falls.desc).map (fun d => d.parameters.length) = some 2 := by decide +kernel
set_option maxHeartbeats 4000000 in
theorem mX15_falls (l : Launch) (G : GT_) (M : Mem_) (n : Nat) (a0 : Nat) (a1 : Int32) (a2 : Int32) (r : Int32) (hf : fX15_falls a0 a1 a2 = r) : Ct_ G l yX15_falls (ws_ yX15_falls cX15_falls 3 (some .int)) ({ frames := 1, cells := 0, slots := 0, locals := 20 }) 0 0 [.ref a0, .int a1, .int a2] M n (some (.int r)) M n := by
  refine en_ (by decide) (Nat.le_of_ble_eq_true rfl) ?_
  intro p e s m below meth c hx hb hr hlk hml hown hts hname hKn hH ls hl
  have hown : s.vm.findClass RX15 = some m.cls := hown
  have hl : lv_has ls 3 [(0, .ref a0), (1, .int a1), (2, .int a2)] := hl
  unfold fX15_falls at hf
  generalize s.heap = H at hH ⊢
  refine lv_iconst (v := 3) hx hb dX15_falls_0 (by decide) ?_
  refine lv_iload_n hx hb dX15_falls_1 rfl (lv_at hl 1 rfl) ?_
  obtain ⟨r1, er1⟩ : ∃ z, z = fX1_rowOf a1 := ⟨_, rfl⟩
  have hf := lu_ er1 hf
  refine cl_i0 hH (rn_SN ⟨hx, hb, hml, hown, hts⟩ hKn hH (mX1_rowOf l G M n a1 r1 er1.symm) ⟨va_cnB 1 hts (lw_meth q429) rfl rfl rfl (hKn.2.1 _ (List.mem_of_getElem? (i := 4) rfl)) (hts _ q67) kdX1_rowOf ⟨Nat.le_of_ble_eq_true rfl, Nat.le_of_ble_eq_true rfl⟩, hts _ q428, trivial⟩ rfl hl.1 (Nat.le_of_ble_eq_true rfl) dX15_falls_2 ⟨(Nat.le_of_ble_eq_true rfl), (Nat.le_of_ble_eq_true rfl)⟩ rfl) (fun H locs hH => ?_)
  refine lv_imul hx hb dX15_falls_5 ?_
  refine lv_iconst (v := 0) hx hb dX15_falls_6 (by decide) ?_
  refine lv_iconst (v := 2) hx hb dX15_falls_7 (by decide) ?_
  refine lv_iload_n hx hb dX15_falls_8 rfl (lv_at hl 1 rfl) ?_
  obtain ⟨r2, er2⟩ : ∃ z, z = fX1_columnOf a1 := ⟨_, rfl⟩
  have hf := lu_ er2 hf
  refine cl_i0 hH (rn_SN ⟨hx, hb, hml, hown, hts⟩ hKn hH (mX1_columnOf l G M n a1 r2 er2.symm) ⟨va_cnB 1 hts (lw_meth q442) rfl rfl rfl (hKn.2.1 _ (List.mem_of_getElem? (i := 5) rfl)) (hts _ q67) kdX1_columnOf ⟨Nat.le_of_ble_eq_true rfl, Nat.le_of_ble_eq_true rfl⟩, hts _ q441, trivial⟩ rfl hl.1 (Nat.le_of_ble_eq_true rfl) dX15_falls_9 ⟨(Nat.le_of_ble_eq_true rfl), (Nat.le_of_ble_eq_true rfl)⟩ rfl) (fun H locs hH => ?_)
  refine lv_iload_n hx hb dX15_falls_12 rfl (lv_at hl 2 rfl) ?_
  refine lv_iadd hx hb dX15_falls_13 ?_
  refine va_mmin hx hb (by rw [hml, hl.1]) hown (hts _ q443) (hts _ q444) (hts _ q89) (hts _ q445) (Nat.le_of_ble_eq_true rfl) (Nat.le_of_ble_eq_true rfl) (Nat.le_of_ble_eq_true rfl) (Nat.le_of_ble_eq_true rfl) dX15_falls_14 ?_
  refine lv_topi (fun v3 ev3 => ?_)
  have hf := lu_ ev3 hf
  refine va_mmax hx hb (by rw [hml, hl.1]) hown (hts _ q446) (hts _ q447) (hts _ q89) (hts _ q448) (Nat.le_of_ble_eq_true rfl) (Nat.le_of_ble_eq_true rfl) (Nat.le_of_ble_eq_true rfl) (Nat.le_of_ble_eq_true rfl) dX15_falls_17 ?_
  refine lv_topi (fun v4 ev4 => ?_)
  have hf := lu_ ev4 hf
  refine lv_iadd hx hb dX15_falls_20 ?_
  subst hf
  exact rt_i hx hb hr hlk hH dX15_falls_21
def fX15_time (M : Mem_) (a0 : Nat) (a1 : Int32) : Option Int32 :=
  (kd_ M a0).bind fun u1 =>
  (fX11_time M a0 a1).bind fun r2 =>
  some (r2 + 1)
theorem kdX15_time : yX15_time.cls ≠ "java/lang/invoke/MethodHandle" ∧ yX15_time.cls ≠ "java/lang/invoke/VarHandle" ∧ (parseMethodDescriptor yX15_time.desc).map (fun d => d.parameters.length) = some 1 := by decide +kernel
set_option maxHeartbeats 4000000 in
theorem mX15_time (l : Launch) (G : GT_) (M : Mem_) (n : Nat) (a0 : Nat) (a1 : Int32) (r : Int32) (hf : fX15_time M a0 a1 = some r) : Ct_ G l yX15_time (ws_ yX15_time cX15_time 2 (some .int)) ({ frames := 2, cells := 0, slots := 0, locals := 42 }) 0 0 [.ref a0, .int a1] M n (some (.int r)) M n := by
  refine en_ (by decide) (Nat.le_of_ble_eq_true rfl) ?_
  intro p e s m below meth c hx hb hr hlk hml hown hts hname hKn hH ls hl
  have hown : s.vm.findClass RX15 = some m.cls := hown
  have hl : lv_has ls 2 [(0, .ref a0), (1, .int a1)] := hl
  unfold fX15_time at hf
  generalize s.heap = H at hH ⊢
  refine lv_aload_n hx hb dX15_time_0 rfl (lv_at hl 0 rfl) ?_
  refine lv_iload_n hx hb dX15_time_1 rfl (lv_at hl 1 rfl) ?_
  obtain ⟨u1, eu1, hf⟩ := bs_ hf
  obtain ⟨r2, er2, hf⟩ := bs_ hf
  refine cl_i0 hH (rn_SU ⟨hx, hb, hml, hown, hts⟩ hKn hH (mX11_time l G M n a0 a1 r2 er2) (va_cwSU 1 hts (lw_SU q480 q1612 q391 q466 q84 q467) rfl rfl rfl ⟨by decide, kdX11_time.2.2⟩ ⟨Nat.le_of_ble_eq_true rfl, Nat.le_of_ble_eq_true rfl⟩) eu1 rfl hl.1 (Nat.le_of_ble_eq_true rfl) dX15_time_2 ⟨(Nat.le_of_ble_eq_true rfl), (Nat.le_of_ble_eq_true rfl)⟩ rfl) (fun H locs hH => ?_)
  refine lv_iconst (v := 1) hx hb dX15_time_5 (by decide) ?_
  refine lv_iadd hx hb dX15_time_6 ?_
  cases hf
  exact rt_i hx hb hr hlk hH dX15_time_7
def fX15_kind (a0 : Nat) : Int32 :=
  7
theorem kdX15_kind : yX15_kind.cls ≠ "java/lang/invoke/MethodHandle" ∧ yX15_kind.cls ≠ "java/lang/invoke/VarHandle" ∧ (parseMethodDescriptor yX15_kind.desc).map (fun d => d.parameters.length) = some 0 := by decide +kernel
set_option maxHeartbeats 4000000 in
theorem mX15_kind (l : Launch) (G : GT_) (M : Mem_) (n : Nat) (a0 : Nat) (r : Int32) (hf : fX15_kind a0 = r) : Ct_ G l yX15_kind (ws_ yX15_kind cX15_kind 1 (some .int)) ({ frames := 0, cells := 0, slots := 0, locals := 0 }) 0 0 [.ref a0] M n (some (.int r)) M n := by
  refine en_ (by decide) (Nat.le_of_ble_eq_true rfl) ?_
  intro p e s m below meth c hx hb hr hlk hml hown hts hname hKn hH ls hl
  have hown : s.vm.findClass RX15 = some m.cls := hown
  have hl : lv_has ls 1 [(0, .ref a0)] := hl
  unfold fX15_kind at hf
  generalize s.heap = H at hH ⊢
  refine lv_bipush (v := 7) hx hb dX15_kind_0 (by decide) ?_
  subst hf
  exact rt_i hx hb hr hlk hH dX15_kind_2
def fX15_cost (a0 : Nat) : Int32 :=
  0
theorem kdX15_cost : yX15_cost.cls ≠ "java/lang/invoke/MethodHandle" ∧ yX15_cost.cls ≠ "java/lang/invoke/VarHandle" ∧ (parseMethodDescriptor yX15_cost.desc).map (fun d => d.parameters.length) = some 0 := by decide +kernel
set_option maxHeartbeats 4000000 in
theorem mX15_cost (l : Launch) (G : GT_) (M : Mem_) (n : Nat) (a0 : Nat) (r : Int32) (hf : fX15_cost a0 = r) : Ct_ G l yX15_cost (ws_ yX15_cost cX15_cost 1 (some .int)) ({ frames := 0, cells := 0, slots := 0, locals := 0 }) 0 0 [.ref a0] M n (some (.int r)) M n := by
  refine en_ (by decide) (Nat.le_of_ble_eq_true rfl) ?_
  intro p e s m below meth c hx hb hr hlk hml hown hts hname hKn hH ls hl
  have hown : s.vm.findClass RX15 = some m.cls := hown
  have hl : lv_has ls 1 [(0, .ref a0)] := hl
  unfold fX15_cost at hf
  generalize s.heap = H at hH ⊢
  refine lv_iconst (v := 0) hx hb dX15_cost_0 (by decide) ?_
  subst hf
  exact rt_i hx hb hr hlk hH dX15_cost_1
def fX8_kind (a0 : Nat) : Int32 :=
  0
theorem kdX8_kind : yX8_kind.cls ≠ "java/lang/invoke/MethodHandle" ∧ yX8_kind.cls ≠ "java/lang/invoke/VarHandle" ∧ (parseMethodDescriptor yX8_kind.desc).map (fun d => d.parameters.length) = some 0 := by decide +kernel
set_option maxHeartbeats 4000000 in
theorem mX8_kind (l : Launch) (G : GT_) (M : Mem_) (n : Nat) (a0 : Nat) (r : Int32) (hf : fX8_kind a0 = r) : Ct_ G l yX8_kind (ws_ yX8_kind cX8_kind 1 (some .int)) ({ frames := 0, cells := 0, slots := 0, locals := 0 }) 0 0 [.ref a0] M n (some (.int r)) M n := by
  refine en_ (by decide) (Nat.le_of_ble_eq_true rfl) ?_
  intro p e s m below meth c hx hb hr hlk hml hown hts hname hKn hH ls hl
  have hown : s.vm.findClass RX8 = some m.cls := hown
  have hl : lv_has ls 1 [(0, .ref a0)] := hl
  unfold fX8_kind at hf
  generalize s.heap = H at hH ⊢
  refine lv_iconst (v := 0) hx hb dX8_kind_0 (by decide) ?_
  subst hf
  exact rt_i hx hb hr hlk hH dX8_kind_1
def fX9_init (M : Mem_) (a0 : Nat) (a1 : Int32) : Option Mem_ :=
  (fX8_init M a0 a1).bind fun M2 =>
  some M2
theorem kdX9_init : yX9_init.cls ≠ "java/lang/invoke/MethodHandle" ∧ yX9_init.cls ≠ "java/lang/invoke/VarHandle" ∧ (parseMethodDescriptor yX9_init.desc).map (fun d => d.parameters.length) = some 1 := by decide +kernel
set_option maxHeartbeats 4000000 in
theorem mX9_init (l : Launch) (G : GT_) (M : Mem_) (n : Nat) (a0 : Nat) (a1 : Int32) (M1 : Mem_) (hf : fX9_init M a0 a1 = some M1) : Ct_ G l yX9_init (ws_ yX9_init cX9_init 2 none) ({ frames := 2, cells := 0, slots := 0, locals := 33 }) 0 0 [.ref a0, .int a1] M n (none) M1 n := by
  refine en_ (by decide) (Nat.le_of_ble_eq_true rfl) ?_
  intro p e s m below meth c hx hb hr hlk hml hown hts hname hKn hH ls hl
  have hown : s.vm.findClass RX9 = some m.cls := hown
  have hl : lv_has ls 2 [(0, .ref a0), (1, .int a1)] := hl
  unfold fX9_init at hf
  generalize s.heap = H at hH ⊢
  refine lv_aload_n hx hb dX9_init_0 rfl (lv_at hl 0 rfl) ?_
  refine lv_iload_n hx hb dX9_init_1 rfl (lv_at hl 1 rfl) ?_
  obtain ⟨M2, er1, hf⟩ := bs_ hf
  refine cl_v0 hH (rn_I ⟨hx, hb, hml, hown, hts⟩ hKn hH (mX8_init l G M n a0 a1 M2 er1) (cwI 1 hts (lw_meth q323) rfl rfl rfl (hts _ q81) (hts _ q341) (hts _ q322) rfl kdX8_init ⟨Nat.le_of_ble_eq_true rfl, Nat.le_of_ble_eq_true rfl⟩) rfl hl.1 (Nat.le_of_ble_eq_true rfl) dX9_init_2 ⟨(Nat.le_of_ble_eq_true rfl), (Nat.le_of_ble_eq_true rfl)⟩ rfl) (fun H locs hH => ?_)
  cases hf
  exact rt_v hx hb hr hlk hH dX9_init_5
def fX9_time (M : Mem_) (a0 : Nat) (a1 : Int32) : Option Int32 :=
  (gF_ M a0).bind fun v1 =>
  if v1 < 5 then
    some 2
  else
    some 1
theorem kdX9_time : yX9_time.cls ≠ "java/lang/invoke/MethodHandle" ∧ yX9_time.cls ≠ "java/lang/invoke/VarHandle" ∧ (parseMethodDescriptor yX9_time.desc).map (fun d => d.parameters.length) = some 1 := by decide +kernel
set_option maxHeartbeats 4000000 in
theorem mX9_time (l : Launch) (G : GT_) (M : Mem_) (n : Nat) (a0 : Nat) (a1 : Int32) (r : Int32) (hf : fX9_time M a0 a1 = some r) : Ct_ G l yX9_time (ws_ yX9_time cX9_time 2 (some .int)) ({ frames := 0, cells := 0, slots := 0, locals := 0 }) 0 0 [.ref a0, .int a1] M n (some (.int r)) M n := by
  refine en_ (by decide) (Nat.le_of_ble_eq_true rfl) ?_
  intro p e s m below meth c hx hb hr hlk hml hown hts hname hKn hH ls hl
  have hown : s.vm.findClass RX9 = some m.cls := hown
  have hl : lv_has ls 2 [(0, .ref a0), (1, .int a1)] := hl
  unfold fX9_time at hf
  generalize s.heap = H at hH ⊢
  refine lv_aload_n hx hb dX9_time_0 rfl (lv_at hl 0 rfl) ?_
  obtain ⟨v1, ev1, hf⟩ := bs_ hf
  refine mg_gF hx hb hts hown hKn hH ev1 (hts _ q326) (u_same (hts _ q327)) dX9_time_1 ?_
  refine lv_iconst (v := 5) hx hb dX9_time_4 (by decide) ?_
  refine lv_icmp_lt (tgt := 12) hx hb dX9_time_5 (by decide) (fun c2 => ?_) (fun c2 => ?_)
  · have hf := ip_ c2 hf
    refine lv_iconst (v := 2) hx hb dX9_time_12 (by decide) ?_
    cases hf
    exact rt_i hx hb hr hlk hH dX9_time_13
  · have hf := in_ c2 hf
    refine lv_iconst (v := 1) hx hb dX9_time_8 (by decide) ?_
    refine lv_goto (tgt := 13) hx hb dX9_time_9 (by decide) ?_
    cases hf
    exact rt_i hx hb hr hlk hH dX9_time_13
def fX9_tires (a0 : Nat) : Int32 :=
  5
theorem kdX9_tires : yX9_tires.cls ≠ "java/lang/invoke/MethodHandle" ∧ yX9_tires.cls ≠ "java/lang/invoke/VarHandle" ∧ (parseMethodDescriptor yX9_tires.desc).map (fun d => d.parameters.length) = some 0 := by decide +kernel
set_option maxHeartbeats 4000000 in
theorem mX9_tires (l : Launch) (G : GT_) (M : Mem_) (n : Nat) (a0 : Nat) (r : Int32) (hf : fX9_tires a0 = r) : Ct_ G l yX9_tires (ws_ yX9_tires cX9_tires 1 (some .int)) ({ frames := 0, cells := 0, slots := 0, locals := 0 }) 0 0 [.ref a0] M n (some (.int r)) M n := by
  refine en_ (by decide) (Nat.le_of_ble_eq_true rfl) ?_
  intro p e s m below meth c hx hb hr hlk hml hown hts hname hKn hH ls hl
  have hown : s.vm.findClass RX9 = some m.cls := hown
  have hl : lv_has ls 1 [(0, .ref a0)] := hl
  unfold fX9_tires at hf
  generalize s.heap = H at hH ⊢
  refine lv_iconst (v := 5) hx hb dX9_tires_0 (by decide) ?_
  subst hf
  exact rt_i hx hb hr hlk hH dX9_tires_1
def fX9_kind (a0 : Nat) : Int32 :=
  1
theorem kdX9_kind : yX9_kind.cls ≠ "java/lang/invoke/MethodHandle" ∧ yX9_kind.cls ≠ "java/lang/invoke/VarHandle" ∧ (parseMethodDescriptor yX9_kind.desc).map (fun d => d.parameters.length) = some 0 := by decide +kernel
set_option maxHeartbeats 4000000 in
theorem mX9_kind (l : Launch) (G : GT_) (M : Mem_) (n : Nat) (a0 : Nat) (r : Int32) (hf : fX9_kind a0 = r) : Ct_ G l yX9_kind (ws_ yX9_kind cX9_kind 1 (some .int)) ({ frames := 0, cells := 0, slots := 0, locals := 0 }) 0 0 [.ref a0] M n (some (.int r)) M n := by
  refine en_ (by decide) (Nat.le_of_ble_eq_true rfl) ?_
  intro p e s m below meth c hx hb hr hlk hml hown hts hname hKn hH ls hl
  have hown : s.vm.findClass RX9 = some m.cls := hown
  have hl : lv_has ls 1 [(0, .ref a0)] := hl
  unfold fX9_kind at hf
  generalize s.heap = H at hH ⊢
  refine lv_iconst (v := 1) hx hb dX9_kind_0 (by decide) ?_
  subst hf
  exact rt_i hx hb hr hlk hH dX9_kind_1
def fX9_cost (a0 : Nat) : Int32 :=
  6
theorem kdX9_cost : yX9_cost.cls ≠ "java/lang/invoke/MethodHandle" ∧ yX9_cost.cls ≠ "java/lang/invoke/VarHandle" ∧ (parseMethodDescriptor yX9_cost.desc).map (fun d => d.parameters.length) = some 0 := by decide +kernel
set_option maxHeartbeats 4000000 in
theorem mX9_cost (l : Launch) (G : GT_) (M : Mem_) (n : Nat) (a0 : Nat) (r : Int32) (hf : fX9_cost a0 = r) : Ct_ G l yX9_cost (ws_ yX9_cost cX9_cost 1 (some .int)) ({ frames := 0, cells := 0, slots := 0, locals := 0 }) 0 0 [.ref a0] M n (some (.int r)) M n := by
  refine en_ (by decide) (Nat.le_of_ble_eq_true rfl) ?_
  intro p e s m below meth c hx hb hr hlk hml hown hts hname hKn hH ls hl
  have hown : s.vm.findClass RX9 = some m.cls := hown
  have hl : lv_has ls 1 [(0, .ref a0)] := hl
  unfold fX9_cost at hf
  generalize s.heap = H at hH ⊢
  refine lv_bipush (v := 6) hx hb dX9_cost_0 (by decide) ?_
  subst hf
  exact rt_i hx hb hr hlk hH dX9_cost_2
/-! calls on a stroke of any class -/
section RST
variable {p : Program} {l : Launch} {e : Env} {R : Room} {s : State} {m : MethodId} {args : Array Value} {below : List Frame} {meth : Method} {c : Code} {H : Heap} {locs : List Loc} {cells slots : Nat}
variable {cc : ByteArray} {pc : Nat} {ls : Array Slot} {rest st0 : List Value} {G : GT_} {n : Nat} {M : Mem_}
def s_kind (M : Mem_) (b : Nat) : Option Int32 := (kd_ M b).bind fun k => match k with
  | 0 => some (fX8_kind b)
  | 1 => some (fX9_kind b)
  | 2 => some (fX10_kind b)
  | 3 => some (fX11_kind b)
  | 4 => some (fX12_kind b)
  | 5 => some (fX13_kind b)
  | 6 => some (fX14_kind b)
  | _ => some (fX15_kind b)
set_option maxHeartbeats 4000000 in
theorem rs_kind {own : String} {index nL b : Nat} {r : Int32} (S : CallFix p m c cc nL s args lw_all own) (hK : Kn_ G s) (hH : St_ G n M s H locs) (hv : s_kind M b  = some r) (hlink : (Cond.methodLink own index ⟨"SideBySide$Stroke", "kind", "()I"⟩).before args s = true) (hR : 1 ≤ R.frames ∧ 22 ≤ R.locals) (hsize : ls.size = nL) (hW : (rest.map fun v => v.category).sum ≤ 8) (hdg : decode cc pc = .ok (.invokevirtual index, 3)) (hf : cells + 0 ≤ R.cells ∧ slots + 0 ≤ R.slots) (hst : st0 = ([] : List Value).reverse ++ .ref b :: rest) :
    va_Run p l e R s m args below meth c H locs cells slots 0 0 (F0 m pc ls st0) rest (Qc_ G (some (.int r)) M n (Value.ref b :: []).toArray) (fun q => G.1 ≤ q) := by
  obtain ⟨hx, hb, hml, ho, hts⟩ := S
  obtain ⟨k, hk, hv⟩ := bs_ hv
  have hk8 := (kd_spec hk).1
  match k, hk8, hk, hv with
  | 0, _, hk, hv => exact rn_U (k := 0) (y := yX8_kind) (C := kS_ 0) (owner := "SideBySide$Stroke") ⟨hx, hb, hml, ho, hts⟩ hK hH (mX8_kind l G M n b  r (Option.some.inj hv)) hlink (hts _ q578) (va_Decl.of (hts _ q576) (hts _ q600)) (by decide) (hts _ q577) (hts _ q576) (hts _ q81) q600 rfl rfl ⟨Nat.le_trans (Nat.le_of_ble_eq_true rfl) hR.1, Nat.le_trans (Nat.le_of_ble_eq_true rfl) hR.2⟩ (by decide +kernel) (kd_recv hK hH hk) rfl hsize hW hdg hf hst
  | 1, _, hk, hv => exact rn_U (k := 0) (y := yX9_kind) (C := kS_ 1) (owner := "SideBySide$Stroke") ⟨hx, hb, hml, ho, hts⟩ hK hH (mX9_kind l G M n b  r (Option.some.inj hv)) hlink (hts _ q578) (va_Decl.of (hts _ q576) (hts _ q600)) (by decide) (hts _ q594) (hts _ q595) (hts _ q82) q596 rfl rfl ⟨Nat.le_trans (Nat.le_of_ble_eq_true rfl) hR.1, Nat.le_trans (Nat.le_of_ble_eq_true rfl) hR.2⟩ (by decide +kernel) (kd_recv hK hH hk) rfl hsize hW hdg hf hst
  | 2, _, hk, hv => exact rn_U (k := 0) (y := yX10_kind) (C := kS_ 2) (owner := "SideBySide$Stroke") ⟨hx, hb, hml, ho, hts⟩ hK hH (mX10_kind l G M n b  r (Option.some.inj hv)) hlink (hts _ q578) (va_Decl.of (hts _ q576) (hts _ q600)) (by decide) (hts _ q582) (hts _ q583) (hts _ q83) q584 rfl rfl ⟨Nat.le_trans (Nat.le_of_ble_eq_true rfl) hR.1, Nat.le_trans (Nat.le_of_ble_eq_true rfl) hR.2⟩ (by decide +kernel) (kd_recv hK hH hk) rfl hsize hW hdg hf hst
  | 3, _, hk, hv => exact rn_U (k := 0) (y := yX11_kind) (C := kS_ 3) (owner := "SideBySide$Stroke") ⟨hx, hb, hml, ho, hts⟩ hK hH (mX11_kind l G M n b  r (Option.some.inj hv)) hlink (hts _ q578) (va_Decl.of (hts _ q576) (hts _ q600)) (by decide) (hts _ q588) (hts _ q589) (hts _ q84) q590 rfl rfl ⟨Nat.le_trans (Nat.le_of_ble_eq_true rfl) hR.1, Nat.le_trans (Nat.le_of_ble_eq_true rfl) hR.2⟩ (by decide +kernel) (kd_recv hK hH hk) rfl hsize hW hdg hf hst
  | 4, _, hk, hv => exact rn_U (k := 0) (y := yX12_kind) (C := kS_ 4) (owner := "SideBySide$Stroke") ⟨hx, hb, hml, ho, hts⟩ hK hH (mX12_kind l G M n b  r (Option.some.inj hv)) hlink (hts _ q578) (va_Decl.of (hts _ q576) (hts _ q600)) (by decide) (hts _ q591) (hts _ q592) (hts _ q85) q593 rfl rfl ⟨Nat.le_trans (Nat.le_of_ble_eq_true rfl) hR.1, Nat.le_trans (Nat.le_of_ble_eq_true rfl) hR.2⟩ (by decide +kernel) (kd_recv hK hH hk) rfl hsize hW hdg hf hst
  | 5, _, hk, hv => exact rn_U (k := 0) (y := yX13_kind) (C := kS_ 5) (owner := "SideBySide$Stroke") ⟨hx, hb, hml, ho, hts⟩ hK hH (mX13_kind l G M n b  r (Option.some.inj hv)) hlink (hts _ q578) (va_Decl.of (hts _ q576) (hts _ q600)) (by decide) (hts _ q585) (hts _ q586) (hts _ q86) q587 rfl rfl ⟨Nat.le_trans (Nat.le_of_ble_eq_true rfl) hR.1, Nat.le_trans (Nat.le_of_ble_eq_true rfl) hR.2⟩ (by decide +kernel) (kd_recv hK hH hk) rfl hsize hW hdg hf hst
  | 6, _, hk, hv => exact rn_U (k := 0) (y := yX14_kind) (C := kS_ 6) (owner := "SideBySide$Stroke") ⟨hx, hb, hml, ho, hts⟩ hK hH (mX14_kind l G M n b  r (Option.some.inj hv)) hlink (hts _ q578) (va_Decl.of (hts _ q576) (hts _ q600)) (by decide) (hts _ q579) (hts _ q580) (hts _ q87) q581 rfl rfl ⟨Nat.le_trans (Nat.le_of_ble_eq_true rfl) hR.1, Nat.le_trans (Nat.le_of_ble_eq_true rfl) hR.2⟩ (by decide +kernel) (kd_recv hK hH hk) rfl hsize hW hdg hf hst
  | 7, _, hk, hv => exact rn_U (k := 0) (y := yX15_kind) (C := kS_ 7) (owner := "SideBySide$Stroke") ⟨hx, hb, hml, ho, hts⟩ hK hH (mX15_kind l G M n b  r (Option.some.inj hv)) hlink (hts _ q578) (va_Decl.of (hts _ q576) (hts _ q600)) (by decide) (hts _ q597) (hts _ q598) (hts _ q88) q599 rfl rfl ⟨Nat.le_trans (Nat.le_of_ble_eq_true rfl) hR.1, Nat.le_trans (Nat.le_of_ble_eq_true rfl) hR.2⟩ (by decide +kernel) (kd_recv hK hH hk) rfl hsize hW hdg hf hst
def s_time (M : Mem_) (b : Nat) (a1 : Int32) : Option Int32 := (kd_ M b).bind fun k => match k with
  | 0 => some (fX8_time b a1)
  | 1 => fX9_time M b a1
  | 2 => fX10_time M b a1
  | 3 => fX11_time M b a1
  | 4 => fX12_time M b a1
  | 5 => fX13_time M b a1
  | 6 => some (fX8_time b a1)
  | _ => fX15_time M b a1
set_option maxHeartbeats 4000000 in
theorem rs_time {own : String} {index nL b : Nat} {a1 : Int32} {r : Int32} (S : CallFix p m c cc nL s args lw_all own) (hK : Kn_ G s) (hH : St_ G n M s H locs) (hv : s_time M b a1 = some r) (hlink : (Cond.methodLink own index ⟨"SideBySide$Stroke", "time", "(I)I"⟩).before args s = true) (hR : 3 ≤ R.frames ∧ 63 ≤ R.locals) (hsize : ls.size = nL) (hW : (rest.map fun v => v.category).sum ≤ 8) (hdg : decode cc pc = .ok (.invokevirtual index, 3)) (hf : cells + 0 ≤ R.cells ∧ slots + 0 ≤ R.slots) (hst : st0 = ([.int a1] : List Value).reverse ++ .ref b :: rest) :
    va_Run p l e R s m args below meth c H locs cells slots 0 0 (F0 m pc ls st0) rest (Qc_ G (some (.int r)) M n (Value.ref b :: [.int a1]).toArray) (fun q => G.1 ≤ q) := by
  obtain ⟨hx, hb, hml, ho, hts⟩ := S
  obtain ⟨k, hk, hv⟩ := bs_ hv
  have hk8 := (kd_spec hk).1
  match k, hk8, hk, hv with
  | 0, _, hk, hv => exact rn_U (k := 1) (y := yX8_time) (C := kS_ 0) (owner := "SideBySide$Stroke") ⟨hx, hb, hml, ho, hts⟩ hK hH (mX8_time l G M n b a1 r (Option.some.inj hv)) hlink (hts _ q455) (va_Decl.of (hts _ q453) (hts _ q481)) (by decide) (hts _ q454) (hts _ q453) (hts _ q81) q481 rfl rfl ⟨Nat.le_trans (Nat.le_of_ble_eq_true rfl) hR.1, Nat.le_trans (Nat.le_of_ble_eq_true rfl) hR.2⟩ (by decide +kernel) (kd_recv hK hH hk) rfl hsize hW hdg hf hst
  | 1, _, hk, hv => exact rn_U (k := 1) (y := yX9_time) (C := kS_ 1) (owner := "SideBySide$Stroke") ⟨hx, hb, hml, ho, hts⟩ hK hH (mX9_time l G M n b a1 r hv) hlink (hts _ q455) (va_Decl.of (hts _ q453) (hts _ q481)) (by decide) (hts _ q474) (hts _ q475) (hts _ q82) q476 rfl rfl ⟨Nat.le_trans (Nat.le_of_ble_eq_true rfl) hR.1, Nat.le_trans (Nat.le_of_ble_eq_true rfl) hR.2⟩ (by decide +kernel) (kd_recv hK hH hk) rfl hsize hW hdg hf hst
  | 2, _, hk, hv => exact rn_U (k := 1) (y := yX10_time) (C := kS_ 2) (owner := "SideBySide$Stroke") ⟨hx, hb, hml, ho, hts⟩ hK hH (mX10_time l G M n b a1 r hv) hlink (hts _ q455) (va_Decl.of (hts _ q453) (hts _ q481)) (by decide) (hts _ q457) (hts _ q458) (hts _ q83) q459 rfl rfl ⟨Nat.le_trans (Nat.le_of_ble_eq_true rfl) hR.1, Nat.le_trans (Nat.le_of_ble_eq_true rfl) hR.2⟩ (by decide +kernel) (kd_recv hK hH hk) rfl hsize hW hdg hf hst
  | 3, _, hk, hv => exact rn_U (k := 1) (y := yX11_time) (C := kS_ 3) (owner := "SideBySide$Stroke") ⟨hx, hb, hml, ho, hts⟩ hK hH (mX11_time l G M n b a1 r hv) hlink (hts _ q455) (va_Decl.of (hts _ q453) (hts _ q481)) (by decide) (hts _ q469) (hts _ q466) (hts _ q84) q467 rfl rfl ⟨Nat.le_trans (Nat.le_of_ble_eq_true rfl) hR.1, Nat.le_trans (Nat.le_of_ble_eq_true rfl) hR.2⟩ (by decide +kernel) (kd_recv hK hH hk) rfl hsize hW hdg hf hst
  | 4, _, hk, hv => exact rn_U (k := 1) (y := yX12_time) (C := kS_ 4) (owner := "SideBySide$Stroke") ⟨hx, hb, hml, ho, hts⟩ hK hH (mX12_time l G M n b a1 r hv) hlink (hts _ q455) (va_Decl.of (hts _ q453) (hts _ q481)) (by decide) (hts _ q470) (hts _ q471) (hts _ q85) q472 rfl rfl ⟨Nat.le_trans (Nat.le_of_ble_eq_true rfl) hR.1, Nat.le_trans (Nat.le_of_ble_eq_true rfl) hR.2⟩ (by decide +kernel) (kd_recv hK hH hk) rfl hsize hW hdg hf hst
  | 5, _, hk, hv => exact rn_U (k := 1) (y := yX13_time) (C := kS_ 5) (owner := "SideBySide$Stroke") ⟨hx, hb, hml, ho, hts⟩ hK hH (mX13_time l G M n b a1 r hv) hlink (hts _ q455) (va_Decl.of (hts _ q453) (hts _ q481)) (by decide) (hts _ q462) (hts _ q463) (hts _ q86) q464 rfl rfl ⟨Nat.le_trans (Nat.le_of_ble_eq_true rfl) hR.1, Nat.le_trans (Nat.le_of_ble_eq_true rfl) hR.2⟩ (by decide +kernel) (kd_recv hK hH hk) rfl hsize hW hdg hf hst
  | 6, _, hk, hv => exact rn_U (k := 1) (y := yX8_time) (C := kS_ 6) (owner := "SideBySide$Stroke") ⟨hx, hb, hml, ho, hts⟩ hK hH (mX8_time l G M n b a1 r (Option.some.inj hv)) hlink (hts _ q455) (va_Decl.of (hts _ q453) (hts _ q481)) (by decide) (hts _ q456) (hts _ q453) (hts _ q81) q481 rfl rfl ⟨Nat.le_trans (Nat.le_of_ble_eq_true rfl) hR.1, Nat.le_trans (Nat.le_of_ble_eq_true rfl) hR.2⟩ (by decide +kernel) (kd_recv hK hH hk) rfl hsize hW hdg hf hst
  | 7, _, hk, hv => exact rn_U (k := 1) (y := yX15_time) (C := kS_ 7) (owner := "SideBySide$Stroke") ⟨hx, hb, hml, ho, hts⟩ hK hH (mX15_time l G M n b a1 r hv) hlink (hts _ q455) (va_Decl.of (hts _ q453) (hts _ q481)) (by decide) (hts _ q477) (hts _ q478) (hts _ q88) q479 rfl rfl ⟨Nat.le_trans (Nat.le_of_ble_eq_true rfl) hR.1, Nat.le_trans (Nat.le_of_ble_eq_true rfl) hR.2⟩ (by decide +kernel) (kd_recv hK hH hk) rfl hsize hW hdg hf hst
def s_tires (M : Mem_) (b : Nat) : Option Int32 := (kd_ M b).bind fun k => match k with
  | 0 => some 1
  | 1 => some (fX9_tires b)
  | 2 => fX10_tires M b
  | 3 => fX11_tires M b
  | 4 => fX10_tires M b
  | 5 => fX13_tires M b
  | 6 => some 1
  | _ => fX11_tires M b
set_option maxHeartbeats 4000000 in
theorem rs_tires {own : String} {index nL b : Nat} {r : Int32} (S : CallFix p m c cc nL s args lw_all own) (hK : Kn_ G s) (hH : St_ G n M s H locs) (hv : s_tires M b  = some r) (hlink : (Cond.methodLink own index ⟨"SideBySide$Stroke", "tires", "()I"⟩).before args s = true) (hR : 3 ≤ R.frames ∧ 60 ≤ R.locals) (hsize : ls.size = nL) (hW : (rest.map fun v => v.category).sum ≤ 8) (hdg : decode cc pc = .ok (.invokevirtual index, 3)) (hf : cells + 0 ≤ R.cells ∧ slots + 0 ≤ R.slots) (hst : st0 = ([] : List Value).reverse ++ .ref b :: rest) :
    va_Run p l e R s m args below meth c H locs cells slots 0 0 (F0 m pc ls st0) rest (Qc_ G (some (.int r)) M n (Value.ref b :: []).toArray) (fun q => G.1 ≤ q) := by
  obtain ⟨hx, hb, hml, ho, hts⟩ := S
  obtain ⟨k, hk, hv⟩ := bs_ hv
  have hk8 := (kd_spec hk).1
  match k, hk8, hk, hv with
  | 0, _, hk, hv =>
    cases hv
    exact rn_D (k := 0) (y := yX18_tires) (C := kS_ 0) (owner := "SideBySide$Tires") ⟨hx, hb, hml, ho, hts⟩ hK hH (bk_tires hts hx (Nat.le_trans (Nat.le_of_ble_eq_true rfl) hR.1) (Nat.le_trans (Nat.le_of_ble_eq_true rfl) hR.2)) hlink (va_Nw.use rfl (hK.2.2.2.2.2.2.1 _ (List.mem_of_getElem? (i := 3) rfl))) (va_Decl.of (hts _ q487) (hts _ q488)) (by decide) (hK.2.2.2.2.2.1 _ (List.mem_of_getElem? (i := 7) rfl)) (hts _ q487) (by decide +kernel) (kd_recv hK hH hk) rfl hsize hW hdg hf hst
  | 1, _, hk, hv => exact rn_U (k := 0) (y := yX9_tires) (C := kS_ 1) (owner := "SideBySide$Tires") ⟨hx, hb, hml, ho, hts⟩ hK hH (mX9_tires l G M n b  r (Option.some.inj hv)) hlink (va_Nw.use rfl (hK.2.2.2.2.2.2.1 _ (List.mem_of_getElem? (i := 3) rfl))) (va_Decl.of (hts _ q487) (hts _ q488)) (by decide) (hts _ q497) (hts _ q498) (hts _ q82) q499 rfl rfl ⟨Nat.le_trans (Nat.le_of_ble_eq_true rfl) hR.1, Nat.le_trans (Nat.le_of_ble_eq_true rfl) hR.2⟩ (by decide +kernel) (kd_recv hK hH hk) rfl hsize hW hdg hf hst
  | 2, _, hk, hv => exact rn_U (k := 0) (y := yX10_tires) (C := kS_ 2) (owner := "SideBySide$Tires") ⟨hx, hb, hml, ho, hts⟩ hK hH (mX10_tires l G M n b  r hv) hlink (va_Nw.use rfl (hK.2.2.2.2.2.2.1 _ (List.mem_of_getElem? (i := 3) rfl))) (va_Decl.of (hts _ q487) (hts _ q488)) (by decide) (hts _ q484) (hts _ q485) (hts _ q83) q486 rfl rfl ⟨Nat.le_trans (Nat.le_of_ble_eq_true rfl) hR.1, Nat.le_trans (Nat.le_of_ble_eq_true rfl) hR.2⟩ (by decide +kernel) (kd_recv hK hH hk) rfl hsize hW hdg hf hst
  | 3, _, hk, hv => exact rn_U (k := 0) (y := yX11_tires) (C := kS_ 3) (owner := "SideBySide$Tires") ⟨hx, hb, hml, ho, hts⟩ hK hH (mX11_tires l G M n b  r hv) hlink (va_Nw.use rfl (hK.2.2.2.2.2.2.1 _ (List.mem_of_getElem? (i := 3) rfl))) (va_Decl.of (hts _ q487) (hts _ q488)) (by decide) (hts _ q495) (hts _ q493) (hts _ q84) q494 rfl rfl ⟨Nat.le_trans (Nat.le_of_ble_eq_true rfl) hR.1, Nat.le_trans (Nat.le_of_ble_eq_true rfl) hR.2⟩ (by decide +kernel) (kd_recv hK hH hk) rfl hsize hW hdg hf hst
  | 4, _, hk, hv => exact rn_U (k := 0) (y := yX10_tires) (C := kS_ 4) (owner := "SideBySide$Tires") ⟨hx, hb, hml, ho, hts⟩ hK hH (mX10_tires l G M n b  r hv) hlink (va_Nw.use rfl (hK.2.2.2.2.2.2.1 _ (List.mem_of_getElem? (i := 3) rfl))) (va_Decl.of (hts _ q487) (hts _ q488)) (by decide) (hts _ q496) (hts _ q485) (hts _ q83) q486 rfl rfl ⟨Nat.le_trans (Nat.le_of_ble_eq_true rfl) hR.1, Nat.le_trans (Nat.le_of_ble_eq_true rfl) hR.2⟩ (by decide +kernel) (kd_recv hK hH hk) rfl hsize hW hdg hf hst
  | 5, _, hk, hv => exact rn_U (k := 0) (y := yX13_tires) (C := kS_ 5) (owner := "SideBySide$Tires") ⟨hx, hb, hml, ho, hts⟩ hK hH (mX13_tires l G M n b  r hv) hlink (va_Nw.use rfl (hK.2.2.2.2.2.2.1 _ (List.mem_of_getElem? (i := 3) rfl))) (va_Decl.of (hts _ q487) (hts _ q488)) (by decide) (hts _ q489) (hts _ q490) (hts _ q86) q491 rfl rfl ⟨Nat.le_trans (Nat.le_of_ble_eq_true rfl) hR.1, Nat.le_trans (Nat.le_of_ble_eq_true rfl) hR.2⟩ (by decide +kernel) (kd_recv hK hH hk) rfl hsize hW hdg hf hst
  | 6, _, hk, hv =>
    cases hv
    exact rn_D (k := 0) (y := yX18_tires) (C := kS_ 6) (owner := "SideBySide$Tires") ⟨hx, hb, hml, ho, hts⟩ hK hH (bk_tires hts hx (Nat.le_trans (Nat.le_of_ble_eq_true rfl) hR.1) (Nat.le_trans (Nat.le_of_ble_eq_true rfl) hR.2)) hlink (va_Nw.use rfl (hK.2.2.2.2.2.2.1 _ (List.mem_of_getElem? (i := 3) rfl))) (va_Decl.of (hts _ q487) (hts _ q488)) (by decide) (hK.2.2.2.2.2.1 _ (List.mem_of_getElem? (i := 6) rfl)) (hts _ q487) (by decide +kernel) (kd_recv hK hH hk) rfl hsize hW hdg hf hst
  | 7, _, hk, hv => exact rn_U (k := 0) (y := yX11_tires) (C := kS_ 7) (owner := "SideBySide$Tires") ⟨hx, hb, hml, ho, hts⟩ hK hH (mX11_tires l G M n b  r hv) hlink (va_Nw.use rfl (hK.2.2.2.2.2.2.1 _ (List.mem_of_getElem? (i := 3) rfl))) (va_Decl.of (hts _ q487) (hts _ q488)) (by decide) (hts _ q501) (hts _ q493) (hts _ q84) q494 rfl rfl ⟨Nat.le_trans (Nat.le_of_ble_eq_true rfl) hR.1, Nat.le_trans (Nat.le_of_ble_eq_true rfl) hR.2⟩ (by decide +kernel) (kd_recv hK hH hk) rfl hsize hW hdg hf hst
def s_falls (M : Mem_) (b : Nat) (a1 : Int32) (a2 : Int32) : Option Int32 := (kd_ M b).bind fun k => match k with
  | 0 => some a1
  | 1 => some a1
  | 2 => some a1
  | 3 => some a1
  | 4 => some a1
  | 5 => some a1
  | 6 => some (fX14_falls b a1 a2)
  | _ => some (fX15_falls b a1 a2)
set_option maxHeartbeats 4000000 in
theorem rs_falls {own : String} {index nL b : Nat} {a1 a2 : Int32} {r : Int32} (S : CallFix p m c cc nL s args lw_all own) (hK : Kn_ G s) (hH : St_ G n M s H locs) (hv : s_falls M b a1 a2 = some r) (hlink : (Cond.methodLink own index ⟨"SideBySide$Stroke", "falls", "(II)I"⟩).before args s = true) (hR : 2 ≤ R.frames ∧ 42 ≤ R.locals) (hsize : ls.size = nL) (hW : (rest.map fun v => v.category).sum ≤ 8) (hdg : decode cc pc = .ok (.invokevirtual index, 3)) (hf : cells + 0 ≤ R.cells ∧ slots + 0 ≤ R.slots) (hst : st0 = ([.int a1, .int a2] : List Value).reverse ++ .ref b :: rest) :
    va_Run p l e R s m args below meth c H locs cells slots 0 0 (F0 m pc ls st0) rest (Qc_ G (some (.int r)) M n (Value.ref b :: [.int a1, .int a2]).toArray) (fun q => G.1 ≤ q) := by
  obtain ⟨hx, hb, hml, ho, hts⟩ := S
  obtain ⟨k, hk, hv⟩ := bs_ hv
  have hk8 := (kd_spec hk).1
  match k, hk8, hk, hv with
  | 0, _, hk, hv =>
    cases hv
    exact rn_D (k := 2) (y := yX17_falls) (C := kS_ 0) (owner := "SideBySide$Falls") ⟨hx, hb, hml, ho, hts⟩ hK hH (bk_falls hts hx (Nat.le_trans (Nat.le_of_ble_eq_true rfl) hR.1) (Nat.le_trans (Nat.le_of_ble_eq_true rfl) hR.2)) hlink (va_Nw.use rfl (hK.2.2.2.2.2.2.1 _ (List.mem_of_getElem? (i := 1) rfl))) (va_Decl.of (hts _ q449) (hts _ q451)) (by decide) (hK.2.2.2.2.2.1 _ (List.mem_of_getElem? (i := 5) rfl)) (hts _ q449) (by decide +kernel) (kd_recv hK hH hk) rfl hsize hW hdg hf hst
  | 1, _, hk, hv =>
    cases hv
    exact rn_D (k := 2) (y := yX17_falls) (C := kS_ 1) (owner := "SideBySide$Falls") ⟨hx, hb, hml, ho, hts⟩ hK hH (bk_falls hts hx (Nat.le_trans (Nat.le_of_ble_eq_true rfl) hR.1) (Nat.le_trans (Nat.le_of_ble_eq_true rfl) hR.2)) hlink (va_Nw.use rfl (hK.2.2.2.2.2.2.1 _ (List.mem_of_getElem? (i := 1) rfl))) (va_Decl.of (hts _ q449) (hts _ q451)) (by decide) (hK.2.2.2.2.2.1 _ (List.mem_of_getElem? (i := 4) rfl)) (hts _ q449) (by decide +kernel) (kd_recv hK hH hk) rfl hsize hW hdg hf hst
  | 2, _, hk, hv =>
    cases hv
    exact rn_D (k := 2) (y := yX17_falls) (C := kS_ 2) (owner := "SideBySide$Falls") ⟨hx, hb, hml, ho, hts⟩ hK hH (bk_falls hts hx (Nat.le_trans (Nat.le_of_ble_eq_true rfl) hR.1) (Nat.le_trans (Nat.le_of_ble_eq_true rfl) hR.2)) hlink (va_Nw.use rfl (hK.2.2.2.2.2.2.1 _ (List.mem_of_getElem? (i := 1) rfl))) (va_Decl.of (hts _ q449) (hts _ q451)) (by decide) (hK.2.2.2.2.2.1 _ (List.mem_of_getElem? (i := 0) rfl)) (hts _ q449) (by decide +kernel) (kd_recv hK hH hk) rfl hsize hW hdg hf hst
  | 3, _, hk, hv =>
    cases hv
    exact rn_D (k := 2) (y := yX17_falls) (C := kS_ 3) (owner := "SideBySide$Falls") ⟨hx, hb, hml, ho, hts⟩ hK hH (bk_falls hts hx (Nat.le_trans (Nat.le_of_ble_eq_true rfl) hR.1) (Nat.le_trans (Nat.le_of_ble_eq_true rfl) hR.2)) hlink (va_Nw.use rfl (hK.2.2.2.2.2.2.1 _ (List.mem_of_getElem? (i := 1) rfl))) (va_Decl.of (hts _ q449) (hts _ q451)) (by decide) (hK.2.2.2.2.2.1 _ (List.mem_of_getElem? (i := 2) rfl)) (hts _ q449) (by decide +kernel) (kd_recv hK hH hk) rfl hsize hW hdg hf hst
  | 4, _, hk, hv =>
    cases hv
    exact rn_D (k := 2) (y := yX17_falls) (C := kS_ 4) (owner := "SideBySide$Falls") ⟨hx, hb, hml, ho, hts⟩ hK hH (bk_falls hts hx (Nat.le_trans (Nat.le_of_ble_eq_true rfl) hR.1) (Nat.le_trans (Nat.le_of_ble_eq_true rfl) hR.2)) hlink (va_Nw.use rfl (hK.2.2.2.2.2.2.1 _ (List.mem_of_getElem? (i := 1) rfl))) (va_Decl.of (hts _ q449) (hts _ q451)) (by decide) (hK.2.2.2.2.2.1 _ (List.mem_of_getElem? (i := 3) rfl)) (hts _ q449) (by decide +kernel) (kd_recv hK hH hk) rfl hsize hW hdg hf hst
  | 5, _, hk, hv =>
    cases hv
    exact rn_D (k := 2) (y := yX17_falls) (C := kS_ 5) (owner := "SideBySide$Falls") ⟨hx, hb, hml, ho, hts⟩ hK hH (bk_falls hts hx (Nat.le_trans (Nat.le_of_ble_eq_true rfl) hR.1) (Nat.le_trans (Nat.le_of_ble_eq_true rfl) hR.2)) hlink (va_Nw.use rfl (hK.2.2.2.2.2.2.1 _ (List.mem_of_getElem? (i := 1) rfl))) (va_Decl.of (hts _ q449) (hts _ q451)) (by decide) (hK.2.2.2.2.2.1 _ (List.mem_of_getElem? (i := 1) rfl)) (hts _ q449) (by decide +kernel) (kd_recv hK hH hk) rfl hsize hW hdg hf hst
  | 6, _, hk, hv => exact rn_U (k := 2) (y := yX14_falls) (C := kS_ 6) (owner := "SideBySide$Falls") ⟨hx, hb, hml, ho, hts⟩ hK hH (mX14_falls l G M n b a1 a2 r (Option.some.inj hv)) hlink (va_Nw.use rfl (hK.2.2.2.2.2.2.1 _ (List.mem_of_getElem? (i := 1) rfl))) (va_Decl.of (hts _ q449) (hts _ q451)) (by decide) (hts _ q424) (hts _ q425) (hts _ q87) q426 rfl rfl ⟨Nat.le_trans (Nat.le_of_ble_eq_true rfl) hR.1, Nat.le_trans (Nat.le_of_ble_eq_true rfl) hR.2⟩ (by decide +kernel) (kd_recv hK hH hk) rfl hsize hW hdg hf hst
  | 7, _, hk, hv => exact rn_U (k := 2) (y := yX15_falls) (C := kS_ 7) (owner := "SideBySide$Falls") ⟨hx, hb, hml, ho, hts⟩ hK hH (mX15_falls l G M n b a1 a2 r (Option.some.inj hv)) hlink (va_Nw.use rfl (hK.2.2.2.2.2.2.1 _ (List.mem_of_getElem? (i := 1) rfl))) (va_Decl.of (hts _ q449) (hts _ q451)) (by decide) (hts _ q436) (hts _ q437) (hts _ q88) q438 rfl rfl ⟨Nat.le_trans (Nat.le_of_ble_eq_true rfl) hR.1, Nat.le_trans (Nat.le_of_ble_eq_true rfl) hR.2⟩ (by decide +kernel) (kd_recv hK hH hk) rfl hsize hW hdg hf hst
def s_cost (M : Mem_) (b : Nat) : Option Int32 := (kd_ M b).bind fun k => match k with
  | 0 => some (fX8_cost b)
  | 1 => some (fX9_cost b)
  | 2 => fX10_cost M b
  | 3 => some (fX11_cost b)
  | 4 => fX12_cost M b
  | 5 => fX13_cost M b
  | 6 => fX14_cost M b
  | _ => some (fX15_cost b)
set_option maxHeartbeats 4000000 in
theorem rs_cost {own : String} {index nL b : Nat} {r : Int32} (S : CallFix p m c cc nL s args lw_all own) (hK : Kn_ G s) (hH : St_ G n M s H locs) (hv : s_cost M b  = some r) (hlink : (Cond.methodLink own index ⟨"SideBySide$Stroke", "cost", "()I"⟩).before args s = true) (hR : 3 ≤ R.frames ∧ 60 ≤ R.locals) (hsize : ls.size = nL) (hW : (rest.map fun v => v.category).sum ≤ 8) (hdg : decode cc pc = .ok (.invokevirtual index, 3)) (hf : cells + 0 ≤ R.cells ∧ slots + 0 ≤ R.slots) (hst : st0 = ([] : List Value).reverse ++ .ref b :: rest) :
    va_Run p l e R s m args below meth c H locs cells slots 0 0 (F0 m pc ls st0) rest (Qc_ G (some (.int r)) M n (Value.ref b :: []).toArray) (fun q => G.1 ≤ q) := by
  obtain ⟨hx, hb, hml, ho, hts⟩ := S
  obtain ⟨k, hk, hv⟩ := bs_ hv
  have hk8 := (kd_spec hk).1
  match k, hk8, hk, hv with
  | 0, _, hk, hv => exact rn_U (k := 0) (y := yX8_cost) (C := kS_ 0) (owner := "SideBySide$Stroke") ⟨hx, hb, hml, ho, hts⟩ hK hH (mX8_cost l G M n b  r (Option.some.inj hv)) hlink (hts _ q1049) (va_Decl.of (hts _ q1047) (hts _ q1074)) (by decide) (hts _ q1048) (hts _ q1047) (hts _ q81) q1074 rfl rfl ⟨Nat.le_trans (Nat.le_of_ble_eq_true rfl) hR.1, Nat.le_trans (Nat.le_of_ble_eq_true rfl) hR.2⟩ (by decide +kernel) (kd_recv hK hH hk) rfl hsize hW hdg hf hst
  | 1, _, hk, hv => exact rn_U (k := 0) (y := yX9_cost) (C := kS_ 1) (owner := "SideBySide$Stroke") ⟨hx, hb, hml, ho, hts⟩ hK hH (mX9_cost l G M n b  r (Option.some.inj hv)) hlink (hts _ q1049) (va_Decl.of (hts _ q1047) (hts _ q1074)) (by decide) (hts _ q1068) (hts _ q1069) (hts _ q82) q1070 rfl rfl ⟨Nat.le_trans (Nat.le_of_ble_eq_true rfl) hR.1, Nat.le_trans (Nat.le_of_ble_eq_true rfl) hR.2⟩ (by decide +kernel) (kd_recv hK hH hk) rfl hsize hW hdg hf hst
  | 2, _, hk, hv => exact rn_U (k := 0) (y := yX10_cost) (C := kS_ 2) (owner := "SideBySide$Stroke") ⟨hx, hb, hml, ho, hts⟩ hK hH (mX10_cost l G M n b  r hv) hlink (hts _ q1049) (va_Decl.of (hts _ q1047) (hts _ q1074)) (by decide) (hts _ q1053) (hts _ q1054) (hts _ q83) q1055 rfl rfl ⟨Nat.le_trans (Nat.le_of_ble_eq_true rfl) hR.1, Nat.le_trans (Nat.le_of_ble_eq_true rfl) hR.2⟩ (by decide +kernel) (kd_recv hK hH hk) rfl hsize hW hdg hf hst
  | 3, _, hk, hv => exact rn_U (k := 0) (y := yX11_cost) (C := kS_ 3) (owner := "SideBySide$Stroke") ⟨hx, hb, hml, ho, hts⟩ hK hH (mX11_cost l G M n b  r (Option.some.inj hv)) hlink (hts _ q1049) (va_Decl.of (hts _ q1047) (hts _ q1074)) (by decide) (hts _ q1063) (hts _ q1061) (hts _ q84) q1062 rfl rfl ⟨Nat.le_trans (Nat.le_of_ble_eq_true rfl) hR.1, Nat.le_trans (Nat.le_of_ble_eq_true rfl) hR.2⟩ (by decide +kernel) (kd_recv hK hH hk) rfl hsize hW hdg hf hst
  | 4, _, hk, hv => exact rn_U (k := 0) (y := yX12_cost) (C := kS_ 4) (owner := "SideBySide$Stroke") ⟨hx, hb, hml, ho, hts⟩ hK hH (mX12_cost l G M n b  r hv) hlink (hts _ q1049) (va_Decl.of (hts _ q1047) (hts _ q1074)) (by decide) (hts _ q1064) (hts _ q1065) (hts _ q85) q1066 rfl rfl ⟨Nat.le_trans (Nat.le_of_ble_eq_true rfl) hR.1, Nat.le_trans (Nat.le_of_ble_eq_true rfl) hR.2⟩ (by decide +kernel) (kd_recv hK hH hk) rfl hsize hW hdg hf hst
  | 5, _, hk, hv => exact rn_U (k := 0) (y := yX13_cost) (C := kS_ 5) (owner := "SideBySide$Stroke") ⟨hx, hb, hml, ho, hts⟩ hK hH (mX13_cost l G M n b  r hv) hlink (hts _ q1049) (va_Decl.of (hts _ q1047) (hts _ q1074)) (by decide) (hts _ q1057) (hts _ q1058) (hts _ q86) q1059 rfl rfl ⟨Nat.le_trans (Nat.le_of_ble_eq_true rfl) hR.1, Nat.le_trans (Nat.le_of_ble_eq_true rfl) hR.2⟩ (by decide +kernel) (kd_recv hK hH hk) rfl hsize hW hdg hf hst
  | 6, _, hk, hv => exact rn_U (k := 0) (y := yX14_cost) (C := kS_ 6) (owner := "SideBySide$Stroke") ⟨hx, hb, hml, ho, hts⟩ hK hH (mX14_cost l G M n b  r hv) hlink (hts _ q1049) (va_Decl.of (hts _ q1047) (hts _ q1074)) (by decide) (hts _ q1050) (hts _ q1051) (hts _ q87) q1052 rfl rfl ⟨Nat.le_trans (Nat.le_of_ble_eq_true rfl) hR.1, Nat.le_trans (Nat.le_of_ble_eq_true rfl) hR.2⟩ (by decide +kernel) (kd_recv hK hH hk) rfl hsize hW hdg hf hst
  | 7, _, hk, hv => exact rn_U (k := 0) (y := yX15_cost) (C := kS_ 7) (owner := "SideBySide$Stroke") ⟨hx, hb, hml, ho, hts⟩ hK hH (mX15_cost l G M n b  r (Option.some.inj hv)) hlink (hts _ q1049) (va_Decl.of (hts _ q1047) (hts _ q1074)) (by decide) (hts _ q1071) (hts _ q1072) (hts _ q88) q1073 rfl rfl ⟨Nat.le_trans (Nat.le_of_ble_eq_true rfl) hR.1, Nat.le_trans (Nat.le_of_ble_eq_true rfl) hR.2⟩ (by decide +kernel) (kd_recv hK hH hk) rfl hsize hW hdg hf hst
end RST
