set_option maxRecDepth 100000
def fX8_failure (M : Mem_) (n : Nat) (a0 : Nat) : Option ((Option Nat) × Mem_ × Nat) :=
  (gF_ M a0).bind fun v1 =>
  if v1 = 0 then
    some (none, M, n)
  else
    lt_ (ms_ M n (eN_ 15)) fun M2 =>
    (gF_ M2 a0).bind fun v3 =>
    (fX16_init M2 n v3).bind fun M5 =>
    some ((some n), M5, n + 1)
theorem kdX8_failure : yX8_failure.cls ≠ "java/lang/invoke/MethodHandle" ∧ yX8_failure.cls ≠ "java/lang/invoke/VarHandle" ∧ (parseMethodDescriptor yX8_failure.desc).map (fun d => d.parameters.length) = some 0 := by decide +kernel
set_option maxHeartbeats 4000000 in
theorem mX8_failure (l : Launch) (hnt : l.flags = flags0) (G : GT_) (M : Mem_) (n : Nat) (a0 : Nat) (r : Option Nat) (M1 : Mem_) (n1 : Nat) (hf : fX8_failure M n a0 = some (r, M1, n1)) : Ct_ G l yX8_failure (ws_ yX8_failure cX8_failure 1 (some (.object "SideBySide$Tossed"))) ({ frames := 6, cells := 1, slots := 7, locals := 91 }) 1 7 [.ref a0] M n (some (va_rf r)) M1 n1 := by
  refine en_ (by decide) (Nat.le_of_ble_eq_true rfl) ?_
  intro p e s m below meth c hx hb hr hlk hml hown hts hname hKn hH ls hl
  have hown : s.vm.findClass RX8 = some m.cls := hown
  have hl : lv_has ls 1 [(0, .ref a0)] := hl
  unfold fX8_failure at hf
  generalize s.heap = H at hH ⊢
  refine lv_aload_n hx hb dX8_failure_0 rfl (lv_at hl 0 rfl) ?_
  obtain ⟨v1, ev1, hf⟩ := bs_ hf
  refine mg_gF hx hb hts hown hKn hH ev1 (hts _ q325) (fun _ h9 => h9) dX8_failure_1 ?_
  refine lv_if_ne (tgt := 11) hx hb dX8_failure_4 (by decide) (fun c6 => ?_) (fun c6 => ?_)
  · have hf := in_ c6 hf
    refine mg_newx (ci := 15) hx hb hts hown hKn hH (hts _ q1123) (hts _ q1090) (hts _ q97) rfl (Nat.le_of_ble_eq_true rfl) (Nat.le_of_ble_eq_true rfl) dX8_failure_11 (fun H hH => ?_)
    obtain ⟨M2, eM2⟩ : ∃ z : Mem_, z = ms_ M n (eN_ 15) := ⟨_, rfl⟩
    have hf := lu_ eM2 hf
    have hH := st_eq eM2 hH
    refine W.widen (k := 1) (n := 7) (Nat.le_of_ble_eq_true rfl) (Nat.le_of_ble_eq_true rfl) ?_
    refine lv_dup hx hb dX8_failure_14 rfl ?_
    refine lv_aload_n hx hb dX8_failure_15 rfl (lv_at hl 0 rfl) ?_
    obtain ⟨v3, ev3, hf⟩ := bs_ hf
    refine mg_gF hx hb hts hown hKn hH ev3 (hts _ q325) (fun _ h9 => h9) dX8_failure_16 ?_
    obtain ⟨M5, er4, hf⟩ := bs_ hf
    refine cl_v0 hH (rn_I ⟨hx, hb, hml, hown, hts⟩ hKn hH (mX16_init l hnt G M2 (n + 1) n v3 M5 er4) (cwI 1 hts (lw_meth q1100) rfl rfl rfl (hts _ q97) (hts _ q1124) (hts _ q1099) rfl kdX16_init ⟨Nat.le_of_ble_eq_true rfl, Nat.le_of_ble_eq_true rfl⟩) rfl hl.1 (Nat.le_of_ble_eq_true rfl) dX8_failure_19 ⟨(Nat.le_of_ble_eq_true rfl), (Nat.le_of_ble_eq_true rfl)⟩ rfl) (fun H locs hH => ?_)
    cases hf
    refine W.widen (k := 1) (n := 7) (Nat.le_of_ble_eq_true rfl) (Nat.le_of_ble_eq_true rfl) ?_
    exact rt_o (o := some _) hx hb hr (Or.inl ⟨_, rfl⟩) hlk hH dX8_failure_22
  · have hf := ip_ c6 hf
    refine lv_null hx hb dX8_failure_7 ?_
    refine lv_goto (tgt := 22) hx hb dX8_failure_8 (by decide) ?_
    cases hf
    refine W.widen (k := 1) (n := 7) (Nat.le_of_ble_eq_true rfl) (Nat.le_of_ble_eq_true rfl) ?_
    exact rt_o (o := none) hx hb hr (Or.inl ⟨_, rfl⟩) hlk hH dX8_failure_22
def fX10_failure (M : Mem_) (n : Nat) (a0 : Nat) : Option ((Option Nat) × Mem_ × Nat) :=
  (kd_ M a0).bind fun u1 =>
  ba_ (fX8_failure M n a0) fun r2 M3 n4 =>
  no_ r2 (
    some (none, M3, n4)
  ) (fun o5 =>
    lt_ (ms_ M3 n4 (eN_ 15)) fun M6 =>
    (gX_ M6 o5 15).bind fun v7 =>
    (fX16_init M6 n4 (v7 + 100)).bind fun M9 =>
    some ((some n4), M9, n4 + 1)
  )
theorem kdX10_failure : yX10_failure.cls ≠ "java/lang/invoke/MethodHandle" ∧ yX10_failure.cls ≠ "java/lang/invoke/VarHandle" ∧ (parseMethodDescriptor yX10_failure.desc).map (fun d => d.parameters.length) = some 0 := by decide +kernel
set_option maxHeartbeats 4000000 in
theorem mX10_failure (l : Launch) (hnt : l.flags = flags0) (G : GT_) (M : Mem_) (n : Nat) (a0 : Nat) (r : Option Nat) (M1 : Mem_) (n1 : Nat) (hf : fX10_failure M n a0 = some (r, M1, n1)) : Ct_ G l yX10_failure (ws_ yX10_failure cX10_failure 2 (some (.object "SideBySide$Tossed"))) ({ frames := 7, cells := 2, slots := 14, locals := 111 }) 2 14 [.ref a0] M n (some (va_rf r)) M1 n1 := by
  refine en_ (by decide) (Nat.le_of_ble_eq_true rfl) ?_
  intro p e s m below meth c hx hb hr hlk hml hown hts hname hKn hH ls hl
  have hown : s.vm.findClass RX10 = some m.cls := hown
  have hl : lv_has ls 2 [(0, .ref a0)] := hl
  unfold fX10_failure at hf
  generalize s.heap = H at hH ⊢
  refine lv_aload_n hx hb dX10_failure_0 rfl (lv_at hl 0 rfl) ?_
  obtain ⟨u1, eu1, hf⟩ := bs_ hf
  obtain ⟨r2, M3, n4, er2, hf⟩ := bas_ hf
  refine cl_w hH (rn_SU ⟨hx, hb, hml, hown, hts⟩ hKn hH (mX8_failure l hnt G M n a0 r2 M3 n4 er2) (va_cwSU 0 hts (lw_SU q1088 q1083 q351 q1081 q81 q1122) rfl rfl rfl ⟨by decide, kdX8_failure.2.2⟩ ⟨Nat.le_of_ble_eq_true rfl, Nat.le_of_ble_eq_true rfl⟩) eu1 rfl hl.1 (Nat.le_of_ble_eq_true rfl) dX10_failure_1 ⟨(Nat.le_of_ble_eq_true rfl), (Nat.le_of_ble_eq_true rfl)⟩ rfl) (fun H locs hH => ?_)
  refine W.widen (k := 1) (n := 7) (Nat.le_of_ble_eq_true rfl) (Nat.le_of_ble_eq_true rfl) ?_
  cases r2 with
  | none =>
    have hf := noN_ hf
    have hl : lv_has ls 2 [(0, .ref a0)] := hl
    refine lv_astore_nN (lv' := [(1, .null), (0, .ref a0)]) hx hb dX10_failure_4 rfl hl (by decide) rfl (fun ls hl => ?_)
    refine lv_aload_nN hx hb dX10_failure_5 rfl (lv_at hl 0 rfl) ?_
    refine lv_ifnonnullN hx hb dX10_failure_6 ?_
    refine lv_null hx hb dX10_failure_9 ?_
    refine lv_goto (tgt := 27) hx hb dX10_failure_10 (by decide) ?_
    cases hf
    refine W.widen (k := 2) (n := 14) (Nat.le_of_ble_eq_true rfl) (Nat.le_of_ble_eq_true rfl) ?_
    exact rt_o (o := none) hx hb hr (Or.inl ⟨_, rfl⟩) hlk hH dX10_failure_27
  | some o5 =>
    have hf := noS_ hf
    have hl : lv_has ls 2 [(0, .ref a0)] := hl
    refine lv_astore_n (lv' := [(1, .ref o5), (0, .ref a0)]) hx hb dX10_failure_4 rfl hl (by decide) rfl (fun ls hl => ?_)
    refine lv_aload_n hx hb dX10_failure_5 rfl (lv_at hl 0 rfl) ?_
    refine lv_ifnonnull (tgt := 13) hx hb dX10_failure_6 (by decide) ?_
    refine mg_newx (ci := 15) hx hb hts hown hKn hH (hts _ q1089) (hts _ q1090) (hts _ q97) rfl (Nat.le_of_ble_eq_true rfl) (Nat.le_of_ble_eq_true rfl) dX10_failure_13 (fun H hH => ?_)
    obtain ⟨M6, eM6⟩ : ∃ z : Mem_, z = ms_ M3 n4 (eN_ 15) := ⟨_, rfl⟩
    have hf := lu_ eM6 hf
    have hH := st_eq eM6 hH
    refine W.widen (k := 2) (n := 14) (Nat.le_of_ble_eq_true rfl) (Nat.le_of_ble_eq_true rfl) ?_
    refine lv_dup hx hb dX10_failure_16 rfl ?_
    refine lv_aload_n hx hb dX10_failure_17 rfl (lv_at hl 0 rfl) ?_
    obtain ⟨v7, ev7, hf⟩ := bs_ hf
    refine mg_gX hx hb hts hown hKn hH ev7 in_X16 rfl (by decide) (hts _ q1103) (fun _ h9 => h9) dX10_failure_18 ?_
    refine lv_bipush (v := 100) hx hb dX10_failure_21 (by decide) ?_
    refine lv_iadd hx hb dX10_failure_23 ?_
    obtain ⟨M9, er8, hf⟩ := bs_ hf
    refine cl_v0 hH (rn_I ⟨hx, hb, hml, hown, hts⟩ hKn hH (mX16_init l hnt G M6 (n4 + 1) n4 (v7 + 100) M9 er8) (cwI 1 hts (lw_meth q1100) rfl rfl rfl (hts _ q97) (hts _ q1098) (hts _ q1099) rfl kdX16_init ⟨Nat.le_of_ble_eq_true rfl, Nat.le_of_ble_eq_true rfl⟩) rfl hl.1 (Nat.le_of_ble_eq_true rfl) dX10_failure_24 ⟨(Nat.le_of_ble_eq_true rfl), (Nat.le_of_ble_eq_true rfl)⟩ rfl) (fun H locs hH => ?_)
    cases hf
    refine W.widen (k := 2) (n := 14) (Nat.le_of_ble_eq_true rfl) (Nat.le_of_ble_eq_true rfl) ?_
    exact rt_o (o := some _) hx hb hr (Or.inl ⟨_, rfl⟩) hlk hH dX10_failure_27
def fX11_failure (M : Mem_) (n : Nat) (a0 : Nat) : Option ((Option Nat) × Mem_ × Nat) :=
  some (none, M, n)
theorem kdX11_failure : yX11_failure.cls ≠ "java/lang/invoke/MethodHandle" ∧ yX11_failure.cls ≠ "java/lang/invoke/VarHandle" ∧ (parseMethodDescriptor yX11_failure.desc).map (fun d => d.parameters.length) = some 0 := by decide +kernel
set_option maxHeartbeats 4000000 in
theorem mX11_failure (l : Launch) (hnt : l.flags = flags0) (G : GT_) (M : Mem_) (n : Nat) (a0 : Nat) (r : Option Nat) (M1 : Mem_) (n1 : Nat) (hf : fX11_failure M n a0 = some (r, M1, n1)) : Ct_ G l yX11_failure (ws_ yX11_failure cX11_failure 1 (some (.object "SideBySide$Tossed"))) ({ frames := 0, cells := 0, slots := 0, locals := 0 }) 0 0 [.ref a0] M n (some (va_rf r)) M1 n1 := by
  refine en_ (by decide) (Nat.le_of_ble_eq_true rfl) ?_
  intro p e s m below meth c hx hb hr hlk hml hown hts hname hKn hH ls hl
  have hown : s.vm.findClass RX11 = some m.cls := hown
  have hl : lv_has ls 1 [(0, .ref a0)] := hl
  unfold fX11_failure at hf
  generalize s.heap = H at hH ⊢
  refine lv_null hx hb dX11_failure_0 ?_
  cases hf
  refine W.widen (k := 0) (n := 0) (Nat.le_of_ble_eq_true rfl) (Nat.le_of_ble_eq_true rfl) ?_
  exact rt_o (o := none) hx hb hr (Or.inl ⟨_, rfl⟩) hlk hH dX11_failure_1
def fX12_failure (M : Mem_) (n : Nat) (a0 : Nat) : Option ((Option Nat) × Mem_ × Nat) :=
  (kd_ M a0).bind fun u1 =>
  ba_ (fX10_failure M n a0) fun r2 M3 n4 =>
  no_ r2 (
    some (none, M3, n4)
  ) (fun o5 =>
    lt_ (ms_ M3 n4 (eN_ 15)) fun M6 =>
    (ck_ M6 a0 11).bind fun u7 =>
    (fX12_cost M6 a0).bind fun r8 =>
    (fX16_init M6 n4 (200 + r8)).bind fun M10 =>
    some ((some n4), M10, n4 + 1)
  )
theorem kdX12_failure : yX12_failure.cls ≠ "java/lang/invoke/MethodHandle" ∧ yX12_failure.cls ≠ "java/lang/invoke/VarHandle" ∧ (parseMethodDescriptor yX12_failure.desc).map (fun d => d.parameters.length) = some 0 := by decide +kernel
set_option maxHeartbeats 4000000 in
theorem mX12_failure (l : Launch) (hnt : l.flags = flags0) (G : GT_) (M : Mem_) (n : Nat) (a0 : Nat) (r : Option Nat) (M1 : Mem_) (n1 : Nat) (hf : fX12_failure M n a0 = some (r, M1, n1)) : Ct_ G l yX12_failure (ws_ yX12_failure cX12_failure 1 (some (.object "SideBySide$Tossed"))) ({ frames := 8, cells := 3, slots := 21, locals := 132 }) 3 21 [.ref a0] M n (some (va_rf r)) M1 n1 := by
  refine en_ (by decide) (Nat.le_of_ble_eq_true rfl) ?_
  intro p e s m below meth c hx hb hr hlk hml hown hts hname hKn hH ls hl
  have hown : s.vm.findClass RX12 = some m.cls := hown
  have hl : lv_has ls 1 [(0, .ref a0)] := hl
  unfold fX12_failure at hf
  generalize s.heap = H at hH ⊢
  refine lv_aload_n hx hb dX12_failure_0 rfl (lv_at hl 0 rfl) ?_
  obtain ⟨u1, eu1, hf⟩ := bs_ hf
  obtain ⟨r2, M3, n4, er2, hf⟩ := bas_ hf
  refine cl_w hH (rn_SU ⟨hx, hb, hml, hown, hts⟩ hKn hH (mX10_failure l hnt G M n a0 r2 M3 n4 er2) (va_cwSU 0 hts (lw_SU q1116 q1617 q367 q1086 q83 q1087) rfl rfl rfl ⟨by decide, kdX10_failure.2.2⟩ ⟨Nat.le_of_ble_eq_true rfl, Nat.le_of_ble_eq_true rfl⟩) eu1 rfl hl.1 (Nat.le_of_ble_eq_true rfl) dX12_failure_1 ⟨(Nat.le_of_ble_eq_true rfl), (Nat.le_of_ble_eq_true rfl)⟩ rfl) (fun H locs hH => ?_)
  refine W.widen (k := 2) (n := 14) (Nat.le_of_ble_eq_true rfl) (Nat.le_of_ble_eq_true rfl) ?_
  cases r2 with
  | none =>
    have hf := noN_ hf
    have hl : lv_has ls 1 [(0, .ref a0)] := hl
    refine lv_ifnonnullN hx hb dX12_failure_4 ?_
    refine lv_null hx hb dX12_failure_7 ?_
    refine lv_goto (tgt := 26) hx hb dX12_failure_8 (by decide) ?_
    cases hf
    refine W.widen (k := 3) (n := 21) (Nat.le_of_ble_eq_true rfl) (Nat.le_of_ble_eq_true rfl) ?_
    exact rt_o (o := none) hx hb hr (Or.inl ⟨_, rfl⟩) hlk hH dX12_failure_26
  | some o5 =>
    have hf := noS_ hf
    have hl : lv_has ls 1 [(0, .ref a0)] := hl
    refine lv_ifnonnull (tgt := 11) hx hb dX12_failure_4 (by decide) ?_
    refine mg_newx (ci := 15) hx hb hts hown hKn hH (hts _ q1117) (hts _ q1090) (hts _ q97) rfl (Nat.le_of_ble_eq_true rfl) (Nat.le_of_ble_eq_true rfl) dX12_failure_11 (fun H hH => ?_)
    obtain ⟨M6, eM6⟩ : ∃ z : Mem_, z = ms_ M3 n4 (eN_ 15) := ⟨_, rfl⟩
    have hf := lu_ eM6 hf
    have hH := st_eq eM6 hH
    refine W.widen (k := 3) (n := 21) (Nat.le_of_ble_eq_true rfl) (Nat.le_of_ble_eq_true rfl) ?_
    refine lv_dup hx hb dX12_failure_14 rfl ?_
    refine lv_sipush (v := 200) hx hb dX12_failure_15 (by decide) ?_
    refine lv_aload_n hx hb dX12_failure_18 rfl (lv_at hl 0 rfl) ?_
    obtain ⟨u7, eu7, hf⟩ := bs_ hf
    obtain ⟨r8, er8, hf⟩ := bs_ hf
    refine cl_i0 hH (rn_V ⟨hx, hb, hml, hown, hts⟩ hKn hH (mX12_cost l G M6 (n4 + 1) a0 r8 er8) (cwV 0 hts (lw_V q1118 q1065 q1618 q85 q1066) rfl rfl rfl ⟨rfl, kdX12_cost⟩ ⟨Nat.le_of_ble_eq_true rfl, Nat.le_of_ble_eq_true rfl⟩) eu7 rfl rfl hl.1 (Nat.le_of_ble_eq_true rfl) dX12_failure_19 ⟨(Nat.le_of_ble_eq_true rfl), (Nat.le_of_ble_eq_true rfl)⟩ rfl) (fun H locs hH => ?_)
    refine lv_iadd hx hb dX12_failure_22 ?_
    obtain ⟨M10, er9, hf⟩ := bs_ hf
    refine cl_v0 hH (rn_I ⟨hx, hb, hml, hown, hts⟩ hKn hH (mX16_init l hnt G M6 (n4 + 1) n4 (200 + r8) M10 er9) (cwI 1 hts (lw_meth q1100) rfl rfl rfl (hts _ q97) (hts _ q1119) (hts _ q1099) rfl kdX16_init ⟨Nat.le_of_ble_eq_true rfl, Nat.le_of_ble_eq_true rfl⟩) rfl hl.1 (Nat.le_of_ble_eq_true rfl) dX12_failure_23 ⟨(Nat.le_of_ble_eq_true rfl), (Nat.le_of_ble_eq_true rfl)⟩ rfl) (fun H locs hH => ?_)
    cases hf
    refine W.widen (k := 3) (n := 21) (Nat.le_of_ble_eq_true rfl) (Nat.le_of_ble_eq_true rfl) ?_
    exact rt_o (o := some _) hx hb hr (Or.inl ⟨_, rfl⟩) hlk hH dX12_failure_26
/-! Stroke.failure on a stroke of any class -/
section RSF
variable {p : Program} {l : Launch} {e : Env} {R : Room} {s : State} {m : MethodId} {args : Array Value} {below : List Frame} {meth : Method} {c : Code} {H : Heap} {locs : List Loc} {cells slots : Nat}
variable {cc : ByteArray} {pc : Nat} {ls : Array Slot} {rest st0 : List Value} {G : GT_} {n n1 : Nat} {M M1 : Mem_}
def s_failure (M : Mem_) (n : Nat) (b : Nat) : Option (Option Nat × Mem_ × Nat) := (kd_ M b).bind fun k => match k with
  | 0 => fX8_failure M n b
  | 1 => fX8_failure M n b
  | 2 => fX10_failure M n b
  | 3 => fX11_failure M n b
  | 4 => fX12_failure M n b
  | 5 => fX11_failure M n b
  | 6 => fX8_failure M n b
  | _ => fX11_failure M n b
set_option maxHeartbeats 4000000 in
theorem rs_failure {own : String} {index nL b : Nat} {r : Option Nat} (hnt : l.flags = flags0) (S : CallFix p m c cc nL s args lw_all own) (hK : Kn_ G s) (hH : St_ G n M s H locs) (hv : s_failure M n b = some (r, M1, n1)) (hlink : (Cond.methodLink own index ⟨"SideBySide$Stroke", "failure", "()LSideBySide$Tossed;"⟩).before args s = true) (hR : 9 ≤ R.frames ∧ 152 ≤ R.locals) (hsize : ls.size = nL) (hW : (rest.map fun v => v.category).sum ≤ 8) (hdg : decode cc pc = .ok (.invokevirtual index, 3)) (hf : cells + 3 ≤ R.cells ∧ slots + 21 ≤ R.slots) (hst : st0 = ([] : List Value).reverse ++ .ref b :: rest) :
    va_Run p l e R s m args below meth c H locs cells slots 3 21 (F0 m pc ls st0) rest (Qc_ G (some (va_rf r)) M1 n1 (Value.ref b :: []).toArray) (fun q => G.1 ≤ q) := by
  obtain ⟨hx, hb, hml, ho, hts⟩ := S
  obtain ⟨k, hk, hv⟩ := bs_ hv
  have hk8 := (kd_spec hk).1
  match k, hk8, hk, hv with
  | 0, _, hk, hv => exact rn_more (Nat.le_of_ble_eq_true rfl) (Nat.le_of_ble_eq_true rfl) (rn_U (k := 0) (y := yX8_failure) (C := kS_ 0) (owner := "SideBySide$Stroke") ⟨hx, hb, hml, ho, hts⟩ hK hH (mX8_failure l hnt G M n b r M1 n1 hv) hlink (hts _ q1083) (va_Decl.of (hts _ q1081) (hts _ q1122)) (by decide) (hts _ q1082) (hts _ q1081) (hts _ q81) q1122 rfl rfl ⟨Nat.le_trans (Nat.le_of_ble_eq_true rfl) hR.1, Nat.le_trans (Nat.le_of_ble_eq_true rfl) hR.2⟩ (by decide +kernel) (kd_recv hK hH hk) rfl hsize hW hdg ⟨by have := hf.1; omega, by have := hf.2; omega⟩ hst)
  | 1, _, hk, hv => exact rn_more (Nat.le_of_ble_eq_true rfl) (Nat.le_of_ble_eq_true rfl) (rn_U (k := 0) (y := yX8_failure) (C := kS_ 1) (owner := "SideBySide$Stroke") ⟨hx, hb, hml, ho, hts⟩ hK hH (mX8_failure l hnt G M n b r M1 n1 hv) hlink (hts _ q1083) (va_Decl.of (hts _ q1081) (hts _ q1122)) (by decide) (hts _ q1120) (hts _ q1081) (hts _ q81) q1122 rfl rfl ⟨Nat.le_trans (Nat.le_of_ble_eq_true rfl) hR.1, Nat.le_trans (Nat.le_of_ble_eq_true rfl) hR.2⟩ (by decide +kernel) (kd_recv hK hH hk) rfl hsize hW hdg ⟨by have := hf.1; omega, by have := hf.2; omega⟩ hst)
  | 2, _, hk, hv => exact rn_more (Nat.le_of_ble_eq_true rfl) (Nat.le_of_ble_eq_true rfl) (rn_U (k := 0) (y := yX10_failure) (C := kS_ 2) (owner := "SideBySide$Stroke") ⟨hx, hb, hml, ho, hts⟩ hK hH (mX10_failure l hnt G M n b r M1 n1 hv) hlink (hts _ q1083) (va_Decl.of (hts _ q1081) (hts _ q1122)) (by decide) (hts _ q1085) (hts _ q1086) (hts _ q83) q1087 rfl rfl ⟨Nat.le_trans (Nat.le_of_ble_eq_true rfl) hR.1, Nat.le_trans (Nat.le_of_ble_eq_true rfl) hR.2⟩ (by decide +kernel) (kd_recv hK hH hk) rfl hsize hW hdg ⟨by have := hf.1; omega, by have := hf.2; omega⟩ hst)
  | 3, _, hk, hv => exact rn_more (Nat.le_of_ble_eq_true rfl) (Nat.le_of_ble_eq_true rfl) (rn_U (k := 0) (y := yX11_failure) (C := kS_ 3) (owner := "SideBySide$Stroke") ⟨hx, hb, hml, ho, hts⟩ hK hH (mX11_failure l hnt G M n b r M1 n1 hv) hlink (hts _ q1083) (va_Decl.of (hts _ q1081) (hts _ q1122)) (by decide) (hts _ q1112) (hts _ q1110) (hts _ q84) q1111 rfl rfl ⟨Nat.le_trans (Nat.le_of_ble_eq_true rfl) hR.1, Nat.le_trans (Nat.le_of_ble_eq_true rfl) hR.2⟩ (by decide +kernel) (kd_recv hK hH hk) rfl hsize hW hdg ⟨by have := hf.1; omega, by have := hf.2; omega⟩ hst)
  | 4, _, hk, hv => exact rn_more (Nat.le_of_ble_eq_true rfl) (Nat.le_of_ble_eq_true rfl) (rn_U (k := 0) (y := yX12_failure) (C := kS_ 4) (owner := "SideBySide$Stroke") ⟨hx, hb, hml, ho, hts⟩ hK hH (mX12_failure l hnt G M n b r M1 n1 hv) hlink (hts _ q1083) (va_Decl.of (hts _ q1081) (hts _ q1122)) (by decide) (hts _ q1113) (hts _ q1114) (hts _ q85) q1115 rfl rfl ⟨Nat.le_trans (Nat.le_of_ble_eq_true rfl) hR.1, Nat.le_trans (Nat.le_of_ble_eq_true rfl) hR.2⟩ (by decide +kernel) (kd_recv hK hH hk) rfl hsize hW hdg ⟨by have := hf.1; omega, by have := hf.2; omega⟩ hst)
  | 5, _, hk, hv => exact rn_more (Nat.le_of_ble_eq_true rfl) (Nat.le_of_ble_eq_true rfl) (rn_U (k := 0) (y := yX11_failure) (C := kS_ 5) (owner := "SideBySide$Stroke") ⟨hx, hb, hml, ho, hts⟩ hK hH (mX11_failure l hnt G M n b r M1 n1 hv) hlink (hts _ q1083) (va_Decl.of (hts _ q1081) (hts _ q1122)) (by decide) (hts _ q1109) (hts _ q1110) (hts _ q84) q1111 rfl rfl ⟨Nat.le_trans (Nat.le_of_ble_eq_true rfl) hR.1, Nat.le_trans (Nat.le_of_ble_eq_true rfl) hR.2⟩ (by decide +kernel) (kd_recv hK hH hk) rfl hsize hW hdg ⟨by have := hf.1; omega, by have := hf.2; omega⟩ hst)
  | 6, _, hk, hv => exact rn_more (Nat.le_of_ble_eq_true rfl) (Nat.le_of_ble_eq_true rfl) (rn_U (k := 0) (y := yX8_failure) (C := kS_ 6) (owner := "SideBySide$Stroke") ⟨hx, hb, hml, ho, hts⟩ hK hH (mX8_failure l hnt G M n b r M1 n1 hv) hlink (hts _ q1083) (va_Decl.of (hts _ q1081) (hts _ q1122)) (by decide) (hts _ q1084) (hts _ q1081) (hts _ q81) q1122 rfl rfl ⟨Nat.le_trans (Nat.le_of_ble_eq_true rfl) hR.1, Nat.le_trans (Nat.le_of_ble_eq_true rfl) hR.2⟩ (by decide +kernel) (kd_recv hK hH hk) rfl hsize hW hdg ⟨by have := hf.1; omega, by have := hf.2; omega⟩ hst)
  | 7, _, hk, hv => exact rn_more (Nat.le_of_ble_eq_true rfl) (Nat.le_of_ble_eq_true rfl) (rn_U (k := 0) (y := yX11_failure) (C := kS_ 7) (owner := "SideBySide$Stroke") ⟨hx, hb, hml, ho, hts⟩ hK hH (mX11_failure l hnt G M n b r M1 n1 hv) hlink (hts _ q1083) (va_Decl.of (hts _ q1081) (hts _ q1122)) (by decide) (hts _ q1121) (hts _ q1110) (hts _ q84) q1111 rfl rfl ⟨Nat.le_trans (Nat.le_of_ble_eq_true rfl) hR.1, Nat.le_trans (Nat.le_of_ble_eq_true rfl) hR.2⟩ (by decide +kernel) (kd_recv hK hH hk) rfl hsize hW hdg ⟨by have := hf.1; omega, by have := hf.2; omega⟩ hst)
end RSF
def fX1_element (M : Mem_) (n : Nat) (a0 : Nat) (a1 : Int32) (a2 : Int32) : Option ((Nat ⊕ Int64) × Mem_ × Nat) :=
  (ck_ M a0 0).bind fun u1 =>
  lt_ (fX1_isShelf a0 a1) fun r2 =>
  if (b2_ r2) = 0 then
    some (.inl 1, M, n + 1)
  else
    (gR_ M a0 0 8).bind fun v3 =>
    (aR_ M v3 5 a1).bind fun v4 =>
    (gN_ M v4 2 0).bind fun v5 =>
    no_ v5 (
      some (.inl 2, M, n + 2)
    ) (fun o6 =>
      (tg_ M o6).bind fun t10 =>
      if (b2_ (decide (t10 = 1))) = 0 then
        (tg_ M o6).bind fun t11 =>
        if (b2_ (decide (t11 = 2))) = 0 then
          (tg_ M o6).bind fun t17 =>
          if t17 = 0 then
            (oI_ M o6 0 a2).bind fun b14 =>
            if b14 = true then
              some (.inl 2, M, n + 4)
            else
              (aI_ M o6 0 a2).bind fun v16 =>
              some (.inr (v16.toInt64), M, n)
          else
            some (.inl 2, M, n + 4)
        else
          (tg_ M o6).bind fun t24 =>
          if t24 = 2 then
            (oI_ M o6 2 a2).bind fun b21 =>
            if b21 = true then
              some (.inl 2, M, n + 4)
            else
              (aI_ M o6 2 a2).bind fun v23 =>
              some (.inr (v23.toInt64), M, n)
          else
            some (.inl 2, M, n + 4)
      else
        (tg_ M o6).bind fun t32 =>
        if t32 = 1 then
          (oI_ M o6 1 a2).bind fun b29 =>
          if b29 = true then
            some (.inl 2, M, n + 4)
          else
            (aI_ M o6 1 a2).bind fun v31 =>
            some (.inr (v31.toInt64), M, n)
        else
          some (.inl 2, M, n + 4)
    )
theorem kdX1_element : yX1_element.cls ≠ "java/lang/invoke/MethodHandle" ∧ yX1_element.cls ≠ "java/lang/invoke/VarHandle" ∧ (parseMethodDescriptor yX1_element.desc).map (fun d => d.parameters.length) = some 2 := by decide +kernel
set_option maxHeartbeats 4000000 in
theorem mX1_element (l : Launch) (hnt : l.flags = flags0) (G : GT_) (M : Mem_) (n : Nat) (a0 : Nat) (a1 : Int32) (a2 : Int32) (r : Int64) (M1 : Mem_) (n1 : Nat) (hf : fX1_element M n a0 a1 a2 = some (.inr r, M1, n1)) : Ct_ G l yX1_element (wsW_ yX1_element cX1_element 5 (some .long) [(26, 40, 64, 371), (41, 55, 64, 371), (56, 63, 64, 371), (26, 40, 74, 174), (41, 55, 74, 174), (56, 63, 74, 174), (26, 40, 84, 366), (41, 55, 84, 366), (56, 63, 84, 366)]) ({ frames := 9, cells := 4, slots := 1006, locals := 10250 }) 4 1006 [.ref a0, .int a1, .int a2] M n (some (.long r)) M1 n1 := by
  refine en_h (by decide) (Nat.le_of_ble_eq_true rfl) ?_
  intro p e s m below meth c had htab hx hb hr hlk hml hown hts hname hKn hH ls hl
  have hown : s.vm.findClass RX1 = some m.cls := hown
  have hl : lv_has ls 5 [(0, .ref a0), (1, .int a1), (2, .int a2)] := hl
  unfold fX1_element at hf
  generalize s.heap = H at hH ⊢
  refine lv_aload_n hx hb dX1_element_0 rfl (lv_at hl 0 rfl) ?_
  refine lv_iload_n hx hb dX1_element_1 rfl (lv_at hl 1 rfl) ?_
  obtain ⟨u1, eu1, hf⟩ := bs_ hf
  obtain ⟨r2, er2⟩ : ∃ z, z = fX1_isShelf a0 a1 := ⟨_, rfl⟩
  have hf := lu_ er2 hf
  refine cl_i0 hH (rn_V ⟨hx, hb, hml, hown, hts⟩ hKn hH (mX1_isShelf l G M n a0 a1 r2 er2.symm) (cwV 1 hts (lw_V q194 q196 qs2 q67 q198) rfl rfl rfl ⟨rfl, kdX1_isShelf⟩ ⟨Nat.le_of_ble_eq_true rfl, Nat.le_of_ble_eq_true rfl⟩) eu1 rfl rfl hl.1 (Nat.le_of_ble_eq_true rfl) dX1_element_2 ⟨(Nat.le_of_ble_eq_true rfl), (Nat.le_of_ble_eq_true rfl)⟩ rfl) (fun H locs hH => ?_)
  refine lv_if_ne (tgt := 16) hx hb dX1_element_5 (by decide) (fun c35 => ?_) (fun c35 => ?_)
  · have hf := in_ c35 hf
    refine lv_aload_n hx hb dX1_element_16 rfl (lv_at hl 0 rfl) ?_
    obtain ⟨v3, ev3, hf⟩ := bs_ hf
    refine mg_gR hx hb hts hown hKn hH ev3 in_X1 rfl (by decide) (hts _ q945) (fun _ h9 => h9) dX1_element_17 ?_
    refine lv_iload_n hx hb dX1_element_20 rfl (lv_at hl 1 rfl) ?_
    obtain ⟨v4, ev4, hf⟩ := bs_ hf
    refine mg_aald5 hx hb hKn hH ev4 dX1_element_21 ?_
    obtain ⟨v5, ev5, hf⟩ := bs_ hf
    refine mg_gN hx hb hts hown hKn hH ev5 in_X3 rfl (by decide) (hts _ q933) (fun _ h9 => h9) dX1_element_22 ?_
    cases v5 with
    | none =>
      have hf := noN_ hf
      have hl : lv_has ls 5 [(0, .ref a0), (1, .int a1), (2, .int a2)] := hl
      refine lv_astore_nN (lv' := [(3, .null), (0, .ref a0), (1, .int a1), (2, .int a2)]) hx hb dX1_element_25 rfl hl (by decide) rfl (fun ls hl => ?_)
      refine lv_aload_nN hx hb dX1_element_26 rfl (lv_at hl 0 rfl) ?_
      refine lv_instN hx hb dX1_element_27 ?_
      refine lv_if_eq (tgt := 41) hx hb dX1_element_30 (by decide) (fun c7 => ?_) (fun c7 => ?_)
      · refine lv_aload_nN hx hb dX1_element_41 rfl (lv_at hl 0 rfl) ?_
        refine lv_instN hx hb dX1_element_42 ?_
        refine lv_if_eq (tgt := 56) hx hb dX1_element_45 (by decide) (fun c8 => ?_) (fun c8 => ?_)
        · refine lv_aload_nN hx hb dX1_element_56 rfl (lv_at hl 0 rfl) ?_
          refine lv_castN hx hb dX1_element_57 ?_
          refine lv_iload_n hx hb dX1_element_60 rfl (lv_at hl 3 rfl) ?_
          refine wx_npe (st := []) hx hnt hts hKn hH (hl.1.trans hml.symm) (Nat.le_of_ble_eq_true rfl) (Nat.le_of_ble_eq_true rfl) (Nat.le_of_ble_eq_true rfl) (Nat.le_of_ble_eq_true rfl) (fun T hT X => ⟨T.vm, X, X.ialoadNull hx (g := F0 m 61 ls [.int a2, .null]) rfl rfl (by rw [hb]; exact dX1_element_61)⟩) (fun H locs hH hcl => ?_)
          refine wx_catch (pc := 61) (own := "SideBySide") (C := "java/lang/NullPointerException") (ok := (fun k9 => decide (k9 = 371))) (h := 64) hown htab ⟨fun h9 => absurd h9 (by decide), fun h9 => absurd h9 (by decide), fun _ => ⟨by decide, "java/lang/NullPointerException", hts _ q1024, Or.inl ⟨rfl, hKn.2.2.2.1 ("java/lang/NullPointerException", "java/lang/NullPointerException") (by decide +kernel)⟩⟩, fun h9 => absurd h9 (by decide), fun h9 => absurd h9 (by decide), fun _ => ⟨by decide, "java/lang/ClassCastException", hts _ q102, Or.inr ⟨rfl, hKn.2.2.2.2.1 ("java/lang/NullPointerException", "java/lang/ClassCastException") (by decide +kernel)⟩⟩, fun h9 => absurd h9 (by decide), fun h9 => absurd h9 (by decide), fun _ => ⟨by decide, "java/lang/ArrayIndexOutOfBoundsException", hts _ q995, Or.inr ⟨rfl, hKn.2.2.2.2.1 ("java/lang/NullPointerException", "java/lang/ArrayIndexOutOfBoundsException") (by decide +kernel)⟩⟩, trivial⟩ (by decide) hcl ?_
          refine W.widen (k := 1) (n := 8) (Nat.le_of_ble_eq_true rfl) (Nat.le_of_ble_eq_true rfl) ?_
          refine lv_astore (lv' := [(4, .ref n), (3, .null), (0, .ref a0), (1, .int a1), (2, .int a2)]) hx hb dX1_element_64 hl (by decide) rfl (fun ls hl => ?_)
          cases hf
        · exact absurd c8 (by decide)
      · exact absurd c7 (by decide)
    | some o6 =>
      have hf := noS_ hf
      have hl : lv_has ls 5 [(0, .ref a0), (1, .int a1), (2, .int a2)] := hl
      refine lv_astore_n (lv' := [(3, .ref o6), (0, .ref a0), (1, .int a1), (2, .int a2)]) hx hb dX1_element_25 rfl hl (by decide) rfl (fun ls hl => ?_)
      refine lv_aload_n hx hb dX1_element_26 rfl (lv_at hl 0 rfl) ?_
      obtain ⟨t10, et10, hf⟩ := bs_ hf
      refine mg_inst (tag := 1) hx hb hown (by decide) (hts _ q202) hKn hH et10 dX1_element_27 ?_
      refine lv_if_eq (tgt := 41) hx hb dX1_element_30 (by decide) (fun c34 => ?_) (fun c34 => ?_)
      · have hf := ip_ c34 hf
        refine lv_aload_n hx hb dX1_element_41 rfl (lv_at hl 0 rfl) ?_
        obtain ⟨t11, et11, hf⟩ := bs_ hf
        refine mg_inst (tag := 2) hx hb hown (by decide) (hts _ q743) hKn hH et11 dX1_element_42 ?_
        refine lv_if_eq (tgt := 56) hx hb dX1_element_45 (by decide) (fun c26 => ?_) (fun c26 => ?_)
        · have hf := ip_ c26 hf
          refine lv_aload_n hx hb dX1_element_56 rfl (lv_at hl 0 rfl) ?_
          obtain ⟨t17, et17, hf⟩ := bs_ hf
          by_cases c18 : t17 = 0
          · have hf := ip_ c18 hf
            refine mg_cast (tag := 0) hx hb hown (hts _ q744) hKn hH (cc_of et17 c18) dX1_element_57 ?_
            refine lv_iload_n hx hb dX1_element_60 rfl (lv_at hl 3 rfl) ?_
            obtain ⟨b14, eb14, hf⟩ := bs_ hf
            by_cases c15 : b14 = true
            · have hf := ip_ c15 hf
              refine wx_idx (st := []) hx hnt hts hKn hH (hl.1.trans hml.symm) (by decide : 0 < 3) (eb14.trans (congrArg some c15)) (Nat.le_of_ble_eq_true rfl) (Nat.le_of_ble_eq_true rfl) (Nat.le_of_ble_eq_true rfl) (Nat.le_of_ble_eq_true rfl) (fun T cell ty h1 h2 h3 X => X.ialoadOut hx h1 h2 h3 (g := F0 m 61 ls [.int a2, .ref o6]) rfl rfl (by rw [hb]; exact dX1_element_61)) (fun H locs hH hcl => ?_)
              refine wx_catch (pc := 61) (own := "SideBySide") (C := "java/lang/ArrayIndexOutOfBoundsException") (ok := (fun k9 => decide (k9 = 366))) (h := 84) hown htab ⟨fun h9 => absurd h9 (by decide), fun h9 => absurd h9 (by decide), fun _ => ⟨by decide, "java/lang/NullPointerException", hts _ q1024, Or.inr ⟨rfl, hKn.2.2.2.2.1 ("java/lang/ArrayIndexOutOfBoundsException", "java/lang/NullPointerException") (by decide +kernel)⟩⟩, fun h9 => absurd h9 (by decide), fun h9 => absurd h9 (by decide), fun _ => ⟨by decide, "java/lang/ClassCastException", hts _ q102, Or.inr ⟨rfl, hKn.2.2.2.2.1 ("java/lang/ArrayIndexOutOfBoundsException", "java/lang/ClassCastException") (by decide +kernel)⟩⟩, fun h9 => absurd h9 (by decide), fun h9 => absurd h9 (by decide), fun _ => ⟨by decide, "java/lang/ArrayIndexOutOfBoundsException", hts _ q995, Or.inl ⟨rfl, hKn.2.2.2.1 ("java/lang/ArrayIndexOutOfBoundsException", "java/lang/ArrayIndexOutOfBoundsException") (by decide +kernel)⟩⟩, trivial⟩ (by decide) hcl ?_
              refine W.widen (k := 3) (n := 1000) (Nat.le_of_ble_eq_true rfl) (Nat.le_of_ble_eq_true rfl) ?_
              refine lv_astore (lv' := [(4, .ref (n + 2)), (3, .ref o6), (0, .ref a0), (1, .int a1), (2, .int a2)]) hx hb dX1_element_84 hl (by decide) rfl (fun ls hl => ?_)
              cases hf
            · have hf := in_ c15 hf
              obtain ⟨v16, ev16, hf⟩ := bs_ hf
              refine mg_iald hx hb hKn hH ev16 dX1_element_61 ?_
              refine lv_i2l hx hb dX1_element_62 rfl ?_
              cases hf
              refine W.widen (k := 4) (n := 1006) (Nat.le_of_ble_eq_true rfl) (Nat.le_of_ble_eq_true rfl) ?_
              exact rt_l hx hb hr hlk hH dX1_element_63
          · have hf := in_ c18 hf
            refine mg_castx (tag := 0) hx hb hnt hown (by decide) (hts _ q744) hts hKn hH (hl.1.trans hml.symm) et17 c18 (Nat.le_of_ble_eq_true rfl) (Nat.le_of_ble_eq_true rfl) (Nat.le_of_ble_eq_true rfl) (Nat.le_of_ble_eq_true rfl) dX1_element_57 (fun H locs hH hcl => ?_)
            refine wx_catch (pc := 57) (own := "SideBySide") (C := "java/lang/ClassCastException") (ok := (fun k9 => decide (k9 = 174))) (h := 74) hown htab ⟨fun h9 => absurd h9 (by decide), fun h9 => absurd h9 (by decide), fun _ => ⟨by decide, "java/lang/NullPointerException", hts _ q1024, Or.inr ⟨rfl, hKn.2.2.2.2.1 ("java/lang/ClassCastException", "java/lang/NullPointerException") (by decide +kernel)⟩⟩, fun h9 => absurd h9 (by decide), fun h9 => absurd h9 (by decide), fun _ => ⟨by decide, "java/lang/ClassCastException", hts _ q102, Or.inl ⟨rfl, hKn.2.2.2.1 ("java/lang/ClassCastException", "java/lang/ClassCastException") (by decide +kernel)⟩⟩, fun h9 => absurd h9 (by decide), fun h9 => absurd h9 (by decide), fun _ => ⟨by decide, "java/lang/ArrayIndexOutOfBoundsException", hts _ q995, Or.inr ⟨rfl, hKn.2.2.2.2.1 ("java/lang/ClassCastException", "java/lang/ArrayIndexOutOfBoundsException") (by decide +kernel)⟩⟩, trivial⟩ (by decide) hcl ?_
            refine W.widen (k := 3) (n := 1000) (Nat.le_of_ble_eq_true rfl) (Nat.le_of_ble_eq_true rfl) ?_
            refine lv_astore (lv' := [(4, .ref (n + 2)), (3, .ref o6), (0, .ref a0), (1, .int a1), (2, .int a2)]) hx hb dX1_element_74 hl (by decide) rfl (fun ls hl => ?_)
            cases hf
        · have hf := in_ c26 hf
          refine lv_aload_n hx hb dX1_element_48 rfl (lv_at hl 0 rfl) ?_
          obtain ⟨t24, et24, hf⟩ := bs_ hf
          by_cases c25 : t24 = 2
          · have hf := ip_ c25 hf
            refine mg_cast (tag := 2) hx hb hown (hts _ q743) hKn hH (cc_of et24 c25) dX1_element_49 ?_
            refine lv_iload_n hx hb dX1_element_52 rfl (lv_at hl 3 rfl) ?_
            obtain ⟨b21, eb21, hf⟩ := bs_ hf
            by_cases c22 : b21 = true
            · have hf := ip_ c22 hf
              refine wx_idx (st := []) hx hnt hts hKn hH (hl.1.trans hml.symm) (by decide : 2 < 3) (eb21.trans (congrArg some c22)) (Nat.le_of_ble_eq_true rfl) (Nat.le_of_ble_eq_true rfl) (Nat.le_of_ble_eq_true rfl) (Nat.le_of_ble_eq_true rfl) (fun T cell ty h1 h2 h3 X => X.saloadOut hx h1 h2 h3 (g := F0 m 53 ls [.int a2, .ref o6]) rfl rfl (by rw [hb]; exact dX1_element_53)) (fun H locs hH hcl => ?_)
              refine wx_catch (pc := 53) (own := "SideBySide") (C := "java/lang/ArrayIndexOutOfBoundsException") (ok := (fun k9 => decide (k9 = 366))) (h := 84) hown htab ⟨fun h9 => absurd h9 (by decide), fun _ => ⟨by decide, "java/lang/NullPointerException", hts _ q1024, Or.inr ⟨rfl, hKn.2.2.2.2.1 ("java/lang/ArrayIndexOutOfBoundsException", "java/lang/NullPointerException") (by decide +kernel)⟩⟩, fun h9 => absurd h9 (by decide), fun h9 => absurd h9 (by decide), fun _ => ⟨by decide, "java/lang/ClassCastException", hts _ q102, Or.inr ⟨rfl, hKn.2.2.2.2.1 ("java/lang/ArrayIndexOutOfBoundsException", "java/lang/ClassCastException") (by decide +kernel)⟩⟩, fun h9 => absurd h9 (by decide), fun h9 => absurd h9 (by decide), fun _ => ⟨by decide, "java/lang/ArrayIndexOutOfBoundsException", hts _ q995, Or.inl ⟨rfl, hKn.2.2.2.1 ("java/lang/ArrayIndexOutOfBoundsException", "java/lang/ArrayIndexOutOfBoundsException") (by decide +kernel)⟩⟩, fun h9 => absurd h9 (by decide), trivial⟩ (by decide) hcl ?_
              refine W.widen (k := 3) (n := 1000) (Nat.le_of_ble_eq_true rfl) (Nat.le_of_ble_eq_true rfl) ?_
              refine lv_astore (lv' := [(4, .ref (n + 2)), (3, .ref o6), (0, .ref a0), (1, .int a1), (2, .int a2)]) hx hb dX1_element_84 hl (by decide) rfl (fun ls hl => ?_)
              cases hf
            · have hf := in_ c22 hf
              obtain ⟨v23, ev23, hf⟩ := bs_ hf
              refine mg_sald hx hb hKn hH ev23 dX1_element_53 ?_
              refine lv_i2l hx hb dX1_element_54 rfl ?_
              cases hf
              refine W.widen (k := 4) (n := 1006) (Nat.le_of_ble_eq_true rfl) (Nat.le_of_ble_eq_true rfl) ?_
              exact rt_l hx hb hr hlk hH dX1_element_55
          · have hf := in_ c25 hf
            refine mg_castx (tag := 2) hx hb hnt hown (by decide) (hts _ q743) hts hKn hH (hl.1.trans hml.symm) et24 c25 (Nat.le_of_ble_eq_true rfl) (Nat.le_of_ble_eq_true rfl) (Nat.le_of_ble_eq_true rfl) (Nat.le_of_ble_eq_true rfl) dX1_element_49 (fun H locs hH hcl => ?_)
            refine wx_catch (pc := 49) (own := "SideBySide") (C := "java/lang/ClassCastException") (ok := (fun k9 => decide (k9 = 174))) (h := 74) hown htab ⟨fun h9 => absurd h9 (by decide), fun _ => ⟨by decide, "java/lang/NullPointerException", hts _ q1024, Or.inr ⟨rfl, hKn.2.2.2.2.1 ("java/lang/ClassCastException", "java/lang/NullPointerException") (by decide +kernel)⟩⟩, fun h9 => absurd h9 (by decide), fun h9 => absurd h9 (by decide), fun _ => ⟨by decide, "java/lang/ClassCastException", hts _ q102, Or.inl ⟨rfl, hKn.2.2.2.1 ("java/lang/ClassCastException", "java/lang/ClassCastException") (by decide +kernel)⟩⟩, fun h9 => absurd h9 (by decide), fun h9 => absurd h9 (by decide), fun _ => ⟨by decide, "java/lang/ArrayIndexOutOfBoundsException", hts _ q995, Or.inr ⟨rfl, hKn.2.2.2.2.1 ("java/lang/ClassCastException", "java/lang/ArrayIndexOutOfBoundsException") (by decide +kernel)⟩⟩, fun h9 => absurd h9 (by decide), trivial⟩ (by decide) hcl ?_
            refine W.widen (k := 3) (n := 1000) (Nat.le_of_ble_eq_true rfl) (Nat.le_of_ble_eq_true rfl) ?_
            refine lv_astore (lv' := [(4, .ref (n + 2)), (3, .ref o6), (0, .ref a0), (1, .int a1), (2, .int a2)]) hx hb dX1_element_74 hl (by decide) rfl (fun ls hl => ?_)
            cases hf
      · have hf := in_ c34 hf
        refine lv_aload_n hx hb dX1_element_33 rfl (lv_at hl 0 rfl) ?_
        obtain ⟨t32, et32, hf⟩ := bs_ hf
        by_cases c33 : t32 = 1
        · have hf := ip_ c33 hf
          refine mg_cast (tag := 1) hx hb hown (hts _ q202) hKn hH (cc_of et32 c33) dX1_element_34 ?_
          refine lv_iload_n hx hb dX1_element_37 rfl (lv_at hl 3 rfl) ?_
          obtain ⟨b29, eb29, hf⟩ := bs_ hf
          by_cases c30 : b29 = true
          · have hf := ip_ c30 hf
            refine wx_idx (st := []) hx hnt hts hKn hH (hl.1.trans hml.symm) (by decide : 1 < 3) (eb29.trans (congrArg some c30)) (Nat.le_of_ble_eq_true rfl) (Nat.le_of_ble_eq_true rfl) (Nat.le_of_ble_eq_true rfl) (Nat.le_of_ble_eq_true rfl) (fun T cell ty h1 h2 h3 X => X.baloadOut hx h1 h2 h3 (g := F0 m 38 ls [.int a2, .ref o6]) rfl rfl (by rw [hb]; exact dX1_element_38)) (fun H locs hH hcl => ?_)
            refine wx_catch (pc := 38) (own := "SideBySide") (C := "java/lang/ArrayIndexOutOfBoundsException") (ok := (fun k9 => decide (k9 = 366))) (h := 84) hown htab ⟨fun _ => ⟨by decide, "java/lang/NullPointerException", hts _ q1024, Or.inr ⟨rfl, hKn.2.2.2.2.1 ("java/lang/ArrayIndexOutOfBoundsException", "java/lang/NullPointerException") (by decide +kernel)⟩⟩, fun h9 => absurd h9 (by decide), fun h9 => absurd h9 (by decide), fun _ => ⟨by decide, "java/lang/ClassCastException", hts _ q102, Or.inr ⟨rfl, hKn.2.2.2.2.1 ("java/lang/ArrayIndexOutOfBoundsException", "java/lang/ClassCastException") (by decide +kernel)⟩⟩, fun h9 => absurd h9 (by decide), fun h9 => absurd h9 (by decide), fun _ => ⟨by decide, "java/lang/ArrayIndexOutOfBoundsException", hts _ q995, Or.inl ⟨rfl, hKn.2.2.2.1 ("java/lang/ArrayIndexOutOfBoundsException", "java/lang/ArrayIndexOutOfBoundsException") (by decide +kernel)⟩⟩, fun h9 => absurd h9 (by decide), fun h9 => absurd h9 (by decide), trivial⟩ (by decide) hcl ?_
            refine W.widen (k := 3) (n := 1000) (Nat.le_of_ble_eq_true rfl) (Nat.le_of_ble_eq_true rfl) ?_
            refine lv_astore (lv' := [(4, .ref (n + 2)), (3, .ref o6), (0, .ref a0), (1, .int a1), (2, .int a2)]) hx hb dX1_element_84 hl (by decide) rfl (fun ls hl => ?_)
            cases hf
          · have hf := in_ c30 hf
            obtain ⟨v31, ev31, hf⟩ := bs_ hf
            refine mg_bald hx hb hKn hH ev31 dX1_element_38 ?_
            refine lv_i2l hx hb dX1_element_39 rfl ?_
            cases hf
            refine W.widen (k := 4) (n := 1006) (Nat.le_of_ble_eq_true rfl) (Nat.le_of_ble_eq_true rfl) ?_
            exact rt_l hx hb hr hlk hH dX1_element_40
        · have hf := in_ c33 hf
          refine mg_castx (tag := 1) hx hb hnt hown (by decide) (hts _ q202) hts hKn hH (hl.1.trans hml.symm) et32 c33 (Nat.le_of_ble_eq_true rfl) (Nat.le_of_ble_eq_true rfl) (Nat.le_of_ble_eq_true rfl) (Nat.le_of_ble_eq_true rfl) dX1_element_34 (fun H locs hH hcl => ?_)
          refine wx_catch (pc := 34) (own := "SideBySide") (C := "java/lang/ClassCastException") (ok := (fun k9 => decide (k9 = 174))) (h := 74) hown htab ⟨fun _ => ⟨by decide, "java/lang/NullPointerException", hts _ q1024, Or.inr ⟨rfl, hKn.2.2.2.2.1 ("java/lang/ClassCastException", "java/lang/NullPointerException") (by decide +kernel)⟩⟩, fun h9 => absurd h9 (by decide), fun h9 => absurd h9 (by decide), fun _ => ⟨by decide, "java/lang/ClassCastException", hts _ q102, Or.inl ⟨rfl, hKn.2.2.2.1 ("java/lang/ClassCastException", "java/lang/ClassCastException") (by decide +kernel)⟩⟩, fun h9 => absurd h9 (by decide), fun h9 => absurd h9 (by decide), fun _ => ⟨by decide, "java/lang/ArrayIndexOutOfBoundsException", hts _ q995, Or.inr ⟨rfl, hKn.2.2.2.2.1 ("java/lang/ClassCastException", "java/lang/ArrayIndexOutOfBoundsException") (by decide +kernel)⟩⟩, fun h9 => absurd h9 (by decide), fun h9 => absurd h9 (by decide), trivial⟩ (by decide) hcl ?_
          refine W.widen (k := 3) (n := 1000) (Nat.le_of_ble_eq_true rfl) (Nat.le_of_ble_eq_true rfl) ?_
          refine lv_astore (lv' := [(4, .ref (n + 2)), (3, .ref o6), (0, .ref a0), (1, .int a1), (2, .int a2)]) hx hb dX1_element_74 hl (by decide) rfl (fun ls hl => ?_)
          cases hf
  · have hf := ip_ c35 hf
    cases hf
set_option maxHeartbeats 4000000 in
theorem xX1_element (l : Launch) (hnt : l.flags = flags0) (G : GT_) (M : Mem_) (n : Nat) (a0 : Nat) (a1 : Int32) (a2 : Int32) (xx1 : Nat) (M1 : Mem_) (n1 : Nat) (hf : fX1_element M n a0 a1 a2 = some (.inl xx1, M1, n1)) : Cx_ G l yX1_element (wsW_ yX1_element cX1_element 5 (some .long) [(26, 40, 64, 371), (41, 55, 64, 371), (56, 63, 64, 371), (26, 40, 74, 174), (41, 55, 74, 174), (56, 63, 74, 174), (26, 40, 84, 366), (41, 55, 84, 366), (56, 63, 84, 366)]) ({ frames := 9, cells := 4, slots := 1006, locals := 10250 }) 4 1006 [.ref a0, .int a1, .int a2] M n (Pk_ (exN_ xx1)) M1 n1 := by
  refine en_h (by decide) (Nat.le_of_ble_eq_true rfl) ?_
  intro p e s m below meth c had htab hx hb hr hlk hml hown hts hname hKn hH ls hl
  have hown : s.vm.findClass RX1 = some m.cls := hown
  have hl : lv_has ls 5 [(0, .ref a0), (1, .int a1), (2, .int a2)] := hl
  unfold fX1_element at hf
  generalize s.heap = H at hH ⊢
  refine lv_aload_n hx hb dX1_element_0 rfl (lv_at hl 0 rfl) ?_
  refine lv_iload_n hx hb dX1_element_1 rfl (lv_at hl 1 rfl) ?_
  obtain ⟨u1, eu1, hf⟩ := bs_ hf
  obtain ⟨r2, er2⟩ : ∃ z, z = fX1_isShelf a0 a1 := ⟨_, rfl⟩
  have hf := lu_ er2 hf
  refine cl_i0 hH (rn_V ⟨hx, hb, hml, hown, hts⟩ hKn hH (mX1_isShelf l G M n a0 a1 r2 er2.symm) (cwV 1 hts (lw_V q194 q196 qs2 q67 q198) rfl rfl rfl ⟨rfl, kdX1_isShelf⟩ ⟨Nat.le_of_ble_eq_true rfl, Nat.le_of_ble_eq_true rfl⟩) eu1 rfl rfl hl.1 (Nat.le_of_ble_eq_true rfl) dX1_element_2 ⟨(Nat.le_of_ble_eq_true rfl), (Nat.le_of_ble_eq_true rfl)⟩ rfl) (fun H locs hH => ?_)
  refine lv_if_ne (tgt := 16) hx hb dX1_element_5 (by decide) (fun c35 => ?_) (fun c35 => ?_)
  · have hf := in_ c35 hf
    refine lv_aload_n hx hb dX1_element_16 rfl (lv_at hl 0 rfl) ?_
    obtain ⟨v3, ev3, hf⟩ := bs_ hf
    refine mg_gR hx hb hts hown hKn hH ev3 in_X1 rfl (by decide) (hts _ q945) (fun _ h9 => h9) dX1_element_17 ?_
    refine lv_iload_n hx hb dX1_element_20 rfl (lv_at hl 1 rfl) ?_
    obtain ⟨v4, ev4, hf⟩ := bs_ hf
    refine mg_aald5 hx hb hKn hH ev4 dX1_element_21 ?_
    obtain ⟨v5, ev5, hf⟩ := bs_ hf
    refine mg_gN hx hb hts hown hKn hH ev5 in_X3 rfl (by decide) (hts _ q933) (fun _ h9 => h9) dX1_element_22 ?_
    cases v5 with
    | none =>
      have hf := noN_ hf
      have hl : lv_has ls 5 [(0, .ref a0), (1, .int a1), (2, .int a2)] := hl
      refine lv_astore_nN (lv' := [(3, .null), (0, .ref a0), (1, .int a1), (2, .int a2)]) hx hb dX1_element_25 rfl hl (by decide) rfl (fun ls hl => ?_)
      refine lv_aload_nN hx hb dX1_element_26 rfl (lv_at hl 0 rfl) ?_
      refine lv_instN hx hb dX1_element_27 ?_
      refine lv_if_eq (tgt := 41) hx hb dX1_element_30 (by decide) (fun c7 => ?_) (fun c7 => ?_)
      · refine lv_aload_nN hx hb dX1_element_41 rfl (lv_at hl 0 rfl) ?_
        refine lv_instN hx hb dX1_element_42 ?_
        refine lv_if_eq (tgt := 56) hx hb dX1_element_45 (by decide) (fun c8 => ?_) (fun c8 => ?_)
        · refine lv_aload_nN hx hb dX1_element_56 rfl (lv_at hl 0 rfl) ?_
          refine lv_castN hx hb dX1_element_57 ?_
          refine lv_iload_n hx hb dX1_element_60 rfl (lv_at hl 3 rfl) ?_
          refine wx_npe (st := []) hx hnt hts hKn hH (hl.1.trans hml.symm) (Nat.le_of_ble_eq_true rfl) (Nat.le_of_ble_eq_true rfl) (Nat.le_of_ble_eq_true rfl) (Nat.le_of_ble_eq_true rfl) (fun T hT X => ⟨T.vm, X, X.ialoadNull hx (g := F0 m 61 ls [.int a2, .null]) rfl rfl (by rw [hb]; exact dX1_element_61)⟩) (fun H locs hH hcl => ?_)
          refine wx_catch (pc := 61) (own := "SideBySide") (C := "java/lang/NullPointerException") (ok := (fun k9 => decide (k9 = 371))) (h := 64) hown htab ⟨fun h9 => absurd h9 (by decide), fun h9 => absurd h9 (by decide), fun _ => ⟨by decide, "java/lang/NullPointerException", hts _ q1024, Or.inl ⟨rfl, hKn.2.2.2.1 ("java/lang/NullPointerException", "java/lang/NullPointerException") (by decide +kernel)⟩⟩, fun h9 => absurd h9 (by decide), fun h9 => absurd h9 (by decide), fun _ => ⟨by decide, "java/lang/ClassCastException", hts _ q102, Or.inr ⟨rfl, hKn.2.2.2.2.1 ("java/lang/NullPointerException", "java/lang/ClassCastException") (by decide +kernel)⟩⟩, fun h9 => absurd h9 (by decide), fun h9 => absurd h9 (by decide), fun _ => ⟨by decide, "java/lang/ArrayIndexOutOfBoundsException", hts _ q995, Or.inr ⟨rfl, hKn.2.2.2.2.1 ("java/lang/NullPointerException", "java/lang/ArrayIndexOutOfBoundsException") (by decide +kernel)⟩⟩, trivial⟩ (by decide) hcl ?_
          refine W.widen (k := 1) (n := 8) (Nat.le_of_ble_eq_true rfl) (Nat.le_of_ble_eq_true rfl) ?_
          refine lv_astore (lv' := [(4, .ref n), (3, .null), (0, .ref a0), (1, .int a1), (2, .int a2)]) hx hb dX1_element_64 hl (by decide) rfl (fun ls hl => ?_)
          cases hf
          refine mg_thr (names := ["java/lang/RuntimeException", "java/lang/Exception"]) hx hb hnt hts hown hKn hH (hl.1.trans hml.symm) (hts _ q1149) (hts _ q1150) (hts _ q96) (by decide +kernel) (by decide +kernel) xc_ise (Nat.le_of_ble_eq_true rfl) (Nat.le_of_ble_eq_true rfl) (Nat.le_of_ble_eq_true rfl) (Nat.le_of_ble_eq_true rfl) dX1_element_66 dX1_element_69 dX1_element_70 dX1_element_73 (fun H locs hH hcl => ?_)
          refine Wx.widen (k := 4) (n := 1006) (Nat.le_of_ble_eq_true rfl) (Nat.le_of_ble_eq_true rfl) ?_
          exact xt_out (pc := 73) hlk htab (by decide) hH (fun _ ht hw => pk_mk hcl ht hw)
        · exact absurd c8 (by decide)
      · exact absurd c7 (by decide)
    | some o6 =>
      have hf := noS_ hf
      have hl : lv_has ls 5 [(0, .ref a0), (1, .int a1), (2, .int a2)] := hl
      refine lv_astore_n (lv' := [(3, .ref o6), (0, .ref a0), (1, .int a1), (2, .int a2)]) hx hb dX1_element_25 rfl hl (by decide) rfl (fun ls hl => ?_)
      refine lv_aload_n hx hb dX1_element_26 rfl (lv_at hl 0 rfl) ?_
      obtain ⟨t10, et10, hf⟩ := bs_ hf
      refine mg_inst (tag := 1) hx hb hown (by decide) (hts _ q202) hKn hH et10 dX1_element_27 ?_
      refine lv_if_eq (tgt := 41) hx hb dX1_element_30 (by decide) (fun c34 => ?_) (fun c34 => ?_)
      · have hf := ip_ c34 hf
        refine lv_aload_n hx hb dX1_element_41 rfl (lv_at hl 0 rfl) ?_
        obtain ⟨t11, et11, hf⟩ := bs_ hf
        refine mg_inst (tag := 2) hx hb hown (by decide) (hts _ q743) hKn hH et11 dX1_element_42 ?_
        refine lv_if_eq (tgt := 56) hx hb dX1_element_45 (by decide) (fun c26 => ?_) (fun c26 => ?_)
        · have hf := ip_ c26 hf
          refine lv_aload_n hx hb dX1_element_56 rfl (lv_at hl 0 rfl) ?_
          obtain ⟨t17, et17, hf⟩ := bs_ hf
          by_cases c18 : t17 = 0
          · have hf := ip_ c18 hf
            refine mg_cast (tag := 0) hx hb hown (hts _ q744) hKn hH (cc_of et17 c18) dX1_element_57 ?_
            refine lv_iload_n hx hb dX1_element_60 rfl (lv_at hl 3 rfl) ?_
            obtain ⟨b14, eb14, hf⟩ := bs_ hf
            by_cases c15 : b14 = true
            · have hf := ip_ c15 hf
              refine wx_idx (st := []) hx hnt hts hKn hH (hl.1.trans hml.symm) (by decide : 0 < 3) (eb14.trans (congrArg some c15)) (Nat.le_of_ble_eq_true rfl) (Nat.le_of_ble_eq_true rfl) (Nat.le_of_ble_eq_true rfl) (Nat.le_of_ble_eq_true rfl) (fun T cell ty h1 h2 h3 X => X.ialoadOut hx h1 h2 h3 (g := F0 m 61 ls [.int a2, .ref o6]) rfl rfl (by rw [hb]; exact dX1_element_61)) (fun H locs hH hcl => ?_)
              refine wx_catch (pc := 61) (own := "SideBySide") (C := "java/lang/ArrayIndexOutOfBoundsException") (ok := (fun k9 => decide (k9 = 366))) (h := 84) hown htab ⟨fun h9 => absurd h9 (by decide), fun h9 => absurd h9 (by decide), fun _ => ⟨by decide, "java/lang/NullPointerException", hts _ q1024, Or.inr ⟨rfl, hKn.2.2.2.2.1 ("java/lang/ArrayIndexOutOfBoundsException", "java/lang/NullPointerException") (by decide +kernel)⟩⟩, fun h9 => absurd h9 (by decide), fun h9 => absurd h9 (by decide), fun _ => ⟨by decide, "java/lang/ClassCastException", hts _ q102, Or.inr ⟨rfl, hKn.2.2.2.2.1 ("java/lang/ArrayIndexOutOfBoundsException", "java/lang/ClassCastException") (by decide +kernel)⟩⟩, fun h9 => absurd h9 (by decide), fun h9 => absurd h9 (by decide), fun _ => ⟨by decide, "java/lang/ArrayIndexOutOfBoundsException", hts _ q995, Or.inl ⟨rfl, hKn.2.2.2.1 ("java/lang/ArrayIndexOutOfBoundsException", "java/lang/ArrayIndexOutOfBoundsException") (by decide +kernel)⟩⟩, trivial⟩ (by decide) hcl ?_
              refine W.widen (k := 3) (n := 1000) (Nat.le_of_ble_eq_true rfl) (Nat.le_of_ble_eq_true rfl) ?_
              refine lv_astore (lv' := [(4, .ref (n + 2)), (3, .ref o6), (0, .ref a0), (1, .int a1), (2, .int a2)]) hx hb dX1_element_84 hl (by decide) rfl (fun ls hl => ?_)
              cases hf
              refine mg_thr (names := ["java/lang/RuntimeException", "java/lang/Exception"]) hx hb hnt hts hown hKn hH (hl.1.trans hml.symm) (hts _ q1149) (hts _ q1150) (hts _ q96) (by decide +kernel) (by decide +kernel) xc_ise (Nat.le_of_ble_eq_true rfl) (Nat.le_of_ble_eq_true rfl) (Nat.le_of_ble_eq_true rfl) (Nat.le_of_ble_eq_true rfl) dX1_element_86 dX1_element_89 dX1_element_90 dX1_element_93 (fun H locs hH hcl => ?_)
              refine Wx.widen (k := 4) (n := 1006) (Nat.le_of_ble_eq_true rfl) (Nat.le_of_ble_eq_true rfl) ?_
              exact xt_out (pc := 93) hlk htab (by decide) hH (fun _ ht hw => pk_mk hcl ht hw)
            · have hf := in_ c15 hf
              obtain ⟨v16, ev16, hf⟩ := bs_ hf
              refine mg_iald hx hb hKn hH ev16 dX1_element_61 ?_
              refine lv_i2l hx hb dX1_element_62 rfl ?_
              cases hf
          · have hf := in_ c18 hf
            refine mg_castx (tag := 0) hx hb hnt hown (by decide) (hts _ q744) hts hKn hH (hl.1.trans hml.symm) et17 c18 (Nat.le_of_ble_eq_true rfl) (Nat.le_of_ble_eq_true rfl) (Nat.le_of_ble_eq_true rfl) (Nat.le_of_ble_eq_true rfl) dX1_element_57 (fun H locs hH hcl => ?_)
            refine wx_catch (pc := 57) (own := "SideBySide") (C := "java/lang/ClassCastException") (ok := (fun k9 => decide (k9 = 174))) (h := 74) hown htab ⟨fun h9 => absurd h9 (by decide), fun h9 => absurd h9 (by decide), fun _ => ⟨by decide, "java/lang/NullPointerException", hts _ q1024, Or.inr ⟨rfl, hKn.2.2.2.2.1 ("java/lang/ClassCastException", "java/lang/NullPointerException") (by decide +kernel)⟩⟩, fun h9 => absurd h9 (by decide), fun h9 => absurd h9 (by decide), fun _ => ⟨by decide, "java/lang/ClassCastException", hts _ q102, Or.inl ⟨rfl, hKn.2.2.2.1 ("java/lang/ClassCastException", "java/lang/ClassCastException") (by decide +kernel)⟩⟩, fun h9 => absurd h9 (by decide), fun h9 => absurd h9 (by decide), fun _ => ⟨by decide, "java/lang/ArrayIndexOutOfBoundsException", hts _ q995, Or.inr ⟨rfl, hKn.2.2.2.2.1 ("java/lang/ClassCastException", "java/lang/ArrayIndexOutOfBoundsException") (by decide +kernel)⟩⟩, trivial⟩ (by decide) hcl ?_
            refine W.widen (k := 3) (n := 1000) (Nat.le_of_ble_eq_true rfl) (Nat.le_of_ble_eq_true rfl) ?_
            refine lv_astore (lv' := [(4, .ref (n + 2)), (3, .ref o6), (0, .ref a0), (1, .int a1), (2, .int a2)]) hx hb dX1_element_74 hl (by decide) rfl (fun ls hl => ?_)
            cases hf
            refine mg_thr (names := ["java/lang/RuntimeException", "java/lang/Exception"]) hx hb hnt hts hown hKn hH (hl.1.trans hml.symm) (hts _ q1149) (hts _ q1150) (hts _ q96) (by decide +kernel) (by decide +kernel) xc_ise (Nat.le_of_ble_eq_true rfl) (Nat.le_of_ble_eq_true rfl) (Nat.le_of_ble_eq_true rfl) (Nat.le_of_ble_eq_true rfl) dX1_element_76 dX1_element_79 dX1_element_80 dX1_element_83 (fun H locs hH hcl => ?_)
            refine Wx.widen (k := 4) (n := 1006) (Nat.le_of_ble_eq_true rfl) (Nat.le_of_ble_eq_true rfl) ?_
            exact xt_out (pc := 83) hlk htab (by decide) hH (fun _ ht hw => pk_mk hcl ht hw)
        · have hf := in_ c26 hf
          refine lv_aload_n hx hb dX1_element_48 rfl (lv_at hl 0 rfl) ?_
          obtain ⟨t24, et24, hf⟩ := bs_ hf
          by_cases c25 : t24 = 2
          · have hf := ip_ c25 hf
            refine mg_cast (tag := 2) hx hb hown (hts _ q743) hKn hH (cc_of et24 c25) dX1_element_49 ?_
            refine lv_iload_n hx hb dX1_element_52 rfl (lv_at hl 3 rfl) ?_
            obtain ⟨b21, eb21, hf⟩ := bs_ hf
            by_cases c22 : b21 = true
            · have hf := ip_ c22 hf
              refine wx_idx (st := []) hx hnt hts hKn hH (hl.1.trans hml.symm) (by decide : 2 < 3) (eb21.trans (congrArg some c22)) (Nat.le_of_ble_eq_true rfl) (Nat.le_of_ble_eq_true rfl) (Nat.le_of_ble_eq_true rfl) (Nat.le_of_ble_eq_true rfl) (fun T cell ty h1 h2 h3 X => X.saloadOut hx h1 h2 h3 (g := F0 m 53 ls [.int a2, .ref o6]) rfl rfl (by rw [hb]; exact dX1_element_53)) (fun H locs hH hcl => ?_)
              refine wx_catch (pc := 53) (own := "SideBySide") (C := "java/lang/ArrayIndexOutOfBoundsException") (ok := (fun k9 => decide (k9 = 366))) (h := 84) hown htab ⟨fun h9 => absurd h9 (by decide), fun _ => ⟨by decide, "java/lang/NullPointerException", hts _ q1024, Or.inr ⟨rfl, hKn.2.2.2.2.1 ("java/lang/ArrayIndexOutOfBoundsException", "java/lang/NullPointerException") (by decide +kernel)⟩⟩, fun h9 => absurd h9 (by decide), fun h9 => absurd h9 (by decide), fun _ => ⟨by decide, "java/lang/ClassCastException", hts _ q102, Or.inr ⟨rfl, hKn.2.2.2.2.1 ("java/lang/ArrayIndexOutOfBoundsException", "java/lang/ClassCastException") (by decide +kernel)⟩⟩, fun h9 => absurd h9 (by decide), fun h9 => absurd h9 (by decide), fun _ => ⟨by decide, "java/lang/ArrayIndexOutOfBoundsException", hts _ q995, Or.inl ⟨rfl, hKn.2.2.2.1 ("java/lang/ArrayIndexOutOfBoundsException", "java/lang/ArrayIndexOutOfBoundsException") (by decide +kernel)⟩⟩, fun h9 => absurd h9 (by decide), trivial⟩ (by decide) hcl ?_
              refine W.widen (k := 3) (n := 1000) (Nat.le_of_ble_eq_true rfl) (Nat.le_of_ble_eq_true rfl) ?_
              refine lv_astore (lv' := [(4, .ref (n + 2)), (3, .ref o6), (0, .ref a0), (1, .int a1), (2, .int a2)]) hx hb dX1_element_84 hl (by decide) rfl (fun ls hl => ?_)
              cases hf
              refine mg_thr (names := ["java/lang/RuntimeException", "java/lang/Exception"]) hx hb hnt hts hown hKn hH (hl.1.trans hml.symm) (hts _ q1149) (hts _ q1150) (hts _ q96) (by decide +kernel) (by decide +kernel) xc_ise (Nat.le_of_ble_eq_true rfl) (Nat.le_of_ble_eq_true rfl) (Nat.le_of_ble_eq_true rfl) (Nat.le_of_ble_eq_true rfl) dX1_element_86 dX1_element_89 dX1_element_90 dX1_element_93 (fun H locs hH hcl => ?_)
              refine Wx.widen (k := 4) (n := 1006) (Nat.le_of_ble_eq_true rfl) (Nat.le_of_ble_eq_true rfl) ?_
              exact xt_out (pc := 93) hlk htab (by decide) hH (fun _ ht hw => pk_mk hcl ht hw)
            · have hf := in_ c22 hf
              obtain ⟨v23, ev23, hf⟩ := bs_ hf
              refine mg_sald hx hb hKn hH ev23 dX1_element_53 ?_
              refine lv_i2l hx hb dX1_element_54 rfl ?_
              cases hf
          · have hf := in_ c25 hf
            refine mg_castx (tag := 2) hx hb hnt hown (by decide) (hts _ q743) hts hKn hH (hl.1.trans hml.symm) et24 c25 (Nat.le_of_ble_eq_true rfl) (Nat.le_of_ble_eq_true rfl) (Nat.le_of_ble_eq_true rfl) (Nat.le_of_ble_eq_true rfl) dX1_element_49 (fun H locs hH hcl => ?_)
            refine wx_catch (pc := 49) (own := "SideBySide") (C := "java/lang/ClassCastException") (ok := (fun k9 => decide (k9 = 174))) (h := 74) hown htab ⟨fun h9 => absurd h9 (by decide), fun _ => ⟨by decide, "java/lang/NullPointerException", hts _ q1024, Or.inr ⟨rfl, hKn.2.2.2.2.1 ("java/lang/ClassCastException", "java/lang/NullPointerException") (by decide +kernel)⟩⟩, fun h9 => absurd h9 (by decide), fun h9 => absurd h9 (by decide), fun _ => ⟨by decide, "java/lang/ClassCastException", hts _ q102, Or.inl ⟨rfl, hKn.2.2.2.1 ("java/lang/ClassCastException", "java/lang/ClassCastException") (by decide +kernel)⟩⟩, fun h9 => absurd h9 (by decide), fun h9 => absurd h9 (by decide), fun _ => ⟨by decide, "java/lang/ArrayIndexOutOfBoundsException", hts _ q995, Or.inr ⟨rfl, hKn.2.2.2.2.1 ("java/lang/ClassCastException", "java/lang/ArrayIndexOutOfBoundsException") (by decide +kernel)⟩⟩, fun h9 => absurd h9 (by decide), trivial⟩ (by decide) hcl ?_
            refine W.widen (k := 3) (n := 1000) (Nat.le_of_ble_eq_true rfl) (Nat.le_of_ble_eq_true rfl) ?_
            refine lv_astore (lv' := [(4, .ref (n + 2)), (3, .ref o6), (0, .ref a0), (1, .int a1), (2, .int a2)]) hx hb dX1_element_74 hl (by decide) rfl (fun ls hl => ?_)
            cases hf
            refine mg_thr (names := ["java/lang/RuntimeException", "java/lang/Exception"]) hx hb hnt hts hown hKn hH (hl.1.trans hml.symm) (hts _ q1149) (hts _ q1150) (hts _ q96) (by decide +kernel) (by decide +kernel) xc_ise (Nat.le_of_ble_eq_true rfl) (Nat.le_of_ble_eq_true rfl) (Nat.le_of_ble_eq_true rfl) (Nat.le_of_ble_eq_true rfl) dX1_element_76 dX1_element_79 dX1_element_80 dX1_element_83 (fun H locs hH hcl => ?_)
            refine Wx.widen (k := 4) (n := 1006) (Nat.le_of_ble_eq_true rfl) (Nat.le_of_ble_eq_true rfl) ?_
            exact xt_out (pc := 83) hlk htab (by decide) hH (fun _ ht hw => pk_mk hcl ht hw)
      · have hf := in_ c34 hf
        refine lv_aload_n hx hb dX1_element_33 rfl (lv_at hl 0 rfl) ?_
        obtain ⟨t32, et32, hf⟩ := bs_ hf
        by_cases c33 : t32 = 1
        · have hf := ip_ c33 hf
          refine mg_cast (tag := 1) hx hb hown (hts _ q202) hKn hH (cc_of et32 c33) dX1_element_34 ?_
          refine lv_iload_n hx hb dX1_element_37 rfl (lv_at hl 3 rfl) ?_
          obtain ⟨b29, eb29, hf⟩ := bs_ hf
          by_cases c30 : b29 = true
          · have hf := ip_ c30 hf
            refine wx_idx (st := []) hx hnt hts hKn hH (hl.1.trans hml.symm) (by decide : 1 < 3) (eb29.trans (congrArg some c30)) (Nat.le_of_ble_eq_true rfl) (Nat.le_of_ble_eq_true rfl) (Nat.le_of_ble_eq_true rfl) (Nat.le_of_ble_eq_true rfl) (fun T cell ty h1 h2 h3 X => X.baloadOut hx h1 h2 h3 (g := F0 m 38 ls [.int a2, .ref o6]) rfl rfl (by rw [hb]; exact dX1_element_38)) (fun H locs hH hcl => ?_)
            refine wx_catch (pc := 38) (own := "SideBySide") (C := "java/lang/ArrayIndexOutOfBoundsException") (ok := (fun k9 => decide (k9 = 366))) (h := 84) hown htab ⟨fun _ => ⟨by decide, "java/lang/NullPointerException", hts _ q1024, Or.inr ⟨rfl, hKn.2.2.2.2.1 ("java/lang/ArrayIndexOutOfBoundsException", "java/lang/NullPointerException") (by decide +kernel)⟩⟩, fun h9 => absurd h9 (by decide), fun h9 => absurd h9 (by decide), fun _ => ⟨by decide, "java/lang/ClassCastException", hts _ q102, Or.inr ⟨rfl, hKn.2.2.2.2.1 ("java/lang/ArrayIndexOutOfBoundsException", "java/lang/ClassCastException") (by decide +kernel)⟩⟩, fun h9 => absurd h9 (by decide), fun h9 => absurd h9 (by decide), fun _ => ⟨by decide, "java/lang/ArrayIndexOutOfBoundsException", hts _ q995, Or.inl ⟨rfl, hKn.2.2.2.1 ("java/lang/ArrayIndexOutOfBoundsException", "java/lang/ArrayIndexOutOfBoundsException") (by decide +kernel)⟩⟩, fun h9 => absurd h9 (by decide), fun h9 => absurd h9 (by decide), trivial⟩ (by decide) hcl ?_
            refine W.widen (k := 3) (n := 1000) (Nat.le_of_ble_eq_true rfl) (Nat.le_of_ble_eq_true rfl) ?_
            refine lv_astore (lv' := [(4, .ref (n + 2)), (3, .ref o6), (0, .ref a0), (1, .int a1), (2, .int a2)]) hx hb dX1_element_84 hl (by decide) rfl (fun ls hl => ?_)
            cases hf
            refine mg_thr (names := ["java/lang/RuntimeException", "java/lang/Exception"]) hx hb hnt hts hown hKn hH (hl.1.trans hml.symm) (hts _ q1149) (hts _ q1150) (hts _ q96) (by decide +kernel) (by decide +kernel) xc_ise (Nat.le_of_ble_eq_true rfl) (Nat.le_of_ble_eq_true rfl) (Nat.le_of_ble_eq_true rfl) (Nat.le_of_ble_eq_true rfl) dX1_element_86 dX1_element_89 dX1_element_90 dX1_element_93 (fun H locs hH hcl => ?_)
            refine Wx.widen (k := 4) (n := 1006) (Nat.le_of_ble_eq_true rfl) (Nat.le_of_ble_eq_true rfl) ?_
            exact xt_out (pc := 93) hlk htab (by decide) hH (fun _ ht hw => pk_mk hcl ht hw)
          · have hf := in_ c30 hf
            obtain ⟨v31, ev31, hf⟩ := bs_ hf
            refine mg_bald hx hb hKn hH ev31 dX1_element_38 ?_
            refine lv_i2l hx hb dX1_element_39 rfl ?_
            cases hf
        · have hf := in_ c33 hf
          refine mg_castx (tag := 1) hx hb hnt hown (by decide) (hts _ q202) hts hKn hH (hl.1.trans hml.symm) et32 c33 (Nat.le_of_ble_eq_true rfl) (Nat.le_of_ble_eq_true rfl) (Nat.le_of_ble_eq_true rfl) (Nat.le_of_ble_eq_true rfl) dX1_element_34 (fun H locs hH hcl => ?_)
          refine wx_catch (pc := 34) (own := "SideBySide") (C := "java/lang/ClassCastException") (ok := (fun k9 => decide (k9 = 174))) (h := 74) hown htab ⟨fun _ => ⟨by decide, "java/lang/NullPointerException", hts _ q1024, Or.inr ⟨rfl, hKn.2.2.2.2.1 ("java/lang/ClassCastException", "java/lang/NullPointerException") (by decide +kernel)⟩⟩, fun h9 => absurd h9 (by decide), fun h9 => absurd h9 (by decide), fun _ => ⟨by decide, "java/lang/ClassCastException", hts _ q102, Or.inl ⟨rfl, hKn.2.2.2.1 ("java/lang/ClassCastException", "java/lang/ClassCastException") (by decide +kernel)⟩⟩, fun h9 => absurd h9 (by decide), fun h9 => absurd h9 (by decide), fun _ => ⟨by decide, "java/lang/ArrayIndexOutOfBoundsException", hts _ q995, Or.inr ⟨rfl, hKn.2.2.2.2.1 ("java/lang/ClassCastException", "java/lang/ArrayIndexOutOfBoundsException") (by decide +kernel)⟩⟩, fun h9 => absurd h9 (by decide), fun h9 => absurd h9 (by decide), trivial⟩ (by decide) hcl ?_
          refine W.widen (k := 3) (n := 1000) (Nat.le_of_ble_eq_true rfl) (Nat.le_of_ble_eq_true rfl) ?_
          refine lv_astore (lv' := [(4, .ref (n + 2)), (3, .ref o6), (0, .ref a0), (1, .int a1), (2, .int a2)]) hx hb dX1_element_74 hl (by decide) rfl (fun ls hl => ?_)
          cases hf
          refine mg_thr (names := ["java/lang/RuntimeException", "java/lang/Exception"]) hx hb hnt hts hown hKn hH (hl.1.trans hml.symm) (hts _ q1149) (hts _ q1150) (hts _ q96) (by decide +kernel) (by decide +kernel) xc_ise (Nat.le_of_ble_eq_true rfl) (Nat.le_of_ble_eq_true rfl) (Nat.le_of_ble_eq_true rfl) (Nat.le_of_ble_eq_true rfl) dX1_element_76 dX1_element_79 dX1_element_80 dX1_element_83 (fun H locs hH hcl => ?_)
          refine Wx.widen (k := 4) (n := 1006) (Nat.le_of_ble_eq_true rfl) (Nat.le_of_ble_eq_true rfl) ?_
          exact xt_out (pc := 83) hlk htab (by decide) hH (fun _ ht hw => pk_mk hcl ht hw)
  · have hf := ip_ c35 hf
    cases hf
    refine mg_thr (names := ["java/lang/RuntimeException", "java/lang/Exception"]) hx hb hnt hts hown hKn hH (hl.1.trans hml.symm) (hts _ q1134) (hts _ q1135) (hts _ q95) (by decide +kernel) (by decide +kernel) xc_iae (Nat.le_of_ble_eq_true rfl) (Nat.le_of_ble_eq_true rfl) (Nat.le_of_ble_eq_true rfl) (Nat.le_of_ble_eq_true rfl) dX1_element_8 dX1_element_11 dX1_element_12 dX1_element_15 (fun H locs hH hcl => ?_)
    refine Wx.widen (k := 4) (n := 1006) (Nat.le_of_ble_eq_true rfl) (Nat.le_of_ble_eq_true rfl) ?_
    exact xt_out (pc := 15) hlk htab (by decide) hH (fun _ ht hw => pk_mk hcl ht hw)
def fX0_element (M : Mem_) (n : Nat) (a0 : Nat) (a1 : Int32) (a2 : Int32) (a3 : Nat) : Option (Int32 × Mem_ × Nat) :=
  (ck_ M a0 0).bind fun u1 =>
  bx_ (fX1_element M n a0 a1 a2) (fun xe3 M4 n5 =>
    if xe3 = 1 then
      some (1, M4, n5)
    else
      some (2, M4, n5)
  ) (fun r6 M7 n8 =>
    (sL_ M7 a3 0 r6).bind fun M11 =>
    some (0, M11, n8)
  )
theorem kdX0_element : yX0_element.cls ≠ "java/lang/invoke/MethodHandle" ∧ yX0_element.cls ≠ "java/lang/invoke/VarHandle" ∧ (parseMethodDescriptor yX0_element.desc).map (fun d => d.parameters.length) = some 4 := by decide +kernel
set_option maxHeartbeats 4000000 in
theorem mX0_element (l : Launch) (hnt : l.flags = flags0) (G : GT_) (M : Mem_) (n : Nat) (a0 : Nat) (a1 : Int32) (a2 : Int32) (a3 : Nat) (r : Int32) (M1 : Mem_) (n1 : Nat) (hf : fX0_element M n a0 a1 a2 a3 = some (r, M1, n1)) : Ct_ G l yX0_element (wsW_ yX0_element cX0_element 5 (some .int) [(0, 9, 12, 13), (0, 9, 16, 15)]) ({ frames := 10, cells := 4, slots := 1006, locals := 10274 }) 4 1006 [.ref a0, .int a1, .int a2, .ref a3] M n (some (.int r)) M1 n1 := by
  refine en_h (by decide) (Nat.le_of_ble_eq_true rfl) ?_
  intro p e s m below meth c had htab hx hb hr hlk hml hown hts hname hKn hH ls hl
  have hown : s.vm.findClass RX0 = some m.cls := hown
  have hl : lv_has ls 5 [(0, .ref a0), (1, .int a1), (2, .int a2), (3, .ref a3)] := hl
  unfold fX0_element at hf
  generalize s.heap = H at hH ⊢
  refine lv_aload_n hx hb dX0_element_0 rfl (lv_at hl 3 rfl) ?_
  refine lv_iconst (v := 0) hx hb dX0_element_1 (by decide) ?_
  refine lv_aload_n hx hb dX0_element_2 rfl (lv_at hl 0 rfl) ?_
  refine lv_iload_n hx hb dX0_element_3 rfl (lv_at hl 1 rfl) ?_
  refine lv_iload_n hx hb dX0_element_4 rfl (lv_at hl 2 rfl) ?_
  obtain ⟨u1, eu1, hf⟩ := bs_ hf
  rcases bxs_ hf with ⟨xe3, M4, n5, e9, hf⟩ | ⟨r6, M7, n8, e9, hf⟩
  · by_cases c10 : xe3 = 1
    · have hf := ip_ c10 hf
      refine rn_T ⟨hx, hb, hml, hown, hts⟩ hKn hH (xX1_element l hnt G M n a0 a1 a2 xe3 M4 n5 e9) (hts _ q1130) (hts _ q1131) (hts _ q1132) (hts _ q67) (sg_with hts q1133) (lw_methW q1133) kdX1_element rfl rfl ⟨(Nat.le_of_ble_eq_true rfl), (Nat.le_of_ble_eq_true rfl)⟩ (st_recv hKn hH eu1 rfl) rfl hl.1 (Nat.le_of_ble_eq_true rfl) dX0_element_5 ⟨(Nat.le_of_ble_eq_true rfl), (Nat.le_of_ble_eq_true rfl)⟩ rfl (fun H locs x9 t9 hH ht9 hw9 hp9 => ?_)
      have hp9 : Pk_ "java/lang/IllegalArgumentException" x9 t9 := by rw [exN_, if_pos c10] at hp9; exact hp9
      refine wx_catch (pc := 5) (own := "SideBySideLaw") (C := "java/lang/IllegalArgumentException") (ok := (fun k9 => decide (k9 = 13))) (h := 12) hown htab ⟨fun _ => ⟨by decide, "java/lang/IllegalArgumentException", hts _ q1128, Or.inl ⟨rfl, hKn.2.2.2.1 ("java/lang/IllegalArgumentException", "java/lang/IllegalArgumentException") (by decide +kernel)⟩⟩, fun _ => ⟨by decide, "java/lang/IllegalStateException", hts _ q1129, Or.inr ⟨rfl, hKn.2.2.2.2.1 ("java/lang/IllegalArgumentException", "java/lang/IllegalStateException") (by decide +kernel)⟩⟩, trivial⟩ (by decide) (pk_cls hp9 ht9 hw9) ?_
      refine W.widen (k := 4) (n := 1006) (Nat.le_of_ble_eq_true rfl) (Nat.le_of_ble_eq_true rfl) ?_
      refine lv_astore (lv' := [(4, .ref x9), (0, .ref a0), (1, .int a1), (2, .int a2), (3, .ref a3)]) hx hb dX0_element_12 hl (by decide) rfl (fun ls hl => ?_)
      refine lv_iconst (v := 1) hx hb dX0_element_14 (by decide) ?_
      cases hf
      refine W.widen (k := 4) (n := 1006) (Nat.le_of_ble_eq_true rfl) (Nat.le_of_ble_eq_true rfl) ?_
      exact rt_i hx hb hr hlk hH dX0_element_15
    · have hf := in_ c10 hf
      refine rn_T ⟨hx, hb, hml, hown, hts⟩ hKn hH (xX1_element l hnt G M n a0 a1 a2 xe3 M4 n5 e9) (hts _ q1130) (hts _ q1131) (hts _ q1132) (hts _ q67) (sg_with hts q1133) (lw_methW q1133) kdX1_element rfl rfl ⟨(Nat.le_of_ble_eq_true rfl), (Nat.le_of_ble_eq_true rfl)⟩ (st_recv hKn hH eu1 rfl) rfl hl.1 (Nat.le_of_ble_eq_true rfl) dX0_element_5 ⟨(Nat.le_of_ble_eq_true rfl), (Nat.le_of_ble_eq_true rfl)⟩ rfl (fun H locs x9 t9 hH ht9 hw9 hp9 => ?_)
      have hp9 : Pk_ "java/lang/IllegalStateException" x9 t9 := by rw [exN_, if_neg c10] at hp9; exact hp9
      refine wx_catch (pc := 5) (own := "SideBySideLaw") (C := "java/lang/IllegalStateException") (ok := (fun k9 => decide (k9 = 15))) (h := 16) hown htab ⟨fun _ => ⟨by decide, "java/lang/IllegalArgumentException", hts _ q1128, Or.inr ⟨rfl, hKn.2.2.2.2.1 ("java/lang/IllegalStateException", "java/lang/IllegalArgumentException") (by decide +kernel)⟩⟩, fun _ => ⟨by decide, "java/lang/IllegalStateException", hts _ q1129, Or.inl ⟨rfl, hKn.2.2.2.1 ("java/lang/IllegalStateException", "java/lang/IllegalStateException") (by decide +kernel)⟩⟩, trivial⟩ (by decide) (pk_cls hp9 ht9 hw9) ?_
      refine W.widen (k := 4) (n := 1006) (Nat.le_of_ble_eq_true rfl) (Nat.le_of_ble_eq_true rfl) ?_
      refine lv_astore (lv' := [(4, .ref x9), (0, .ref a0), (1, .int a1), (2, .int a2), (3, .ref a3)]) hx hb dX0_element_16 hl (by decide) rfl (fun ls hl => ?_)
      refine lv_iconst (v := 2) hx hb dX0_element_18 (by decide) ?_
      cases hf
      refine W.widen (k := 4) (n := 1006) (Nat.le_of_ble_eq_true rfl) (Nat.le_of_ble_eq_true rfl) ?_
      exact rt_i hx hb hr hlk hH dX0_element_19
  · refine cl_l hH (rn_VW ⟨hx, hb, hml, hown, hts⟩ hKn hH (mX1_element l hnt G M n a0 a1 a2 r6 M7 n8 e9) (hts _ q1130) (hts _ q1131) (hts _ q1132) (hts _ q67) q1133 kdX1_element rfl rfl ⟨(Nat.le_of_ble_eq_true rfl), (Nat.le_of_ble_eq_true rfl)⟩ eu1 rfl rfl hl.1 (Nat.le_of_ble_eq_true rfl) dX0_element_5 ⟨(Nat.le_of_ble_eq_true rfl), (Nat.le_of_ble_eq_true rfl)⟩ rfl) (fun H locs hH => ?_)
    refine W.widen (k := 4) (n := 1006) (Nat.le_of_ble_eq_true rfl) (Nat.le_of_ble_eq_true rfl) ?_
    obtain ⟨M11, eM11, hf⟩ := bs_ hf
    refine mg_last hx hb hKn hH eM11 dX0_element_8 (fun H locs hH => ?_)
    refine lv_goto (tgt := 20) hx hb dX0_element_9 (by decide) ?_
    refine lv_iconst (v := 0) hx hb dX0_element_20 (by decide) ?_
    cases hf
    refine W.widen (k := 4) (n := 1006) (Nat.le_of_ble_eq_true rfl) (Nat.le_of_ble_eq_true rfl) ?_
    exact rt_i hx hb hr hlk hH dX0_element_21
def fX5_broken (M : Mem_) (n : Nat) (a0 : Nat) : Option (Nat × Mem_ × Nat) :=
  lt_ (ms_ M n (eN_ 6)) fun M1 =>
  (gI_ M1 a0 4 1).bind fun v2 =>
  (fX7_init M1 n ((-1000) - v2)).bind fun M4 =>
  some (n, M4, n + 1)
theorem kdX5_broken : yX5_broken.cls ≠ "java/lang/invoke/MethodHandle" ∧ yX5_broken.cls ≠ "java/lang/invoke/VarHandle" ∧ (parseMethodDescriptor yX5_broken.desc).map (fun d => d.parameters.length) = some 0 := by decide +kernel
set_option maxHeartbeats 4000000 in
theorem mX5_broken (l : Launch) (hnt : l.flags = flags0) (G : GT_) (M : Mem_) (n : Nat) (a0 : Nat) (r : Nat) (M1 : Mem_) (n1 : Nat) (hf : fX5_broken M n a0 = some (r, M1, n1)) : Ct_ G l yX5_broken (ws_ yX5_broken cX5_broken 1 (some (.object "SideBySide$Broken"))) ({ frames := 6, cells := 1, slots := 7, locals := 91 }) 1 7 [.ref a0] M n (some (.ref r)) M1 n1 := by
  refine en_ (by decide) (Nat.le_of_ble_eq_true rfl) ?_
  intro p e s m below meth c hx hb hr hlk hml hown hts hname hKn hH ls hl
  have hown : s.vm.findClass RX5 = some m.cls := hown
  have hl : lv_has ls 1 [(0, .ref a0)] := hl
  unfold fX5_broken at hf
  generalize s.heap = H at hH ⊢
  refine mg_newx (ci := 6) hx hb hts hown hKn hH (hts _ q273) (hts _ q274) (hts _ q78) rfl (Nat.le_of_ble_eq_true rfl) (Nat.le_of_ble_eq_true rfl) dX5_broken_0 (fun H hH => ?_)
  obtain ⟨M1, eM1⟩ : ∃ z : Mem_, z = ms_ M n (eN_ 6) := ⟨_, rfl⟩
  have hf := lu_ eM1 hf
  have hH := st_eq eM1 hH
  refine W.widen (k := 1) (n := 7) (Nat.le_of_ble_eq_true rfl) (Nat.le_of_ble_eq_true rfl) ?_
  refine lv_dup hx hb dX5_broken_3 rfl ?_
  refine lv_sipush (v := (-1000)) hx hb dX5_broken_4 (by decide) ?_
  refine lv_aload_n hx hb dX5_broken_7 rfl (lv_at hl 0 rfl) ?_
  obtain ⟨v2, ev2, hf⟩ := bs_ hf
  refine mg_gI hx hb hts hown hKn hH ev2 in_X5 rfl (by decide) (hts _ q214) (fun _ h9 => h9) dX5_broken_8 ?_
  refine lv_isub hx hb dX5_broken_11 ?_
  obtain ⟨M4, er3, hf⟩ := bs_ hf
  refine cl_v0 hH (rn_I ⟨hx, hb, hml, hown, hts⟩ hKn hH (mX7_init l hnt G M1 (n + 1) n ((-1000) - v2) M4 er3) (cwI 1 hts (lw_meth q284) rfl rfl rfl (hts _ q78) (hts _ q282) (hts _ q283) rfl kdX7_init ⟨Nat.le_of_ble_eq_true rfl, Nat.le_of_ble_eq_true rfl⟩) rfl hl.1 (Nat.le_of_ble_eq_true rfl) dX5_broken_12 ⟨(Nat.le_of_ble_eq_true rfl), (Nat.le_of_ble_eq_true rfl)⟩ rfl) (fun H locs hH => ?_)
  cases hf
  refine W.widen (k := 1) (n := 7) (Nat.le_of_ble_eq_true rfl) (Nat.le_of_ble_eq_true rfl) ?_
  exact rt_a hx hb hr (Or.inl ⟨_, rfl⟩) hlk hH dX5_broken_15
def fX5_number_L4 : Nat → Mem_ → Nat → Nat → Int32 → Int32 → Int32 → Option ((Nat ⊕ Int32) × Mem_ × Nat)
  | 0, _, _, _, _, _, _ => none
  | fuel + 1, M, n, x0, x1, x2, x3 =>
    if x1 ≤ x3 then
      some (.inr x2, M, n)
    else
      (ck_ M x0 4).bind fun u1 =>
      (fX5_sign M x0).bind fun r2 =>
      lt_ (fX1_isIn r2 48 57) fun r3 =>
      if (b2_ r3) = 0 then
        (ck_ M x0 4).bind fun u11 =>
        ba_ (fX5_broken M n x0) fun r12 M13 n14 =>
        (gX_ M13 r12 6).bind fun v15 =>
        some (.inl r12, M13, n14)
      else
        (ck_ M x0 4).bind fun u4 =>
        (fX5_sign M x0).bind fun r5 =>
        lt_ ((((10 * x2) + r5) - 48)) fun v6 =>
        (gI_ M x0 4 1).bind fun v7 =>
        lt_ ((v7 + 1)) fun v8 =>
        (pF_ M x0 4 1 (.int v8)).bind fun M9 =>
        lt_ (x3 + 1) fun v10 =>
        fX5_number_L4 fuel M9 n x0 x1 v6 v10
def fX5_number (M : Mem_) (n : Nat) (a0 : Nat) (a1 : Int32) : Option ((Nat ⊕ Int32) × Mem_ × Nat) :=
  fX5_number_L4 1000 M n a0 a1 0 0
theorem kdX5_number : yX5_number.cls ≠ "java/lang/invoke/MethodHandle" ∧ yX5_number.cls ≠ "java/lang/invoke/VarHandle" ∧ (parseMethodDescriptor yX5_number.desc).map (fun d => d.parameters.length) = some 1 := by decide +kernel
set_option maxHeartbeats 4000000 in
theorem mX5_number (l : Launch) (hnt : l.flags = flags0) (G : GT_) (M : Mem_) (n : Nat) (a0 : Nat) (a1 : Int32) (r : Int32) (M1 : Mem_) (n1 : Nat) (hf : fX5_number M n a0 a1 = some (.inr r, M1, n1)) : Ct_ G l yX5_number (ws_ yX5_number cX5_number 4 (some .int)) ({ frames := 7, cells := 1, slots := 7, locals := 111 }) 1 7 [.ref a0, .int a1] M n (some (.int r)) M1 n1 := by
  refine en_ (by decide) (Nat.le_of_ble_eq_true rfl) ?_
  intro p e s m below meth c hx hb hr hlk hml hown hts hname hKn hH ls hl
  have hown : s.vm.findClass RX5 = some m.cls := hown
  have hl : lv_has ls 4 [(0, .ref a0), (1, .int a1)] := hl
  have w4 : ∀ (fuel : Nat), ∀ (M : Mem_) (n : Nat) (x0 : Nat) (x1 : Int32) (x2 : Int32) (x3 : Int32) (H : Heap) (locs : List Loc) (ls : Array Slot), St_ G n M s H locs → lv_has ls 4 [(0, .ref x0), (1, .int x1), (2, .int x2), (3, .int x3)] → fX5_number_L4 fuel M n x0 x1 x2 x3 = some (.inr r, M1, n1) → W p l e ({ frames := 7, cells := 1, slots := 7, locals := 111 } : Room) s m ([.ref a0, .int a1] : List Value).toArray below meth c H locs 0 0 (MQ below (Qc_ G (some (.int r)) M1 n1) ([.ref a0, .int a1] : List Value).toArray s 1 7 (fun q => G.1 ≤ q)) (F0 m 4 ls []) := by
    intro fuel
    induction fuel with
    | zero =>
      intro M n x0 x1 x2 x3 H locs ls hH hl hf
      cases hf
    | succ fuel ih =>
      intro M n x0 x1 x2 x3 H locs ls hH hl hf
      unfold fX5_number_L4 at hf
      refine lv_iload_n hx hb dX5_number_4 rfl (lv_at hl 3 rfl) ?_
      refine lv_iload_n hx hb dX5_number_5 rfl (lv_at hl 1 rfl) ?_
      refine lv_icmp_ge (tgt := 57) hx hb dX5_number_6 (by decide) (fun c17 => ?_) (fun c17 => ?_)
      · have hf := ip_ c17 hf
        refine lv_iload_n hx hb dX5_number_57 rfl (lv_at hl 2 rfl) ?_
        cases hf
        refine W.widen (k := 1) (n := 7) (Nat.le_of_ble_eq_true rfl) (Nat.le_of_ble_eq_true rfl) ?_
        exact rt_i hx hb hr hlk hH dX5_number_58
      · have hf := in_ c17 hf
        refine lv_aload_n hx hb dX5_number_9 rfl (lv_at hl 0 rfl) ?_
        obtain ⟨u1, eu1, hf⟩ := bs_ hf
        obtain ⟨r2, er2, hf⟩ := bs_ hf
        refine cl_i0 hH (rn_V ⟨hx, hb, hml, hown, hts⟩ hKn hH (mX5_sign l G M n x0 r2 er2) (cwV 0 hts (lw_V q230 q232 qs5 q76 q233) rfl rfl rfl ⟨rfl, kdX5_sign⟩ ⟨Nat.le_of_ble_eq_true rfl, Nat.le_of_ble_eq_true rfl⟩) eu1 rfl rfl hl.1 (Nat.le_of_ble_eq_true rfl) dX5_number_10 ⟨(Nat.le_of_ble_eq_true rfl), (Nat.le_of_ble_eq_true rfl)⟩ rfl) (fun H locs hH => ?_)
        refine lv_bipush (v := 48) hx hb dX5_number_13 (by decide) ?_
        refine lv_bipush (v := 57) hx hb dX5_number_15 (by decide) ?_
        obtain ⟨r3, er3⟩ : ∃ z, z = fX1_isIn r2 48 57 := ⟨_, rfl⟩
        have hf := lu_ er3 hf
        refine cl_i0 hH (rn_SN ⟨hx, hb, hml, hown, hts⟩ hKn hH (mX1_isIn l G M n r2 48 57 r3 er3.symm) ⟨va_cnB 3 hts (lw_meth q201) rfl rfl rfl (hKn.2.1 _ (List.mem_of_getElem? (i := 11) rfl)) (hts _ q67) kdX1_isIn ⟨Nat.le_of_ble_eq_true rfl, Nat.le_of_ble_eq_true rfl⟩, hts _ q200, trivial⟩ rfl hl.1 (Nat.le_of_ble_eq_true rfl) dX5_number_17 ⟨(Nat.le_of_ble_eq_true rfl), (Nat.le_of_ble_eq_true rfl)⟩ rfl) (fun H locs hH => ?_)
        refine lv_if_ne (tgt := 28) hx hb dX5_number_20 (by decide) (fun c16 => ?_) (fun c16 => ?_)
        · have hf := in_ c16 hf
          refine lv_bipush (v := 10) hx hb dX5_number_28 (by decide) ?_
          refine lv_iload_n hx hb dX5_number_30 rfl (lv_at hl 2 rfl) ?_
          refine lv_imul hx hb dX5_number_31 ?_
          refine lv_aload_n hx hb dX5_number_32 rfl (lv_at hl 0 rfl) ?_
          obtain ⟨u4, eu4, hf⟩ := bs_ hf
          obtain ⟨r5, er5, hf⟩ := bs_ hf
          refine cl_i0 hH (rn_V ⟨hx, hb, hml, hown, hts⟩ hKn hH (mX5_sign l G M n x0 r5 er5) (cwV 0 hts (lw_V q230 q232 qs5 q76 q233) rfl rfl rfl ⟨rfl, kdX5_sign⟩ ⟨Nat.le_of_ble_eq_true rfl, Nat.le_of_ble_eq_true rfl⟩) eu4 rfl rfl hl.1 (Nat.le_of_ble_eq_true rfl) dX5_number_33 ⟨(Nat.le_of_ble_eq_true rfl), (Nat.le_of_ble_eq_true rfl)⟩ rfl) (fun H locs hH => ?_)
          refine lv_iadd hx hb dX5_number_36 ?_
          refine lv_bipush (v := 48) hx hb dX5_number_37 (by decide) ?_
          refine lv_isub hx hb dX5_number_39 ?_
          refine lv_topi (fun v6 ev6 => ?_)
          have hf := lu_ ev6 hf
          refine lv_istore_n (lv' := [(2, .int v6), (0, .ref x0), (1, .int x1), (3, .int x3)]) hx hb dX5_number_40 rfl hl (by decide) rfl (fun ls hl => ?_)
          refine lv_aload_n hx hb dX5_number_41 rfl (lv_at hl 1 rfl) ?_
          refine lv_dup hx hb dX5_number_42 rfl ?_
          obtain ⟨v7, ev7, hf⟩ := bs_ hf
          refine mg_gI hx hb hts hown hKn hH ev7 in_X5 rfl (by decide) (hts _ q214) (fun _ h9 => h9) dX5_number_43 ?_
          refine lv_iconst (v := 1) hx hb dX5_number_46 (by decide) ?_
          refine lv_iadd hx hb dX5_number_47 ?_
          refine lv_topi (fun v8 ev8 => ?_)
          have hf := lu_ ev8 hf
          obtain ⟨M9, eM9, hf⟩ := bs_ hf
          refine mg_pF hx hb hts hown hKn hH eM9 in_X5 tyX5_ok nmX5 rfl (by decide) (hts _ q214) (fun _ h9 => h9) rfl rfl rfl dX5_number_48 (fun H locs hH => ?_)
          obtain ⟨v10, ev10⟩ : ∃ z : Int32, z = x3 + 1 := ⟨_, rfl⟩
          have hf := lu_ ev10 hf
          refine lv_iinc (v := v10) (lv' := [(3, .int v10), (2, .int v6), (0, .ref x0), (1, .int x1)]) hx hb dX5_number_51 hl (k := 3) rfl (by rw [ev10]; rfl) (by decide) rfl (fun ls hl => ?_)
          refine lv_goto (tgt := 4) hx hb dX5_number_54 (by decide) ?_
          exact ih M9 n x0 x1 v6 v10 _ _ ls hH (lv_sub hl [2, 3, 1, 0] rfl) hf
        · have hf := ip_ c16 hf
          refine lv_aload_n hx hb dX5_number_23 rfl (lv_at hl 0 rfl) ?_
          obtain ⟨u11, eu11, hf⟩ := bs_ hf
          obtain ⟨r12, M13, n14, er12, hf⟩ := bas_ hf
          refine cl_r hH (rn_V ⟨hx, hb, hml, hown, hts⟩ hKn hH (mX5_broken l hnt G M n x0 r12 M13 n14 er12) (cwV 0 hts (lw_V q269 q271 qs9 q76 q272) rfl rfl rfl ⟨rfl, kdX5_broken⟩ ⟨Nat.le_of_ble_eq_true rfl, Nat.le_of_ble_eq_true rfl⟩) eu11 rfl rfl hl.1 (Nat.le_of_ble_eq_true rfl) dX5_number_24 ⟨(Nat.le_of_ble_eq_true rfl), (Nat.le_of_ble_eq_true rfl)⟩ rfl) (fun H locs hH => ?_)
          refine W.widen (k := 1) (n := 7) (Nat.le_of_ble_eq_true rfl) (Nat.le_of_ble_eq_true rfl) ?_
          obtain ⟨v15, ev15, hf⟩ := bs_ hf
          cases hf
  unfold fX5_number at hf
  refine lv_iconst (v := 0) hx hb dX5_number_0 (by decide) ?_
  refine lv_istore_n (lv' := [(2, .int 0), (0, .ref a0), (1, .int a1)]) hx hb dX5_number_1 rfl hl (by decide) rfl (fun ls hl => ?_)
  refine lv_iconst (v := 0) hx hb dX5_number_2 (by decide) ?_
  refine lv_istore_n (lv' := [(3, .int 0), (2, .int 0), (0, .ref a0), (1, .int a1)]) hx hb dX5_number_3 rfl hl (by decide) rfl (fun ls hl => ?_)
  exact w4 1000 M n a0 a1 0 0 _ _ ls hH (lv_sub hl [2, 3, 1, 0] rfl) hf
set_option maxHeartbeats 4000000 in
theorem xX5_number (l : Launch) (hnt : l.flags = flags0) (G : GT_) (M : Mem_) (n : Nat) (a0 : Nat) (a1 : Int32) (xx1 : Nat) (M1 : Mem_) (n1 : Nat) (hf : fX5_number M n a0 a1 = some (.inl xx1, M1, n1)) : Cx_ G l yX5_number (ws_ yX5_number cX5_number 4 (some .int)) ({ frames := 7, cells := 1, slots := 7, locals := 111 }) 1 7 [.ref a0, .int a1] M n (Px_ xx1) M1 n1 := by
  refine en_c (by decide) (Nat.le_of_ble_eq_true rfl) ?_
  intro p e s m below meth c had htab hx hb hr hlk hml hown hts hname hKn hH ls hl
  have hown : s.vm.findClass RX5 = some m.cls := hown
  have hl : lv_has ls 4 [(0, .ref a0), (1, .int a1)] := hl
  have w4 : ∀ (fuel : Nat), ∀ (M : Mem_) (n : Nat) (x0 : Nat) (x1 : Int32) (x2 : Int32) (x3 : Int32) (H : Heap) (locs : List Loc) (ls : Array Slot), St_ G n M s H locs → lv_has ls 4 [(0, .ref x0), (1, .int x1), (2, .int x2), (3, .int x3)] → fX5_number_L4 fuel M n x0 x1 x2 x3 = some (.inl xx1, M1, n1) → W p l e ({ frames := 7, cells := 1, slots := 7, locals := 111 } : Room) s m ([.ref a0, .int a1] : List Value).toArray below meth c H locs 0 0 (MT below (Qt_ G (Px_ xx1) M1 n1) ([.ref a0, .int a1] : List Value).toArray s 1 7 (fun q => G.1 ≤ q)) (F0 m 4 ls []) := by
    intro fuel
    induction fuel with
    | zero =>
      intro M n x0 x1 x2 x3 H locs ls hH hl hf
      cases hf
    | succ fuel ih =>
      intro M n x0 x1 x2 x3 H locs ls hH hl hf
      unfold fX5_number_L4 at hf
      refine lv_iload_n hx hb dX5_number_4 rfl (lv_at hl 3 rfl) ?_
      refine lv_iload_n hx hb dX5_number_5 rfl (lv_at hl 1 rfl) ?_
      refine lv_icmp_ge (tgt := 57) hx hb dX5_number_6 (by decide) (fun c17 => ?_) (fun c17 => ?_)
      · have hf := ip_ c17 hf
        refine lv_iload_n hx hb dX5_number_57 rfl (lv_at hl 2 rfl) ?_
        cases hf
      · have hf := in_ c17 hf
        refine lv_aload_n hx hb dX5_number_9 rfl (lv_at hl 0 rfl) ?_
        obtain ⟨u1, eu1, hf⟩ := bs_ hf
        obtain ⟨r2, er2, hf⟩ := bs_ hf
        refine cl_i0 hH (rn_V ⟨hx, hb, hml, hown, hts⟩ hKn hH (mX5_sign l G M n x0 r2 er2) (cwV 0 hts (lw_V q230 q232 qs5 q76 q233) rfl rfl rfl ⟨rfl, kdX5_sign⟩ ⟨Nat.le_of_ble_eq_true rfl, Nat.le_of_ble_eq_true rfl⟩) eu1 rfl rfl hl.1 (Nat.le_of_ble_eq_true rfl) dX5_number_10 ⟨(Nat.le_of_ble_eq_true rfl), (Nat.le_of_ble_eq_true rfl)⟩ rfl) (fun H locs hH => ?_)
        refine lv_bipush (v := 48) hx hb dX5_number_13 (by decide) ?_
        refine lv_bipush (v := 57) hx hb dX5_number_15 (by decide) ?_
        obtain ⟨r3, er3⟩ : ∃ z, z = fX1_isIn r2 48 57 := ⟨_, rfl⟩
        have hf := lu_ er3 hf
        refine cl_i0 hH (rn_SN ⟨hx, hb, hml, hown, hts⟩ hKn hH (mX1_isIn l G M n r2 48 57 r3 er3.symm) ⟨va_cnB 3 hts (lw_meth q201) rfl rfl rfl (hKn.2.1 _ (List.mem_of_getElem? (i := 11) rfl)) (hts _ q67) kdX1_isIn ⟨Nat.le_of_ble_eq_true rfl, Nat.le_of_ble_eq_true rfl⟩, hts _ q200, trivial⟩ rfl hl.1 (Nat.le_of_ble_eq_true rfl) dX5_number_17 ⟨(Nat.le_of_ble_eq_true rfl), (Nat.le_of_ble_eq_true rfl)⟩ rfl) (fun H locs hH => ?_)
        refine lv_if_ne (tgt := 28) hx hb dX5_number_20 (by decide) (fun c16 => ?_) (fun c16 => ?_)
        · have hf := in_ c16 hf
          refine lv_bipush (v := 10) hx hb dX5_number_28 (by decide) ?_
          refine lv_iload_n hx hb dX5_number_30 rfl (lv_at hl 2 rfl) ?_
          refine lv_imul hx hb dX5_number_31 ?_
          refine lv_aload_n hx hb dX5_number_32 rfl (lv_at hl 0 rfl) ?_
          obtain ⟨u4, eu4, hf⟩ := bs_ hf
          obtain ⟨r5, er5, hf⟩ := bs_ hf
          refine cl_i0 hH (rn_V ⟨hx, hb, hml, hown, hts⟩ hKn hH (mX5_sign l G M n x0 r5 er5) (cwV 0 hts (lw_V q230 q232 qs5 q76 q233) rfl rfl rfl ⟨rfl, kdX5_sign⟩ ⟨Nat.le_of_ble_eq_true rfl, Nat.le_of_ble_eq_true rfl⟩) eu4 rfl rfl hl.1 (Nat.le_of_ble_eq_true rfl) dX5_number_33 ⟨(Nat.le_of_ble_eq_true rfl), (Nat.le_of_ble_eq_true rfl)⟩ rfl) (fun H locs hH => ?_)
          refine lv_iadd hx hb dX5_number_36 ?_
          refine lv_bipush (v := 48) hx hb dX5_number_37 (by decide) ?_
          refine lv_isub hx hb dX5_number_39 ?_
          refine lv_topi (fun v6 ev6 => ?_)
          have hf := lu_ ev6 hf
          refine lv_istore_n (lv' := [(2, .int v6), (0, .ref x0), (1, .int x1), (3, .int x3)]) hx hb dX5_number_40 rfl hl (by decide) rfl (fun ls hl => ?_)
          refine lv_aload_n hx hb dX5_number_41 rfl (lv_at hl 1 rfl) ?_
          refine lv_dup hx hb dX5_number_42 rfl ?_
          obtain ⟨v7, ev7, hf⟩ := bs_ hf
          refine mg_gI hx hb hts hown hKn hH ev7 in_X5 rfl (by decide) (hts _ q214) (fun _ h9 => h9) dX5_number_43 ?_
          refine lv_iconst (v := 1) hx hb dX5_number_46 (by decide) ?_
          refine lv_iadd hx hb dX5_number_47 ?_
          refine lv_topi (fun v8 ev8 => ?_)
          have hf := lu_ ev8 hf
          obtain ⟨M9, eM9, hf⟩ := bs_ hf
          refine mg_pF hx hb hts hown hKn hH eM9 in_X5 tyX5_ok nmX5 rfl (by decide) (hts _ q214) (fun _ h9 => h9) rfl rfl rfl dX5_number_48 (fun H locs hH => ?_)
          obtain ⟨v10, ev10⟩ : ∃ z : Int32, z = x3 + 1 := ⟨_, rfl⟩
          have hf := lu_ ev10 hf
          refine lv_iinc (v := v10) (lv' := [(3, .int v10), (2, .int v6), (0, .ref x0), (1, .int x1)]) hx hb dX5_number_51 hl (k := 3) rfl (by rw [ev10]; rfl) (by decide) rfl (fun ls hl => ?_)
          refine lv_goto (tgt := 4) hx hb dX5_number_54 (by decide) ?_
          exact ih M9 n x0 x1 v6 v10 _ _ ls hH (lv_sub hl [2, 3, 1, 0] rfl) hf
        · have hf := ip_ c16 hf
          refine lv_aload_n hx hb dX5_number_23 rfl (lv_at hl 0 rfl) ?_
          obtain ⟨u11, eu11, hf⟩ := bs_ hf
          obtain ⟨r12, M13, n14, er12, hf⟩ := bas_ hf
          refine cl_r hH (rn_V ⟨hx, hb, hml, hown, hts⟩ hKn hH (mX5_broken l hnt G M n x0 r12 M13 n14 er12) (cwV 0 hts (lw_V q269 q271 qs9 q76 q272) rfl rfl rfl ⟨rfl, kdX5_broken⟩ ⟨Nat.le_of_ble_eq_true rfl, Nat.le_of_ble_eq_true rfl⟩) eu11 rfl rfl hl.1 (Nat.le_of_ble_eq_true rfl) dX5_number_24 ⟨(Nat.le_of_ble_eq_true rfl), (Nat.le_of_ble_eq_true rfl)⟩ rfl) (fun H locs hH => ?_)
          refine W.widen (k := 1) (n := 7) (Nat.le_of_ble_eq_true rfl) (Nat.le_of_ble_eq_true rfl) ?_
          obtain ⟨v15, ev15, hf⟩ := bs_ hf
          cases hf
          refine W.widen (k := 1) (n := 7) (Nat.le_of_ble_eq_true rfl) (Nat.le_of_ble_eq_true rfl) ?_
          refine wx_athrow hx hb dX5_number_27 ?_
          exact xt_out (pc := 27) hlk htab (by decide) hH (fun _ _ _ => rfl)
  unfold fX5_number at hf
  refine lv_iconst (v := 0) hx hb dX5_number_0 (by decide) ?_
  refine lv_istore_n (lv' := [(2, .int 0), (0, .ref a0), (1, .int a1)]) hx hb dX5_number_1 rfl hl (by decide) rfl (fun ls hl => ?_)
  refine lv_iconst (v := 0) hx hb dX5_number_2 (by decide) ?_
  refine lv_istore_n (lv' := [(3, .int 0), (2, .int 0), (0, .ref a0), (1, .int a1)]) hx hb dX5_number_3 rfl hl (by decide) rfl (fun ls hl => ?_)
  exact w4 1000 M n a0 a1 0 0 _ _ ls hH (lv_sub hl [2, 3, 1, 0] rfl) hf
