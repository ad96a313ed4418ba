set_option maxRecDepth 100000
def fJ5_fill_L5 : Nat → Mem_ → Nat → Int32 → Int32 → Int32 → Option Mem_
  | 0, _, _, _, _, _ => none
  | fuel + 1, M, x0, x1, x2, x3 =>
    if x3 ≤ x2 then
      some M
    else
      (sI_ M x0 0 x2 x1).bind fun M2 =>
      lt_ (x2 + 1) fun v3 =>
      fJ5_fill_L5 fuel M2 x0 x1 v3 x3
def fJ5_fill (M : Mem_) (a0 : Nat) (a1 : Int32) : Option Mem_ :=
  (lI_ M a0 0).bind fun v1 =>
  fJ5_fill_L5 1000 M a0 a1 0 v1
theorem kdJ5_fill : yJ5_fill.cls ≠ "java/lang/invoke/MethodHandle" ∧ yJ5_fill.cls ≠ "java/lang/invoke/VarHandle" ∧ (parseMethodDescriptor yJ5_fill.desc).map (fun d => d.parameters.length) = some 2 := by decide +kernel
set_option maxHeartbeats 4000000 in
theorem mJ5_fill (l : Launch) (G : GT_) (M : Mem_) (n : Nat) (a0 : Nat) (a1 : Int32) (M1 : Mem_) (hf : fJ5_fill M a0 a1 = some M1) : Ct_ G l yJ5_fill (ws_ yJ5_fill cJ5_fill 4 none) ({ frames := 0, cells := 0, slots := 0, locals := 0 }) 0 0 [.ref a0, .int a1] M n (none) M1 n := by
  refine en_ (by decide) (Nat.le_of_ble_eq_true rfl) ?_
  intro p e s m below meth c hx hb hr hlk hml hown hts hname hKn hH ls hl
  have hown : s.vm.findClass RJ5 = some m.cls := hown
  have hl : lv_has ls 4 [(0, .ref a0), (1, .int a1)] := hl
  have w5 : ∀ (fuel : Nat), ∀ (M : Mem_) (x0 : Nat) (x1 : Int32) (x2 : Int32) (x3 : Int32) (H : Heap) (locs : List Loc) (ls : Array Slot), St_ G n M s H locs → lv_has ls 4 [(0, .ref x0), (1, .int x1), (2, .int x2), (3, .int x3)] → fJ5_fill_L5 fuel M x0 x1 x2 x3 = some M1 → W p l e ({ frames := 0, cells := 0, slots := 0, locals := 0 } : Room) s m ([.ref a0, .int a1] : List Value).toArray below meth c H locs 0 0 (MQ below (Qc_ G (none) M1 n) ([.ref a0, .int a1] : List Value).toArray s 0 0 (fun q => G.1 ≤ q)) (F0 m 5 ls []) := by
    intro fuel
    induction fuel with
    | zero =>
      intro M x0 x1 x2 x3 H locs ls hH hl hf
      cases hf
    | succ fuel ih =>
      intro M x0 x1 x2 x3 H locs ls hH hl hf
      unfold fJ5_fill_L5 at hf
      refine lv_iload_n hx hb dJ5_fill_5 rfl (lv_at hl 2 rfl) ?_
      refine lv_iload_n hx hb dJ5_fill_6 rfl (lv_at hl 3 rfl) ?_
      refine lv_icmp_ge (tgt := 20) hx hb dJ5_fill_7 (by decide) (fun c4 => ?_) (fun c4 => ?_)
      · have hf := ip_ c4 hf
        cases hf
        exact rt_v hx hb hr hlk hH dJ5_fill_20
      · have hf := in_ c4 hf
        refine lv_aload_n hx hb dJ5_fill_10 rfl (lv_at hl 0 rfl) ?_
        refine lv_iload_n hx hb dJ5_fill_11 rfl (lv_at hl 2 rfl) ?_
        refine lv_iload_n hx hb dJ5_fill_12 rfl (lv_at hl 1 rfl) ?_
        obtain ⟨M2, eM2, hf⟩ := bs_ hf
        refine mg_iast hx hb hKn hH eM2 dJ5_fill_13 (fun H locs hH => ?_)
        obtain ⟨v3, ev3⟩ : ∃ z : Int32, z = x2 + 1 := ⟨_, rfl⟩
        have hf := lu_ ev3 hf
        refine lv_iinc (v := v3) (lv' := [(2, .int v3), (0, .ref x0), (1, .int x1), (3, .int x3)]) hx hb dJ5_fill_14 hl (k := 2) rfl (by rw [ev3]; rfl) (by decide) rfl (fun ls hl => ?_)
        refine lv_goto (tgt := 5) hx hb dJ5_fill_17 (by decide) ?_
        exact ih M2 x0 x1 v3 x3 _ _ ls hH (lv_sub hl [1, 2, 0, 3] rfl) hf
  unfold fJ5_fill at hf
  refine lv_iconst (v := 0) hx hb dJ5_fill_0 (by decide) ?_
  refine lv_istore_n (lv' := [(2, .int 0), (0, .ref a0), (1, .int a1)]) hx hb dJ5_fill_1 rfl hl (by decide) rfl (fun ls hl => ?_)
  refine lv_aload_n hx hb dJ5_fill_2 rfl (lv_at hl 1 rfl) ?_
  obtain ⟨v1, ev1, hf⟩ := bs_ hf
  refine mg_len0 hx hb hKn hH ev1 dJ5_fill_3 ?_
  refine lv_istore_n (lv' := [(3, .int v1), (2, .int 0), (0, .ref a0), (1, .int a1)]) hx hb dJ5_fill_4 rfl hl (by decide) rfl (fun ls hl => ?_)
  exact w5 1000 M a0 a1 0 v1 _ _ ls hH (lv_sub hl [2, 3, 1, 0] rfl) hf
def fJ7_compare (a0 : Int32) (a1 : Int32) : Int32 :=
  if a1 ≤ a0 then
    if a0 = a1 then
      0
    else
      1
  else
    (-1)
theorem kdJ7_compare : yJ7_compare.cls ≠ "java/lang/invoke/MethodHandle" ∧ yJ7_compare.cls ≠ "java/lang/invoke/VarHandle" ∧ (parseMethodDescriptor yJ7_compare.desc).map (fun d => d.parameters.length) = some 2 := by decide +kernel
set_option maxHeartbeats 4000000 in
theorem mJ7_compare (l : Launch) (G : GT_) (M : Mem_) (n : Nat) (a0 : Int32) (a1 : Int32) (r : Int32) (hf : fJ7_compare a0 a1 = r) : Ct_ G l yJ7_compare (ws_ yJ7_compare cJ7_compare 2 (some .int)) ({ frames := 0, cells := 0, slots := 0, locals := 0 }) 0 0 [.int a0, .int a1] M n (some (.int r)) M n := by
  refine en_ (by decide) (Nat.le_of_ble_eq_true rfl) ?_
  intro p e s m below meth c hx hb hr hlk hml hown hts hname hKn hH ls hl
  have hown : s.vm.findClass RJ7 = some m.cls := hown
  have hl : lv_has ls 2 [(0, .int a0), (1, .int a1)] := hl
  unfold fJ7_compare at hf
  generalize s.heap = H at hH ⊢
  refine lv_iload_n hx hb dJ7_compare_0 rfl (lv_at hl 0 rfl) ?_
  refine lv_iload_n hx hb dJ7_compare_1 rfl (lv_at hl 1 rfl) ?_
  refine lv_icmp_ge (tgt := 9) hx hb dJ7_compare_2 (by decide) (fun c2 => ?_) (fun c2 => ?_)
  · have hf := ip_ c2 hf
    refine lv_iload_n hx hb dJ7_compare_9 rfl (lv_at hl 0 rfl) ?_
    refine lv_iload_n hx hb dJ7_compare_10 rfl (lv_at hl 1 rfl) ?_
    refine lv_icmp_ne (tgt := 18) hx hb dJ7_compare_11 (by decide) (fun c1 => ?_) (fun c1 => ?_)
    · have hf := in_ c1 hf
      refine lv_iconst (v := 1) hx hb dJ7_compare_18 (by decide) ?_
      subst hf
      exact rt_i hx hb hr hlk hH dJ7_compare_19
    · have hf := ip_ c1 hf
      refine lv_iconst (v := 0) hx hb dJ7_compare_14 (by decide) ?_
      refine lv_goto (tgt := 19) hx hb dJ7_compare_15 (by decide) ?_
      subst hf
      exact rt_i hx hb hr hlk hH dJ7_compare_19
  · have hf := in_ c2 hf
    refine lv_iconst (v := (-1)) hx hb dJ7_compare_5 (by decide) ?_
    refine lv_goto (tgt := 19) hx hb dJ7_compare_6 (by decide) ?_
    subst hf
    exact rt_i hx hb hr hlk hH dJ7_compare_19
def fX1_isIn (a0 : Int32) (a1 : Int32) (a2 : Int32) : Bool :=
  if a0 < a1 then
    false
  else
    if a2 < a0 then
      false
    else
      true
theorem kdX1_isIn : yX1_isIn.cls ≠ "java/lang/invoke/MethodHandle" ∧ yX1_isIn.cls ≠ "java/lang/invoke/VarHandle" ∧ (parseMethodDescriptor yX1_isIn.desc).map (fun d => d.parameters.length) = some 3 := by decide +kernel
set_option maxHeartbeats 4000000 in
theorem mX1_isIn (l : Launch) (G : GT_) (M : Mem_) (n : Nat) (a0 : Int32) (a1 : Int32) (a2 : Int32) (r : Bool) (hf : fX1_isIn a0 a1 a2 = r) : Ct_ G l yX1_isIn (ws_ yX1_isIn cX1_isIn 3 (some .boolean)) ({ frames := 0, cells := 0, slots := 0, locals := 0 }) 0 0 [.int a0, .int a1, .int a2] M n (some (.int (b2_ r))) M n := by
  refine en_ (by decide) (Nat.le_of_ble_eq_true rfl) ?_
  intro p e s m below meth c hx hb hr hlk hml hown hts hname hKn hH ls hl
  have hown : s.vm.findClass RX1 = some m.cls := hown
  have hl : lv_has ls 3 [(0, .int a0), (1, .int a1), (2, .int a2)] := hl
  unfold fX1_isIn at hf
  generalize s.heap = H at hH ⊢
  refine lv_iload_n hx hb dX1_isIn_0 rfl (lv_at hl 0 rfl) ?_
  refine lv_iload_n hx hb dX1_isIn_1 rfl (lv_at hl 1 rfl) ?_
  refine lv_icmp_lt (tgt := 14) hx hb dX1_isIn_2 (by decide) (fun c2 => ?_) (fun c2 => ?_)
  · have hf := ip_ c2 hf
    refine lv_iconst (v := 0) hx hb dX1_isIn_14 (by decide) ?_
    subst hf
    exact rt_b (b := false) hx hb hr hlk hH dX1_isIn_15
  · have hf := in_ c2 hf
    refine lv_iload_n hx hb dX1_isIn_5 rfl (lv_at hl 0 rfl) ?_
    refine lv_iload_n hx hb dX1_isIn_6 rfl (lv_at hl 2 rfl) ?_
    refine lv_icmp_gt (tgt := 14) hx hb dX1_isIn_7 (by decide) (fun c1 => ?_) (fun c1 => ?_)
    · have hf := ip_ c1 hf
      refine lv_iconst (v := 0) hx hb dX1_isIn_14 (by decide) ?_
      subst hf
      exact rt_b (b := false) hx hb hr hlk hH dX1_isIn_15
    · have hf := in_ c1 hf
      refine lv_iconst (v := 1) hx hb dX1_isIn_10 (by decide) ?_
      refine lv_goto (tgt := 15) hx hb dX1_isIn_11 (by decide) ?_
      subst hf
      exact rt_b (b := true) hx hb hr hlk hH dX1_isIn_15
def fX1_isShelf (a0 : Nat) (a1 : Int32) : Bool :=
  lt_ (fX1_isIn a1 0 7) fun r1 =>
  r1
theorem kdX1_isShelf : yX1_isShelf.cls ≠ "java/lang/invoke/MethodHandle" ∧ yX1_isShelf.cls ≠ "java/lang/invoke/VarHandle" ∧ (parseMethodDescriptor yX1_isShelf.desc).map (fun d => d.parameters.length) = some 1 := by decide +kernel
set_option maxHeartbeats 4000000 in
theorem mX1_isShelf (l : Launch) (G : GT_) (M : Mem_) (n : Nat) (a0 : Nat) (a1 : Int32) (r : Bool) (hf : fX1_isShelf a0 a1 = r) : Ct_ G l yX1_isShelf (ws_ yX1_isShelf cX1_isShelf 2 (some .boolean)) ({ frames := 1, cells := 0, slots := 0, locals := 22 }) 0 0 [.ref a0, .int a1] M n (some (.int (b2_ r))) M n := by
  refine en_ (by decide) (Nat.le_of_ble_eq_true rfl) ?_
  intro p e s m below meth c hx hb hr hlk hml hown hts hname hKn hH ls hl
  have hown : s.vm.findClass RX1 = some m.cls := hown
  have hl : lv_has ls 2 [(0, .ref a0), (1, .int a1)] := hl
  unfold fX1_isShelf at hf
  generalize s.heap = H at hH ⊢
  refine lv_iload_n hx hb dX1_isShelf_0 rfl (lv_at hl 1 rfl) ?_
  refine lv_iconst (v := 0) hx hb dX1_isShelf_1 (by decide) ?_
  refine lv_bipush (v := 7) hx hb dX1_isShelf_2 (by decide) ?_
  obtain ⟨r1, er1⟩ : ∃ z, z = fX1_isIn a1 0 7 := ⟨_, rfl⟩
  have hf := lu_ er1 hf
  refine cl_i0 hH (rn_S ⟨hx, hb, hml, hown, hts⟩ hKn hH (mX1_isIn l G M n a1 0 7 r1 er1.symm) (va_cwS 3 hts (lw_S q199 q200 q67 q201) rfl rfl rfl kdX1_isIn ⟨Nat.le_of_ble_eq_true rfl, Nat.le_of_ble_eq_true rfl⟩) rfl hl.1 (Nat.le_of_ble_eq_true rfl) dX1_isShelf_4 ⟨(Nat.le_of_ble_eq_true rfl), (Nat.le_of_ble_eq_true rfl)⟩ rfl) (fun H locs hH => ?_)
  subst hf
  exact rt_b (b := _) hx hb hr hlk hH dX1_isShelf_7
def fX5_init (M : Mem_) (a0 : Nat) (a1 : Nat) : Option Mem_ :=
  (pF_ M a0 4 0 (.ref a1)).bind fun M1 =>
  some M1
theorem kdX5_init : yX5_init.cls ≠ "java/lang/invoke/MethodHandle" ∧ yX5_init.cls ≠ "java/lang/invoke/VarHandle" ∧ (parseMethodDescriptor yX5_init.desc).map (fun d => d.parameters.length) = some 1 := by decide +kernel
set_option maxHeartbeats 4000000 in
theorem mX5_init (l : Launch) (G : GT_) (M : Mem_) (n : Nat) (a0 : Nat) (a1 : Nat) (M1 : Mem_) (hf : fX5_init M a0 a1 = some M1) : Ct_ G l yX5_init (ws_ yX5_init cX5_init 2 none) ({ frames := 1, cells := 0, slots := 0, locals := 12 }) 0 0 [.ref a0, .ref a1] M n (none) M1 n := by
  refine en_ (by decide) (Nat.le_of_ble_eq_true rfl) ?_
  intro p e s m below meth c hx hb hr hlk hml hown hts hname hKn hH ls hl
  have hown : s.vm.findClass RX5 = some m.cls := hown
  have hl : lv_has ls 2 [(0, .ref a0), (1, .ref a1)] := hl
  unfold fX5_init at hf
  generalize s.heap = H at hH ⊢
  refine lv_aload_n hx hb dX5_init_0 rfl (lv_at hl 0 rfl) ?_
  refine W.objInit hx hb hown (hts _ q212) (hts _ q116) (hts _ q117) rfl (by rw [hml]; exact hl.1) rfl dX5_init_1 (Nat.le_of_ble_eq_true rfl) (Nat.le_of_ble_eq_true rfl) ?_
  refine W.eq (g2 := F0 m 4 ls []) rfl ?_
  refine lv_aload_n hx hb dX5_init_4 rfl (lv_at hl 0 rfl) ?_
  refine lv_aload_n hx hb dX5_init_5 rfl (lv_at hl 1 rfl) ?_
  obtain ⟨M1, eM1, hf⟩ := bs_ hf
  refine mg_pFF hx hb hts hown hKn hH eM1 in_X5 tyX5_ok nmX5 rfl (by decide) (hts _ q213) (fun _ h9 => h9) rfl hname rfl rfl rfl dX5_init_6 (fun H locs hH => ?_)
  cases hf
  exact rt_v hx hb hr hlk hH dX5_init_9
def fX5_sign (M : Mem_) (a0 : Nat) : Option Int32 :=
  (gI_ M a0 4 1).bind fun v1 =>
  (gR_ M a0 4 0).bind fun v2 =>
  (lI_ M v2 1).bind fun v3 =>
  if v3 ≤ v1 then
    some (-1)
  else
    (gR_ M a0 4 0).bind fun v4 =>
    (gI_ M a0 4 1).bind fun v5 =>
    (aI_ M v4 1 v5).bind fun v6 =>
    some v6
theorem kdX5_sign : yX5_sign.cls ≠ "java/lang/invoke/MethodHandle" ∧ yX5_sign.cls ≠ "java/lang/invoke/VarHandle" ∧ (parseMethodDescriptor yX5_sign.desc).map (fun d => d.parameters.length) = some 0 := by decide +kernel
set_option maxHeartbeats 4000000 in
theorem mX5_sign (l : Launch) (G : GT_) (M : Mem_) (n : Nat) (a0 : Nat) (r : Int32) (hf : fX5_sign M a0 = some r) : Ct_ G l yX5_sign (ws_ yX5_sign cX5_sign 1 (some .int)) ({ frames := 0, cells := 0, slots := 0, locals := 0 }) 0 0 [.ref a0] M n (some (.int r)) M n := by
  refine en_ (by decide) (Nat.le_of_ble_eq_true rfl) ?_
  intro p e s m below meth c hx hb hr hlk hml hown hts hname hKn hH ls hl
  have hown : s.vm.findClass RX5 = some m.cls := hown
  have hl : lv_has ls 1 [(0, .ref a0)] := hl
  unfold fX5_sign at hf
  generalize s.heap = H at hH ⊢
  refine lv_aload_n hx hb dX5_sign_0 rfl (lv_at hl 0 rfl) ?_
  obtain ⟨v1, ev1, hf⟩ := bs_ hf
  refine mg_gI hx hb hts hown hKn hH ev1 in_X5 rfl (by decide) (hts _ q214) (fun _ h9 => h9) dX5_sign_1 ?_
  refine lv_aload_n hx hb dX5_sign_4 rfl (lv_at hl 0 rfl) ?_
  obtain ⟨v2, ev2, hf⟩ := bs_ hf
  refine mg_gR hx hb hts hown hKn hH ev2 in_X5 rfl (by decide) (hts _ q213) (fun _ h9 => h9) dX5_sign_5 ?_
  obtain ⟨v3, ev3, hf⟩ := bs_ hf
  refine mg_len1 hx hb hKn hH ev3 dX5_sign_8 ?_
  refine lv_icmp_ge (tgt := 24) hx hb dX5_sign_9 (by decide) (fun c7 => ?_) (fun c7 => ?_)
  · have hf := ip_ c7 hf
    refine lv_iconst (v := (-1)) hx hb dX5_sign_24 (by decide) ?_
    cases hf
    exact rt_i hx hb hr hlk hH dX5_sign_25
  · have hf := in_ c7 hf
    refine lv_aload_n hx hb dX5_sign_12 rfl (lv_at hl 0 rfl) ?_
    obtain ⟨v4, ev4, hf⟩ := bs_ hf
    refine mg_gR hx hb hts hown hKn hH ev4 in_X5 rfl (by decide) (hts _ q213) (fun _ h9 => h9) dX5_sign_13 ?_
    refine lv_aload_n hx hb dX5_sign_16 rfl (lv_at hl 0 rfl) ?_
    obtain ⟨v5, ev5, hf⟩ := bs_ hf
    refine mg_gI hx hb hts hown hKn hH ev5 in_X5 rfl (by decide) (hts _ q214) (fun _ h9 => h9) dX5_sign_17 ?_
    obtain ⟨v6, ev6, hf⟩ := bs_ hf
    refine mg_bald hx hb hKn hH ev6 dX5_sign_20 ?_
    refine lv_goto (tgt := 25) hx hb dX5_sign_21 (by decide) ?_
    cases hf
    exact rt_i hx hb hr hlk hH dX5_sign_25
def fX6_init (M : Mem_) (n : Nat) (a0 : Nat) (a1 : Int32) (a2 : Int32) : Option (Mem_ × Nat) :=
  lt_ (ms_ M n (eI_ 0 3 (fun _ => 0))) fun M1 =>
  (pF_ M1 a0 5 2 (.ref n)).bind fun M2 =>
  (pF_ M2 a0 5 0 (.int a1)).bind fun M3 =>
  (pF_ M3 a0 5 1 (.int a2)).bind fun M4 =>
  some (M4, n + 1)
theorem kdX6_init : yX6_init.cls ≠ "java/lang/invoke/MethodHandle" ∧ yX6_init.cls ≠ "java/lang/invoke/VarHandle" ∧ (parseMethodDescriptor yX6_init.desc).map (fun d => d.parameters.length) = some 2 := by decide +kernel
set_option maxHeartbeats 4000000 in
theorem mX6_init (l : Launch) (G : GT_) (M : Mem_) (n : Nat) (a0 : Nat) (a1 : Int32) (a2 : Int32) (M1 : Mem_) (n1 : Nat) (hf : fX6_init M n a0 a1 a2 = some (M1, n1)) : Ct_ G l yX6_init (ws_ yX6_init cX6_init 3 none) ({ frames := 1, cells := 1, slots := 3, locals := 12 }) 1 3 [.ref a0, .int a1, .int a2] M n (none) M1 n1 := by
  refine en_ (by decide) (Nat.le_of_ble_eq_true rfl) ?_
  intro p e s m below meth c hx hb hr hlk hml hown hts hname hKn hH ls hl
  have hown : s.vm.findClass RX6 = some m.cls := hown
  have hl : lv_has ls 3 [(0, .ref a0), (1, .int a1), (2, .int a2)] := hl
  unfold fX6_init at hf
  generalize s.heap = H at hH ⊢
  refine lv_aload_n hx hb dX6_init_0 rfl (lv_at hl 0 rfl) ?_
  refine W.objInit hx hb hown (hts _ q237) (hts _ q116) (hts _ q117) rfl (by rw [hml]; exact hl.1) rfl dX6_init_1 (Nat.le_of_ble_eq_true rfl) (Nat.le_of_ble_eq_true rfl) ?_
  refine W.eq (g2 := F0 m 4 ls []) rfl ?_
  refine lv_aload_n hx hb dX6_init_4 rfl (lv_at hl 0 rfl) ?_
  refine lv_iconst (v := 3) hx hb dX6_init_5 (by decide) ?_
  refine mg_newa hx hb hKn hH 0 (by decide) rfl (hts _ q255) (N := 3) (by decide) (by decide) (by decide) (Nat.le_of_ble_eq_true rfl) (Nat.le_of_ble_eq_true rfl) dX6_init_6 (fun H hH => ?_)
  obtain ⟨M1, eM1⟩ : ∃ z : Mem_, z = ms_ M n (eI_ 0 3 (fun _ => 0)) := ⟨_, rfl⟩
  have hf := lu_ eM1 hf
  have hH := st_eq eM1 hH
  refine W.widen (k := 1) (n := 3) (Nat.le_of_ble_eq_true rfl) (Nat.le_of_ble_eq_true rfl) ?_
  obtain ⟨M2, eM2, hf⟩ := bs_ hf
  refine mg_pFF hx hb hts hown hKn hH eM2 in_X6 tyX6_ok nmX6 rfl (by decide) (hts _ q243) (fun _ h9 => h9) rfl hname rfl rfl rfl dX6_init_8 (fun H locs hH => ?_)
  refine lv_aload_n hx hb dX6_init_11 rfl (lv_at hl 0 rfl) ?_
  refine lv_iload_n hx hb dX6_init_12 rfl (lv_at hl 1 rfl) ?_
  obtain ⟨M3, eM3, hf⟩ := bs_ hf
  refine mg_pFF hx hb hts hown hKn hH eM3 in_X6 tyX6_ok nmX6 rfl (by decide) (hts _ q238) (fun _ h9 => h9) rfl hname rfl rfl rfl dX6_init_13 (fun H locs hH => ?_)
  refine lv_aload_n hx hb dX6_init_16 rfl (lv_at hl 0 rfl) ?_
  refine lv_iload_n hx hb dX6_init_17 rfl (lv_at hl 2 rfl) ?_
  obtain ⟨M4, eM4, hf⟩ := bs_ hf
  refine mg_pFF hx hb hts hown hKn hH eM4 in_X6 tyX6_ok nmX6 rfl (by decide) (hts _ q241) (fun _ h9 => h9) rfl hname rfl rfl rfl dX6_init_18 (fun H locs hH => ?_)
  cases hf
  refine W.widen (k := 1) (n := 3) (Nat.le_of_ble_eq_true rfl) (Nat.le_of_ble_eq_true rfl) ?_
  exact rt_v hx hb hr hlk hH dX6_init_21
def fX6_tells (M : Mem_) (a0 : Nat) (a1 : Int32) : Option Mem_ :=
  (gR_ M a0 5 2).bind fun v1 =>
  (gI_ M a0 5 3).bind fun v2 =>
  (sI_ M v1 0 v2 a1).bind fun M3 =>
  (gI_ M3 a0 5 3).bind fun v4 =>
  lt_ ((v4 + 1)) fun v5 =>
  (pF_ M3 a0 5 3 (.int v5)).bind fun M6 =>
  some M6
theorem kdX6_tells : yX6_tells.cls ≠ "java/lang/invoke/MethodHandle" ∧ yX6_tells.cls ≠ "java/lang/invoke/VarHandle" ∧ (parseMethodDescriptor yX6_tells.desc).map (fun d => d.parameters.length) = some 1 := by decide +kernel
set_option maxHeartbeats 4000000 in
theorem mX6_tells (l : Launch) (G : GT_) (M : Mem_) (n : Nat) (a0 : Nat) (a1 : Int32) (M1 : Mem_) (hf : fX6_tells M a0 a1 = some M1) : Ct_ G l yX6_tells (ws_ yX6_tells cX6_tells 2 none) ({ frames := 0, cells := 0, slots := 0, locals := 0 }) 0 0 [.ref a0, .int a1] M n (none) M1 n := by
  refine en_ (by decide) (Nat.le_of_ble_eq_true rfl) ?_
  intro p e s m below meth c hx hb hr hlk hml hown hts hname hKn hH ls hl
  have hown : s.vm.findClass RX6 = some m.cls := hown
  have hl : lv_has ls 2 [(0, .ref a0), (1, .int a1)] := hl
  unfold fX6_tells at hf
  generalize s.heap = H at hH ⊢
  refine lv_aload_n hx hb dX6_tells_0 rfl (lv_at hl 0 rfl) ?_
  obtain ⟨v1, ev1, hf⟩ := bs_ hf
  refine mg_gR hx hb hts hown hKn hH ev1 in_X6 rfl (by decide) (hts _ q243) (fun _ h9 => h9) dX6_tells_1 ?_
  refine lv_aload_n hx hb dX6_tells_4 rfl (lv_at hl 0 rfl) ?_
  obtain ⟨v2, ev2, hf⟩ := bs_ hf
  refine mg_gI hx hb hts hown hKn hH ev2 in_X6 rfl (by decide) (hts _ q245) (fun _ h9 => h9) dX6_tells_5 ?_
  refine lv_iload_n hx hb dX6_tells_8 rfl (lv_at hl 1 rfl) ?_
  obtain ⟨M3, eM3, hf⟩ := bs_ hf
  refine mg_iast hx hb hKn hH eM3 dX6_tells_9 (fun H locs hH => ?_)
  refine lv_aload_n hx hb dX6_tells_10 rfl (lv_at hl 0 rfl) ?_
  refine lv_dup hx hb dX6_tells_11 rfl ?_
  obtain ⟨v4, ev4, hf⟩ := bs_ hf
  refine mg_gI hx hb hts hown hKn hH ev4 in_X6 rfl (by decide) (hts _ q245) (fun _ h9 => h9) dX6_tells_12 ?_
  refine lv_iconst (v := 1) hx hb dX6_tells_15 (by decide) ?_
  refine lv_iadd hx hb dX6_tells_16 ?_
  refine lv_topi (fun v5 ev5 => ?_)
  have hf := lu_ ev5 hf
  obtain ⟨M6, eM6, hf⟩ := bs_ hf
  refine mg_pF hx hb hts hown hKn hH eM6 in_X6 tyX6_ok nmX6 rfl (by decide) (hts _ q245) (fun _ h9 => h9) rfl rfl rfl dX6_tells_17 (fun H locs hH => ?_)
  cases hf
  exact rt_v hx hb hr hlk hH dX6_tells_20
def fX2_copies (M : Mem_) (a0 : Nat) (a1 : Nat) : Option Mem_ :=
  (lI_ M a1 0).bind fun v1 =>
  (cI_ M a0 0 0 a1 0 v1).bind fun M2 =>
  some M2
theorem kdX2_copies : yX2_copies.cls ≠ "java/lang/invoke/MethodHandle" ∧ yX2_copies.cls ≠ "java/lang/invoke/VarHandle" ∧ (parseMethodDescriptor yX2_copies.desc).map (fun d => d.parameters.length) = some 2 := by decide +kernel
set_option maxHeartbeats 4000000 in
theorem mX2_copies (l : Launch) (G : GT_) (M : Mem_) (n : Nat) (a0 : Nat) (a1 : Nat) (M1 : Mem_) (hf : fX2_copies M a0 a1 = some M1) : Ct_ G l yX2_copies (ws_ yX2_copies cX2_copies 2 none) ({ frames := 1, cells := 0, slots := 0, locals := 18 }) 0 0 [.ref a0, .ref a1] M n (none) M1 n := by
  refine en_ (by decide) (Nat.le_of_ble_eq_true rfl) ?_
  intro p e s m below meth c hx hb hr hlk hml hown hts hname hKn hH ls hl
  have hown : s.vm.findClass RX2 = some m.cls := hown
  have hl : lv_has ls 2 [(0, .ref a0), (1, .ref a1)] := hl
  unfold fX2_copies at hf
  generalize s.heap = H at hH ⊢
  refine lv_aload_n hx hb dX2_copies_0 rfl (lv_at hl 0 rfl) ?_
  refine lv_iconst (v := 0) hx hb dX2_copies_1 (by decide) ?_
  refine lv_aload_n hx hb dX2_copies_2 rfl (lv_at hl 1 rfl) ?_
  refine lv_iconst (v := 0) hx hb dX2_copies_3 (by decide) ?_
  refine lv_aload_n hx hb dX2_copies_4 rfl (lv_at hl 1 rfl) ?_
  obtain ⟨v1, ev1, hf⟩ := bs_ hf
  refine mg_len0 hx hb hKn hH ev1 dX2_copies_5 ?_
  obtain ⟨M2, eM2, hf⟩ := bs_ hf
  refine mg_cpI hx hb (by rw [hml, hl.1]) hown (hts _ q303) (hts _ q305) (hts _ q304) (hts _ q79) hKn hH (by decide) eM2 (Nat.le_of_ble_eq_true rfl) (Nat.le_of_ble_eq_true rfl) dX2_copies_6 (fun H locs hH => ?_)
  cases hf
  exact rt_v hx hb hr hlk hH dX2_copies_9
def fX2_takes (M : Mem_) (a0 : Nat) (a1 : Nat) : Option Mem_ :=
  (gR_ M a1 1 0).bind fun v1 =>
  (gR_ M a0 1 0).bind fun v2 =>
  (cS_ M v1 0 v2 0 8).bind fun M3 =>
  (gR_ M3 a1 1 1).bind fun v4 =>
  (gR_ M3 a0 1 1).bind fun v5 =>
  (fX2_copies M3 v4 v5).bind fun M7 =>
  (gR_ M7 a1 1 2).bind fun v8 =>
  (gR_ M7 a0 1 2).bind fun v9 =>
  (fX2_copies M7 v8 v9).bind fun M11 =>
  (gR_ M11 a1 1 3).bind fun v12 =>
  (gR_ M11 a0 1 3).bind fun v13 =>
  (fX2_copies M11 v12 v13).bind fun M15 =>
  (gR_ M15 a1 1 4).bind fun v16 =>
  (gR_ M15 a0 1 4).bind fun v17 =>
  (fX2_copies M15 v16 v17).bind fun M19 =>
  (gR_ M19 a1 1 5).bind fun v20 =>
  (gR_ M19 a0 1 5).bind fun v21 =>
  (fX2_copies M19 v20 v21).bind fun M23 =>
  (gR_ M23 a1 1 6).bind fun v24 =>
  (gR_ M23 a0 1 6).bind fun v25 =>
  (fX2_copies M23 v24 v25).bind fun M27 =>
  (gR_ M27 a0 1 7).bind fun v28 =>
  (fJ5_fill M27 v28 0).bind fun M30 =>
  (gI_ M30 a1 1 8).bind fun v31 =>
  (pF_ M30 a0 1 8 (.int v31)).bind fun M32 =>
  (gI_ M32 a1 1 9).bind fun v33 =>
  (pF_ M32 a0 1 9 (.int v33)).bind fun M34 =>
  (gI_ M34 a1 1 10).bind fun v35 =>
  (pF_ M34 a0 1 10 (.int v35)).bind fun M36 =>
  (gI_ M36 a1 1 11).bind fun v37 =>
  (pF_ M36 a0 1 11 (.int v37)).bind fun M38 =>
  (gI_ M38 a1 1 12).bind fun v39 =>
  (pF_ M38 a0 1 12 (.int v39)).bind fun M40 =>
  some M40
theorem kdX2_takes : yX2_takes.cls ≠ "java/lang/invoke/MethodHandle" ∧ yX2_takes.cls ≠ "java/lang/invoke/VarHandle" ∧ (parseMethodDescriptor yX2_takes.desc).map (fun d => d.parameters.length) = some 1 := by decide +kernel
set_option maxHeartbeats 4000000 in
theorem mX2_takes (l : Launch) (G : GT_) (M : Mem_) (n : Nat) (a0 : Nat) (a1 : Nat) (M1 : Mem_) (hf : fX2_takes M a0 a1 = some M1) : Ct_ G l yX2_takes (ws_ yX2_takes cX2_takes 2 none) ({ frames := 2, cells := 0, slots := 0, locals := 39 }) 0 0 [.ref a0, .ref a1] M n (none) M1 n := by
  refine en_ (by decide) (Nat.le_of_ble_eq_true rfl) ?_
  intro p e s m below meth c hx hb hr hlk hml hown hts hname hKn hH ls hl
  have hown : s.vm.findClass RX2 = some m.cls := hown
  have hl : lv_has ls 2 [(0, .ref a0), (1, .ref a1)] := hl
  unfold fX2_takes at hf
  generalize s.heap = H at hH ⊢
  refine lv_aload_n hx hb dX2_takes_0 rfl (lv_at hl 1 rfl) ?_
  obtain ⟨v1, ev1, hf⟩ := bs_ hf
  refine mg_gR hx hb hts hown hKn hH ev1 in_X2 rfl (by decide) (hts _ q871) (fun _ h9 => h9) dX2_takes_1 ?_
  refine lv_iconst (v := 0) hx hb dX2_takes_4 (by decide) ?_
  refine lv_aload_n hx hb dX2_takes_5 rfl (lv_at hl 0 rfl) ?_
  obtain ⟨v2, ev2, hf⟩ := bs_ hf
  refine mg_gR hx hb hts hown hKn hH ev2 in_X2 rfl (by decide) (hts _ q871) (fun _ h9 => h9) dX2_takes_6 ?_
  refine lv_iconst (v := 0) hx hb dX2_takes_9 (by decide) ?_
  refine lv_bipush (v := 8) hx hb dX2_takes_10 (by decide) ?_
  obtain ⟨M3, eM3, hf⟩ := bs_ hf
  refine mg_cpS hx hb (by rw [hml, hl.1]) hown (hts _ q303) (hts _ q305) (hts _ q304) (hts _ q79) hKn hH eM3 (Nat.le_of_ble_eq_true rfl) (Nat.le_of_ble_eq_true rfl) dX2_takes_12 (fun H locs hH => ?_)
  refine lv_aload_n hx hb dX2_takes_15 rfl (lv_at hl 1 rfl) ?_
  obtain ⟨v4, ev4, hf⟩ := bs_ hf
  refine mg_gR hx hb hts hown hKn hH ev4 in_X2 rfl (by decide) (hts _ q873) (fun _ h9 => h9) dX2_takes_16 ?_
  refine lv_aload_n hx hb dX2_takes_19 rfl (lv_at hl 0 rfl) ?_
  obtain ⟨v5, ev5, hf⟩ := bs_ hf
  refine mg_gR hx hb hts hown hKn hH ev5 in_X2 rfl (by decide) (hts _ q873) (fun _ h9 => h9) dX2_takes_20 ?_
  obtain ⟨M7, er6, hf⟩ := bs_ hf
  refine cl_v0 hH (rn_S ⟨hx, hb, hml, hown, hts⟩ hKn hH (mX2_copies l G M3 n v4 v5 M7 er6) (va_cwS 2 hts (lw_S q306 q307 q68 q308) rfl rfl rfl kdX2_copies ⟨Nat.le_of_ble_eq_true rfl, Nat.le_of_ble_eq_true rfl⟩) rfl hl.1 (Nat.le_of_ble_eq_true rfl) dX2_takes_23 ⟨(Nat.le_of_ble_eq_true rfl), (Nat.le_of_ble_eq_true rfl)⟩ rfl) (fun H locs hH => ?_)
  refine lv_aload_n hx hb dX2_takes_26 rfl (lv_at hl 1 rfl) ?_
  obtain ⟨v8, ev8, hf⟩ := bs_ hf
  refine mg_gR hx hb hts hown hKn hH ev8 in_X2 rfl (by decide) (hts _ q875) (fun _ h9 => h9) dX2_takes_27 ?_
  refine lv_aload_n hx hb dX2_takes_30 rfl (lv_at hl 0 rfl) ?_
  obtain ⟨v9, ev9, hf⟩ := bs_ hf
  refine mg_gR hx hb hts hown hKn hH ev9 in_X2 rfl (by decide) (hts _ q875) (fun _ h9 => h9) dX2_takes_31 ?_
  obtain ⟨M11, er10, hf⟩ := bs_ hf
  refine cl_v0 hH (rn_S ⟨hx, hb, hml, hown, hts⟩ hKn hH (mX2_copies l G M7 n v8 v9 M11 er10) (va_cwS 2 hts (lw_S q306 q307 q68 q308) rfl rfl rfl kdX2_copies ⟨Nat.le_of_ble_eq_true rfl, Nat.le_of_ble_eq_true rfl⟩) rfl hl.1 (Nat.le_of_ble_eq_true rfl) dX2_takes_34 ⟨(Nat.le_of_ble_eq_true rfl), (Nat.le_of_ble_eq_true rfl)⟩ rfl) (fun H locs hH => ?_)
  refine lv_aload_n hx hb dX2_takes_37 rfl (lv_at hl 1 rfl) ?_
  obtain ⟨v12, ev12, hf⟩ := bs_ hf
  refine mg_gR hx hb hts hown hKn hH ev12 in_X2 rfl (by decide) (hts _ q877) (fun _ h9 => h9) dX2_takes_38 ?_
  refine lv_aload_n hx hb dX2_takes_41 rfl (lv_at hl 0 rfl) ?_
  obtain ⟨v13, ev13, hf⟩ := bs_ hf
  refine mg_gR hx hb hts hown hKn hH ev13 in_X2 rfl (by decide) (hts _ q877) (fun _ h9 => h9) dX2_takes_42 ?_
  obtain ⟨M15, er14, hf⟩ := bs_ hf
  refine cl_v0 hH (rn_S ⟨hx, hb, hml, hown, hts⟩ hKn hH (mX2_copies l G M11 n v12 v13 M15 er14) (va_cwS 2 hts (lw_S q306 q307 q68 q308) rfl rfl rfl kdX2_copies ⟨Nat.le_of_ble_eq_true rfl, Nat.le_of_ble_eq_true rfl⟩) rfl hl.1 (Nat.le_of_ble_eq_true rfl) dX2_takes_45 ⟨(Nat.le_of_ble_eq_true rfl), (Nat.le_of_ble_eq_true rfl)⟩ rfl) (fun H locs hH => ?_)
  refine lv_aload_n hx hb dX2_takes_48 rfl (lv_at hl 1 rfl) ?_
  obtain ⟨v16, ev16, hf⟩ := bs_ hf
  refine mg_gR hx hb hts hown hKn hH ev16 in_X2 rfl (by decide) (hts _ q879) (fun _ h9 => h9) dX2_takes_49 ?_
  refine lv_aload_n hx hb dX2_takes_52 rfl (lv_at hl 0 rfl) ?_
  obtain ⟨v17, ev17, hf⟩ := bs_ hf
  refine mg_gR hx hb hts hown hKn hH ev17 in_X2 rfl (by decide) (hts _ q879) (fun _ h9 => h9) dX2_takes_53 ?_
  obtain ⟨M19, er18, hf⟩ := bs_ hf
  refine cl_v0 hH (rn_S ⟨hx, hb, hml, hown, hts⟩ hKn hH (mX2_copies l G M15 n v16 v17 M19 er18) (va_cwS 2 hts (lw_S q306 q307 q68 q308) rfl rfl rfl kdX2_copies ⟨Nat.le_of_ble_eq_true rfl, Nat.le_of_ble_eq_true rfl⟩) rfl hl.1 (Nat.le_of_ble_eq_true rfl) dX2_takes_56 ⟨(Nat.le_of_ble_eq_true rfl), (Nat.le_of_ble_eq_true rfl)⟩ rfl) (fun H locs hH => ?_)
  refine lv_aload_n hx hb dX2_takes_59 rfl (lv_at hl 1 rfl) ?_
  obtain ⟨v20, ev20, hf⟩ := bs_ hf
  refine mg_gR hx hb hts hown hKn hH ev20 in_X2 rfl (by decide) (hts _ q881) (fun _ h9 => h9) dX2_takes_60 ?_
  refine lv_aload_n hx hb dX2_takes_63 rfl (lv_at hl 0 rfl) ?_
  obtain ⟨v21, ev21, hf⟩ := bs_ hf
  refine mg_gR hx hb hts hown hKn hH ev21 in_X2 rfl (by decide) (hts _ q881) (fun _ h9 => h9) dX2_takes_64 ?_
  obtain ⟨M23, er22, hf⟩ := bs_ hf
  refine cl_v0 hH (rn_S ⟨hx, hb, hml, hown, hts⟩ hKn hH (mX2_copies l G M19 n v20 v21 M23 er22) (va_cwS 2 hts (lw_S q306 q307 q68 q308) rfl rfl rfl kdX2_copies ⟨Nat.le_of_ble_eq_true rfl, Nat.le_of_ble_eq_true rfl⟩) rfl hl.1 (Nat.le_of_ble_eq_true rfl) dX2_takes_67 ⟨(Nat.le_of_ble_eq_true rfl), (Nat.le_of_ble_eq_true rfl)⟩ rfl) (fun H locs hH => ?_)
  refine lv_aload_n hx hb dX2_takes_70 rfl (lv_at hl 1 rfl) ?_
  obtain ⟨v24, ev24, hf⟩ := bs_ hf
  refine mg_gR hx hb hts hown hKn hH ev24 in_X2 rfl (by decide) (hts _ q883) (fun _ h9 => h9) dX2_takes_71 ?_
  refine lv_aload_n hx hb dX2_takes_74 rfl (lv_at hl 0 rfl) ?_
  obtain ⟨v25, ev25, hf⟩ := bs_ hf
  refine mg_gR hx hb hts hown hKn hH ev25 in_X2 rfl (by decide) (hts _ q883) (fun _ h9 => h9) dX2_takes_75 ?_
  obtain ⟨M27, er26, hf⟩ := bs_ hf
  refine cl_v0 hH (rn_S ⟨hx, hb, hml, hown, hts⟩ hKn hH (mX2_copies l G M23 n v24 v25 M27 er26) (va_cwS 2 hts (lw_S q306 q307 q68 q308) rfl rfl rfl kdX2_copies ⟨Nat.le_of_ble_eq_true rfl, Nat.le_of_ble_eq_true rfl⟩) rfl hl.1 (Nat.le_of_ble_eq_true rfl) dX2_takes_78 ⟨(Nat.le_of_ble_eq_true rfl), (Nat.le_of_ble_eq_true rfl)⟩ rfl) (fun H locs hH => ?_)
  refine lv_aload_n hx hb dX2_takes_81 rfl (lv_at hl 0 rfl) ?_
  obtain ⟨v28, ev28, hf⟩ := bs_ hf
  refine mg_gR hx hb hts hown hKn hH ev28 in_X2 rfl (by decide) (hts _ q885) (fun _ h9 => h9) dX2_takes_82 ?_
  refine lv_iconst (v := 0) hx hb dX2_takes_85 (by decide) ?_
  obtain ⟨M30, er29, hf⟩ := bs_ hf
  refine cl_v0 hH (rn_S ⟨hx, hb, hml, hown, hts⟩ hKn hH (mJ5_fill l G M27 n v28 0 M30 er29) (va_cwS 2 hts (lw_S q309 q310 q80 q311) rfl rfl rfl kdJ5_fill ⟨Nat.le_of_ble_eq_true rfl, Nat.le_of_ble_eq_true rfl⟩) rfl hl.1 (Nat.le_of_ble_eq_true rfl) dX2_takes_86 ⟨(Nat.le_of_ble_eq_true rfl), (Nat.le_of_ble_eq_true rfl)⟩ rfl) (fun H locs hH => ?_)
  refine lv_aload_n hx hb dX2_takes_89 rfl (lv_at hl 0 rfl) ?_
  refine lv_aload_n hx hb dX2_takes_90 rfl (lv_at hl 1 rfl) ?_
  obtain ⟨v31, ev31, hf⟩ := bs_ hf
  refine mg_gI hx hb hts hown hKn hH ev31 in_X2 rfl (by decide) (hts _ q887) (fun _ h9 => h9) dX2_takes_91 ?_
  obtain ⟨M32, eM32, hf⟩ := bs_ hf
  refine mg_pF hx hb hts hown hKn hH eM32 in_X2 tyX2_ok nmX2 rfl (by decide) (hts _ q887) (fun _ h9 => h9) rfl rfl rfl dX2_takes_94 (fun H locs hH => ?_)
  refine lv_aload_n hx hb dX2_takes_97 rfl (lv_at hl 0 rfl) ?_
  refine lv_aload_n hx hb dX2_takes_98 rfl (lv_at hl 1 rfl) ?_
  obtain ⟨v33, ev33, hf⟩ := bs_ hf
  refine mg_gI hx hb hts hown hKn hH ev33 in_X2 rfl (by decide) (hts _ q889) (fun _ h9 => h9) dX2_takes_99 ?_
  obtain ⟨M34, eM34, hf⟩ := bs_ hf
  refine mg_pF hx hb hts hown hKn hH eM34 in_X2 tyX2_ok nmX2 rfl (by decide) (hts _ q889) (fun _ h9 => h9) rfl rfl rfl dX2_takes_102 (fun H locs hH => ?_)
  refine lv_aload_n hx hb dX2_takes_105 rfl (lv_at hl 0 rfl) ?_
  refine lv_aload_n hx hb dX2_takes_106 rfl (lv_at hl 1 rfl) ?_
  obtain ⟨v35, ev35, hf⟩ := bs_ hf
  refine mg_gI hx hb hts hown hKn hH ev35 in_X2 rfl (by decide) (hts _ q891) (fun _ h9 => h9) dX2_takes_107 ?_
  obtain ⟨M36, eM36, hf⟩ := bs_ hf
  refine mg_pF hx hb hts hown hKn hH eM36 in_X2 tyX2_ok nmX2 rfl (by decide) (hts _ q891) (fun _ h9 => h9) rfl rfl rfl dX2_takes_110 (fun H locs hH => ?_)
  refine lv_aload_n hx hb dX2_takes_113 rfl (lv_at hl 0 rfl) ?_
  refine lv_aload_n hx hb dX2_takes_114 rfl (lv_at hl 1 rfl) ?_
  obtain ⟨v37, ev37, hf⟩ := bs_ hf
  refine mg_gI hx hb hts hown hKn hH ev37 in_X2 rfl (by decide) (hts _ q893) (fun _ h9 => h9) dX2_takes_115 ?_
  obtain ⟨M38, eM38, hf⟩ := bs_ hf
  refine mg_pF hx hb hts hown hKn hH eM38 in_X2 tyX2_ok nmX2 rfl (by decide) (hts _ q893) (fun _ h9 => h9) rfl rfl rfl dX2_takes_118 (fun H locs hH => ?_)
  refine lv_aload_n hx hb dX2_takes_121 rfl (lv_at hl 0 rfl) ?_
  refine lv_aload_n hx hb dX2_takes_122 rfl (lv_at hl 1 rfl) ?_
  obtain ⟨v39, ev39, hf⟩ := bs_ hf
  refine mg_gI hx hb hts hown hKn hH ev39 in_X2 rfl (by decide) (hts _ q895) (fun _ h9 => h9) dX2_takes_123 ?_
  obtain ⟨M40, eM40, hf⟩ := bs_ hf
  refine mg_pF hx hb hts hown hKn hH eM40 in_X2 tyX2_ok nmX2 rfl (by decide) (hts _ q895) (fun _ h9 => h9) rfl rfl rfl dX2_takes_126 (fun H locs hH => ?_)
  cases hf
  exact rt_v hx hb hr hlk hH dX2_takes_129
def fX1_strokeOf (M : Mem_) (n : Nat) (a0 : Int32) (a1 : Int32) : Option (Nat × Mem_ × Nat) :=
  if a0 = 0 then
    lt_ (ms_ M n (eO_ 7 [.int 0])) fun M2 =>
    (fX8_init M2 n a1).bind fun M4 =>
    some (n, M4, n + 1)
  else
    if a0 = 1 then
      lt_ (ms_ M n (eO_ 8 [.int 0])) fun M6 =>
      (fX9_init M6 n a1).bind fun M8 =>
      some (n, M8, n + 1)
    else
      if a0 = 2 then
        lt_ (ms_ M n (eO_ 9 [.int 0])) fun M10 =>
        (fX10_init M10 n a1).bind fun M12 =>
        some (n, M12, n + 1)
      else
        if a0 = 3 then
          lt_ (ms_ M n (eO_ 10 [.int 0])) fun M14 =>
          (fX11_init M14 n a1).bind fun M16 =>
          some (n, M16, n + 1)
        else
          if a0 = 4 then
            lt_ (ms_ M n (eO_ 11 [.int 0])) fun M18 =>
            (fX12_init M18 n a1).bind fun M20 =>
            some (n, M20, n + 1)
          else
            if a0 = 5 then
              lt_ (ms_ M n (eO_ 12 [.int 0])) fun M22 =>
              (fX13_init M22 n a1).bind fun M24 =>
              some (n, M24, n + 1)
            else
              if a0 = 6 then
                lt_ (ms_ M n (eO_ 13 [.int 0])) fun M26 =>
                (fX14_init M26 n a1).bind fun M28 =>
                some (n, M28, n + 1)
              else
                lt_ (ms_ M n (eO_ 14 [.int 0])) fun M29 =>
                (fX15_init M29 n a1).bind fun M31 =>
                some (n, M31, n + 1)
theorem kdX1_strokeOf : yX1_strokeOf.cls ≠ "java/lang/invoke/MethodHandle" ∧ yX1_strokeOf.cls ≠ "java/lang/invoke/VarHandle" ∧ (parseMethodDescriptor yX1_strokeOf.desc).map (fun d => d.parameters.length) = some 2 := by decide +kernel
set_option maxHeartbeats 4000000 in
theorem mX1_strokeOf (l : Launch) (G : GT_) (M : Mem_) (n : Nat) (a0 : Int32) (a1 : Int32) (r : Nat) (M1 : Mem_) (n1 : Nat) (hf : fX1_strokeOf M n a0 a1 = some (r, M1, n1)) : Ct_ G l yX1_strokeOf (ws_ yX1_strokeOf cX1_strokeOf 2 (some (.object "SideBySide$Stroke"))) ({ frames := 4, cells := 1, slots := 1, locals := 75 }) 1 1 [.int a0, .int a1] M n (some (.ref r)) M1 n1 := by
  refine en_ (by decide) (Nat.le_of_ble_eq_true rfl) ?_
  intro p e s m below meth c hx hb hr hlk hml hown hts hname hKn hH ls hl
  have hown : s.vm.findClass RX1 = some m.cls := hown
  have hl : lv_has ls 2 [(0, .int a0), (1, .int a1)] := hl
  unfold fX1_strokeOf at hf
  generalize s.heap = H at hH ⊢
  refine lv_iload_n hx hb dX1_strokeOf_0 rfl (lv_at hl 0 rfl) ?_
  by_cases c1 : a0 = 0
  · have hf := ip_ c1 hf
    refine sw_I (off := 43) (tgt := 44) hx hb dX1_strokeOf_1 c1 (by decide) (by decide) (by decide) (by decide) ?_
    refine mg_new (ci := 7) hx hb hts hown hKn hH in_X8 tyX8_ok (hts _ q319) (hts _ q320) (hts _ q81) rfl (Nat.le_of_ble_eq_true rfl) (Nat.le_of_ble_eq_true rfl) dX1_strokeOf_44 (fun H hH => ?_)
    obtain ⟨M2, eM2⟩ : ∃ z : Mem_, z = ms_ M n (eO_ 7 [.int 0]) := ⟨_, rfl⟩
    have hf := lu_ eM2 hf
    have hH := st_eq eM2 hH
    refine W.widen (k := 1) (n := 1) (Nat.le_of_ble_eq_true rfl) (Nat.le_of_ble_eq_true rfl) ?_
    refine lv_dup hx hb dX1_strokeOf_47 rfl ?_
    refine lv_iload_n hx hb dX1_strokeOf_48 rfl (lv_at hl 1 rfl) ?_
    obtain ⟨M4, er3, hf⟩ := bs_ hf
    refine cl_v0 hH (rn_I ⟨hx, hb, hml, hown, hts⟩ hKn hH (mX8_init l G M2 (n + 1) n a1 M4 er3) (cwI 1 hts (lw_meth q323) rfl rfl rfl (hts _ q81) (hts _ q321) (hts _ q322) rfl kdX8_init ⟨Nat.le_of_ble_eq_true rfl, Nat.le_of_ble_eq_true rfl⟩) rfl hl.1 (Nat.le_of_ble_eq_true rfl) dX1_strokeOf_49 ⟨(Nat.le_of_ble_eq_true rfl), (Nat.le_of_ble_eq_true rfl)⟩ rfl) (fun H locs hH => ?_)
    cases hf
    refine W.widen (k := 1) (n := 1) (Nat.le_of_ble_eq_true rfl) (Nat.le_of_ble_eq_true rfl) ?_
    exact rt_a hx hb hr (Or.inl ⟨_, rfl⟩) hlk hH dX1_strokeOf_52
  · have hf := in_ c1 hf
    by_cases c5 : a0 = 1
    · have hf := ip_ c5 hf
      refine sw_I (off := 52) (tgt := 53) hx hb dX1_strokeOf_1 c5 (by decide) (by decide) (by decide) (by decide) ?_
      refine mg_new (ci := 8) hx hb hts hown hKn hH in_X9 tyX9_ok (hts _ q336) (hts _ q337) (hts _ q82) rfl (Nat.le_of_ble_eq_true rfl) (Nat.le_of_ble_eq_true rfl) dX1_strokeOf_53 (fun H hH => ?_)
      obtain ⟨M6, eM6⟩ : ∃ z : Mem_, z = ms_ M n (eO_ 8 [.int 0]) := ⟨_, rfl⟩
      have hf := lu_ eM6 hf
      have hH := st_eq eM6 hH
      refine W.widen (k := 1) (n := 1) (Nat.le_of_ble_eq_true rfl) (Nat.le_of_ble_eq_true rfl) ?_
      refine lv_dup hx hb dX1_strokeOf_56 rfl ?_
      refine lv_iload_n hx hb dX1_strokeOf_57 rfl (lv_at hl 1 rfl) ?_
      obtain ⟨M8, er7, hf⟩ := bs_ hf
      refine cl_v0 hH (rn_I ⟨hx, hb, hml, hown, hts⟩ hKn hH (mX9_init l G M6 (n + 1) n a1 M8 er7) (cwI 1 hts (lw_meth q340) rfl rfl rfl (hts _ q82) (hts _ q338) (hts _ q339) rfl kdX9_init ⟨Nat.le_of_ble_eq_true rfl, Nat.le_of_ble_eq_true rfl⟩) rfl hl.1 (Nat.le_of_ble_eq_true rfl) dX1_strokeOf_58 ⟨(Nat.le_of_ble_eq_true rfl), (Nat.le_of_ble_eq_true rfl)⟩ rfl) (fun H locs hH => ?_)
      cases hf
      refine W.widen (k := 1) (n := 1) (Nat.le_of_ble_eq_true rfl) (Nat.le_of_ble_eq_true rfl) ?_
      exact rt_a hx hb hr (Or.inl ⟨_, rfl⟩) hlk hH dX1_strokeOf_61
    · have hf := in_ c5 hf
      by_cases c9 : a0 = 2
      · have hf := ip_ c9 hf
        refine sw_I (off := 61) (tgt := 62) hx hb dX1_strokeOf_1 c9 (by decide) (by decide) (by decide) (by decide) ?_
        refine mg_new (ci := 9) hx hb hts hown hKn hH in_X10 tyX10_ok (hts _ q344) (hts _ q345) (hts _ q83) rfl (Nat.le_of_ble_eq_true rfl) (Nat.le_of_ble_eq_true rfl) dX1_strokeOf_62 (fun H hH => ?_)
        obtain ⟨M10, eM10⟩ : ∃ z : Mem_, z = ms_ M n (eO_ 9 [.int 0]) := ⟨_, rfl⟩
        have hf := lu_ eM10 hf
        have hH := st_eq eM10 hH
        refine W.widen (k := 1) (n := 1) (Nat.le_of_ble_eq_true rfl) (Nat.le_of_ble_eq_true rfl) ?_
        refine lv_dup hx hb dX1_strokeOf_65 rfl ?_
        refine lv_iload_n hx hb dX1_strokeOf_66 rfl (lv_at hl 1 rfl) ?_
        obtain ⟨M12, er11, hf⟩ := bs_ hf
        refine cl_v0 hH (rn_I ⟨hx, hb, hml, hown, hts⟩ hKn hH (mX10_init l G M10 (n + 1) n a1 M12 er11) (cwI 1 hts (lw_meth q348) rfl rfl rfl (hts _ q83) (hts _ q346) (hts _ q347) rfl kdX10_init ⟨Nat.le_of_ble_eq_true rfl, Nat.le_of_ble_eq_true rfl⟩) rfl hl.1 (Nat.le_of_ble_eq_true rfl) dX1_strokeOf_67 ⟨(Nat.le_of_ble_eq_true rfl), (Nat.le_of_ble_eq_true rfl)⟩ rfl) (fun H locs hH => ?_)
        cases hf
        refine W.widen (k := 1) (n := 1) (Nat.le_of_ble_eq_true rfl) (Nat.le_of_ble_eq_true rfl) ?_
        exact rt_a hx hb hr (Or.inl ⟨_, rfl⟩) hlk hH dX1_strokeOf_70
      · have hf := in_ c9 hf
        by_cases c13 : a0 = 3
        · have hf := ip_ c13 hf
          refine sw_I (off := 70) (tgt := 71) hx hb dX1_strokeOf_1 c13 (by decide) (by decide) (by decide) (by decide) ?_
          refine mg_new (ci := 10) hx hb hts hown hKn hH in_X11 tyX11_ok (hts _ q352) (hts _ q353) (hts _ q84) rfl (Nat.le_of_ble_eq_true rfl) (Nat.le_of_ble_eq_true rfl) dX1_strokeOf_71 (fun H hH => ?_)
          obtain ⟨M14, eM14⟩ : ∃ z : Mem_, z = ms_ M n (eO_ 10 [.int 0]) := ⟨_, rfl⟩
          have hf := lu_ eM14 hf
          have hH := st_eq eM14 hH
          refine W.widen (k := 1) (n := 1) (Nat.le_of_ble_eq_true rfl) (Nat.le_of_ble_eq_true rfl) ?_
          refine lv_dup hx hb dX1_strokeOf_74 rfl ?_
          refine lv_iload_n hx hb dX1_strokeOf_75 rfl (lv_at hl 1 rfl) ?_
          obtain ⟨M16, er15, hf⟩ := bs_ hf
          refine cl_v0 hH (rn_I ⟨hx, hb, hml, hown, hts⟩ hKn hH (mX11_init l G M14 (n + 1) n a1 M16 er15) (cwI 1 hts (lw_meth q356) rfl rfl rfl (hts _ q84) (hts _ q354) (hts _ q355) rfl kdX11_init ⟨Nat.le_of_ble_eq_true rfl, Nat.le_of_ble_eq_true rfl⟩) rfl hl.1 (Nat.le_of_ble_eq_true rfl) dX1_strokeOf_76 ⟨(Nat.le_of_ble_eq_true rfl), (Nat.le_of_ble_eq_true rfl)⟩ rfl) (fun H locs hH => ?_)
          cases hf
          refine W.widen (k := 1) (n := 1) (Nat.le_of_ble_eq_true rfl) (Nat.le_of_ble_eq_true rfl) ?_
          exact rt_a hx hb hr (Or.inl ⟨_, rfl⟩) hlk hH dX1_strokeOf_79
        · have hf := in_ c13 hf
          by_cases c17 : a0 = 4
          · have hf := ip_ c17 hf
            refine sw_I (off := 79) (tgt := 80) hx hb dX1_strokeOf_1 c17 (by decide) (by decide) (by decide) (by decide) ?_
            refine mg_new (ci := 11) hx hb hts hown hKn hH in_X12 tyX12_ok (hts _ q360) (hts _ q361) (hts _ q85) rfl (Nat.le_of_ble_eq_true rfl) (Nat.le_of_ble_eq_true rfl) dX1_strokeOf_80 (fun H hH => ?_)
            obtain ⟨M18, eM18⟩ : ∃ z : Mem_, z = ms_ M n (eO_ 11 [.int 0]) := ⟨_, rfl⟩
            have hf := lu_ eM18 hf
            have hH := st_eq eM18 hH
            refine W.widen (k := 1) (n := 1) (Nat.le_of_ble_eq_true rfl) (Nat.le_of_ble_eq_true rfl) ?_
            refine lv_dup hx hb dX1_strokeOf_83 rfl ?_
            refine lv_iload_n hx hb dX1_strokeOf_84 rfl (lv_at hl 1 rfl) ?_
            obtain ⟨M20, er19, hf⟩ := bs_ hf
            refine cl_v0 hH (rn_I ⟨hx, hb, hml, hown, hts⟩ hKn hH (mX12_init l G M18 (n + 1) n a1 M20 er19) (cwI 1 hts (lw_meth q364) rfl rfl rfl (hts _ q85) (hts _ q362) (hts _ q363) rfl kdX12_init ⟨Nat.le_of_ble_eq_true rfl, Nat.le_of_ble_eq_true rfl⟩) rfl hl.1 (Nat.le_of_ble_eq_true rfl) dX1_strokeOf_85 ⟨(Nat.le_of_ble_eq_true rfl), (Nat.le_of_ble_eq_true rfl)⟩ rfl) (fun H locs hH => ?_)
            cases hf
            refine W.widen (k := 1) (n := 1) (Nat.le_of_ble_eq_true rfl) (Nat.le_of_ble_eq_true rfl) ?_
            exact rt_a hx hb hr (Or.inl ⟨_, rfl⟩) hlk hH dX1_strokeOf_88
          · have hf := in_ c17 hf
            by_cases c21 : a0 = 5
            · have hf := ip_ c21 hf
              refine sw_I (off := 88) (tgt := 89) hx hb dX1_strokeOf_1 c21 (by decide) (by decide) (by decide) (by decide) ?_
              refine mg_new (ci := 12) hx hb hts hown hKn hH in_X13 tyX13_ok (hts _ q368) (hts _ q369) (hts _ q86) rfl (Nat.le_of_ble_eq_true rfl) (Nat.le_of_ble_eq_true rfl) dX1_strokeOf_89 (fun H hH => ?_)
              obtain ⟨M22, eM22⟩ : ∃ z : Mem_, z = ms_ M n (eO_ 12 [.int 0]) := ⟨_, rfl⟩
              have hf := lu_ eM22 hf
              have hH := st_eq eM22 hH
              refine W.widen (k := 1) (n := 1) (Nat.le_of_ble_eq_true rfl) (Nat.le_of_ble_eq_true rfl) ?_
              refine lv_dup hx hb dX1_strokeOf_92 rfl ?_
              refine lv_iload_n hx hb dX1_strokeOf_93 rfl (lv_at hl 1 rfl) ?_
              obtain ⟨M24, er23, hf⟩ := bs_ hf
              refine cl_v0 hH (rn_I ⟨hx, hb, hml, hown, hts⟩ hKn hH (mX13_init l G M22 (n + 1) n a1 M24 er23) (cwI 1 hts (lw_meth q372) rfl rfl rfl (hts _ q86) (hts _ q370) (hts _ q371) rfl kdX13_init ⟨Nat.le_of_ble_eq_true rfl, Nat.le_of_ble_eq_true rfl⟩) rfl hl.1 (Nat.le_of_ble_eq_true rfl) dX1_strokeOf_94 ⟨(Nat.le_of_ble_eq_true rfl), (Nat.le_of_ble_eq_true rfl)⟩ rfl) (fun H locs hH => ?_)
              cases hf
              refine W.widen (k := 1) (n := 1) (Nat.le_of_ble_eq_true rfl) (Nat.le_of_ble_eq_true rfl) ?_
              exact rt_a hx hb hr (Or.inl ⟨_, rfl⟩) hlk hH dX1_strokeOf_97
            · have hf := in_ c21 hf
              by_cases c25 : a0 = 6
              · have hf := ip_ c25 hf
                refine sw_I (off := 97) (tgt := 98) hx hb dX1_strokeOf_1 c25 (by decide) (by decide) (by decide) (by decide) ?_
                refine mg_new (ci := 13) hx hb hts hown hKn hH in_X14 tyX14_ok (hts _ q376) (hts _ q377) (hts _ q87) rfl (Nat.le_of_ble_eq_true rfl) (Nat.le_of_ble_eq_true rfl) dX1_strokeOf_98 (fun H hH => ?_)
                obtain ⟨M26, eM26⟩ : ∃ z : Mem_, z = ms_ M n (eO_ 13 [.int 0]) := ⟨_, rfl⟩
                have hf := lu_ eM26 hf
                have hH := st_eq eM26 hH
                refine W.widen (k := 1) (n := 1) (Nat.le_of_ble_eq_true rfl) (Nat.le_of_ble_eq_true rfl) ?_
                refine lv_dup hx hb dX1_strokeOf_101 rfl ?_
                refine lv_iload_n hx hb dX1_strokeOf_102 rfl (lv_at hl 1 rfl) ?_
                obtain ⟨M28, er27, hf⟩ := bs_ hf
                refine cl_v0 hH (rn_I ⟨hx, hb, hml, hown, hts⟩ hKn hH (mX14_init l G M26 (n + 1) n a1 M28 er27) (cwI 1 hts (lw_meth q380) rfl rfl rfl (hts _ q87) (hts _ q378) (hts _ q379) rfl kdX14_init ⟨Nat.le_of_ble_eq_true rfl, Nat.le_of_ble_eq_true rfl⟩) rfl hl.1 (Nat.le_of_ble_eq_true rfl) dX1_strokeOf_103 ⟨(Nat.le_of_ble_eq_true rfl), (Nat.le_of_ble_eq_true rfl)⟩ rfl) (fun H locs hH => ?_)
                cases hf
                refine W.widen (k := 1) (n := 1) (Nat.le_of_ble_eq_true rfl) (Nat.le_of_ble_eq_true rfl) ?_
                exact rt_a hx hb hr (Or.inl ⟨_, rfl⟩) hlk hH dX1_strokeOf_106
              · have hf := in_ c25 hf
                refine sw_D (tgt := 107) hx hb dX1_strokeOf_1 [(0, 43), (1, 52), (2, 61), (3, 70), (4, 79), (5, 88), (6, 97)] (by decide) (by decide) (by decide) ⟨Or.inr (lv_neT c1 (by decide)), Or.inr (lv_neT c5 (by decide)), Or.inr (lv_neT c9 (by decide)), Or.inr (lv_neT c13 (by decide)), Or.inr (lv_neT c17 (by decide)), Or.inr (lv_neT c21 (by decide)), Or.inr (lv_neT c25 (by decide)), trivial⟩ (by decide) ?_
                refine mg_new (ci := 14) hx hb hts hown hKn hH in_X15 tyX15_ok (hts _ q384) (hts _ q385) (hts _ q88) rfl (Nat.le_of_ble_eq_true rfl) (Nat.le_of_ble_eq_true rfl) dX1_strokeOf_107 (fun H hH => ?_)
                obtain ⟨M29, eM29⟩ : ∃ z : Mem_, z = ms_ M n (eO_ 14 [.int 0]) := ⟨_, rfl⟩
                have hf := lu_ eM29 hf
                have hH := st_eq eM29 hH
                refine W.widen (k := 1) (n := 1) (Nat.le_of_ble_eq_true rfl) (Nat.le_of_ble_eq_true rfl) ?_
                refine lv_dup hx hb dX1_strokeOf_110 rfl ?_
                refine lv_iload_n hx hb dX1_strokeOf_111 rfl (lv_at hl 1 rfl) ?_
                obtain ⟨M31, er30, hf⟩ := bs_ hf
                refine cl_v0 hH (rn_I ⟨hx, hb, hml, hown, hts⟩ hKn hH (mX15_init l G M29 (n + 1) n a1 M31 er30) (cwI 1 hts (lw_meth q388) rfl rfl rfl (hts _ q88) (hts _ q386) (hts _ q387) rfl kdX15_init ⟨Nat.le_of_ble_eq_true rfl, Nat.le_of_ble_eq_true rfl⟩) rfl hl.1 (Nat.le_of_ble_eq_true rfl) dX1_strokeOf_112 ⟨(Nat.le_of_ble_eq_true rfl), (Nat.le_of_ble_eq_true rfl)⟩ rfl) (fun H locs hH => ?_)
                cases hf
                refine W.widen (k := 1) (n := 1) (Nat.le_of_ble_eq_true rfl) (Nat.le_of_ble_eq_true rfl) ?_
                exact rt_a hx hb hr (Or.inl ⟨_, rfl⟩) hlk hH dX1_strokeOf_115
def fX2_learns (M : Mem_) (a0 : Nat) (a1 : Nat) : Option (Int32 × Mem_) :=
  (gR_ M a0 1 0).bind fun v1 =>
  (gI_ M a0 1 9).bind fun v2 =>
  (sk_ M a1).bind fun u4 =>
  (sQ_ M v1 3 v2 (some a1)).bind fun M3 =>
  (gI_ M3 a0 1 9).bind fun v5 =>
  lt_ ((v5 + 1)) fun v6 =>
  (pF_ M3 a0 1 9 (.int v6)).bind fun M7 =>
  (gI_ M7 a0 1 9).bind fun v8 =>
  some ((v8 - 1), M7)
theorem kdX2_learns : yX2_learns.cls ≠ "java/lang/invoke/MethodHandle" ∧ yX2_learns.cls ≠ "java/lang/invoke/VarHandle" ∧ (parseMethodDescriptor yX2_learns.desc).map (fun d => d.parameters.length) = some 1 := by decide +kernel
set_option maxHeartbeats 4000000 in
theorem mX2_learns (l : Launch) (G : GT_) (M : Mem_) (n : Nat) (a0 : Nat) (a1 : Nat) (r : Int32) (M1 : Mem_) (hf : fX2_learns M a0 a1 = some (r, M1)) : Ct_ G l yX2_learns (ws_ yX2_learns cX2_learns 2 (some .int)) ({ frames := 0, cells := 0, slots := 0, locals := 0 }) 0 0 [.ref a0, .ref a1] M n (some (.int r)) M1 n := by
  refine en_ (by decide) (Nat.le_of_ble_eq_true rfl) ?_
  intro p e s m below meth c hx hb hr hlk hml hown hts hname hKn hH ls hl
  have hown : s.vm.findClass RX2 = some m.cls := hown
  have hl : lv_has ls 2 [(0, .ref a0), (1, .ref a1)] := hl
  unfold fX2_learns at hf
  generalize s.heap = H at hH ⊢
  refine lv_aload_n hx hb dX2_learns_0 rfl (lv_at hl 0 rfl) ?_
  obtain ⟨v1, ev1, hf⟩ := bs_ hf
  refine mg_gR hx hb hts hown hKn hH ev1 in_X2 rfl (by decide) (hts _ q871) (fun _ h9 => h9) dX2_learns_1 ?_
  refine lv_aload_n hx hb dX2_learns_4 rfl (lv_at hl 0 rfl) ?_
  obtain ⟨v2, ev2, hf⟩ := bs_ hf
  refine mg_gI hx hb hts hown hKn hH ev2 in_X2 rfl (by decide) (hts _ q889) (fun _ h9 => h9) dX2_learns_5 ?_
  refine lv_aload_n hx hb dX2_learns_8 rfl (lv_at hl 1 rfl) ?_
  obtain ⟨u4, eu4, hf⟩ := bs_ hf
  obtain ⟨M3, eM3, hf⟩ := bs_ hf
  refine mg_ast hx hb hKn hH rfl (st_any hKn hH eu4) eM3 dX2_learns_9 (fun H locs hH => ?_)
  refine lv_aload_n hx hb dX2_learns_10 rfl (lv_at hl 0 rfl) ?_
  refine lv_dup hx hb dX2_learns_11 rfl ?_
  obtain ⟨v5, ev5, hf⟩ := bs_ hf
  refine mg_gI hx hb hts hown hKn hH ev5 in_X2 rfl (by decide) (hts _ q889) (fun _ h9 => h9) dX2_learns_12 ?_
  refine lv_iconst (v := 1) hx hb dX2_learns_15 (by decide) ?_
  refine lv_iadd hx hb dX2_learns_16 ?_
  refine lv_topi (fun v6 ev6 => ?_)
  have hf := lu_ ev6 hf
  obtain ⟨M7, eM7, hf⟩ := bs_ hf
  refine mg_pF hx hb hts hown hKn hH eM7 in_X2 tyX2_ok nmX2 rfl (by decide) (hts _ q889) (fun _ h9 => h9) rfl rfl rfl dX2_learns_17 (fun H locs hH => ?_)
  refine lv_aload_n hx hb dX2_learns_20 rfl (lv_at hl 0 rfl) ?_
  obtain ⟨v8, ev8, hf⟩ := bs_ hf
  refine mg_gI hx hb hts hown hKn hH ev8 in_X2 rfl (by decide) (hts _ q889) (fun _ h9 => h9) dX2_learns_21 ?_
  refine lv_iconst (v := 1) hx hb dX2_learns_24 (by decide) ?_
  refine lv_isub hx hb dX2_learns_25 ?_
  cases hf
  exact rt_i hx hb hr hlk hH dX2_learns_26
def fX2_isStroke (M : Mem_) (a0 : Nat) (a1 : Int32) : Option Bool :=
  (gI_ M a0 1 9).bind fun v1 =>
  lt_ (fX1_isIn a1 0 (v1 - 1)) fun r2 =>
  some r2
theorem kdX2_isStroke : yX2_isStroke.cls ≠ "java/lang/invoke/MethodHandle" ∧ yX2_isStroke.cls ≠ "java/lang/invoke/VarHandle" ∧ (parseMethodDescriptor yX2_isStroke.desc).map (fun d => d.parameters.length) = some 1 := by decide +kernel
set_option maxHeartbeats 4000000 in
theorem mX2_isStroke (l : Launch) (G : GT_) (M : Mem_) (n : Nat) (a0 : Nat) (a1 : Int32) (r : Bool) (hf : fX2_isStroke M a0 a1 = some r) : Ct_ G l yX2_isStroke (ws_ yX2_isStroke cX2_isStroke 2 (some .boolean)) ({ frames := 1, cells := 0, slots := 0, locals := 22 }) 0 0 [.ref a0, .int a1] M n (some (.int (b2_ r))) M n := by
  refine en_ (by decide) (Nat.le_of_ble_eq_true rfl) ?_
  intro p e s m below meth c hx hb hr hlk hml hown hts hname hKn hH ls hl
  have hown : s.vm.findClass RX2 = some m.cls := hown
  have hl : lv_has ls 2 [(0, .ref a0), (1, .int a1)] := hl
  unfold fX2_isStroke at hf
  generalize s.heap = H at hH ⊢
  refine lv_iload_n hx hb dX2_isStroke_0 rfl (lv_at hl 1 rfl) ?_
  refine lv_iconst (v := 0) hx hb dX2_isStroke_1 (by decide) ?_
  refine lv_aload_n hx hb dX2_isStroke_2 rfl (lv_at hl 0 rfl) ?_
  obtain ⟨v1, ev1, hf⟩ := bs_ hf
  refine mg_gI hx hb hts hown hKn hH ev1 in_X2 rfl (by decide) (hts _ q889) (fun _ h9 => h9) dX2_isStroke_3 ?_
  refine lv_iconst (v := 1) hx hb dX2_isStroke_6 (by decide) ?_
  refine lv_isub hx hb dX2_isStroke_7 ?_
  obtain ⟨r2, er2⟩ : ∃ z, z = fX1_isIn a1 0 (v1 - 1) := ⟨_, rfl⟩
  have hf := lu_ er2 hf
  refine cl_i0 hH (rn_SN ⟨hx, hb, hml, hown, hts⟩ hKn hH (mX1_isIn l G M n a1 0 (v1 - 1) r2 er2.symm) ⟨va_cnB 3 hts (lw_meth q201) rfl rfl rfl (hKn.2.1 _ (List.mem_of_getElem? (i := 6) rfl)) (hts _ q67) kdX1_isIn ⟨Nat.le_of_ble_eq_true rfl, Nat.le_of_ble_eq_true rfl⟩, hts _ q200, trivial⟩ rfl hl.1 (Nat.le_of_ble_eq_true rfl) dX2_isStroke_8 ⟨(Nat.le_of_ble_eq_true rfl), (Nat.le_of_ble_eq_true rfl)⟩ rfl) (fun H locs hH => ?_)
  cases hf
  exact rt_b (b := _) hx hb hr hlk hH dX2_isStroke_11
def fX1_isCell (a0 : Int32) : Bool :=
  lt_ (fX1_isIn a0 0 8) fun r1 =>
  r1
theorem kdX1_isCell : yX1_isCell.cls ≠ "java/lang/invoke/MethodHandle" ∧ yX1_isCell.cls ≠ "java/lang/invoke/VarHandle" ∧ (parseMethodDescriptor yX1_isCell.desc).map (fun d => d.parameters.length) = some 1 := by decide +kernel
set_option maxHeartbeats 4000000 in
theorem mX1_isCell (l : Launch) (G : GT_) (M : Mem_) (n : Nat) (a0 : Int32) (r : Bool) (hf : fX1_isCell a0 = r) : Ct_ G l yX1_isCell (ws_ yX1_isCell cX1_isCell 1 (some .boolean)) ({ frames := 1, cells := 0, slots := 0, locals := 22 }) 0 0 [.int a0] M n (some (.int (b2_ r))) M n := by
  refine en_ (by decide) (Nat.le_of_ble_eq_true rfl) ?_
  intro p e s m below meth c hx hb hr hlk hml hown hts hname hKn hH ls hl
  have hown : s.vm.findClass RX1 = some m.cls := hown
  have hl : lv_has ls 1 [(0, .int a0)] := hl
  unfold fX1_isCell at hf
  generalize s.heap = H at hH ⊢
  refine lv_iload_n hx hb dX1_isCell_0 rfl (lv_at hl 0 rfl) ?_
  refine lv_iconst (v := 0) hx hb dX1_isCell_1 (by decide) ?_
  refine lv_bipush (v := 8) hx hb dX1_isCell_2 (by decide) ?_
  obtain ⟨r1, er1⟩ : ∃ z, z = fX1_isIn a0 0 8 := ⟨_, rfl⟩
  have hf := lu_ er1 hf
  refine cl_i0 hH (rn_S ⟨hx, hb, hml, hown, hts⟩ hKn hH (mX1_isIn l G M n a0 0 8 r1 er1.symm) (va_cwS 3 hts (lw_S q199 q200 q67 q201) rfl rfl rfl kdX1_isIn ⟨Nat.le_of_ble_eq_true rfl, Nat.le_of_ble_eq_true rfl⟩) rfl hl.1 (Nat.le_of_ble_eq_true rfl) dX1_isCell_4 ⟨(Nat.le_of_ble_eq_true rfl), (Nat.le_of_ble_eq_true rfl)⟩ rfl) (fun H locs hH => ?_)
  subst hf
  exact rt_b (b := _) hx hb hr hlk hH dX1_isCell_7
def fX1_canHit (M : Mem_) (a0 : Nat) : Option Bool :=
  (gI_ M a0 1 12).bind fun v1 =>
  if 999 ≤ v1 then
    some false
  else
    (gR_ M a0 1 6).bind fun v2 =>
    (aI_ M v2 0 0).bind fun v3 =>
    if 99 ≤ v3 then
      some false
    else
      (gR_ M a0 1 6).bind fun v4 =>
      (aI_ M v4 0 1).bind fun v5 =>
      if 99 ≤ v5 then
        some false
      else
        some true
theorem kdX1_canHit : yX1_canHit.cls ≠ "java/lang/invoke/MethodHandle" ∧ yX1_canHit.cls ≠ "java/lang/invoke/VarHandle" ∧ (parseMethodDescriptor yX1_canHit.desc).map (fun d => d.parameters.length) = some 1 := by decide +kernel
set_option maxHeartbeats 4000000 in
theorem mX1_canHit (l : Launch) (G : GT_) (M : Mem_) (n : Nat) (a0 : Nat) (r : Bool) (hf : fX1_canHit M a0 = some r) : Ct_ G l yX1_canHit (ws_ yX1_canHit cX1_canHit 1 (some .boolean)) ({ frames := 0, cells := 0, slots := 0, locals := 0 }) 0 0 [.ref a0] M n (some (.int (b2_ r))) M n := by
  refine en_ (by decide) (Nat.le_of_ble_eq_true rfl) ?_
  intro p e s m below meth c hx hb hr hlk hml hown hts hname hKn hH ls hl
  have hown : s.vm.findClass RX1 = some m.cls := hown
  have hl : lv_has ls 1 [(0, .ref a0)] := hl
  unfold fX1_canHit at hf
  generalize s.heap = H at hH ⊢
  refine lv_aload_n hx hb dX1_canHit_0 rfl (lv_at hl 0 rfl) ?_
  obtain ⟨v1, ev1, hf⟩ := bs_ hf
  refine mg_gI hx hb hts hown hKn hH ev1 in_X2 rfl (by decide) (hts _ q896) (fun _ h9 => h9) dX1_canHit_1 ?_
  refine lv_sipush (v := 999) hx hb dX1_canHit_4 (by decide) ?_
  refine lv_icmp_ge (tgt := 36) hx hb dX1_canHit_7 (by decide) (fun c8 => ?_) (fun c8 => ?_)
  · have hf := ip_ c8 hf
    refine lv_iconst (v := 0) hx hb dX1_canHit_36 (by decide) ?_
    cases hf
    exact rt_b (b := false) hx hb hr hlk hH dX1_canHit_37
  · have hf := in_ c8 hf
    refine lv_aload_n hx hb dX1_canHit_10 rfl (lv_at hl 0 rfl) ?_
    obtain ⟨v2, ev2, hf⟩ := bs_ hf
    refine mg_gR hx hb hts hown hKn hH ev2 in_X2 rfl (by decide) (hts _ q884) (fun _ h9 => h9) dX1_canHit_11 ?_
    refine lv_iconst (v := 0) hx hb dX1_canHit_14 (by decide) ?_
    obtain ⟨v3, ev3, hf⟩ := bs_ hf
    refine mg_iald hx hb hKn hH ev3 dX1_canHit_15 ?_
    refine lv_bipush (v := 99) hx hb dX1_canHit_16 (by decide) ?_
    refine lv_icmp_ge (tgt := 36) hx hb dX1_canHit_18 (by decide) (fun c7 => ?_) (fun c7 => ?_)
    · have hf := ip_ c7 hf
      refine lv_iconst (v := 0) hx hb dX1_canHit_36 (by decide) ?_
      cases hf
      exact rt_b (b := false) hx hb hr hlk hH dX1_canHit_37
    · have hf := in_ c7 hf
      refine lv_aload_n hx hb dX1_canHit_21 rfl (lv_at hl 0 rfl) ?_
      obtain ⟨v4, ev4, hf⟩ := bs_ hf
      refine mg_gR hx hb hts hown hKn hH ev4 in_X2 rfl (by decide) (hts _ q884) (fun _ h9 => h9) dX1_canHit_22 ?_
      refine lv_iconst (v := 1) hx hb dX1_canHit_25 (by decide) ?_
      obtain ⟨v5, ev5, hf⟩ := bs_ hf
      refine mg_iald hx hb hKn hH ev5 dX1_canHit_26 ?_
      refine lv_bipush (v := 99) hx hb dX1_canHit_27 (by decide) ?_
      refine lv_icmp_ge (tgt := 36) hx hb dX1_canHit_29 (by decide) (fun c6 => ?_) (fun c6 => ?_)
      · have hf := ip_ c6 hf
        refine lv_iconst (v := 0) hx hb dX1_canHit_36 (by decide) ?_
        cases hf
        exact rt_b (b := false) hx hb hr hlk hH dX1_canHit_37
      · have hf := in_ c6 hf
        refine lv_iconst (v := 1) hx hb dX1_canHit_32 (by decide) ?_
        refine lv_goto (tgt := 37) hx hb dX1_canHit_33 (by decide) ?_
        cases hf
        exact rt_b (b := true) hx hb hr hlk hH dX1_canHit_37
def fX2_turn (M : Mem_) (a0 : Nat) : Option Int32 :=
  (gI_ M a0 1 10).bind fun v1 =>
  some (v1 / 2)
theorem kdX2_turn : yX2_turn.cls ≠ "java/lang/invoke/MethodHandle" ∧ yX2_turn.cls ≠ "java/lang/invoke/VarHandle" ∧ (parseMethodDescriptor yX2_turn.desc).map (fun d => d.parameters.length) = some 0 := by decide +kernel
set_option maxHeartbeats 4000000 in
theorem mX2_turn (l : Launch) (G : GT_) (M : Mem_) (n : Nat) (a0 : Nat) (r : Int32) (hf : fX2_turn M a0 = some r) : Ct_ G l yX2_turn (ws_ yX2_turn cX2_turn 1 (some .int)) ({ frames := 0, cells := 0, slots := 0, locals := 0 }) 0 0 [.ref a0] M n (some (.int r)) M n := by
  refine en_ (by decide) (Nat.le_of_ble_eq_true rfl) ?_
  intro p e s m below meth c hx hb hr hlk hml hown hts hname hKn hH ls hl
  have hown : s.vm.findClass RX2 = some m.cls := hown
  have hl : lv_has ls 1 [(0, .ref a0)] := hl
  unfold fX2_turn at hf
  generalize s.heap = H at hH ⊢
  refine lv_aload_n hx hb dX2_turn_0 rfl (lv_at hl 0 rfl) ?_
  obtain ⟨v1, ev1, hf⟩ := bs_ hf
  refine mg_gI hx hb hts hown hKn hH ev1 in_X2 rfl (by decide) (hts _ q891) (fun _ h9 => h9) dX2_turn_1 ?_
  refine lv_iconst (v := 2) hx hb dX2_turn_4 (by decide) ?_
  refine lv_idiv hx hb dX2_turn_5 (by decide) ?_
  cases hf
  exact rt_i hx hb hr hlk hH dX2_turn_6
def fX2_falls (M : Mem_) (a0 : Nat) (a1 : Int32) (a2 : Int32) : Option Int32 :=
  (gR_ M a0 1 0).bind fun v1 =>
  (aR_ M v1 3 a1).bind fun v2 =>
  (gI_ M a0 1 11).bind fun v3 =>
  (s_falls M v2 a2 v3).bind fun r4 =>
  some r4
theorem kdX2_falls : yX2_falls.cls ≠ "java/lang/invoke/MethodHandle" ∧ yX2_falls.cls ≠ "java/lang/invoke/VarHandle" ∧ (parseMethodDescriptor yX2_falls.desc).map (fun d => d.parameters.length) = some 2 := by decide +kernel
set_option maxHeartbeats 4000000 in
theorem mX2_falls (l : Launch) (G : GT_) (M : Mem_) (n : Nat) (a0 : Nat) (a1 : Int32) (a2 : Int32) (r : Int32) (hf : fX2_falls M a0 a1 a2 = some r) : Ct_ G l yX2_falls (ws_ yX2_falls cX2_falls 3 (some .int)) ({ frames := 2, cells := 0, slots := 0, locals := 42 }) 0 0 [.ref a0, .int a1, .int a2] M n (some (.int r)) M n := by
  refine en_ (by decide) (Nat.le_of_ble_eq_true rfl) ?_
  intro p e s m below meth c hx hb hr hlk hml hown hts hname hKn hH ls hl
  have hown : s.vm.findClass RX2 = some m.cls := hown
  have hl : lv_has ls 3 [(0, .ref a0), (1, .int a1), (2, .int a2)] := hl
  unfold fX2_falls at hf
  generalize s.heap = H at hH ⊢
  refine lv_aload_n hx hb dX2_falls_0 rfl (lv_at hl 0 rfl) ?_
  obtain ⟨v1, ev1, hf⟩ := bs_ hf
  refine mg_gR hx hb hts hown hKn hH ev1 in_X2 rfl (by decide) (hts _ q871) (fun _ h9 => h9) dX2_falls_1 ?_
  refine lv_iload_n hx hb dX2_falls_4 rfl (lv_at hl 1 rfl) ?_
  obtain ⟨v2, ev2, hf⟩ := bs_ hf
  refine mg_aald3 hx hb hKn hH ev2 dX2_falls_5 ?_
  refine lv_iload_n hx hb dX2_falls_6 rfl (lv_at hl 2 rfl) ?_
  refine lv_aload_n hx hb dX2_falls_7 rfl (lv_at hl 0 rfl) ?_
  obtain ⟨v3, ev3, hf⟩ := bs_ hf
  refine mg_gI hx hb hts hown hKn hH ev3 in_X2 rfl (by decide) (hts _ q893) (fun _ h9 => h9) dX2_falls_8 ?_
  obtain ⟨r4, er4, hf⟩ := bs_ hf
  refine cl_i0 hH (rs_falls ⟨hx, hb, hml, hown, hts⟩ hKn hH er4 (va_Nw.use rfl (hKn.2.2.2.2.2.2.1 _ (List.mem_of_getElem? (i := 0) rfl))) ⟨Nat.le_of_ble_eq_true rfl, Nat.le_of_ble_eq_true rfl⟩ hl.1 (Nat.le_of_ble_eq_true rfl) dX2_falls_11 ⟨(Nat.le_of_ble_eq_true rfl), (Nat.le_of_ble_eq_true rfl)⟩ rfl) (fun H locs hH => ?_)
  cases hf
  exact rt_i hx hb hr hlk hH dX2_falls_14
def fX2_tiresMore (M : Mem_) (a0 : Nat) (a1 : Int32) (a2 : Int32) : Option Mem_ :=
  (gR_ M a0 1 3).bind fun v1 =>
  (gR_ M a0 1 3).bind fun v2 =>
  (aI_ M v2 0 a1).bind fun v3 =>
  lt_ (if (v3 + a2) < 99 then (v3 + a2) else 99) fun v4 =>
  (sI_ M v1 0 a1 v4).bind fun M5 =>
  some M5
theorem kdX2_tiresMore : yX2_tiresMore.cls ≠ "java/lang/invoke/MethodHandle" ∧ yX2_tiresMore.cls ≠ "java/lang/invoke/VarHandle" ∧ (parseMethodDescriptor yX2_tiresMore.desc).map (fun d => d.parameters.length) = some 2 := by decide +kernel
set_option maxHeartbeats 4000000 in
theorem mX2_tiresMore (l : Launch) (G : GT_) (M : Mem_) (n : Nat) (a0 : Nat) (a1 : Int32) (a2 : Int32) (M1 : Mem_) (hf : fX2_tiresMore M a0 a1 a2 = some M1) : Ct_ G l yX2_tiresMore (ws_ yX2_tiresMore cX2_tiresMore 3 none) ({ frames := 1, cells := 0, slots := 0, locals := 15 }) 0 0 [.ref a0, .int a1, .int a2] M n (none) M1 n := by
  refine en_ (by decide) (Nat.le_of_ble_eq_true rfl) ?_
  intro p e s m below meth c hx hb hr hlk hml hown hts hname hKn hH ls hl
  have hown : s.vm.findClass RX2 = some m.cls := hown
  have hl : lv_has ls 3 [(0, .ref a0), (1, .int a1), (2, .int a2)] := hl
  unfold fX2_tiresMore at hf
  generalize s.heap = H at hH ⊢
  refine lv_aload_n hx hb dX2_tiresMore_0 rfl (lv_at hl 0 rfl) ?_
  obtain ⟨v1, ev1, hf⟩ := bs_ hf
  refine mg_gR hx hb hts hown hKn hH ev1 in_X2 rfl (by decide) (hts _ q877) (fun _ h9 => h9) dX2_tiresMore_1 ?_
  refine lv_iload_n hx hb dX2_tiresMore_4 rfl (lv_at hl 1 rfl) ?_
  refine lv_bipush (v := 99) hx hb dX2_tiresMore_5 (by decide) ?_
  refine lv_aload_n hx hb dX2_tiresMore_7 rfl (lv_at hl 0 rfl) ?_
  obtain ⟨v2, ev2, hf⟩ := bs_ hf
  refine mg_gR hx hb hts hown hKn hH ev2 in_X2 rfl (by decide) (hts _ q877) (fun _ h9 => h9) dX2_tiresMore_8 ?_
  refine lv_iload_n hx hb dX2_tiresMore_11 rfl (lv_at hl 1 rfl) ?_
  obtain ⟨v3, ev3, hf⟩ := bs_ hf
  refine mg_iald hx hb hKn hH ev3 dX2_tiresMore_12 ?_
  refine lv_iload_n hx hb dX2_tiresMore_13 rfl (lv_at hl 2 rfl) ?_
  refine lv_iadd hx hb dX2_tiresMore_14 ?_
  refine va_mmin hx hb (by rw [hml, hl.1]) hown (hts _ q507) (hts _ q444) (hts _ q89) (hts _ q445) (Nat.le_of_ble_eq_true rfl) (Nat.le_of_ble_eq_true rfl) (Nat.le_of_ble_eq_true rfl) (Nat.le_of_ble_eq_true rfl) dX2_tiresMore_15 ?_
  refine lv_topi (fun v4 ev4 => ?_)
  have hf := lu_ ev4 hf
  obtain ⟨M5, eM5, hf⟩ := bs_ hf
  refine mg_iast hx hb hKn hH eM5 dX2_tiresMore_18 (fun H locs hH => ?_)
  cases hf
  exact rt_v hx hb hr hlk hH dX2_tiresMore_19
def fX1_wayTo (a0 : Int32) (a1 : Int32) : Int32 :=
  lt_ (fX1_rowOf a0) fun r1 =>
  lt_ (fX1_rowOf a1) fun r2 =>
  lt_ (if 0 ≤ (r1 - r2) then (r1 - r2) else 0 - (r1 - r2)) fun v3 =>
  lt_ (fX1_columnOf a0) fun r4 =>
  lt_ (fX1_columnOf a1) fun r5 =>
  lt_ (if 0 ≤ (r4 - r5) then (r4 - r5) else 0 - (r4 - r5)) fun v6 =>
  (v3 + v6)
theorem kdX1_wayTo : yX1_wayTo.cls ≠ "java/lang/invoke/MethodHandle" ∧ yX1_wayTo.cls ≠ "java/lang/invoke/VarHandle" ∧ (parseMethodDescriptor yX1_wayTo.desc).map (fun d => d.parameters.length) = some 2 := by decide +kernel
set_option maxHeartbeats 4000000 in
theorem mX1_wayTo (l : Launch) (G : GT_) (M : Mem_) (n : Nat) (a0 : Int32) (a1 : Int32) (r : Int32) (hf : fX1_wayTo a0 a1 = r) : Ct_ G l yX1_wayTo (ws_ yX1_wayTo cX1_wayTo 2 (some .int)) ({ frames := 1, cells := 0, slots := 0, locals := 20 }) 0 0 [.int a0, .int a1] M n (some (.int r)) M n := by
  refine en_ (by decide) (Nat.le_of_ble_eq_true rfl) ?_
  intro p e s m below meth c hx hb hr hlk hml hown hts hname hKn hH ls hl
  have hown : s.vm.findClass RX1 = some m.cls := hown
  have hl : lv_has ls 2 [(0, .int a0), (1, .int a1)] := hl
  unfold fX1_wayTo at hf
  generalize s.heap = H at hH ⊢
  refine lv_iload_n hx hb dX1_wayTo_0 rfl (lv_at hl 0 rfl) ?_
  obtain ⟨r1, er1⟩ : ∃ z, z = fX1_rowOf a0 := ⟨_, rfl⟩
  have hf := lu_ er1 hf
  refine cl_i0 hH (rn_S ⟨hx, hb, hml, hown, hts⟩ hKn hH (mX1_rowOf l G M n a0 r1 er1.symm) (va_cwS 1 hts (lw_S q515 q428 q67 q429) rfl rfl rfl kdX1_rowOf ⟨Nat.le_of_ble_eq_true rfl, Nat.le_of_ble_eq_true rfl⟩) rfl hl.1 (Nat.le_of_ble_eq_true rfl) dX1_wayTo_1 ⟨(Nat.le_of_ble_eq_true rfl), (Nat.le_of_ble_eq_true rfl)⟩ rfl) (fun H locs hH => ?_)
  refine lv_iload_n hx hb dX1_wayTo_4 rfl (lv_at hl 1 rfl) ?_
  obtain ⟨r2, er2⟩ : ∃ z, z = fX1_rowOf a1 := ⟨_, rfl⟩
  have hf := lu_ er2 hf
  refine cl_i0 hH (rn_S ⟨hx, hb, hml, hown, hts⟩ hKn hH (mX1_rowOf l G M n a1 r2 er2.symm) (va_cwS 1 hts (lw_S q515 q428 q67 q429) rfl rfl rfl kdX1_rowOf ⟨Nat.le_of_ble_eq_true rfl, Nat.le_of_ble_eq_true rfl⟩) rfl hl.1 (Nat.le_of_ble_eq_true rfl) dX1_wayTo_5 ⟨(Nat.le_of_ble_eq_true rfl), (Nat.le_of_ble_eq_true rfl)⟩ rfl) (fun H locs hH => ?_)
  refine lv_isub hx hb dX1_wayTo_8 ?_
  refine va_mabs hx hb (by rw [hml, hl.1]) hown (hts _ q516) (hts _ q517) (hts _ q89) (hts _ q518) (Nat.le_of_ble_eq_true rfl) (Nat.le_of_ble_eq_true rfl) (Nat.le_of_ble_eq_true rfl) (Nat.le_of_ble_eq_true rfl) dX1_wayTo_9 ?_
  refine lv_topi (fun v3 ev3 => ?_)
  have hf := lu_ ev3 hf
  refine lv_iload_n hx hb dX1_wayTo_12 rfl (lv_at hl 0 rfl) ?_
  obtain ⟨r4, er4⟩ : ∃ z, z = fX1_columnOf a0 := ⟨_, rfl⟩
  have hf := lu_ er4 hf
  refine cl_i0 hH (rn_S ⟨hx, hb, hml, hown, hts⟩ hKn hH (mX1_columnOf l G M n a0 r4 er4.symm) (va_cwS 1 hts (lw_S q519 q441 q67 q442) rfl rfl rfl kdX1_columnOf ⟨Nat.le_of_ble_eq_true rfl, Nat.le_of_ble_eq_true rfl⟩) rfl hl.1 (Nat.le_of_ble_eq_true rfl) dX1_wayTo_13 ⟨(Nat.le_of_ble_eq_true rfl), (Nat.le_of_ble_eq_true rfl)⟩ rfl) (fun H locs hH => ?_)
  refine lv_iload_n hx hb dX1_wayTo_16 rfl (lv_at hl 1 rfl) ?_
  obtain ⟨r5, er5⟩ : ∃ z, z = fX1_columnOf a1 := ⟨_, rfl⟩
  have hf := lu_ er5 hf
  refine cl_i0 hH (rn_S ⟨hx, hb, hml, hown, hts⟩ hKn hH (mX1_columnOf l G M n a1 r5 er5.symm) (va_cwS 1 hts (lw_S q519 q441 q67 q442) rfl rfl rfl kdX1_columnOf ⟨Nat.le_of_ble_eq_true rfl, Nat.le_of_ble_eq_true rfl⟩) rfl hl.1 (Nat.le_of_ble_eq_true rfl) dX1_wayTo_17 ⟨(Nat.le_of_ble_eq_true rfl), (Nat.le_of_ble_eq_true rfl)⟩ rfl) (fun H locs hH => ?_)
  refine lv_isub hx hb dX1_wayTo_20 ?_
  refine va_mabs hx hb (by rw [hml, hl.1]) hown (hts _ q516) (hts _ q517) (hts _ q89) (hts _ q518) (Nat.le_of_ble_eq_true rfl) (Nat.le_of_ble_eq_true rfl) (Nat.le_of_ble_eq_true rfl) (Nat.le_of_ble_eq_true rfl) dX1_wayTo_21 ?_
  refine lv_topi (fun v6 ev6 => ?_)
  have hf := lu_ ev6 hf
  refine lv_iadd hx hb dX1_wayTo_24 ?_
  subst hf
  exact rt_i hx hb hr hlk hH dX1_wayTo_25
def fX1_has (a0 : Int32) (a1 : Int32) : Bool :=
  if ((a0 >>> (a1 &&& 31)) &&& 1) = 1 then
    true
  else
    false
theorem kdX1_has : yX1_has.cls ≠ "java/lang/invoke/MethodHandle" ∧ yX1_has.cls ≠ "java/lang/invoke/VarHandle" ∧ (parseMethodDescriptor yX1_has.desc).map (fun d => d.parameters.length) = some 2 := by decide +kernel
set_option maxHeartbeats 4000000 in
theorem mX1_has (l : Launch) (G : GT_) (M : Mem_) (n : Nat) (a0 : Int32) (a1 : Int32) (r : Bool) (hf : fX1_has a0 a1 = r) : Ct_ G l yX1_has (ws_ yX1_has cX1_has 2 (some .boolean)) ({ frames := 0, cells := 0, slots := 0, locals := 0 }) 0 0 [.int a0, .int a1] M n (some (.int (b2_ r))) M n := by
  refine en_ (by decide) (Nat.le_of_ble_eq_true rfl) ?_
  intro p e s m below meth c hx hb hr hlk hml hown hts hname hKn hH ls hl
  have hown : s.vm.findClass RX1 = some m.cls := hown
  have hl : lv_has ls 2 [(0, .int a0), (1, .int a1)] := hl
  unfold fX1_has at hf
  generalize s.heap = H at hH ⊢
  refine lv_iload_n hx hb dX1_has_0 rfl (lv_at hl 0 rfl) ?_
  refine lv_iload_n hx hb dX1_has_1 rfl (lv_at hl 1 rfl) ?_
  refine lv_ishr hx hb dX1_has_2 ?_
  refine lv_iconst (v := 1) hx hb dX1_has_3 (by decide) ?_
  refine lv_iand hx hb dX1_has_4 ?_
  refine lv_iconst (v := 1) hx hb dX1_has_5 (by decide) ?_
  refine lv_icmp_ne (tgt := 13) hx hb dX1_has_6 (by decide) (fun c1 => ?_) (fun c1 => ?_)
  · have hf := in_ c1 hf
    refine lv_iconst (v := 0) hx hb dX1_has_13 (by decide) ?_
    subst hf
    exact rt_b (b := false) hx hb hr hlk hH dX1_has_14
  · have hf := ip_ c1 hf
    refine lv_iconst (v := 1) hx hb dX1_has_9 (by decide) ?_
    refine lv_goto (tgt := 14) hx hb dX1_has_10 (by decide) ?_
    subst hf
    exact rt_b (b := true) hx hb hr hlk hH dX1_has_14
def fX2_byHabit (M : Mem_) (a0 : Nat) (a1 : Int32) : Option Int32 :=
  (gR_ M a0 1 5).bind fun v1 =>
  (aI_ M v1 0 (a1 / 2)).bind fun v2 =>
  if v2 = 1 then
    some a1
  else
    if v2 = 2 then
      some a1
    else
      (gI_ M a0 1 8).bind fun v3 =>
      lt_ (fX1_has v3 a1) fun r4 =>
      (gI_ M a0 1 8).bind fun v5 =>
      lt_ (fX1_has v5 (a1 + 1)) fun r6 =>
      if v2 = 0 then
        some 9
      else
        if (b2_ r4) = (b2_ r6) then
          some 9
        else
          if (b2_ r4) = 0 then
            some (a1 + 1)
          else
            some a1
theorem kdX2_byHabit : yX2_byHabit.cls ≠ "java/lang/invoke/MethodHandle" ∧ yX2_byHabit.cls ≠ "java/lang/invoke/VarHandle" ∧ (parseMethodDescriptor yX2_byHabit.desc).map (fun d => d.parameters.length) = some 1 := by decide +kernel
set_option maxHeartbeats 4000000 in
theorem mX2_byHabit (l : Launch) (G : GT_) (M : Mem_) (n : Nat) (a0 : Nat) (a1 : Int32) (r : Int32) (hf : fX2_byHabit M a0 a1 = some r) : Ct_ G l yX2_byHabit (ws_ yX2_byHabit cX2_byHabit 5 (some .int)) ({ frames := 1, cells := 0, slots := 0, locals := 21 }) 0 0 [.ref a0, .int a1] M n (some (.int r)) M n := by
  refine en_ (by decide) (Nat.le_of_ble_eq_true rfl) ?_
  intro p e s m below meth c hx hb hr hlk hml hown hts hname hKn hH ls hl
  have hown : s.vm.findClass RX2 = some m.cls := hown
  have hl : lv_has ls 5 [(0, .ref a0), (1, .int a1)] := hl
  unfold fX2_byHabit at hf
  generalize s.heap = H at hH ⊢
  refine lv_aload_n hx hb dX2_byHabit_0 rfl (lv_at hl 0 rfl) ?_
  obtain ⟨v1, ev1, hf⟩ := bs_ hf
  refine mg_gR hx hb hts hown hKn hH ev1 in_X2 rfl (by decide) (hts _ q881) (fun _ h9 => h9) dX2_byHabit_1 ?_
  refine lv_iload_n hx hb dX2_byHabit_4 rfl (lv_at hl 1 rfl) ?_
  refine lv_iconst (v := 2) hx hb dX2_byHabit_5 (by decide) ?_
  refine lv_idiv hx hb dX2_byHabit_6 (by decide) ?_
  obtain ⟨v2, ev2, hf⟩ := bs_ hf
  refine mg_iald hx hb hKn hH ev2 dX2_byHabit_7 ?_
  refine lv_istore_n (lv' := [(2, .int v2), (0, .ref a0), (1, .int a1)]) hx hb dX2_byHabit_8 rfl hl (by decide) rfl (fun ls hl => ?_)
  refine lv_iload_n hx hb dX2_byHabit_9 rfl (lv_at hl 0 rfl) ?_
  refine lv_iconst (v := 1) hx hb dX2_byHabit_10 (by decide) ?_
  refine lv_icmp_eq (tgt := 19) hx hb dX2_byHabit_11 (by decide) (fun c11 => ?_) (fun c11 => ?_)
  · have hf := ip_ c11 hf
    refine lv_iload_n hx hb dX2_byHabit_19 rfl (lv_at hl 2 rfl) ?_
    cases hf
    exact rt_i hx hb hr hlk hH dX2_byHabit_20
  · have hf := in_ c11 hf
    refine lv_iload_n hx hb dX2_byHabit_14 rfl (lv_at hl 0 rfl) ?_
    refine lv_iconst (v := 2) hx hb dX2_byHabit_15 (by decide) ?_
    refine lv_icmp_ne (tgt := 21) hx hb dX2_byHabit_16 (by decide) (fun c10 => ?_) (fun c10 => ?_)
    · have hf := in_ c10 hf
      refine lv_aload_n hx hb dX2_byHabit_21 rfl (lv_at hl 1 rfl) ?_
      obtain ⟨v3, ev3, hf⟩ := bs_ hf
      refine mg_gI hx hb hts hown hKn hH ev3 in_X2 rfl (by decide) (hts _ q887) (fun _ h9 => h9) dX2_byHabit_22 ?_
      refine lv_iload_n hx hb dX2_byHabit_25 rfl (lv_at hl 2 rfl) ?_
      obtain ⟨r4, er4⟩ : ∃ z, z = fX1_has v3 a1 := ⟨_, rfl⟩
      have hf := lu_ er4 hf
      refine cl_i0 hH (rn_SN ⟨hx, hb, hml, hown, hts⟩ hKn hH (mX1_has l G M n v3 a1 r4 er4.symm) ⟨va_cnB 2 hts (lw_meth q527) rfl rfl rfl (hKn.2.1 _ (List.mem_of_getElem? (i := 8) rfl)) (hts _ q67) kdX1_has ⟨Nat.le_of_ble_eq_true rfl, Nat.le_of_ble_eq_true rfl⟩, hts _ q526, trivial⟩ rfl hl.1 (Nat.le_of_ble_eq_true rfl) dX2_byHabit_26 ⟨(Nat.le_of_ble_eq_true rfl), (Nat.le_of_ble_eq_true rfl)⟩ rfl) (fun H locs hH => ?_)
      refine lv_istore_n (lv' := [(3, .int (b2_ r4)), (2, .int v2), (0, .ref a0), (1, .int a1)]) hx hb dX2_byHabit_29 rfl hl (by decide) rfl (fun ls hl => ?_)
      refine lv_aload_n hx hb dX2_byHabit_30 rfl (lv_at hl 2 rfl) ?_
      obtain ⟨v5, ev5, hf⟩ := bs_ hf
      refine mg_gI hx hb hts hown hKn hH ev5 in_X2 rfl (by decide) (hts _ q887) (fun _ h9 => h9) dX2_byHabit_31 ?_
      refine lv_iload_n hx hb dX2_byHabit_34 rfl (lv_at hl 3 rfl) ?_
      refine lv_iconst (v := 1) hx hb dX2_byHabit_35 (by decide) ?_
      refine lv_iadd hx hb dX2_byHabit_36 ?_
      obtain ⟨r6, er6⟩ : ∃ z, z = fX1_has v5 (a1 + 1) := ⟨_, rfl⟩
      have hf := lu_ er6 hf
      refine cl_i0 hH (rn_SN ⟨hx, hb, hml, hown, hts⟩ hKn hH (mX1_has l G M n v5 (a1 + 1) r6 er6.symm) ⟨va_cnB 2 hts (lw_meth q527) rfl rfl rfl (hKn.2.1 _ (List.mem_of_getElem? (i := 8) rfl)) (hts _ q67) kdX1_has ⟨Nat.le_of_ble_eq_true rfl, Nat.le_of_ble_eq_true rfl⟩, hts _ q526, trivial⟩ rfl hl.1 (Nat.le_of_ble_eq_true rfl) dX2_byHabit_37 ⟨(Nat.le_of_ble_eq_true rfl), (Nat.le_of_ble_eq_true rfl)⟩ rfl) (fun H locs hH => ?_)
      refine lv_istore (lv' := [(4, .int (b2_ r6)), (3, .int (b2_ r4)), (2, .int v2), (0, .ref a0), (1, .int a1)]) hx hb dX2_byHabit_40 hl (by decide) rfl (fun ls hl => ?_)
      refine lv_iload_n hx hb dX2_byHabit_42 rfl (lv_at hl 2 rfl) ?_
      refine lv_if_eq (tgt := 52) hx hb dX2_byHabit_43 (by decide) (fun c9 => ?_) (fun c9 => ?_)
      · have hf := ip_ c9 hf
        refine lv_bipush (v := 9) hx hb dX2_byHabit_52 (by decide) ?_
        refine lv_goto (tgt := 68) hx hb dX2_byHabit_54 (by decide) ?_
        cases hf
        exact rt_i hx hb hr hlk hH dX2_byHabit_68
      · have hf := in_ c9 hf
        refine lv_iload_n hx hb dX2_byHabit_46 rfl (lv_at hl 1 rfl) ?_
        refine lv_iload hx hb dX2_byHabit_47 (lv_at hl 0 rfl) ?_
        refine lv_icmp_ne (tgt := 57) hx hb dX2_byHabit_49 (by decide) (fun c8 => ?_) (fun c8 => ?_)
        · have hf := in_ c8 hf
          refine lv_iload_n hx hb dX2_byHabit_57 rfl (lv_at hl 1 rfl) ?_
          refine lv_if_eq (tgt := 65) hx hb dX2_byHabit_58 (by decide) (fun c7 => ?_) (fun c7 => ?_)
          · have hf := ip_ c7 hf
            refine lv_iload_n hx hb dX2_byHabit_65 rfl (lv_at hl 4 rfl) ?_
            refine lv_iconst (v := 1) hx hb dX2_byHabit_66 (by decide) ?_
            refine lv_iadd hx hb dX2_byHabit_67 ?_
            cases hf
            exact rt_i hx hb hr hlk hH dX2_byHabit_68
          · have hf := in_ c7 hf
            refine lv_iload_n hx hb dX2_byHabit_61 rfl (lv_at hl 4 rfl) ?_
            refine lv_goto (tgt := 68) hx hb dX2_byHabit_62 (by decide) ?_
            cases hf
            exact rt_i hx hb hr hlk hH dX2_byHabit_68
        · have hf := ip_ c8 hf
          refine lv_bipush (v := 9) hx hb dX2_byHabit_52 (by decide) ?_
          refine lv_goto (tgt := 68) hx hb dX2_byHabit_54 (by decide) ?_
          cases hf
          exact rt_i hx hb hr hlk hH dX2_byHabit_68
    · have hf := ip_ c10 hf
      refine lv_iload_n hx hb dX2_byHabit_19 rfl (lv_at hl 2 rfl) ?_
      cases hf
      exact rt_i hx hb hr hlk hH dX2_byHabit_20
def fX2_whose (M : Mem_) (a0 : Nat) (a1 : Int32) : Option Int32 :=
  (ck_ M a0 1).bind fun u1 =>
  (fX2_turn M a0).bind fun r2 =>
  lt_ ((2 - (2 * r2))) fun v3 =>
  (gR_ M a0 1 1).bind fun v4 =>
  (aI_ M v4 0 v3).bind fun v5 =>
  lt_ (fX1_wayTo v5 a1) fun r6 =>
  (gR_ M a0 1 1).bind fun v7 =>
  (aI_ M v7 0 (v3 + 1)).bind fun v8 =>
  lt_ (fX1_wayTo v8 a1) fun r9 =>
  lt_ ((r6 - r9)) fun v10 =>
  if 0 ≤ v10 then
    if v10 ≤ 0 then
      (ck_ M a0 1).bind fun u11 =>
      (fX2_byHabit M a0 v3).bind fun r12 =>
      some r12
    else
      some (v3 + 1)
  else
    some v3
theorem kdX2_whose : yX2_whose.cls ≠ "java/lang/invoke/MethodHandle" ∧ yX2_whose.cls ≠ "java/lang/invoke/VarHandle" ∧ (parseMethodDescriptor yX2_whose.desc).map (fun d => d.parameters.length) = some 1 := by decide +kernel
set_option maxHeartbeats 4000000 in
theorem mX2_whose (l : Launch) (G : GT_) (M : Mem_) (n : Nat) (a0 : Nat) (a1 : Int32) (r : Int32) (hf : fX2_whose M a0 a1 = some r) : Ct_ G l yX2_whose (ws_ yX2_whose cX2_whose 4 (some .int)) ({ frames := 2, cells := 0, slots := 0, locals := 45 }) 0 0 [.ref a0, .int a1] M n (some (.int r)) M n := by
  refine en_ (by decide) (Nat.le_of_ble_eq_true rfl) ?_
  intro p e s m below meth c hx hb hr hlk hml hown hts hname hKn hH ls hl
  have hown : s.vm.findClass RX2 = some m.cls := hown
  have hl : lv_has ls 4 [(0, .ref a0), (1, .int a1)] := hl
  unfold fX2_whose at hf
  generalize s.heap = H at hH ⊢
  refine lv_iconst (v := 2) hx hb dX2_whose_0 (by decide) ?_
  refine lv_iconst (v := 2) hx hb dX2_whose_1 (by decide) ?_
  refine lv_aload_n hx hb dX2_whose_2 rfl (lv_at hl 0 rfl) ?_
  obtain ⟨u1, eu1, hf⟩ := bs_ hf
  obtain ⟨r2, er2, hf⟩ := bs_ hf
  refine cl_i0 hH (rn_V ⟨hx, hb, hml, hown, hts⟩ hKn hH (mX2_turn l G M n a0 r2 er2) (cwV 0 hts (lw_V q415 q416 q417 q68 q418) rfl rfl rfl ⟨rfl, kdX2_turn⟩ ⟨Nat.le_of_ble_eq_true rfl, Nat.le_of_ble_eq_true rfl⟩) eu1 rfl rfl hl.1 (Nat.le_of_ble_eq_true rfl) dX2_whose_3 ⟨(Nat.le_of_ble_eq_true rfl), (Nat.le_of_ble_eq_true rfl)⟩ rfl) (fun H locs hH => ?_)
  refine lv_imul hx hb dX2_whose_6 ?_
  refine lv_isub hx hb dX2_whose_7 ?_
  refine lv_topi (fun v3 ev3 => ?_)
  have hf := lu_ ev3 hf
  refine lv_istore_n (lv' := [(2, .int v3), (0, .ref a0), (1, .int a1)]) hx hb dX2_whose_8 rfl hl (by decide) rfl (fun ls hl => ?_)
  refine lv_aload_n hx hb dX2_whose_9 rfl (lv_at hl 1 rfl) ?_
  obtain ⟨v4, ev4, hf⟩ := bs_ hf
  refine mg_gR hx hb hts hown hKn hH ev4 in_X2 rfl (by decide) (hts _ q873) (fun _ h9 => h9) dX2_whose_10 ?_
  refine lv_iload_n hx hb dX2_whose_13 rfl (lv_at hl 0 rfl) ?_
  obtain ⟨v5, ev5, hf⟩ := bs_ hf
  refine mg_iald hx hb hKn hH ev5 dX2_whose_14 ?_
  refine lv_iload_n hx hb dX2_whose_15 rfl (lv_at hl 2 rfl) ?_
  obtain ⟨r6, er6⟩ : ∃ z, z = fX1_wayTo v5 a1 := ⟨_, rfl⟩
  have hf := lu_ er6 hf
  refine cl_i0 hH (rn_SN ⟨hx, hb, hml, hown, hts⟩ hKn hH (mX1_wayTo l G M n v5 a1 r6 er6.symm) ⟨va_cnB 2 hts (lw_meth q514) rfl rfl rfl (hKn.2.1 _ (List.mem_of_getElem? (i := 7) rfl)) (hts _ q67) kdX1_wayTo ⟨Nat.le_of_ble_eq_true rfl, Nat.le_of_ble_eq_true rfl⟩, hts _ q513, trivial⟩ rfl hl.1 (Nat.le_of_ble_eq_true rfl) dX2_whose_16 ⟨(Nat.le_of_ble_eq_true rfl), (Nat.le_of_ble_eq_true rfl)⟩ rfl) (fun H locs hH => ?_)
  refine lv_aload_n hx hb dX2_whose_19 rfl (lv_at hl 1 rfl) ?_
  obtain ⟨v7, ev7, hf⟩ := bs_ hf
  refine mg_gR hx hb hts hown hKn hH ev7 in_X2 rfl (by decide) (hts _ q873) (fun _ h9 => h9) dX2_whose_20 ?_
  refine lv_iload_n hx hb dX2_whose_23 rfl (lv_at hl 0 rfl) ?_
  refine lv_iconst (v := 1) hx hb dX2_whose_24 (by decide) ?_
  refine lv_iadd hx hb dX2_whose_25 ?_
  obtain ⟨v8, ev8, hf⟩ := bs_ hf
  refine mg_iald hx hb hKn hH ev8 dX2_whose_26 ?_
  refine lv_iload_n hx hb dX2_whose_27 rfl (lv_at hl 2 rfl) ?_
  obtain ⟨r9, er9⟩ : ∃ z, z = fX1_wayTo v8 a1 := ⟨_, rfl⟩
  have hf := lu_ er9 hf
  refine cl_i0 hH (rn_SN ⟨hx, hb, hml, hown, hts⟩ hKn hH (mX1_wayTo l G M n v8 a1 r9 er9.symm) ⟨va_cnB 2 hts (lw_meth q514) rfl rfl rfl (hKn.2.1 _ (List.mem_of_getElem? (i := 7) rfl)) (hts _ q67) kdX1_wayTo ⟨Nat.le_of_ble_eq_true rfl, Nat.le_of_ble_eq_true rfl⟩, hts _ q513, trivial⟩ rfl hl.1 (Nat.le_of_ble_eq_true rfl) dX2_whose_28 ⟨(Nat.le_of_ble_eq_true rfl), (Nat.le_of_ble_eq_true rfl)⟩ rfl) (fun H locs hH => ?_)
  refine lv_isub hx hb dX2_whose_31 ?_
  refine lv_topi (fun v10 ev10 => ?_)
  have hf := lu_ ev10 hf
  refine lv_istore_n (lv' := [(3, .int v10), (2, .int v3), (0, .ref a0), (1, .int a1)]) hx hb dX2_whose_32 rfl hl (by decide) rfl (fun ls hl => ?_)
  refine lv_iload_n hx hb dX2_whose_33 rfl (lv_at hl 0 rfl) ?_
  refine lv_if_ge (tgt := 41) hx hb dX2_whose_34 (by decide) (fun c14 => ?_) (fun c14 => ?_)
  · have hf := ip_ c14 hf
    refine lv_iload_n hx hb dX2_whose_41 rfl (lv_at hl 0 rfl) ?_
    refine lv_if_le (tgt := 51) hx hb dX2_whose_42 (by decide) (fun c13 => ?_) (fun c13 => ?_)
    · have hf := ip_ c13 hf
      refine lv_aload_n hx hb dX2_whose_51 rfl (lv_at hl 2 rfl) ?_
      refine lv_iload_n hx hb dX2_whose_52 rfl (lv_at hl 1 rfl) ?_
      obtain ⟨u11, eu11, hf⟩ := bs_ hf
      obtain ⟨r12, er12, hf⟩ := bs_ hf
      refine cl_i0 hH (rn_V ⟨hx, hb, hml, hown, hts⟩ hKn hH (mX2_byHabit l G M n a0 v3 r12 er12) (cwV 1 hts (lw_V q520 q522 qs12 q68 q524) rfl rfl rfl ⟨rfl, kdX2_byHabit⟩ ⟨Nat.le_of_ble_eq_true rfl, Nat.le_of_ble_eq_true rfl⟩) eu11 rfl rfl hl.1 (Nat.le_of_ble_eq_true rfl) dX2_whose_53 ⟨(Nat.le_of_ble_eq_true rfl), (Nat.le_of_ble_eq_true rfl)⟩ rfl) (fun H locs hH => ?_)
      cases hf
      exact rt_i hx hb hr hlk hH dX2_whose_56
    · have hf := in_ c13 hf
      refine lv_iload_n hx hb dX2_whose_45 rfl (lv_at hl 1 rfl) ?_
      refine lv_iconst (v := 1) hx hb dX2_whose_46 (by decide) ?_
      refine lv_iadd hx hb dX2_whose_47 ?_
      refine lv_goto (tgt := 56) hx hb dX2_whose_48 (by decide) ?_
      cases hf
      exact rt_i hx hb hr hlk hH dX2_whose_56
  · have hf := in_ c14 hf
    refine lv_iload_n hx hb dX2_whose_37 rfl (lv_at hl 1 rfl) ?_
    refine lv_goto (tgt := 56) hx hb dX2_whose_38 (by decide) ?_
    cases hf
    exact rt_i hx hb hr hlk hH dX2_whose_56
def fX2_isClash (M : Mem_) (a0 : Nat) (a1 : Int32) : Option Bool :=
  (ck_ M a0 1).bind fun u1 =>
  (fX2_turn M a0).bind fun r2 =>
  lt_ ((2 - (2 * r2))) fun v3 =>
  (gR_ M a0 1 5).bind fun v4 =>
  (aI_ M v4 0 (v3 / 2)).bind fun v5 =>
  if v5 = 2 then
    (gR_ M a0 1 1).bind fun v6 =>
    (aI_ M v6 0 v3).bind fun v7 =>
    lt_ (fX1_wayTo v7 a1) fun r8 =>
    (gR_ M a0 1 1).bind fun v9 =>
    (aI_ M v9 0 (v3 + 1)).bind fun v10 =>
    lt_ (fX1_wayTo v10 a1) fun r11 =>
    if r8 = r11 then
      some true
    else
      some false
  else
    some false
theorem kdX2_isClash : yX2_isClash.cls ≠ "java/lang/invoke/MethodHandle" ∧ yX2_isClash.cls ≠ "java/lang/invoke/VarHandle" ∧ (parseMethodDescriptor yX2_isClash.desc).map (fun d => d.parameters.length) = some 1 := by decide +kernel
set_option maxHeartbeats 4000000 in
theorem mX2_isClash (l : Launch) (G : GT_) (M : Mem_) (n : Nat) (a0 : Nat) (a1 : Int32) (r : Bool) (hf : fX2_isClash M a0 a1 = some r) : Ct_ G l yX2_isClash (ws_ yX2_isClash cX2_isClash 3 (some .boolean)) ({ frames := 2, cells := 0, slots := 0, locals := 41 }) 0 0 [.ref a0, .int a1] M n (some (.int (b2_ r))) M n := by
  refine en_ (by decide) (Nat.le_of_ble_eq_true rfl) ?_
  intro p e s m below meth c hx hb hr hlk hml hown hts hname hKn hH ls hl
  have hown : s.vm.findClass RX2 = some m.cls := hown
  have hl : lv_has ls 3 [(0, .ref a0), (1, .int a1)] := hl
  unfold fX2_isClash at hf
  generalize s.heap = H at hH ⊢
  refine lv_iconst (v := 2) hx hb dX2_isClash_0 (by decide) ?_
  refine lv_iconst (v := 2) hx hb dX2_isClash_1 (by decide) ?_
  refine lv_aload_n hx hb dX2_isClash_2 rfl (lv_at hl 0 rfl) ?_
  obtain ⟨u1, eu1, hf⟩ := bs_ hf
  obtain ⟨r2, er2, hf⟩ := bs_ hf
  refine cl_i0 hH (rn_V ⟨hx, hb, hml, hown, hts⟩ hKn hH (mX2_turn l G M n a0 r2 er2) (cwV 0 hts (lw_V q415 q416 q417 q68 q418) rfl rfl rfl ⟨rfl, kdX2_turn⟩ ⟨Nat.le_of_ble_eq_true rfl, Nat.le_of_ble_eq_true rfl⟩) eu1 rfl rfl hl.1 (Nat.le_of_ble_eq_true rfl) dX2_isClash_3 ⟨(Nat.le_of_ble_eq_true rfl), (Nat.le_of_ble_eq_true rfl)⟩ rfl) (fun H locs hH => ?_)
  refine lv_imul hx hb dX2_isClash_6 ?_
  refine lv_isub hx hb dX2_isClash_7 ?_
  refine lv_topi (fun v3 ev3 => ?_)
  have hf := lu_ ev3 hf
  refine lv_istore_n (lv' := [(2, .int v3), (0, .ref a0), (1, .int a1)]) hx hb dX2_isClash_8 rfl hl (by decide) rfl (fun ls hl => ?_)
  refine lv_aload_n hx hb dX2_isClash_9 rfl (lv_at hl 1 rfl) ?_
  obtain ⟨v4, ev4, hf⟩ := bs_ hf
  refine mg_gR hx hb hts hown hKn hH ev4 in_X2 rfl (by decide) (hts _ q881) (fun _ h9 => h9) dX2_isClash_10 ?_
  refine lv_iload_n hx hb dX2_isClash_13 rfl (lv_at hl 0 rfl) ?_
  refine lv_iconst (v := 2) hx hb dX2_isClash_14 (by decide) ?_
  refine lv_idiv hx hb dX2_isClash_15 (by decide) ?_
  obtain ⟨v5, ev5, hf⟩ := bs_ hf
  refine mg_iald hx hb hKn hH ev5 dX2_isClash_16 ?_
  refine lv_iconst (v := 2) hx hb dX2_isClash_17 (by decide) ?_
  refine lv_icmp_ne (tgt := 50) hx hb dX2_isClash_18 (by decide) (fun c13 => ?_) (fun c13 => ?_)
  · have hf := in_ c13 hf
    refine lv_iconst (v := 0) hx hb dX2_isClash_50 (by decide) ?_
    cases hf
    exact rt_b (b := false) hx hb hr hlk hH dX2_isClash_51
  · have hf := ip_ c13 hf
    refine lv_aload_n hx hb dX2_isClash_21 rfl (lv_at hl 1 rfl) ?_
    obtain ⟨v6, ev6, hf⟩ := bs_ hf
    refine mg_gR hx hb hts hown hKn hH ev6 in_X2 rfl (by decide) (hts _ q873) (fun _ h9 => h9) dX2_isClash_22 ?_
    refine lv_iload_n hx hb dX2_isClash_25 rfl (lv_at hl 0 rfl) ?_
    obtain ⟨v7, ev7, hf⟩ := bs_ hf
    refine mg_iald hx hb hKn hH ev7 dX2_isClash_26 ?_
    refine lv_iload_n hx hb dX2_isClash_27 rfl (lv_at hl 2 rfl) ?_
    obtain ⟨r8, er8⟩ : ∃ z, z = fX1_wayTo v7 a1 := ⟨_, rfl⟩
    have hf := lu_ er8 hf
    refine cl_i0 hH (rn_SN ⟨hx, hb, hml, hown, hts⟩ hKn hH (mX1_wayTo l G M n v7 a1 r8 er8.symm) ⟨va_cnB 2 hts (lw_meth q514) rfl rfl rfl (hKn.2.1 _ (List.mem_of_getElem? (i := 7) rfl)) (hts _ q67) kdX1_wayTo ⟨Nat.le_of_ble_eq_true rfl, Nat.le_of_ble_eq_true rfl⟩, hts _ q513, trivial⟩ rfl hl.1 (Nat.le_of_ble_eq_true rfl) dX2_isClash_28 ⟨(Nat.le_of_ble_eq_true rfl), (Nat.le_of_ble_eq_true rfl)⟩ rfl) (fun H locs hH => ?_)
    refine lv_aload_n hx hb dX2_isClash_31 rfl (lv_at hl 1 rfl) ?_
    obtain ⟨v9, ev9, hf⟩ := bs_ hf
    refine mg_gR hx hb hts hown hKn hH ev9 in_X2 rfl (by decide) (hts _ q873) (fun _ h9 => h9) dX2_isClash_32 ?_
    refine lv_iload_n hx hb dX2_isClash_35 rfl (lv_at hl 0 rfl) ?_
    refine lv_iconst (v := 1) hx hb dX2_isClash_36 (by decide) ?_
    refine lv_iadd hx hb dX2_isClash_37 ?_
    obtain ⟨v10, ev10, hf⟩ := bs_ hf
    refine mg_iald hx hb hKn hH ev10 dX2_isClash_38 ?_
    refine lv_iload_n hx hb dX2_isClash_39 rfl (lv_at hl 2 rfl) ?_
    obtain ⟨r11, er11⟩ : ∃ z, z = fX1_wayTo v10 a1 := ⟨_, rfl⟩
    have hf := lu_ er11 hf
    refine cl_i0 hH (rn_SN ⟨hx, hb, hml, hown, hts⟩ hKn hH (mX1_wayTo l G M n v10 a1 r11 er11.symm) ⟨va_cnB 2 hts (lw_meth q514) rfl rfl rfl (hKn.2.1 _ (List.mem_of_getElem? (i := 7) rfl)) (hts _ q67) kdX1_wayTo ⟨Nat.le_of_ble_eq_true rfl, Nat.le_of_ble_eq_true rfl⟩, hts _ q513, trivial⟩ rfl hl.1 (Nat.le_of_ble_eq_true rfl) dX2_isClash_40 ⟨(Nat.le_of_ble_eq_true rfl), (Nat.le_of_ble_eq_true rfl)⟩ rfl) (fun H locs hH => ?_)
    refine lv_icmp_ne (tgt := 50) hx hb dX2_isClash_43 (by decide) (fun c12 => ?_) (fun c12 => ?_)
    · have hf := in_ c12 hf
      refine lv_iconst (v := 0) hx hb dX2_isClash_50 (by decide) ?_
      cases hf
      exact rt_b (b := false) hx hb hr hlk hH dX2_isClash_51
    · have hf := ip_ c12 hf
      refine lv_iconst (v := 1) hx hb dX2_isClash_46 (by decide) ?_
      refine lv_goto (tgt := 51) hx hb dX2_isClash_47 (by decide) ?_
      cases hf
      exact rt_b (b := true) hx hb hr hlk hH dX2_isClash_51
def fX2_steps (M : Mem_) (a0 : Nat) (a1 : Int32) (a2 : Int32) : Option Int32 :=
  (gR_ M a0 1 2).bind fun v1 =>
  (aI_ M v1 0 a1).bind fun v2 =>
  (gR_ M a0 1 3).bind fun v3 =>
  (aI_ M v3 0 a1).bind fun v4 =>
  lt_ (if 1 < (v2 - (v4 / 30)) then (v2 - (v4 / 30)) else 1) fun v5 =>
  some (a2 * v5)
theorem kdX2_steps : yX2_steps.cls ≠ "java/lang/invoke/MethodHandle" ∧ yX2_steps.cls ≠ "java/lang/invoke/VarHandle" ∧ (parseMethodDescriptor yX2_steps.desc).map (fun d => d.parameters.length) = some 2 := by decide +kernel
set_option maxHeartbeats 4000000 in
theorem mX2_steps (l : Launch) (G : GT_) (M : Mem_) (n : Nat) (a0 : Nat) (a1 : Int32) (a2 : Int32) (r : Int32) (hf : fX2_steps M a0 a1 a2 = some r) : Ct_ G l yX2_steps (ws_ yX2_steps cX2_steps 3 (some .int)) ({ frames := 1, cells := 0, slots := 0, locals := 14 }) 0 0 [.ref a0, .int a1, .int a2] M n (some (.int r)) M n := by
  refine en_ (by decide) (Nat.le_of_ble_eq_true rfl) ?_
  intro p e s m below meth c hx hb hr hlk hml hown hts hname hKn hH ls hl
  have hown : s.vm.findClass RX2 = some m.cls := hown
  have hl : lv_has ls 3 [(0, .ref a0), (1, .int a1), (2, .int a2)] := hl
  unfold fX2_steps at hf
  generalize s.heap = H at hH ⊢
  refine lv_iload_n hx hb dX2_steps_0 rfl (lv_at hl 2 rfl) ?_
  refine lv_iconst (v := 1) hx hb dX2_steps_1 (by decide) ?_
  refine lv_aload_n hx hb dX2_steps_2 rfl (lv_at hl 0 rfl) ?_
  obtain ⟨v1, ev1, hf⟩ := bs_ hf
  refine mg_gR hx hb hts hown hKn hH ev1 in_X2 rfl (by decide) (hts _ q875) (fun _ h9 => h9) dX2_steps_3 ?_
  refine lv_iload_n hx hb dX2_steps_6 rfl (lv_at hl 1 rfl) ?_
  obtain ⟨v2, ev2, hf⟩ := bs_ hf
  refine mg_iald hx hb hKn hH ev2 dX2_steps_7 ?_
  refine lv_aload_n hx hb dX2_steps_8 rfl (lv_at hl 0 rfl) ?_
  obtain ⟨v3, ev3, hf⟩ := bs_ hf
  refine mg_gR hx hb hts hown hKn hH ev3 in_X2 rfl (by decide) (hts _ q877) (fun _ h9 => h9) dX2_steps_9 ?_
  refine lv_iload_n hx hb dX2_steps_12 rfl (lv_at hl 1 rfl) ?_
  obtain ⟨v4, ev4, hf⟩ := bs_ hf
  refine mg_iald hx hb hKn hH ev4 dX2_steps_13 ?_
  refine lv_bipush (v := 30) hx hb dX2_steps_14 (by decide) ?_
  refine lv_idiv hx hb dX2_steps_16 (by decide) ?_
  refine lv_isub hx hb dX2_steps_17 ?_
  refine va_mmax hx hb (by rw [hml, hl.1]) hown (hts _ q536) (hts _ q447) (hts _ q89) (hts _ q448) (Nat.le_of_ble_eq_true rfl) (Nat.le_of_ble_eq_true rfl) (Nat.le_of_ble_eq_true rfl) (Nat.le_of_ble_eq_true rfl) dX2_steps_18 ?_
  refine lv_topi (fun v5 ev5 => ?_)
  have hf := lu_ ev5 hf
  refine lv_imul hx hb dX2_steps_21 ?_
  cases hf
  exact rt_i hx hb hr hlk hH dX2_steps_22
