set_option maxRecDepth 100000
def fX1_reads_L29 : Nat → Mem_ → Nat → Nat → Nat → Int32 → Int32 → Option ((Nat ⊕ Int32) × Mem_ × Nat)
  | 0, _, _, _, _, _, _ => none
  | fuel + 1, M, n, x0, x1, x2, x3 =>
    if x2 ≤ x3 then
      (gR_ M x0 0 0).bind fun v20 =>
      (gR_ M x0 0 2).bind fun v21 =>
      (ck_ M v20 1).bind fun u22 =>
      (fX2_takes M v20 v21).bind fun M24 =>
      some (.inr x2, M24, n)
    else
      (gR_ M x0 0 5).bind fun v25 =>
      (aR_ M v25 4 x3).bind fun v26 =>
      (ck_ M x0 0).bind fun u27 =>
      ba_ (fX1_comes M n x0 v26) fun r28 M29 n30 =>
      if (b2_ r28) = 0 then
        lt_ (ms_ M29 n30 (eN_ 6)) fun M32 =>
        (gR_ M32 x0 0 5).bind fun v33 =>
        (aR_ M32 v33 4 x3).bind fun v34 =>
        (gI_ M32 v34 5 1).bind fun v35 =>
        (fX7_init M32 n30 ((-2000) - v35)).bind fun M37 =>
        (gX_ M37 n30 6).bind fun v38 =>
        some (.inl n30, M37, n30 + 1)
      else
        lt_ (x3 + 1) fun v31 =>
        fX1_reads_L29 fuel M29 n30 x0 x1 x2 v31
def fX1_reads (M : Mem_) (n : Nat) (a0 : Nat) (a1 : Nat) : Option ((Nat ⊕ Int32) × Mem_ × Nat) :=
  lt_ (ms_ M n (eO_ 4 [.null, .int 0])) fun M1 =>
  (fX5_init M1 n a1).bind fun M3 =>
  (gR_ M3 a0 0 5).bind fun v4 =>
  (ck_ M3 n 4).bind fun u5 =>
  bx_ (fX5_whole M3 (n + 1) n v4) (fun xe7 M8 n9 =>
    some (.inl xe7, M8, n9)
  ) (fun r10 M11 n12 =>
    (gR_ M11 a0 0 2).bind fun v15 =>
    (gR_ M11 a0 0 0).bind fun v16 =>
    (ck_ M11 v15 1).bind fun u17 =>
    (fX2_takes M11 v15 v16).bind fun M19 =>
    fX1_reads_L29 102 M19 n12 a0 a1 r10 0
  )
theorem kdX1_reads : yX1_reads.cls ≠ "java/lang/invoke/MethodHandle" ∧ yX1_reads.cls ≠ "java/lang/invoke/VarHandle" ∧ (parseMethodDescriptor yX1_reads.desc).map (fun d => d.parameters.length) = some 1 := by decide +kernel
set_option maxHeartbeats 4000000 in
theorem mX1_reads (l : Launch) (hnt : l.flags = flags0) (G : GT_) (M : Mem_) (n : Nat) (a0 : Nat) (a1 : Nat) (r : Int32) (M1 : Mem_) (n1 : Nat) (hf : fX1_reads M n a0 a1 = some (.inr r, M1, n1)) : Ct_ G l yX1_reads (ws_ yX1_reads cX1_reads 4 (some .int)) ({ frames := 12, cells := 1123, slots := 6530, locals := 221 }) 1123 6530 [.ref a0, .ref a1] M n (some (.int r)) M1 n1 := by
  refine en_ (by decide) (Nat.le_of_ble_eq_true rfl) ?_
  intro p e s m below meth c hx hb hr hlk hml hown hts hname hKn hH ls hl
  have hown : s.vm.findClass RX1 = some m.cls := hown
  have hl : lv_has ls 4 [(0, .ref a0), (1, .ref a1)] := hl
  have w29 : ∀ (fuel : Nat), ∀ (M : Mem_) (n : Nat) (x0 : Nat) (x1 : Nat) (x2 : Int32) (x3 : Int32) (k1 k2 : Nat) (H : Heap) (locs : List Loc) (ls : Array Slot), k1 + 2 * fuel ≤ 1123 → k2 + 8 * fuel ≤ 6530 → St_ G n M s H locs → lv_has ls 4 [(0, .ref x0), (1, .ref x1), (2, .int x2), (3, .int x3)] → fX1_reads_L29 fuel M n x0 x1 x2 x3 = some (.inr r, M1, n1) → W p l e ({ frames := 12, cells := 1123, slots := 6530, locals := 221 } : Room) s m ([.ref a0, .ref a1] : List Value).toArray below meth c H locs k1 k2 (MQ below (Qc_ G (some (.int r)) M1 n1) ([.ref a0, .ref a1] : List Value).toArray s 1123 6530 (fun q => G.1 ≤ q)) (F0 m 29 ls []) := by
    intro fuel
    induction fuel with
    | zero =>
      intro M n x0 x1 x2 x3 k1 k2 H locs ls hk1 hk2 hH hl hf
      cases hf
    | succ fuel ih =>
      intro M n x0 x1 x2 x3 k1 k2 H locs ls hk1 hk2 hH hl hf
      unfold fX1_reads_L29 at hf
      refine lv_iload_n hx hb dX1_reads_29 rfl (lv_at hl 3 rfl) ?_
      refine lv_iload_n hx hb dX1_reads_30 rfl (lv_at hl 2 rfl) ?_
      refine lv_icmp_ge (tgt := 74) hx hb dX1_reads_31 (by decide) (fun c40 => ?_) (fun c40 => ?_)
      · have hf := ip_ c40 hf
        refine lv_aload_n hx hb dX1_reads_74 rfl (lv_at hl 0 rfl) ?_
        obtain ⟨v20, ev20, hf⟩ := bs_ hf
        refine mg_gR hx hb hts hown hKn hH ev20 in_X1 rfl (by decide) (hts _ q937) (fun _ h9 => h9) dX1_reads_75 ?_
        refine lv_aload_n hx hb dX1_reads_78 rfl (lv_at hl 0 rfl) ?_
        obtain ⟨v21, ev21, hf⟩ := bs_ hf
        refine mg_gR hx hb hts hown hKn hH ev21 in_X1 rfl (by decide) (hts _ q939) (fun _ h9 => h9) dX1_reads_79 ?_
        obtain ⟨u22, eu22, hf⟩ := bs_ hf
        obtain ⟨M24, er23, hf⟩ := bs_ hf
        refine cl_v0 hH (rn_V ⟨hx, hb, hml, hown, hts⟩ hKn hH (mX2_takes l G M n v20 v21 M24 er23) (cwV 1 hts (lw_V q299 q300 q301 q68 q302) rfl rfl rfl ⟨rfl, kdX2_takes⟩ ⟨Nat.le_of_ble_eq_true rfl, Nat.le_of_ble_eq_true rfl⟩) eu22 rfl rfl hl.1 (Nat.le_of_ble_eq_true rfl) dX1_reads_82 ⟨(show k1 + 0 ≤ 1123 by omega), (show k2 + 0 ≤ 6530 by omega)⟩ rfl) (fun H locs hH => ?_)
        refine lv_iload_n hx hb dX1_reads_85 rfl (lv_at hl 2 rfl) ?_
        cases hf
        refine W.widen (k := 1123) (n := 6530) (by omega) (by omega) ?_
        exact rt_i hx hb hr hlk hH dX1_reads_86
      · have hf := in_ c40 hf
        refine lv_aload_n hx hb dX1_reads_34 rfl (lv_at hl 0 rfl) ?_
        refine lv_aload_n hx hb dX1_reads_35 rfl (lv_at hl 0 rfl) ?_
        obtain ⟨v25, ev25, hf⟩ := bs_ hf
        refine mg_gR hx hb hts hown hKn hH ev25 in_X1 rfl (by decide) (hts _ q942) (fun _ h9 => h9) dX1_reads_36 ?_
        refine lv_iload_n hx hb dX1_reads_39 rfl (lv_at hl 3 rfl) ?_
        obtain ⟨v26, ev26, hf⟩ := bs_ hf
        refine mg_aald4 hx hb hKn hH ev26 dX1_reads_40 ?_
        obtain ⟨u27, eu27, hf⟩ := bs_ hf
        obtain ⟨r28, M29, n30, er28, hf⟩ := bas_ hf
        refine cl_i hH (rn_V ⟨hx, hb, hml, hown, hts⟩ hKn hH (mX1_comes l G M n x0 v26 r28 M29 n30 er28) (cwV 1 hts (lw_V q312 q314 qs10 q67 q315) rfl rfl rfl ⟨rfl, kdX1_comes⟩ ⟨Nat.le_of_ble_eq_true rfl, Nat.le_of_ble_eq_true rfl⟩) eu27 rfl rfl hl.1 (Nat.le_of_ble_eq_true rfl) dX1_reads_41 ⟨(show k1 + 1 ≤ 1123 by omega), (show k2 + 1 ≤ 6530 by omega)⟩ rfl) (fun H locs hH => ?_)
        refine W.widen (k := k1 + 1) (n := k2 + 1) (by omega) (by omega) ?_
        refine lv_if_ne (tgt := 68) hx hb dX1_reads_44 (by decide) (fun c39 => ?_) (fun c39 => ?_)
        · have hf := in_ c39 hf
          obtain ⟨v31, ev31⟩ : ∃ z : Int32, z = x3 + 1 := ⟨_, rfl⟩
          have hf := lu_ ev31 hf
          refine lv_iinc (v := v31) (lv' := [(3, .int v31), (0, .ref x0), (1, .ref x1), (2, .int x2)]) hx hb dX1_reads_68 hl (k := 3) rfl (by rw [ev31]; rfl) (by decide) rfl (fun ls hl => ?_)
          refine lv_goto (tgt := 29) hx hb dX1_reads_71 (by decide) ?_
          exact ih M29 n30 x0 x1 x2 v31 (k1 + 1) (k2 + 1) _ _ ls (by omega) (by omega) hH (lv_sub hl [1, 2, 3, 0] rfl) hf
        · have hf := ip_ c39 hf
          refine mg_newx (ci := 6) hx hb hts hown hKn hH (hts _ q193) (hts _ q274) (hts _ q78) rfl (show k1 + 1 + 1 ≤ 1123 by omega) (show k2 + 1 + 7 ≤ 6530 by omega) dX1_reads_47 (fun H hH => ?_)
          obtain ⟨M32, eM32⟩ : ∃ z : Mem_, z = ms_ M29 n30 (eN_ 6) := ⟨_, rfl⟩
          have hf := lu_ eM32 hf
          have hH := st_eq eM32 hH
          refine W.widen (k := k1 + 2) (n := k2 + 8) (by omega) (by omega) ?_
          refine lv_dup hx hb dX1_reads_50 rfl ?_
          refine lv_sipush (v := (-2000)) hx hb dX1_reads_51 (by decide) ?_
          refine lv_aload_n hx hb dX1_reads_54 rfl (lv_at hl 0 rfl) ?_
          obtain ⟨v33, ev33, hf⟩ := bs_ hf
          refine mg_gR hx hb hts hown hKn hH ev33 in_X1 rfl (by decide) (hts _ q942) (fun _ h9 => h9) dX1_reads_55 ?_
          refine lv_iload_n hx hb dX1_reads_58 rfl (lv_at hl 3 rfl) ?_
          obtain ⟨v34, ev34, hf⟩ := bs_ hf
          refine mg_aald4 hx hb hKn hH ev34 dX1_reads_59 ?_
          obtain ⟨v35, ev35, hf⟩ := bs_ hf
          refine mg_gI hx hb hts hown hKn hH ev35 in_X6 rfl (by decide) (hts _ q242) (fun _ h9 => h9) dX1_reads_60 ?_
          refine lv_isub hx hb dX1_reads_63 ?_
          obtain ⟨M37, er36, hf⟩ := bs_ hf
          refine cl_v0 hH (rn_I ⟨hx, hb, hml, hown, hts⟩ hKn hH (mX7_init l hnt G M32 (n30 + 1) n30 ((-2000) - v35) M37 er36) (cwI 1 hts (lw_meth q284) rfl rfl rfl (hts _ q78) (hts _ q570) (hts _ q283) rfl kdX7_init ⟨Nat.le_of_ble_eq_true rfl, Nat.le_of_ble_eq_true rfl⟩) rfl hl.1 (Nat.le_of_ble_eq_true rfl) dX1_reads_64 ⟨(show k1 + 2 + 0 ≤ 1123 by omega), (show k2 + 8 + 0 ≤ 6530 by omega)⟩ rfl) (fun H locs hH => ?_)
          obtain ⟨v38, ev38, hf⟩ := bs_ hf
          cases hf
  unfold fX1_reads at hf
  refine mg_new (ci := 4) hx hb hts hown hKn hH in_X5 tyX5_ok (hts _ q207) (hts _ q208) (hts _ q76) rfl (Nat.le_of_ble_eq_true rfl) (Nat.le_of_ble_eq_true rfl) dX1_reads_0 (fun H hH => ?_)
  obtain ⟨M1, eM1⟩ : ∃ z : Mem_, z = ms_ M n (eO_ 4 [.null, .int 0]) := ⟨_, rfl⟩
  have hf := lu_ eM1 hf
  have hH := st_eq eM1 hH
  refine W.widen (k := 1) (n := 2) (Nat.le_of_ble_eq_true rfl) (Nat.le_of_ble_eq_true rfl) ?_
  refine lv_dup hx hb dX1_reads_3 rfl ?_
  refine lv_aload_n hx hb dX1_reads_4 rfl (lv_at hl 1 rfl) ?_
  obtain ⟨M3, er2, hf⟩ := bs_ hf
  refine cl_v0 hH (rn_I ⟨hx, hb, hml, hown, hts⟩ hKn hH (mX5_init l G M1 (n + 1) n a1 M3 er2) (cwI 1 hts (lw_meth q211) rfl rfl rfl (hts _ q76) (hts _ q209) (hts _ q210) rfl kdX5_init ⟨Nat.le_of_ble_eq_true rfl, Nat.le_of_ble_eq_true rfl⟩) rfl hl.1 (Nat.le_of_ble_eq_true rfl) dX1_reads_5 ⟨(Nat.le_of_ble_eq_true rfl), (Nat.le_of_ble_eq_true rfl)⟩ rfl) (fun H locs hH => ?_)
  refine lv_aload_n hx hb dX1_reads_8 rfl (lv_at hl 0 rfl) ?_
  obtain ⟨v4, ev4, hf⟩ := bs_ hf
  refine mg_gR hx hb hts hown hKn hH ev4 in_X1 rfl (by decide) (hts _ q942) (fun _ h9 => h9) dX1_reads_9 ?_
  obtain ⟨u5, eu5, hf⟩ := bs_ hf
  rcases bxs_ hf with ⟨xe7, M8, n9, e13, hf⟩ | ⟨r10, M11, n12, e13, hf⟩
  · cases hf
  · refine cl_i hH (rn_V ⟨hx, hb, hml, hown, hts⟩ hKn hH (mX5_whole l hnt G M3 (n + 1) n v4 r10 M11 n12 e13) (cwV 1 hts (lw_V q220 q221 q222 q76 q223) rfl rfl rfl ⟨rfl, kdX5_whole⟩ ⟨(Nat.le_of_ble_eq_true rfl), (Nat.le_of_ble_eq_true rfl)⟩) eu5 rfl rfl hl.1 (Nat.le_of_ble_eq_true rfl) dX1_reads_12 ⟨(Nat.le_of_ble_eq_true rfl), (Nat.le_of_ble_eq_true rfl)⟩ rfl) (fun H locs hH => ?_)
    refine W.widen (k := 919) (n := 5714) (Nat.le_of_ble_eq_true rfl) (Nat.le_of_ble_eq_true rfl) ?_
    refine lv_istore_n (lv' := [(2, .int r10), (0, .ref a0), (1, .ref a1)]) hx hb dX1_reads_15 rfl hl (by decide) rfl (fun ls hl => ?_)
    refine lv_aload_n hx hb dX1_reads_16 rfl (lv_at hl 1 rfl) ?_
    obtain ⟨v15, ev15, hf⟩ := bs_ hf
    refine mg_gR hx hb hts hown hKn hH ev15 in_X1 rfl (by decide) (hts _ q939) (fun _ h9 => h9) dX1_reads_17 ?_
    refine lv_aload_n hx hb dX1_reads_20 rfl (lv_at hl 1 rfl) ?_
    obtain ⟨v16, ev16, hf⟩ := bs_ hf
    refine mg_gR hx hb hts hown hKn hH ev16 in_X1 rfl (by decide) (hts _ q937) (fun _ h9 => h9) dX1_reads_21 ?_
    obtain ⟨u17, eu17, hf⟩ := bs_ hf
    obtain ⟨M19, er18, hf⟩ := bs_ hf
    refine cl_v0 hH (rn_V ⟨hx, hb, hml, hown, hts⟩ hKn hH (mX2_takes l G M11 n12 v15 v16 M19 er18) (cwV 1 hts (lw_V q299 q300 q301 q68 q302) rfl rfl rfl ⟨rfl, kdX2_takes⟩ ⟨Nat.le_of_ble_eq_true rfl, Nat.le_of_ble_eq_true rfl⟩) eu17 rfl rfl hl.1 (Nat.le_of_ble_eq_true rfl) dX1_reads_24 ⟨(Nat.le_of_ble_eq_true rfl), (Nat.le_of_ble_eq_true rfl)⟩ rfl) (fun H locs hH => ?_)
    refine lv_iconst (v := 0) hx hb dX1_reads_27 (by decide) ?_
    refine lv_istore_n (lv' := [(3, .int 0), (2, .int r10), (0, .ref a0), (1, .ref a1)]) hx hb dX1_reads_28 rfl hl (by decide) rfl (fun ls hl => ?_)
    exact w29 102 M19 n12 a0 a1 r10 0 919 5714 _ _ ls (Nat.le_of_ble_eq_true rfl) (Nat.le_of_ble_eq_true rfl) hH (lv_sub hl [2, 3, 1, 0] rfl) hf
set_option maxHeartbeats 4000000 in
theorem xX1_reads (l : Launch) (hnt : l.flags = flags0) (G : GT_) (M : Mem_) (n : Nat) (a0 : Nat) (a1 : Nat) (xx1 : Nat) (M1 : Mem_) (n1 : Nat) (hf : fX1_reads M n a0 a1 = some (.inl xx1, M1, n1)) : Cx_ G l yX1_reads (ws_ yX1_reads cX1_reads 4 (some .int)) ({ frames := 12, cells := 1123, slots := 6530, locals := 221 }) 1123 6530 [.ref a0, .ref a1] M n (Px_ xx1) M1 n1 := by
  refine en_c (by decide) (Nat.le_of_ble_eq_true rfl) ?_
  intro p e s m below meth c had htab hx hb hr hlk hml hown hts hname hKn hH ls hl
  have hown : s.vm.findClass RX1 = some m.cls := hown
  have hl : lv_has ls 4 [(0, .ref a0), (1, .ref a1)] := hl
  have w29 : ∀ (fuel : Nat), ∀ (M : Mem_) (n : Nat) (x0 : Nat) (x1 : Nat) (x2 : Int32) (x3 : Int32) (k1 k2 : Nat) (H : Heap) (locs : List Loc) (ls : Array Slot), k1 + 2 * fuel ≤ 1123 → k2 + 8 * fuel ≤ 6530 → St_ G n M s H locs → lv_has ls 4 [(0, .ref x0), (1, .ref x1), (2, .int x2), (3, .int x3)] → fX1_reads_L29 fuel M n x0 x1 x2 x3 = some (.inl xx1, M1, n1) → W p l e ({ frames := 12, cells := 1123, slots := 6530, locals := 221 } : Room) s m ([.ref a0, .ref a1] : List Value).toArray below meth c H locs k1 k2 (MT below (Qt_ G (Px_ xx1) M1 n1) ([.ref a0, .ref a1] : List Value).toArray s 1123 6530 (fun q => G.1 ≤ q)) (F0 m 29 ls []) := by
    intro fuel
    induction fuel with
    | zero =>
      intro M n x0 x1 x2 x3 k1 k2 H locs ls hk1 hk2 hH hl hf
      cases hf
    | succ fuel ih =>
      intro M n x0 x1 x2 x3 k1 k2 H locs ls hk1 hk2 hH hl hf
      unfold fX1_reads_L29 at hf
      refine lv_iload_n hx hb dX1_reads_29 rfl (lv_at hl 3 rfl) ?_
      refine lv_iload_n hx hb dX1_reads_30 rfl (lv_at hl 2 rfl) ?_
      refine lv_icmp_ge (tgt := 74) hx hb dX1_reads_31 (by decide) (fun c40 => ?_) (fun c40 => ?_)
      · have hf := ip_ c40 hf
        refine lv_aload_n hx hb dX1_reads_74 rfl (lv_at hl 0 rfl) ?_
        obtain ⟨v20, ev20, hf⟩ := bs_ hf
        refine mg_gR hx hb hts hown hKn hH ev20 in_X1 rfl (by decide) (hts _ q937) (fun _ h9 => h9) dX1_reads_75 ?_
        refine lv_aload_n hx hb dX1_reads_78 rfl (lv_at hl 0 rfl) ?_
        obtain ⟨v21, ev21, hf⟩ := bs_ hf
        refine mg_gR hx hb hts hown hKn hH ev21 in_X1 rfl (by decide) (hts _ q939) (fun _ h9 => h9) dX1_reads_79 ?_
        obtain ⟨u22, eu22, hf⟩ := bs_ hf
        obtain ⟨M24, er23, hf⟩ := bs_ hf
        refine cl_v0 hH (rn_V ⟨hx, hb, hml, hown, hts⟩ hKn hH (mX2_takes l G M n v20 v21 M24 er23) (cwV 1 hts (lw_V q299 q300 q301 q68 q302) rfl rfl rfl ⟨rfl, kdX2_takes⟩ ⟨Nat.le_of_ble_eq_true rfl, Nat.le_of_ble_eq_true rfl⟩) eu22 rfl rfl hl.1 (Nat.le_of_ble_eq_true rfl) dX1_reads_82 ⟨(show k1 + 0 ≤ 1123 by omega), (show k2 + 0 ≤ 6530 by omega)⟩ rfl) (fun H locs hH => ?_)
        refine lv_iload_n hx hb dX1_reads_85 rfl (lv_at hl 2 rfl) ?_
        cases hf
      · have hf := in_ c40 hf
        refine lv_aload_n hx hb dX1_reads_34 rfl (lv_at hl 0 rfl) ?_
        refine lv_aload_n hx hb dX1_reads_35 rfl (lv_at hl 0 rfl) ?_
        obtain ⟨v25, ev25, hf⟩ := bs_ hf
        refine mg_gR hx hb hts hown hKn hH ev25 in_X1 rfl (by decide) (hts _ q942) (fun _ h9 => h9) dX1_reads_36 ?_
        refine lv_iload_n hx hb dX1_reads_39 rfl (lv_at hl 3 rfl) ?_
        obtain ⟨v26, ev26, hf⟩ := bs_ hf
        refine mg_aald4 hx hb hKn hH ev26 dX1_reads_40 ?_
        obtain ⟨u27, eu27, hf⟩ := bs_ hf
        obtain ⟨r28, M29, n30, er28, hf⟩ := bas_ hf
        refine cl_i hH (rn_V ⟨hx, hb, hml, hown, hts⟩ hKn hH (mX1_comes l G M n x0 v26 r28 M29 n30 er28) (cwV 1 hts (lw_V q312 q314 qs10 q67 q315) rfl rfl rfl ⟨rfl, kdX1_comes⟩ ⟨Nat.le_of_ble_eq_true rfl, Nat.le_of_ble_eq_true rfl⟩) eu27 rfl rfl hl.1 (Nat.le_of_ble_eq_true rfl) dX1_reads_41 ⟨(show k1 + 1 ≤ 1123 by omega), (show k2 + 1 ≤ 6530 by omega)⟩ rfl) (fun H locs hH => ?_)
        refine W.widen (k := k1 + 1) (n := k2 + 1) (by omega) (by omega) ?_
        refine lv_if_ne (tgt := 68) hx hb dX1_reads_44 (by decide) (fun c39 => ?_) (fun c39 => ?_)
        · have hf := in_ c39 hf
          obtain ⟨v31, ev31⟩ : ∃ z : Int32, z = x3 + 1 := ⟨_, rfl⟩
          have hf := lu_ ev31 hf
          refine lv_iinc (v := v31) (lv' := [(3, .int v31), (0, .ref x0), (1, .ref x1), (2, .int x2)]) hx hb dX1_reads_68 hl (k := 3) rfl (by rw [ev31]; rfl) (by decide) rfl (fun ls hl => ?_)
          refine lv_goto (tgt := 29) hx hb dX1_reads_71 (by decide) ?_
          exact ih M29 n30 x0 x1 x2 v31 (k1 + 1) (k2 + 1) _ _ ls (by omega) (by omega) hH (lv_sub hl [1, 2, 3, 0] rfl) hf
        · have hf := ip_ c39 hf
          refine mg_newx (ci := 6) hx hb hts hown hKn hH (hts _ q193) (hts _ q274) (hts _ q78) rfl (show k1 + 1 + 1 ≤ 1123 by omega) (show k2 + 1 + 7 ≤ 6530 by omega) dX1_reads_47 (fun H hH => ?_)
          obtain ⟨M32, eM32⟩ : ∃ z : Mem_, z = ms_ M29 n30 (eN_ 6) := ⟨_, rfl⟩
          have hf := lu_ eM32 hf
          have hH := st_eq eM32 hH
          refine W.widen (k := k1 + 2) (n := k2 + 8) (by omega) (by omega) ?_
          refine lv_dup hx hb dX1_reads_50 rfl ?_
          refine lv_sipush (v := (-2000)) hx hb dX1_reads_51 (by decide) ?_
          refine lv_aload_n hx hb dX1_reads_54 rfl (lv_at hl 0 rfl) ?_
          obtain ⟨v33, ev33, hf⟩ := bs_ hf
          refine mg_gR hx hb hts hown hKn hH ev33 in_X1 rfl (by decide) (hts _ q942) (fun _ h9 => h9) dX1_reads_55 ?_
          refine lv_iload_n hx hb dX1_reads_58 rfl (lv_at hl 3 rfl) ?_
          obtain ⟨v34, ev34, hf⟩ := bs_ hf
          refine mg_aald4 hx hb hKn hH ev34 dX1_reads_59 ?_
          obtain ⟨v35, ev35, hf⟩ := bs_ hf
          refine mg_gI hx hb hts hown hKn hH ev35 in_X6 rfl (by decide) (hts _ q242) (fun _ h9 => h9) dX1_reads_60 ?_
          refine lv_isub hx hb dX1_reads_63 ?_
          obtain ⟨M37, er36, hf⟩ := bs_ hf
          refine cl_v0 hH (rn_I ⟨hx, hb, hml, hown, hts⟩ hKn hH (mX7_init l hnt G M32 (n30 + 1) n30 ((-2000) - v35) M37 er36) (cwI 1 hts (lw_meth q284) rfl rfl rfl (hts _ q78) (hts _ q570) (hts _ q283) rfl kdX7_init ⟨Nat.le_of_ble_eq_true rfl, Nat.le_of_ble_eq_true rfl⟩) rfl hl.1 (Nat.le_of_ble_eq_true rfl) dX1_reads_64 ⟨(show k1 + 2 + 0 ≤ 1123 by omega), (show k2 + 8 + 0 ≤ 6530 by omega)⟩ rfl) (fun H locs hH => ?_)
          obtain ⟨v38, ev38, hf⟩ := bs_ hf
          cases hf
          refine W.widen (k := 1123) (n := 6530) (by omega) (by omega) ?_
          refine wx_athrow hx hb dX1_reads_67 ?_
          exact xt_out (pc := 67) hlk htab (by decide) hH (fun _ _ _ => rfl)
  unfold fX1_reads at hf
  refine mg_new (ci := 4) hx hb hts hown hKn hH in_X5 tyX5_ok (hts _ q207) (hts _ q208) (hts _ q76) rfl (Nat.le_of_ble_eq_true rfl) (Nat.le_of_ble_eq_true rfl) dX1_reads_0 (fun H hH => ?_)
  obtain ⟨M1, eM1⟩ : ∃ z : Mem_, z = ms_ M n (eO_ 4 [.null, .int 0]) := ⟨_, rfl⟩
  have hf := lu_ eM1 hf
  have hH := st_eq eM1 hH
  refine W.widen (k := 1) (n := 2) (Nat.le_of_ble_eq_true rfl) (Nat.le_of_ble_eq_true rfl) ?_
  refine lv_dup hx hb dX1_reads_3 rfl ?_
  refine lv_aload_n hx hb dX1_reads_4 rfl (lv_at hl 1 rfl) ?_
  obtain ⟨M3, er2, hf⟩ := bs_ hf
  refine cl_v0 hH (rn_I ⟨hx, hb, hml, hown, hts⟩ hKn hH (mX5_init l G M1 (n + 1) n a1 M3 er2) (cwI 1 hts (lw_meth q211) rfl rfl rfl (hts _ q76) (hts _ q209) (hts _ q210) rfl kdX5_init ⟨Nat.le_of_ble_eq_true rfl, Nat.le_of_ble_eq_true rfl⟩) rfl hl.1 (Nat.le_of_ble_eq_true rfl) dX1_reads_5 ⟨(Nat.le_of_ble_eq_true rfl), (Nat.le_of_ble_eq_true rfl)⟩ rfl) (fun H locs hH => ?_)
  refine lv_aload_n hx hb dX1_reads_8 rfl (lv_at hl 0 rfl) ?_
  obtain ⟨v4, ev4, hf⟩ := bs_ hf
  refine mg_gR hx hb hts hown hKn hH ev4 in_X1 rfl (by decide) (hts _ q942) (fun _ h9 => h9) dX1_reads_9 ?_
  obtain ⟨u5, eu5, hf⟩ := bs_ hf
  rcases bxs_ hf with ⟨xe7, M8, n9, e13, hf⟩ | ⟨r10, M11, n12, e13, hf⟩
  · cases hf
    refine rn_T ⟨hx, hb, hml, hown, hts⟩ hKn hH (xX5_whole l hnt G M3 (n + 1) n v4 _ _ _ e13) (hts _ q220) (hts _ q221) (hts _ q222) (hts _ q76) (sg_code hts q223) (lw_meth q223) kdX5_whole rfl rfl ⟨(Nat.le_of_ble_eq_true rfl), (Nat.le_of_ble_eq_true rfl)⟩ (st_recv hKn hH eu5 rfl) rfl hl.1 (Nat.le_of_ble_eq_true rfl) dX1_reads_12 ⟨(Nat.le_of_ble_eq_true rfl), (Nat.le_of_ble_eq_true rfl)⟩ rfl (fun H locs x9 t9 hH ht9 hw9 hp9 => ?_)
    have hp9 : x9 = xx1 := hp9
    subst hp9
    refine Wx.widen (k := 1123) (n := 6530) (Nat.le_of_ble_eq_true rfl) (Nat.le_of_ble_eq_true rfl) ?_
    exact xt_out (pc := 12) hlk htab (by decide) hH (fun _ _ _ => rfl)
  · refine cl_i hH (rn_V ⟨hx, hb, hml, hown, hts⟩ hKn hH (mX5_whole l hnt G M3 (n + 1) n v4 r10 M11 n12 e13) (cwV 1 hts (lw_V q220 q221 q222 q76 q223) rfl rfl rfl ⟨rfl, kdX5_whole⟩ ⟨(Nat.le_of_ble_eq_true rfl), (Nat.le_of_ble_eq_true rfl)⟩) eu5 rfl rfl hl.1 (Nat.le_of_ble_eq_true rfl) dX1_reads_12 ⟨(Nat.le_of_ble_eq_true rfl), (Nat.le_of_ble_eq_true rfl)⟩ rfl) (fun H locs hH => ?_)
    refine W.widen (k := 919) (n := 5714) (Nat.le_of_ble_eq_true rfl) (Nat.le_of_ble_eq_true rfl) ?_
    refine lv_istore_n (lv' := [(2, .int r10), (0, .ref a0), (1, .ref a1)]) hx hb dX1_reads_15 rfl hl (by decide) rfl (fun ls hl => ?_)
    refine lv_aload_n hx hb dX1_reads_16 rfl (lv_at hl 1 rfl) ?_
    obtain ⟨v15, ev15, hf⟩ := bs_ hf
    refine mg_gR hx hb hts hown hKn hH ev15 in_X1 rfl (by decide) (hts _ q939) (fun _ h9 => h9) dX1_reads_17 ?_
    refine lv_aload_n hx hb dX1_reads_20 rfl (lv_at hl 1 rfl) ?_
    obtain ⟨v16, ev16, hf⟩ := bs_ hf
    refine mg_gR hx hb hts hown hKn hH ev16 in_X1 rfl (by decide) (hts _ q937) (fun _ h9 => h9) dX1_reads_21 ?_
    obtain ⟨u17, eu17, hf⟩ := bs_ hf
    obtain ⟨M19, er18, hf⟩ := bs_ hf
    refine cl_v0 hH (rn_V ⟨hx, hb, hml, hown, hts⟩ hKn hH (mX2_takes l G M11 n12 v15 v16 M19 er18) (cwV 1 hts (lw_V q299 q300 q301 q68 q302) rfl rfl rfl ⟨rfl, kdX2_takes⟩ ⟨Nat.le_of_ble_eq_true rfl, Nat.le_of_ble_eq_true rfl⟩) eu17 rfl rfl hl.1 (Nat.le_of_ble_eq_true rfl) dX1_reads_24 ⟨(Nat.le_of_ble_eq_true rfl), (Nat.le_of_ble_eq_true rfl)⟩ rfl) (fun H locs hH => ?_)
    refine lv_iconst (v := 0) hx hb dX1_reads_27 (by decide) ?_
    refine lv_istore_n (lv' := [(3, .int 0), (2, .int r10), (0, .ref a0), (1, .ref a1)]) hx hb dX1_reads_28 rfl hl (by decide) rfl (fun ls hl => ?_)
    exact w29 102 M19 n12 a0 a1 r10 0 919 5714 _ _ ls (Nat.le_of_ble_eq_true rfl) (Nat.le_of_ble_eq_true rfl) hH (lv_sub hl [2, 3, 1, 0] rfl) hf
def fX1_court (M : Mem_) (n : Nat) (a0 : Nat) (a1 : Int32) : Option (Int32 × Mem_ × Nat) :=
  (ck_ M a0 0).bind fun u1 =>
  lt_ (fX1_isShelf a0 a1) fun r2 =>
  if (b2_ r2) = 0 then
    some ((-1), M, n)
  else
    (gR_ M a0 0 8).bind fun v3 =>
    (aR_ M v3 5 a1).bind fun v4 =>
    (gN_ M v4 2 0).bind fun v5 =>
    no_ v5 (
      some ((-11), M, n)
    ) (fun o6 =>
      (tg_ M o6).bind fun t19 =>
      if t19 = 1 then
        (ck_ M a0 0).bind fun u8 =>
        bx_ (fX1_reads M n a0 o6) (fun xe10 M11 n12 =>
          (gX_ M11 xe10 6).bind fun v17 =>
          (gX_ M11 xe10 6).bind fun v18 =>
          some (v18, M11, n12)
        ) (fun r13 M14 n15 =>
          some (r13, M14, n15)
        )
      else
        some ((-12), M, n + 3)
    )
theorem kdX1_court : yX1_court.cls ≠ "java/lang/invoke/MethodHandle" ∧ yX1_court.cls ≠ "java/lang/invoke/VarHandle" ∧ (parseMethodDescriptor yX1_court.desc).map (fun d => d.parameters.length) = some 1 := by decide +kernel
set_option maxHeartbeats 4000000 in
theorem mX1_court (l : Launch) (hnt : l.flags = flags0) (G : GT_) (M : Mem_) (n : Nat) (a0 : Nat) (a1 : Int32) (r : Int32) (M1 : Mem_) (n1 : Nat) (hf : fX1_court M n a0 a1 = some (r, M1, n1)) : Ct_ G l yX1_court (wsW_ yX1_court cX1_court 3 (some .int) [(10, 37, 38, 174), (10, 37, 42, 150)]) ({ frames := 13, cells := 1123, slots := 6530, locals := 10250 }) 1123 6530 [.ref a0, .int a1] M n (some (.int r)) M1 n1 := by
  refine en_h (by decide) (Nat.le_of_ble_eq_true rfl) ?_
  intro p e s m below meth c had htab hx hb hr hlk hml hown hts hname hKn hH ls hl
  have hown : s.vm.findClass RX1 = some m.cls := hown
  have hl : lv_has ls 3 [(0, .ref a0), (1, .int a1)] := hl
  unfold fX1_court at hf
  generalize s.heap = H at hH ⊢
  refine lv_aload_n hx hb dX1_court_0 rfl (lv_at hl 0 rfl) ?_
  refine lv_iload_n hx hb dX1_court_1 rfl (lv_at hl 1 rfl) ?_
  obtain ⟨u1, eu1, hf⟩ := bs_ hf
  obtain ⟨r2, er2⟩ : ∃ z, z = fX1_isShelf a0 a1 := ⟨_, rfl⟩
  have hf := lu_ er2 hf
  refine cl_i0 hH (rn_V ⟨hx, hb, hml, hown, hts⟩ hKn hH (mX1_isShelf l G M n a0 a1 r2 er2.symm) (cwV 1 hts (lw_V q194 q196 qs2 q67 q198) rfl rfl rfl ⟨rfl, kdX1_isShelf⟩ ⟨Nat.le_of_ble_eq_true rfl, Nat.le_of_ble_eq_true rfl⟩) eu1 rfl rfl hl.1 (Nat.le_of_ble_eq_true rfl) dX1_court_2 ⟨(Nat.le_of_ble_eq_true rfl), (Nat.le_of_ble_eq_true rfl)⟩ rfl) (fun H locs hH => ?_)
  refine lv_if_ne (tgt := 10) hx hb dX1_court_5 (by decide) (fun c21 => ?_) (fun c21 => ?_)
  · have hf := in_ c21 hf
    refine lv_aload_n hx hb dX1_court_10 rfl (lv_at hl 0 rfl) ?_
    obtain ⟨v3, ev3, hf⟩ := bs_ hf
    refine mg_gR hx hb hts hown hKn hH ev3 in_X1 rfl (by decide) (hts _ q945) (fun _ h9 => h9) dX1_court_11 ?_
    refine lv_iload_n hx hb dX1_court_14 rfl (lv_at hl 1 rfl) ?_
    obtain ⟨v4, ev4, hf⟩ := bs_ hf
    refine mg_aald5 hx hb hKn hH ev4 dX1_court_15 ?_
    obtain ⟨v5, ev5, hf⟩ := bs_ hf
    refine mg_gN hx hb hts hown hKn hH ev5 in_X3 rfl (by decide) (hts _ q933) (fun _ h9 => h9) dX1_court_16 ?_
    cases v5 with
    | none =>
      have hf := noN_ hf
      have hl : lv_has ls 3 [(0, .ref a0), (1, .int a1)] := hl
      refine lv_castN hx hb dX1_court_19 ?_
      refine lv_astore_nN (lv' := [(2, .null), (0, .ref a0), (1, .int a1)]) hx hb dX1_court_22 rfl hl (by decide) rfl (fun ls hl => ?_)
      refine lv_aload_nN hx hb dX1_court_23 rfl (lv_at hl 0 rfl) ?_
      refine lv_ifnonnullN hx hb dX1_court_24 ?_
      refine lv_bipush (v := (-11)) hx hb dX1_court_27 (by decide) ?_
      refine lv_goto (tgt := 37) hx hb dX1_court_29 (by decide) ?_
      cases hf
      refine W.widen (k := 1123) (n := 6530) (Nat.le_of_ble_eq_true rfl) (Nat.le_of_ble_eq_true rfl) ?_
      exact rt_i hx hb hr hlk hH dX1_court_37
    | some o6 =>
      have hf := noS_ hf
      have hl : lv_has ls 3 [(0, .ref a0), (1, .int a1)] := hl
      obtain ⟨t19, et19, hf⟩ := bs_ hf
      by_cases c20 : t19 = 1
      · have hf := ip_ c20 hf
        refine mg_cast (tag := 1) hx hb hown (hts _ q202) hKn hH (cc_of et19 c20) dX1_court_19 ?_
        refine lv_astore_n (lv' := [(2, .ref o6), (0, .ref a0), (1, .int a1)]) hx hb dX1_court_22 rfl hl (by decide) rfl (fun ls hl => ?_)
        refine lv_aload_n hx hb dX1_court_23 rfl (lv_at hl 0 rfl) ?_
        refine lv_ifnonnull (tgt := 32) hx hb dX1_court_24 (by decide) ?_
        refine lv_aload_n hx hb dX1_court_32 rfl (lv_at hl 1 rfl) ?_
        refine lv_aload_n hx hb dX1_court_33 rfl (lv_at hl 0 rfl) ?_
        obtain ⟨u8, eu8, hf⟩ := bs_ hf
        rcases bxs_ hf with ⟨xe10, M11, n12, e16, hf⟩ | ⟨r13, M14, n15, e16, hf⟩
        · obtain ⟨v17, ev17, hf⟩ := bs_ hf
          refine rn_T ⟨hx, hb, hml, hown, hts⟩ hKn hH (xX1_reads l hnt G M n a0 o6 xe10 M11 n12 e16) (hts _ q203) (hts _ q205) (hts _ qs3) (hts _ q67) (sg_code hts q206) (lw_meth q206) kdX1_reads rfl rfl ⟨(Nat.le_of_ble_eq_true rfl), (Nat.le_of_ble_eq_true rfl)⟩ (st_recv hKn hH eu8 rfl) rfl hl.1 (Nat.le_of_ble_eq_true rfl) dX1_court_34 ⟨(Nat.le_of_ble_eq_true rfl), (Nat.le_of_ble_eq_true rfl)⟩ rfl (fun H locs x9 t9 hH ht9 hw9 hp9 => ?_)
          have hp9 : x9 = xe10 := hp9
          subst x9
          refine wx_catch (pc := 34) (own := "SideBySide") (C := "SideBySide$Broken") (ok := (fun k9 => decide (k9 = 150))) (h := 42) hown htab ⟨fun _ => ⟨by decide, "java/lang/ClassCastException", hts _ q102, Or.inr ⟨rfl, hKn.2.2.2.2.1 ("SideBySide$Broken", "java/lang/ClassCastException") (by decide +kernel)⟩⟩, fun _ => ⟨by decide, "SideBySide$Broken", hts _ q193, Or.inl ⟨rfl, hKn.2.2.2.1 ("SideBySide$Broken", "SideBySide$Broken") (by decide +kernel)⟩⟩, trivial⟩ (by decide) (gX_cls hKn hH ev17 rfl) ?_
          refine W.widen (k := 1123) (n := 6530) (Nat.le_of_ble_eq_true rfl) (Nat.le_of_ble_eq_true rfl) ?_
          refine lv_astore_n (lv' := [(2, .ref xe10), (0, .ref a0), (1, .int a1)]) hx hb dX1_court_42 rfl hl (by decide) rfl (fun ls hl => ?_)
          refine lv_aload_n hx hb dX1_court_43 rfl (lv_at hl 0 rfl) ?_
          obtain ⟨v18, ev18, hf⟩ := bs_ hf
          refine mg_gX hx hb hts hown hKn hH ev18 in_X7 rfl (by decide) (hts _ q290) (fun _ h9 => h9) dX1_court_44 ?_
          cases hf
          refine W.widen (k := 1123) (n := 6530) (Nat.le_of_ble_eq_true rfl) (Nat.le_of_ble_eq_true rfl) ?_
          exact rt_i hx hb hr hlk hH dX1_court_47
        · refine cl_i hH (rn_V ⟨hx, hb, hml, hown, hts⟩ hKn hH (mX1_reads l hnt G M n a0 o6 r13 M14 n15 e16) (cwV 1 hts (lw_V q203 q205 qs3 q67 q206) rfl rfl rfl ⟨rfl, kdX1_reads⟩ ⟨(Nat.le_of_ble_eq_true rfl), (Nat.le_of_ble_eq_true rfl)⟩) eu8 rfl rfl hl.1 (Nat.le_of_ble_eq_true rfl) dX1_court_34 ⟨(Nat.le_of_ble_eq_true rfl), (Nat.le_of_ble_eq_true rfl)⟩ rfl) (fun H locs hH => ?_)
          refine W.widen (k := 1123) (n := 6530) (Nat.le_of_ble_eq_true rfl) (Nat.le_of_ble_eq_true rfl) ?_
          cases hf
          refine W.widen (k := 1123) (n := 6530) (Nat.le_of_ble_eq_true rfl) (Nat.le_of_ble_eq_true rfl) ?_
          exact rt_i hx hb hr hlk hH dX1_court_37
      · have hf := in_ c20 hf
        refine mg_castx (tag := 1) hx hb hnt hown (by decide) (hts _ q202) hts hKn hH (hl.1.trans hml.symm) et19 c20 (Nat.le_of_ble_eq_true rfl) (Nat.le_of_ble_eq_true rfl) (Nat.le_of_ble_eq_true rfl) (Nat.le_of_ble_eq_true rfl) dX1_court_19 (fun H locs hH hcl => ?_)
        refine wx_catch (pc := 19) (own := "SideBySide") (C := "java/lang/ClassCastException") (ok := (fun k9 => decide (k9 = 174))) (h := 38) hown htab ⟨fun _ => ⟨by decide, "java/lang/ClassCastException", hts _ q102, Or.inl ⟨rfl, hKn.2.2.2.1 ("java/lang/ClassCastException", "java/lang/ClassCastException") (by decide +kernel)⟩⟩, fun _ => ⟨by decide, "SideBySide$Broken", hts _ q193, Or.inr ⟨rfl, hKn.2.2.2.2.1 ("java/lang/ClassCastException", "SideBySide$Broken") (by decide +kernel)⟩⟩, trivial⟩ (by decide) hcl ?_
        refine W.widen (k := 3) (n := 1000) (Nat.le_of_ble_eq_true rfl) (Nat.le_of_ble_eq_true rfl) ?_
        refine lv_astore_n (lv' := [(2, .ref (n + 2)), (0, .ref a0), (1, .int a1)]) hx hb dX1_court_38 rfl hl (by decide) rfl (fun ls hl => ?_)
        refine lv_bipush (v := (-12)) hx hb dX1_court_39 (by decide) ?_
        cases hf
        refine W.widen (k := 1123) (n := 6530) (Nat.le_of_ble_eq_true rfl) (Nat.le_of_ble_eq_true rfl) ?_
        exact rt_i hx hb hr hlk hH dX1_court_41
  · have hf := ip_ c21 hf
    refine lv_iconst (v := (-1)) hx hb dX1_court_8 (by decide) ?_
    cases hf
    refine W.widen (k := 1123) (n := 6530) (Nat.le_of_ble_eq_true rfl) (Nat.le_of_ble_eq_true rfl) ?_
    exact rt_i hx hb hr hlk hH dX1_court_9
def fX1_learns (M : Mem_) (n : Nat) (a0 : Nat) (a1 : Int32) : Option (Int32 × Mem_ × Nat) :=
  (ck_ M a0 0).bind fun u1 =>
  lt_ (fX1_isShelf a0 a1) fun r2 =>
  if (b2_ r2) = 0 then
    some ((-1), M, n)
  else
    (gR_ M a0 0 8).bind fun v3 =>
    (aR_ M v3 5 a1).bind fun v4 =>
    (gN_ M v4 2 0).bind fun v5 =>
    no_ v5 (
      some ((-11), M, n)
    ) (fun o6 =>
      (tg_ M o6).bind fun t15 =>
      if t15 = 3 then
        (gR_ M a0 0 0).bind fun v8 =>
        (gI_ M v8 1 9).bind fun v9 =>
        if v9 = 8 then
          some ((-2), M, n)
        else
          (gR_ M a0 0 0).bind fun v10 =>
          (ck_ M v10 1).bind fun u11 =>
          bw_ (fX2_learns M v10 o6) fun r12 M13 =>
          some (r12, M13, n)
      else
        some ((-12), M, n + 3)
    )
theorem kdX1_learns : yX1_learns.cls ≠ "java/lang/invoke/MethodHandle" ∧ yX1_learns.cls ≠ "java/lang/invoke/VarHandle" ∧ (parseMethodDescriptor yX1_learns.desc).map (fun d => d.parameters.length) = some 1 := by decide +kernel
set_option maxHeartbeats 4000000 in
theorem mX1_learns (l : Launch) (hnt : l.flags = flags0) (G : GT_) (M : Mem_) (n : Nat) (a0 : Nat) (a1 : Int32) (r : Int32) (M1 : Mem_) (n1 : Nat) (hf : fX1_learns M n a0 a1 = some (r, M1, n1)) : Ct_ G l yX1_learns (wsW_ yX1_learns cX1_learns 3 (some .int) [(10, 29, 56, 174), (30, 55, 56, 174)]) ({ frames := 8, cells := 3, slots := 1000, locals := 10250 }) 3 1000 [.ref a0, .int a1] M n (some (.int r)) M1 n1 := by
  refine en_h (by decide) (Nat.le_of_ble_eq_true rfl) ?_
  intro p e s m below meth c had htab hx hb hr hlk hml hown hts hname hKn hH ls hl
  have hown : s.vm.findClass RX1 = some m.cls := hown
  have hl : lv_has ls 3 [(0, .ref a0), (1, .int a1)] := hl
  unfold fX1_learns at hf
  generalize s.heap = H at hH ⊢
  refine lv_aload_n hx hb dX1_learns_0 rfl (lv_at hl 0 rfl) ?_
  refine lv_iload_n hx hb dX1_learns_1 rfl (lv_at hl 1 rfl) ?_
  obtain ⟨u1, eu1, hf⟩ := bs_ hf
  obtain ⟨r2, er2⟩ : ∃ z, z = fX1_isShelf a0 a1 := ⟨_, rfl⟩
  have hf := lu_ er2 hf
  refine cl_i0 hH (rn_V ⟨hx, hb, hml, hown, hts⟩ hKn hH (mX1_isShelf l G M n a0 a1 r2 er2.symm) (cwV 1 hts (lw_V q194 q196 qs2 q67 q198) rfl rfl rfl ⟨rfl, kdX1_isShelf⟩ ⟨Nat.le_of_ble_eq_true rfl, Nat.le_of_ble_eq_true rfl⟩) eu1 rfl rfl hl.1 (Nat.le_of_ble_eq_true rfl) dX1_learns_2 ⟨(Nat.le_of_ble_eq_true rfl), (Nat.le_of_ble_eq_true rfl)⟩ rfl) (fun H locs hH => ?_)
  refine lv_if_ne (tgt := 10) hx hb dX1_learns_5 (by decide) (fun c17 => ?_) (fun c17 => ?_)
  · have hf := in_ c17 hf
    refine lv_aload_n hx hb dX1_learns_10 rfl (lv_at hl 0 rfl) ?_
    obtain ⟨v3, ev3, hf⟩ := bs_ hf
    refine mg_gR hx hb hts hown hKn hH ev3 in_X1 rfl (by decide) (hts _ q945) (fun _ h9 => h9) dX1_learns_11 ?_
    refine lv_iload_n hx hb dX1_learns_14 rfl (lv_at hl 1 rfl) ?_
    obtain ⟨v4, ev4, hf⟩ := bs_ hf
    refine mg_aald5 hx hb hKn hH ev4 dX1_learns_15 ?_
    obtain ⟨v5, ev5, hf⟩ := bs_ hf
    refine mg_gN hx hb hts hown hKn hH ev5 in_X3 rfl (by decide) (hts _ q933) (fun _ h9 => h9) dX1_learns_16 ?_
    cases v5 with
    | none =>
      have hf := noN_ hf
      have hl : lv_has ls 3 [(0, .ref a0), (1, .int a1)] := hl
      refine lv_castN hx hb dX1_learns_19 ?_
      refine lv_astore_nN (lv' := [(2, .null), (0, .ref a0), (1, .int a1)]) hx hb dX1_learns_22 rfl hl (by decide) rfl (fun ls hl => ?_)
      refine lv_aload_nN hx hb dX1_learns_23 rfl (lv_at hl 0 rfl) ?_
      refine lv_ifnonnullN hx hb dX1_learns_24 ?_
      refine lv_bipush (v := (-11)) hx hb dX1_learns_27 (by decide) ?_
      cases hf
      refine W.widen (k := 3) (n := 1000) (Nat.le_of_ble_eq_true rfl) (Nat.le_of_ble_eq_true rfl) ?_
      exact rt_i hx hb hr hlk hH dX1_learns_29
    | some o6 =>
      have hf := noS_ hf
      have hl : lv_has ls 3 [(0, .ref a0), (1, .int a1)] := hl
      obtain ⟨t15, et15, hf⟩ := bs_ hf
      by_cases c16 : t15 = 3
      · have hf := ip_ c16 hf
        refine mg_cast (tag := 3) hx hb hown (hts _ q319) hKn hH (cc_of et15 c16) dX1_learns_19 ?_
        refine lv_astore_n (lv' := [(2, .ref o6), (0, .ref a0), (1, .int a1)]) hx hb dX1_learns_22 rfl hl (by decide) rfl (fun ls hl => ?_)
        refine lv_aload_n hx hb dX1_learns_23 rfl (lv_at hl 0 rfl) ?_
        refine lv_ifnonnull (tgt := 30) hx hb dX1_learns_24 (by decide) ?_
        refine lv_aload_n hx hb dX1_learns_30 rfl (lv_at hl 1 rfl) ?_
        obtain ⟨v8, ev8, hf⟩ := bs_ hf
        refine mg_gR hx hb hts hown hKn hH ev8 in_X1 rfl (by decide) (hts _ q937) (fun _ h9 => h9) dX1_learns_31 ?_
        obtain ⟨v9, ev9, hf⟩ := bs_ hf
        refine mg_gI hx hb hts hown hKn hH ev9 in_X2 rfl (by decide) (hts _ q890) (fun _ h9 => h9) dX1_learns_34 ?_
        refine lv_bipush (v := 8) hx hb dX1_learns_37 (by decide) ?_
        refine lv_icmp_ne (tgt := 47) hx hb dX1_learns_39 (by decide) (fun c14 => ?_) (fun c14 => ?_)
        · have hf := in_ c14 hf
          refine lv_aload_n hx hb dX1_learns_47 rfl (lv_at hl 1 rfl) ?_
          obtain ⟨v10, ev10, hf⟩ := bs_ hf
          refine mg_gR hx hb hts hown hKn hH ev10 in_X1 rfl (by decide) (hts _ q937) (fun _ h9 => h9) dX1_learns_48 ?_
          refine lv_aload_n hx hb dX1_learns_51 rfl (lv_at hl 0 rfl) ?_
          obtain ⟨u11, eu11, hf⟩ := bs_ hf
          obtain ⟨r12, M13, er12, hf⟩ := bws_ hf
          refine cl_i0 hH (rn_V ⟨hx, hb, hml, hown, hts⟩ hKn hH (mX2_learns l G M n v10 o6 r12 M13 er12) (cwV 1 hts (lw_V q392 q393 q394 q68 q395) rfl rfl rfl ⟨rfl, kdX2_learns⟩ ⟨Nat.le_of_ble_eq_true rfl, Nat.le_of_ble_eq_true rfl⟩) eu11 rfl rfl hl.1 (Nat.le_of_ble_eq_true rfl) dX1_learns_52 ⟨(Nat.le_of_ble_eq_true rfl), (Nat.le_of_ble_eq_true rfl)⟩ rfl) (fun H locs hH => ?_)
          cases hf
          refine W.widen (k := 3) (n := 1000) (Nat.le_of_ble_eq_true rfl) (Nat.le_of_ble_eq_true rfl) ?_
          exact rt_i hx hb hr hlk hH dX1_learns_55
        · have hf := ip_ c14 hf
          refine lv_bipush (v := (-2)) hx hb dX1_learns_42 (by decide) ?_
          refine lv_goto (tgt := 55) hx hb dX1_learns_44 (by decide) ?_
          cases hf
          refine W.widen (k := 3) (n := 1000) (Nat.le_of_ble_eq_true rfl) (Nat.le_of_ble_eq_true rfl) ?_
          exact rt_i hx hb hr hlk hH dX1_learns_55
      · have hf := in_ c16 hf
        refine mg_castx (tag := 3) hx hb hnt hown (by decide) (hts _ q319) hts hKn hH (hl.1.trans hml.symm) et15 c16 (Nat.le_of_ble_eq_true rfl) (Nat.le_of_ble_eq_true rfl) (Nat.le_of_ble_eq_true rfl) (Nat.le_of_ble_eq_true rfl) dX1_learns_19 (fun H locs hH hcl => ?_)
        refine wx_catch (pc := 19) (own := "SideBySide") (C := "java/lang/ClassCastException") (ok := (fun k9 => decide (k9 = 174))) (h := 56) hown htab ⟨fun _ => ⟨by decide, "java/lang/ClassCastException", hts _ q102, Or.inl ⟨rfl, hKn.2.2.2.1 ("java/lang/ClassCastException", "java/lang/ClassCastException") (by decide +kernel)⟩⟩, fun h9 => absurd h9 (by decide), trivial⟩ (by decide) hcl ?_
        refine W.widen (k := 3) (n := 1000) (Nat.le_of_ble_eq_true rfl) (Nat.le_of_ble_eq_true rfl) ?_
        refine lv_astore_n (lv' := [(2, .ref (n + 2)), (0, .ref a0), (1, .int a1)]) hx hb dX1_learns_56 rfl hl (by decide) rfl (fun ls hl => ?_)
        refine lv_bipush (v := (-12)) hx hb dX1_learns_57 (by decide) ?_
        cases hf
        refine W.widen (k := 3) (n := 1000) (Nat.le_of_ble_eq_true rfl) (Nat.le_of_ble_eq_true rfl) ?_
        exact rt_i hx hb hr hlk hH dX1_learns_59
  · have hf := ip_ c17 hf
    refine lv_iconst (v := (-1)) hx hb dX1_learns_8 (by decide) ?_
    cases hf
    refine W.widen (k := 3) (n := 1000) (Nat.le_of_ble_eq_true rfl) (Nat.le_of_ble_eq_true rfl) ?_
    exact rt_i hx hb hr hlk hH dX1_learns_9
def fX1_row (M : Mem_) (n : Nat) (a0 : Nat) (a1 : Int32) (a2 : Int32) (a3 : Int32) : Option (Int32 × Mem_ × Nat) :=
  (ck_ M a0 0).bind fun u1 =>
  lt_ (fX1_isShelf a0 a1) fun r2 =>
  if (b2_ r2) = 0 then
    some ((-1), M, n)
  else
    lt_ (fX1_isIn a2 0 2) fun r3 =>
    if (b2_ r3) = 0 then
      some ((-1), M, n)
    else
      if a3 ≤ 100 then
        if a2 = 0 then
          if a3 < 0 then
            some ((-14), M, n + 3)
          else
            if 100 < a3.toNatClampNeg then
              none
            else
              lt_ (ms_ M n (eI_ 1 a3.toNatClampNeg (fun _ => 0))) fun M19 =>
              (gR_ M19 a0 0 8).bind fun v20 =>
              (aR_ M19 v20 5 a1).bind fun v21 =>
              (pF_ M19 v21 2 0 (.ref n)).bind fun M22 =>
              some (0, M22, n + 1)
        else
          if a2 = 1 then
            if a3 < 0 then
              some ((-14), M, n + 3)
            else
              if 100 < a3.toNatClampNeg then
                none
              else
                lt_ (ms_ M n (eI_ 2 a3.toNatClampNeg (fun _ => 0))) fun M12 =>
                (gR_ M12 a0 0 8).bind fun v13 =>
                (aR_ M12 v13 5 a1).bind fun v14 =>
                (pF_ M12 v14 2 0 (.ref n)).bind fun M15 =>
                some (0, M15, n + 1)
          else
            if a3 < 0 then
              some ((-14), M, n + 3)
            else
              if 100 < a3.toNatClampNeg then
                none
              else
                lt_ (ms_ M n (eI_ 0 a3.toNatClampNeg (fun _ => 0))) fun M6 =>
                (gR_ M6 a0 0 8).bind fun v7 =>
                (aR_ M6 v7 5 a1).bind fun v8 =>
                (pF_ M6 v8 2 0 (.ref n)).bind fun M9 =>
                some (0, M9, n + 1)
      else
        some ((-1), M, n)
theorem kdX1_row : yX1_row.cls ≠ "java/lang/invoke/MethodHandle" ∧ yX1_row.cls ≠ "java/lang/invoke/VarHandle" ∧ (parseMethodDescriptor yX1_row.desc).map (fun d => d.parameters.length) = some 3 := by decide +kernel
set_option maxHeartbeats 4000000 in
theorem mX1_row (l : Launch) (hnt : l.flags = flags0) (G : GT_) (M : Mem_) (n : Nat) (a0 : Nat) (a1 : Int32) (a2 : Int32) (a3 : Int32) (r : Int32) (M1 : Mem_) (n1 : Nat) (hf : fX1_row M n a0 a1 a2 a3 = some (r, M1, n1)) : Ct_ G l yX1_row (wsW_ yX1_row cX1_row 5 (some .int) [(25, 67, 68, 364)]) ({ frames := 8, cells := 3, slots := 1000, locals := 10250 }) 3 1000 [.ref a0, .int a1, .int a2, .int a3] M n (some (.int r)) M1 n1 := by
  refine en_h (by decide) (Nat.le_of_ble_eq_true rfl) ?_
  intro p e s m below meth c had htab hx hb hr hlk hml hown hts hname hKn hH ls hl
  have hown : s.vm.findClass RX1 = some m.cls := hown
  have hl : lv_has ls 5 [(0, .ref a0), (1, .int a1), (2, .int a2), (3, .int a3)] := hl
  unfold fX1_row at hf
  generalize s.heap = H at hH ⊢
  refine lv_aload_n hx hb dX1_row_0 rfl (lv_at hl 0 rfl) ?_
  refine lv_iload_n hx hb dX1_row_1 rfl (lv_at hl 1 rfl) ?_
  obtain ⟨u1, eu1, hf⟩ := bs_ hf
  obtain ⟨r2, er2⟩ : ∃ z, z = fX1_isShelf a0 a1 := ⟨_, rfl⟩
  have hf := lu_ er2 hf
  refine cl_i0 hH (rn_V ⟨hx, hb, hml, hown, hts⟩ hKn hH (mX1_isShelf l G M n a0 a1 r2 er2.symm) (cwV 1 hts (lw_V q194 q196 qs2 q67 q198) rfl rfl rfl ⟨rfl, kdX1_isShelf⟩ ⟨Nat.le_of_ble_eq_true rfl, Nat.le_of_ble_eq_true rfl⟩) eu1 rfl rfl hl.1 (Nat.le_of_ble_eq_true rfl) dX1_row_2 ⟨(Nat.le_of_ble_eq_true rfl), (Nat.le_of_ble_eq_true rfl)⟩ rfl) (fun H locs hH => ?_)
  refine lv_if_eq (tgt := 23) hx hb dX1_row_5 (by decide) (fun c26 => ?_) (fun c26 => ?_)
  · have hf := ip_ c26 hf
    refine lv_iconst (v := (-1)) hx hb dX1_row_23 (by decide) ?_
    cases hf
    refine W.widen (k := 3) (n := 1000) (Nat.le_of_ble_eq_true rfl) (Nat.le_of_ble_eq_true rfl) ?_
    exact rt_i hx hb hr hlk hH dX1_row_24
  · have hf := in_ c26 hf
    refine lv_iload_n hx hb dX1_row_8 rfl (lv_at hl 2 rfl) ?_
    refine lv_iconst (v := 0) hx hb dX1_row_9 (by decide) ?_
    refine lv_iconst (v := 2) hx hb dX1_row_10 (by decide) ?_
    obtain ⟨r3, er3⟩ : ∃ z, z = fX1_isIn a2 0 2 := ⟨_, rfl⟩
    have hf := lu_ er3 hf
    refine cl_i0 hH (rn_S ⟨hx, hb, hml, hown, hts⟩ hKn hH (mX1_isIn l G M n a2 0 2 r3 er3.symm) (va_cwS 3 hts (lw_S q199 q200 q67 q201) rfl rfl rfl kdX1_isIn ⟨Nat.le_of_ble_eq_true rfl, Nat.le_of_ble_eq_true rfl⟩) rfl hl.1 (Nat.le_of_ble_eq_true rfl) dX1_row_11 ⟨(Nat.le_of_ble_eq_true rfl), (Nat.le_of_ble_eq_true rfl)⟩ rfl) (fun H locs hH => ?_)
    refine lv_if_eq (tgt := 23) hx hb dX1_row_14 (by decide) (fun c25 => ?_) (fun c25 => ?_)
    · have hf := ip_ c25 hf
      refine lv_iconst (v := (-1)) hx hb dX1_row_23 (by decide) ?_
      cases hf
      refine W.widen (k := 3) (n := 1000) (Nat.le_of_ble_eq_true rfl) (Nat.le_of_ble_eq_true rfl) ?_
      exact rt_i hx hb hr hlk hH dX1_row_24
    · have hf := in_ c25 hf
      refine lv_iload_n hx hb dX1_row_17 rfl (lv_at hl 3 rfl) ?_
      refine lv_bipush (v := 100) hx hb dX1_row_18 (by decide) ?_
      refine lv_icmp_le (tgt := 25) hx hb dX1_row_20 (by decide) (fun c24 => ?_) (fun c24 => ?_)
      · have hf := ip_ c24 hf
        refine lv_iload_n hx hb dX1_row_25 rfl (lv_at hl 2 rfl) ?_
        refine lv_if_ne (tgt := 37) hx hb dX1_row_26 (by decide) (fun c23 => ?_) (fun c23 => ?_)
        · have hf := in_ c23 hf
          refine lv_iload_n hx hb dX1_row_37 rfl (lv_at hl 2 rfl) ?_
          refine lv_iconst (v := 1) hx hb dX1_row_38 (by decide) ?_
          refine lv_icmp_ne (tgt := 50) hx hb dX1_row_39 (by decide) (fun c16 => ?_) (fun c16 => ?_)
          · have hf := in_ c16 hf
            refine lv_iload_n hx hb dX1_row_50 rfl (lv_at hl 3 rfl) ?_
            by_cases c4 : a3 < 0
            · have hf := ip_ c4 hf
              refine wx_neg hx hb hnt hts hKn hH (hl.1.trans hml.symm) c4 (Nat.le_of_ble_eq_true rfl) (Nat.le_of_ble_eq_true rfl) (Nat.le_of_ble_eq_true rfl) (Nat.le_of_ble_eq_true rfl) dX1_row_51 (fun H locs hH hcl => ?_)
              refine wx_catch (pc := 51) (own := "SideBySide") (C := "java/lang/NegativeArraySizeException") (ok := (fun k9 => decide (k9 = 364))) (h := 68) hown htab ⟨fun _ => ⟨by decide, "java/lang/NegativeArraySizeException", hts _ q976, Or.inl ⟨rfl, hKn.2.2.2.1 ("java/lang/NegativeArraySizeException", "java/lang/NegativeArraySizeException") (by decide +kernel)⟩⟩, trivial⟩ (by decide) hcl ?_
              refine W.widen (k := 3) (n := 1000) (Nat.le_of_ble_eq_true rfl) (Nat.le_of_ble_eq_true rfl) ?_
              refine lv_astore (lv' := [(4, .ref (n + 2)), (0, .ref a0), (1, .int a1), (2, .int a2), (3, .int a3)]) hx hb dX1_row_68 hl (by decide) rfl (fun ls hl => ?_)
              refine lv_bipush (v := (-14)) hx hb dX1_row_70 (by decide) ?_
              cases hf
              refine W.widen (k := 3) (n := 1000) (Nat.le_of_ble_eq_true rfl) (Nat.le_of_ble_eq_true rfl) ?_
              exact rt_i hx hb hr hlk hH dX1_row_72
            · have hf := in_ c4 hf
              by_cases c5 : 100 < a3.toNatClampNeg
              · have hf := ip_ c5 hf
                cases hf
              · have hf := in_ c5 hf
                refine mg_newv hx hb hKn hH 0 (by decide) rfl (hts _ q255) c4 (Nat.not_lt.mp c5) (Nat.le_of_ble_eq_true rfl) (Nat.le_of_ble_eq_true rfl) dX1_row_51 (fun H hH => ?_)
                obtain ⟨M6, eM6⟩ : ∃ z : Mem_, z = ms_ M n (eI_ 0 a3.toNatClampNeg (fun _ => 0)) := ⟨_, rfl⟩
                have hf := lu_ eM6 hf
                have hH := st_eq eM6 hH
                refine W.widen (k := 1) (n := 100) (Nat.le_of_ble_eq_true rfl) (Nat.le_of_ble_eq_true rfl) ?_
                refine lv_astore (lv' := [(4, .ref n), (0, .ref a0), (1, .int a1), (2, .int a2), (3, .int a3)]) hx hb dX1_row_53 hl (by decide) rfl (fun ls hl => ?_)
                refine lv_aload_n hx hb dX1_row_55 rfl (lv_at hl 1 rfl) ?_
                obtain ⟨v7, ev7, hf⟩ := bs_ hf
                refine mg_gR hx hb hts hown hKn hH ev7 in_X1 rfl (by decide) (hts _ q945) (fun _ h9 => h9) dX1_row_56 ?_
                refine lv_iload_n hx hb dX1_row_59 rfl (lv_at hl 2 rfl) ?_
                obtain ⟨v8, ev8, hf⟩ := bs_ hf
                refine mg_aald5 hx hb hKn hH ev8 dX1_row_60 ?_
                refine lv_aload hx hb dX1_row_61 (lv_at hl 0 rfl) ?_
                obtain ⟨M9, eM9, hf⟩ := bs_ hf
                refine mg_pF hx hb hts hown hKn hH eM9 in_X3 tyX3_ok nmX3 rfl (by decide) (hts _ q933) (fun _ h9 => h9) rfl rfl rfl dX1_row_63 (fun H locs hH => ?_)
                refine lv_iconst (v := 0) hx hb dX1_row_66 (by decide) ?_
                cases hf
                refine W.widen (k := 3) (n := 1000) (Nat.le_of_ble_eq_true rfl) (Nat.le_of_ble_eq_true rfl) ?_
                exact rt_i hx hb hr hlk hH dX1_row_67
          · have hf := ip_ c16 hf
            refine lv_iload_n hx hb dX1_row_42 rfl (lv_at hl 3 rfl) ?_
            by_cases c10 : a3 < 0
            · have hf := ip_ c10 hf
              refine wx_neg hx hb hnt hts hKn hH (hl.1.trans hml.symm) c10 (Nat.le_of_ble_eq_true rfl) (Nat.le_of_ble_eq_true rfl) (Nat.le_of_ble_eq_true rfl) (Nat.le_of_ble_eq_true rfl) dX1_row_43 (fun H locs hH hcl => ?_)
              refine wx_catch (pc := 43) (own := "SideBySide") (C := "java/lang/NegativeArraySizeException") (ok := (fun k9 => decide (k9 = 364))) (h := 68) hown htab ⟨fun _ => ⟨by decide, "java/lang/NegativeArraySizeException", hts _ q976, Or.inl ⟨rfl, hKn.2.2.2.1 ("java/lang/NegativeArraySizeException", "java/lang/NegativeArraySizeException") (by decide +kernel)⟩⟩, trivial⟩ (by decide) hcl ?_
              refine W.widen (k := 3) (n := 1000) (Nat.le_of_ble_eq_true rfl) (Nat.le_of_ble_eq_true rfl) ?_
              refine lv_astore (lv' := [(4, .ref (n + 2)), (0, .ref a0), (1, .int a1), (2, .int a2), (3, .int a3)]) hx hb dX1_row_68 hl (by decide) rfl (fun ls hl => ?_)
              refine lv_bipush (v := (-14)) hx hb dX1_row_70 (by decide) ?_
              cases hf
              refine W.widen (k := 3) (n := 1000) (Nat.le_of_ble_eq_true rfl) (Nat.le_of_ble_eq_true rfl) ?_
              exact rt_i hx hb hr hlk hH dX1_row_72
            · have hf := in_ c10 hf
              by_cases c11 : 100 < a3.toNatClampNeg
              · have hf := ip_ c11 hf
                cases hf
              · have hf := in_ c11 hf
                refine mg_newv hx hb hKn hH 2 (by decide) rfl (hts _ q990) c10 (Nat.not_lt.mp c11) (Nat.le_of_ble_eq_true rfl) (Nat.le_of_ble_eq_true rfl) dX1_row_43 (fun H hH => ?_)
                obtain ⟨M12, eM12⟩ : ∃ z : Mem_, z = ms_ M n (eI_ 2 a3.toNatClampNeg (fun _ => 0)) := ⟨_, rfl⟩
                have hf := lu_ eM12 hf
                have hH := st_eq eM12 hH
                refine W.widen (k := 1) (n := 100) (Nat.le_of_ble_eq_true rfl) (Nat.le_of_ble_eq_true rfl) ?_
                refine lv_astore (lv' := [(4, .ref n), (0, .ref a0), (1, .int a1), (2, .int a2), (3, .int a3)]) hx hb dX1_row_45 hl (by decide) rfl (fun ls hl => ?_)
                refine lv_goto (tgt := 55) hx hb dX1_row_47 (by decide) ?_
                refine lv_aload_n hx hb dX1_row_55 rfl (lv_at hl 1 rfl) ?_
                obtain ⟨v13, ev13, hf⟩ := bs_ hf
                refine mg_gR hx hb hts hown hKn hH ev13 in_X1 rfl (by decide) (hts _ q945) (fun _ h9 => h9) dX1_row_56 ?_
                refine lv_iload_n hx hb dX1_row_59 rfl (lv_at hl 2 rfl) ?_
                obtain ⟨v14, ev14, hf⟩ := bs_ hf
                refine mg_aald5 hx hb hKn hH ev14 dX1_row_60 ?_
                refine lv_aload hx hb dX1_row_61 (lv_at hl 0 rfl) ?_
                obtain ⟨M15, eM15, hf⟩ := bs_ hf
                refine mg_pF hx hb hts hown hKn hH eM15 in_X3 tyX3_ok nmX3 rfl (by decide) (hts _ q933) (fun _ h9 => h9) rfl rfl rfl dX1_row_63 (fun H locs hH => ?_)
                refine lv_iconst (v := 0) hx hb dX1_row_66 (by decide) ?_
                cases hf
                refine W.widen (k := 3) (n := 1000) (Nat.le_of_ble_eq_true rfl) (Nat.le_of_ble_eq_true rfl) ?_
                exact rt_i hx hb hr hlk hH dX1_row_67
        · have hf := ip_ c23 hf
          refine lv_iload_n hx hb dX1_row_29 rfl (lv_at hl 3 rfl) ?_
          by_cases c17 : a3 < 0
          · have hf := ip_ c17 hf
            refine wx_neg hx hb hnt hts hKn hH (hl.1.trans hml.symm) c17 (Nat.le_of_ble_eq_true rfl) (Nat.le_of_ble_eq_true rfl) (Nat.le_of_ble_eq_true rfl) (Nat.le_of_ble_eq_true rfl) dX1_row_30 (fun H locs hH hcl => ?_)
            refine wx_catch (pc := 30) (own := "SideBySide") (C := "java/lang/NegativeArraySizeException") (ok := (fun k9 => decide (k9 = 364))) (h := 68) hown htab ⟨fun _ => ⟨by decide, "java/lang/NegativeArraySizeException", hts _ q976, Or.inl ⟨rfl, hKn.2.2.2.1 ("java/lang/NegativeArraySizeException", "java/lang/NegativeArraySizeException") (by decide +kernel)⟩⟩, trivial⟩ (by decide) hcl ?_
            refine W.widen (k := 3) (n := 1000) (Nat.le_of_ble_eq_true rfl) (Nat.le_of_ble_eq_true rfl) ?_
            refine lv_astore (lv' := [(4, .ref (n + 2)), (0, .ref a0), (1, .int a1), (2, .int a2), (3, .int a3)]) hx hb dX1_row_68 hl (by decide) rfl (fun ls hl => ?_)
            refine lv_bipush (v := (-14)) hx hb dX1_row_70 (by decide) ?_
            cases hf
            refine W.widen (k := 3) (n := 1000) (Nat.le_of_ble_eq_true rfl) (Nat.le_of_ble_eq_true rfl) ?_
            exact rt_i hx hb hr hlk hH dX1_row_72
          · have hf := in_ c17 hf
            by_cases c18 : 100 < a3.toNatClampNeg
            · have hf := ip_ c18 hf
              cases hf
            · have hf := in_ c18 hf
              refine mg_newv hx hb hKn hH 1 (by decide) rfl (hts _ q188) c17 (Nat.not_lt.mp c18) (Nat.le_of_ble_eq_true rfl) (Nat.le_of_ble_eq_true rfl) dX1_row_30 (fun H hH => ?_)
              obtain ⟨M19, eM19⟩ : ∃ z : Mem_, z = ms_ M n (eI_ 1 a3.toNatClampNeg (fun _ => 0)) := ⟨_, rfl⟩
              have hf := lu_ eM19 hf
              have hH := st_eq eM19 hH
              refine W.widen (k := 1) (n := 100) (Nat.le_of_ble_eq_true rfl) (Nat.le_of_ble_eq_true rfl) ?_
              refine lv_astore (lv' := [(4, .ref n), (0, .ref a0), (1, .int a1), (2, .int a2), (3, .int a3)]) hx hb dX1_row_32 hl (by decide) rfl (fun ls hl => ?_)
              refine lv_goto (tgt := 55) hx hb dX1_row_34 (by decide) ?_
              refine lv_aload_n hx hb dX1_row_55 rfl (lv_at hl 1 rfl) ?_
              obtain ⟨v20, ev20, hf⟩ := bs_ hf
              refine mg_gR hx hb hts hown hKn hH ev20 in_X1 rfl (by decide) (hts _ q945) (fun _ h9 => h9) dX1_row_56 ?_
              refine lv_iload_n hx hb dX1_row_59 rfl (lv_at hl 2 rfl) ?_
              obtain ⟨v21, ev21, hf⟩ := bs_ hf
              refine mg_aald5 hx hb hKn hH ev21 dX1_row_60 ?_
              refine lv_aload hx hb dX1_row_61 (lv_at hl 0 rfl) ?_
              obtain ⟨M22, eM22, hf⟩ := bs_ hf
              refine mg_pF hx hb hts hown hKn hH eM22 in_X3 tyX3_ok nmX3 rfl (by decide) (hts _ q933) (fun _ h9 => h9) rfl rfl rfl dX1_row_63 (fun H locs hH => ?_)
              refine lv_iconst (v := 0) hx hb dX1_row_66 (by decide) ?_
              cases hf
              refine W.widen (k := 3) (n := 1000) (Nat.le_of_ble_eq_true rfl) (Nat.le_of_ble_eq_true rfl) ?_
              exact rt_i hx hb hr hlk hH dX1_row_67
      · have hf := in_ c24 hf
        refine lv_iconst (v := (-1)) hx hb dX1_row_23 (by decide) ?_
        cases hf
        refine W.widen (k := 3) (n := 1000) (Nat.le_of_ble_eq_true rfl) (Nat.le_of_ble_eq_true rfl) ?_
        exact rt_i hx hb hr hlk hH dX1_row_24
def fX1_put (M : Mem_) (n : Nat) (a0 : Nat) (a1 : Int32) (a2 : Int32) (a3 : Int32) : Option (Int32 × Mem_ × Nat) :=
  (ck_ M a0 0).bind fun u1 =>
  lt_ (fX1_isShelf a0 a1) fun r2 =>
  if (b2_ r2) = 0 then
    some ((-1), M, n)
  else
    (gR_ M a0 0 8).bind fun v3 =>
    (aR_ M v3 5 a1).bind fun v4 =>
    (gN_ M v4 2 0).bind fun v5 =>
    no_ v5 (
      some ((-11), M, n)
    ) (fun o6 =>
      (tg_ M o6).bind fun t7 =>
      if (b2_ (decide (t7 = 1))) = 0 then
        (tg_ M o6).bind fun t8 =>
        if (b2_ (decide (t8 = 2))) = 0 then
          (tg_ M o6).bind fun t14 =>
          if t14 = 0 then
            (oI_ M o6 0 a2).bind fun b11 =>
            if b11 = true then
              some ((-13), M, n + 3)
            else
              (sI_ M o6 0 a2 a3).bind fun M13 =>
              some (0, M13, n)
          else
            some ((-12), M, n + 3)
        else
          (tg_ M o6).bind fun t21 =>
          if t21 = 2 then
            (oI_ M o6 2 a2).bind fun b18 =>
            if b18 = true then
              some ((-13), M, n + 3)
            else
              (sI_ M o6 2 a2 (vp_nar .short (a3.toInt16.toInt32))).bind fun M20 =>
              some (0, M20, n)
          else
            some ((-12), M, n + 3)
      else
        (tg_ M o6).bind fun t29 =>
        if t29 = 1 then
          (oI_ M o6 1 a2).bind fun b26 =>
          if b26 = true then
            some ((-13), M, n + 3)
          else
            (sI_ M o6 1 a2 (vp_nar .byte (a3.toInt8.toInt32))).bind fun M28 =>
            some (0, M28, n)
        else
          some ((-12), M, n + 3)
    )
theorem kdX1_put : yX1_put.cls ≠ "java/lang/invoke/MethodHandle" ∧ yX1_put.cls ≠ "java/lang/invoke/VarHandle" ∧ (parseMethodDescriptor yX1_put.desc).map (fun d => d.parameters.length) = some 3 := by decide +kernel
set_option maxHeartbeats 4000000 in
theorem mX1_put (l : Launch) (hnt : l.flags = flags0) (G : GT_) (M : Mem_) (n : Nat) (a0 : Nat) (a1 : Int32) (a2 : Int32) (a3 : Int32) (r : Int32) (M1 : Mem_) (n1 : Nat) (hf : fX1_put M n a0 a1 a2 a3 = some (r, M1, n1)) : Ct_ G l yX1_put (wsW_ yX1_put cX1_put 6 (some .int) [(29, 78, 79, 174), (29, 78, 84, 366)]) ({ frames := 9, cells := 3, slots := 1000, locals := 10250 }) 3 1000 [.ref a0, .int a1, .int a2, .int a3] M n (some (.int r)) M1 n1 := by
  refine en_h (by decide) (Nat.le_of_ble_eq_true rfl) ?_
  intro p e s m below meth c had htab hx hb hr hlk hml hown hts hname hKn hH ls hl
  have hown : s.vm.findClass RX1 = some m.cls := hown
  have hl : lv_has ls 6 [(0, .ref a0), (1, .int a1), (2, .int a2), (3, .int a3)] := hl
  unfold fX1_put at hf
  generalize s.heap = H at hH ⊢
  refine lv_aload_n hx hb dX1_put_0 rfl (lv_at hl 0 rfl) ?_
  refine lv_iload_n hx hb dX1_put_1 rfl (lv_at hl 1 rfl) ?_
  obtain ⟨u1, eu1, hf⟩ := bs_ hf
  obtain ⟨r2, er2⟩ : ∃ z, z = fX1_isShelf a0 a1 := ⟨_, rfl⟩
  have hf := lu_ er2 hf
  refine cl_i0 hH (rn_V ⟨hx, hb, hml, hown, hts⟩ hKn hH (mX1_isShelf l G M n a0 a1 r2 er2.symm) (cwV 1 hts (lw_V q194 q196 qs2 q67 q198) rfl rfl rfl ⟨rfl, kdX1_isShelf⟩ ⟨Nat.le_of_ble_eq_true rfl, Nat.le_of_ble_eq_true rfl⟩) eu1 rfl rfl hl.1 (Nat.le_of_ble_eq_true rfl) dX1_put_2 ⟨(Nat.le_of_ble_eq_true rfl), (Nat.le_of_ble_eq_true rfl)⟩ rfl) (fun H locs hH => ?_)
  refine lv_if_ne (tgt := 10) hx hb dX1_put_5 (by decide) (fun c32 => ?_) (fun c32 => ?_)
  · have hf := in_ c32 hf
    refine lv_aload_n hx hb dX1_put_10 rfl (lv_at hl 0 rfl) ?_
    obtain ⟨v3, ev3, hf⟩ := bs_ hf
    refine mg_gR hx hb hts hown hKn hH ev3 in_X1 rfl (by decide) (hts _ q945) (fun _ h9 => h9) dX1_put_11 ?_
    refine lv_iload_n hx hb dX1_put_14 rfl (lv_at hl 1 rfl) ?_
    obtain ⟨v4, ev4, hf⟩ := bs_ hf
    refine mg_aald5 hx hb hKn hH ev4 dX1_put_15 ?_
    obtain ⟨v5, ev5, hf⟩ := bs_ hf
    refine mg_gN hx hb hts hown hKn hH ev5 in_X3 rfl (by decide) (hts _ q933) (fun _ h9 => h9) dX1_put_16 ?_
    cases v5 with
    | none =>
      have hf := noN_ hf
      have hl : lv_has ls 6 [(0, .ref a0), (1, .int a1), (2, .int a2), (3, .int a3)] := hl
      refine lv_astoreN (lv' := [(4, .null), (0, .ref a0), (1, .int a1), (2, .int a2), (3, .int a3)]) hx hb dX1_put_19 hl (by decide) rfl (fun ls hl => ?_)
      refine lv_aloadN hx hb dX1_put_21 (lv_at hl 0 rfl) ?_
      refine lv_ifnonnullN hx hb dX1_put_23 ?_
      refine lv_bipush (v := (-11)) hx hb dX1_put_26 (by decide) ?_
      cases hf
      refine W.widen (k := 3) (n := 1000) (Nat.le_of_ble_eq_true rfl) (Nat.le_of_ble_eq_true rfl) ?_
      exact rt_i hx hb hr hlk hH dX1_put_28
    | some o6 =>
      have hf := noS_ hf
      have hl : lv_has ls 6 [(0, .ref a0), (1, .int a1), (2, .int a2), (3, .int a3)] := hl
      refine lv_astore (lv' := [(4, .ref o6), (0, .ref a0), (1, .int a1), (2, .int a2), (3, .int a3)]) hx hb dX1_put_19 hl (by decide) rfl (fun ls hl => ?_)
      refine lv_aload hx hb dX1_put_21 (lv_at hl 0 rfl) ?_
      refine lv_ifnonnull (tgt := 29) hx hb dX1_put_23 (by decide) ?_
      refine lv_aload hx hb dX1_put_29 (lv_at hl 0 rfl) ?_
      obtain ⟨t7, et7, hf⟩ := bs_ hf
      refine mg_inst (tag := 1) hx hb hown (by decide) (hts _ q202) hKn hH et7 dX1_put_31 ?_
      refine lv_if_eq (tgt := 49) hx hb dX1_put_34 (by decide) (fun c31 => ?_) (fun c31 => ?_)
      · have hf := ip_ c31 hf
        refine lv_aload hx hb dX1_put_49 (lv_at hl 0 rfl) ?_
        obtain ⟨t8, et8, hf⟩ := bs_ hf
        refine mg_inst (tag := 2) hx hb hown (by decide) (hts _ q743) hKn hH et8 dX1_put_51 ?_
        refine lv_if_eq (tgt := 69) hx hb dX1_put_54 (by decide) (fun c23 => ?_) (fun c23 => ?_)
        · have hf := ip_ c23 hf
          refine lv_aload hx hb dX1_put_69 (lv_at hl 0 rfl) ?_
          obtain ⟨t14, et14, hf⟩ := bs_ hf
          by_cases c15 : t14 = 0
          · have hf := ip_ c15 hf
            refine mg_cast (tag := 0) hx hb hown (hts _ q744) hKn hH (cc_of et14 c15) dX1_put_71 ?_
            refine lv_iload_n hx hb dX1_put_74 rfl (lv_at hl 3 rfl) ?_
            refine lv_iload_n hx hb dX1_put_75 rfl (lv_at hl 4 rfl) ?_
            obtain ⟨b11, eb11, hf⟩ := bs_ hf
            by_cases c12 : b11 = true
            · have hf := ip_ c12 hf
              refine wx_idx (st := []) hx hnt hts hKn hH (hl.1.trans hml.symm) (by decide : 0 < 3) (eb11.trans (congrArg some c12)) (Nat.le_of_ble_eq_true rfl) (Nat.le_of_ble_eq_true rfl) (Nat.le_of_ble_eq_true rfl) (Nat.le_of_ble_eq_true rfl) (fun T cell ty h1 h2 h3 X => X.iastoreOut hx h1 h2 h3 (g := F0 m 76 ls [.int a3, .int a2, .ref o6]) rfl rfl (by rw [hb]; exact dX1_put_76)) (fun H locs hH hcl => ?_)
              refine wx_catch (pc := 76) (own := "SideBySide") (C := "java/lang/ArrayIndexOutOfBoundsException") (ok := (fun k9 => decide (k9 = 366))) (h := 84) hown htab ⟨fun _ => ⟨by decide, "java/lang/ClassCastException", hts _ q102, Or.inr ⟨rfl, hKn.2.2.2.2.1 ("java/lang/ArrayIndexOutOfBoundsException", "java/lang/ClassCastException") (by decide +kernel)⟩⟩, fun _ => ⟨by decide, "java/lang/ArrayIndexOutOfBoundsException", hts _ q995, Or.inl ⟨rfl, hKn.2.2.2.1 ("java/lang/ArrayIndexOutOfBoundsException", "java/lang/ArrayIndexOutOfBoundsException") (by decide +kernel)⟩⟩, trivial⟩ (by decide) hcl ?_
              refine W.widen (k := 3) (n := 1000) (Nat.le_of_ble_eq_true rfl) (Nat.le_of_ble_eq_true rfl) ?_
              refine lv_astore (lv' := [(5, .ref (n + 2)), (4, .ref o6), (0, .ref a0), (1, .int a1), (2, .int a2), (3, .int a3)]) hx hb dX1_put_84 hl (by decide) rfl (fun ls hl => ?_)
              refine lv_bipush (v := (-13)) hx hb dX1_put_86 (by decide) ?_
              cases hf
              refine W.widen (k := 3) (n := 1000) (Nat.le_of_ble_eq_true rfl) (Nat.le_of_ble_eq_true rfl) ?_
              exact rt_i hx hb hr hlk hH dX1_put_88
            · have hf := in_ c12 hf
              obtain ⟨M13, eM13, hf⟩ := bs_ hf
              refine mg_iast hx hb hKn hH eM13 dX1_put_76 (fun H locs hH => ?_)
              refine lv_iconst (v := 0) hx hb dX1_put_77 (by decide) ?_
              cases hf
              refine W.widen (k := 3) (n := 1000) (Nat.le_of_ble_eq_true rfl) (Nat.le_of_ble_eq_true rfl) ?_
              exact rt_i hx hb hr hlk hH dX1_put_78
          · have hf := in_ c15 hf
            refine mg_castx (tag := 0) hx hb hnt hown (by decide) (hts _ q744) hts hKn hH (hl.1.trans hml.symm) et14 c15 (Nat.le_of_ble_eq_true rfl) (Nat.le_of_ble_eq_true rfl) (Nat.le_of_ble_eq_true rfl) (Nat.le_of_ble_eq_true rfl) dX1_put_71 (fun H locs hH hcl => ?_)
            refine wx_catch (pc := 71) (own := "SideBySide") (C := "java/lang/ClassCastException") (ok := (fun k9 => decide (k9 = 174))) (h := 79) hown htab ⟨fun _ => ⟨by decide, "java/lang/ClassCastException", hts _ q102, Or.inl ⟨rfl, hKn.2.2.2.1 ("java/lang/ClassCastException", "java/lang/ClassCastException") (by decide +kernel)⟩⟩, fun _ => ⟨by decide, "java/lang/ArrayIndexOutOfBoundsException", hts _ q995, Or.inr ⟨rfl, hKn.2.2.2.2.1 ("java/lang/ClassCastException", "java/lang/ArrayIndexOutOfBoundsException") (by decide +kernel)⟩⟩, trivial⟩ (by decide) hcl ?_
            refine W.widen (k := 3) (n := 1000) (Nat.le_of_ble_eq_true rfl) (Nat.le_of_ble_eq_true rfl) ?_
            refine lv_astore (lv' := [(5, .ref (n + 2)), (4, .ref o6), (0, .ref a0), (1, .int a1), (2, .int a2), (3, .int a3)]) hx hb dX1_put_79 hl (by decide) rfl (fun ls hl => ?_)
            refine lv_bipush (v := (-12)) hx hb dX1_put_81 (by decide) ?_
            cases hf
            refine W.widen (k := 3) (n := 1000) (Nat.le_of_ble_eq_true rfl) (Nat.le_of_ble_eq_true rfl) ?_
            exact rt_i hx hb hr hlk hH dX1_put_83
        · have hf := in_ c23 hf
          refine lv_aload hx hb dX1_put_57 (lv_at hl 0 rfl) ?_
          obtain ⟨t21, et21, hf⟩ := bs_ hf
          by_cases c22 : t21 = 2
          · have hf := ip_ c22 hf
            refine mg_cast (tag := 2) hx hb hown (hts _ q743) hKn hH (cc_of et21 c22) dX1_put_59 ?_
            refine lv_iload_n hx hb dX1_put_62 rfl (lv_at hl 3 rfl) ?_
            refine lv_iload_n hx hb dX1_put_63 rfl (lv_at hl 4 rfl) ?_
            refine lv_i2s hx hb dX1_put_64 rfl ?_
            obtain ⟨b18, eb18, hf⟩ := bs_ hf
            by_cases c19 : b18 = true
            · have hf := ip_ c19 hf
              refine wx_idx (st := []) hx hnt hts hKn hH (hl.1.trans hml.symm) (by decide : 2 < 3) (eb18.trans (congrArg some c19)) (Nat.le_of_ble_eq_true rfl) (Nat.le_of_ble_eq_true rfl) (Nat.le_of_ble_eq_true rfl) (Nat.le_of_ble_eq_true rfl) (fun T cell ty h1 h2 h3 X => X.sastoreOut hx h1 h2 h3 (g := F0 m 65 ls [.int (a3.toInt16.toInt32), .int a2, .ref o6]) rfl rfl (by rw [hb]; exact dX1_put_65)) (fun H locs hH hcl => ?_)
              refine wx_catch (pc := 65) (own := "SideBySide") (C := "java/lang/ArrayIndexOutOfBoundsException") (ok := (fun k9 => decide (k9 = 366))) (h := 84) hown htab ⟨fun _ => ⟨by decide, "java/lang/ClassCastException", hts _ q102, Or.inr ⟨rfl, hKn.2.2.2.2.1 ("java/lang/ArrayIndexOutOfBoundsException", "java/lang/ClassCastException") (by decide +kernel)⟩⟩, fun _ => ⟨by decide, "java/lang/ArrayIndexOutOfBoundsException", hts _ q995, Or.inl ⟨rfl, hKn.2.2.2.1 ("java/lang/ArrayIndexOutOfBoundsException", "java/lang/ArrayIndexOutOfBoundsException") (by decide +kernel)⟩⟩, trivial⟩ (by decide) hcl ?_
              refine W.widen (k := 3) (n := 1000) (Nat.le_of_ble_eq_true rfl) (Nat.le_of_ble_eq_true rfl) ?_
              refine lv_astore (lv' := [(5, .ref (n + 2)), (4, .ref o6), (0, .ref a0), (1, .int a1), (2, .int a2), (3, .int a3)]) hx hb dX1_put_84 hl (by decide) rfl (fun ls hl => ?_)
              refine lv_bipush (v := (-13)) hx hb dX1_put_86 (by decide) ?_
              cases hf
              refine W.widen (k := 3) (n := 1000) (Nat.le_of_ble_eq_true rfl) (Nat.le_of_ble_eq_true rfl) ?_
              exact rt_i hx hb hr hlk hH dX1_put_88
            · have hf := in_ c19 hf
              obtain ⟨M20, eM20, hf⟩ := bs_ hf
              refine mg_sast hx hb hKn hH eM20 dX1_put_65 (fun H locs hH => ?_)
              refine lv_goto (tgt := 77) hx hb dX1_put_66 (by decide) ?_
              refine lv_iconst (v := 0) hx hb dX1_put_77 (by decide) ?_
              cases hf
              refine W.widen (k := 3) (n := 1000) (Nat.le_of_ble_eq_true rfl) (Nat.le_of_ble_eq_true rfl) ?_
              exact rt_i hx hb hr hlk hH dX1_put_78
          · have hf := in_ c22 hf
            refine mg_castx (tag := 2) hx hb hnt hown (by decide) (hts _ q743) hts hKn hH (hl.1.trans hml.symm) et21 c22 (Nat.le_of_ble_eq_true rfl) (Nat.le_of_ble_eq_true rfl) (Nat.le_of_ble_eq_true rfl) (Nat.le_of_ble_eq_true rfl) dX1_put_59 (fun H locs hH hcl => ?_)
            refine wx_catch (pc := 59) (own := "SideBySide") (C := "java/lang/ClassCastException") (ok := (fun k9 => decide (k9 = 174))) (h := 79) hown htab ⟨fun _ => ⟨by decide, "java/lang/ClassCastException", hts _ q102, Or.inl ⟨rfl, hKn.2.2.2.1 ("java/lang/ClassCastException", "java/lang/ClassCastException") (by decide +kernel)⟩⟩, fun _ => ⟨by decide, "java/lang/ArrayIndexOutOfBoundsException", hts _ q995, Or.inr ⟨rfl, hKn.2.2.2.2.1 ("java/lang/ClassCastException", "java/lang/ArrayIndexOutOfBoundsException") (by decide +kernel)⟩⟩, trivial⟩ (by decide) hcl ?_
            refine W.widen (k := 3) (n := 1000) (Nat.le_of_ble_eq_true rfl) (Nat.le_of_ble_eq_true rfl) ?_
            refine lv_astore (lv' := [(5, .ref (n + 2)), (4, .ref o6), (0, .ref a0), (1, .int a1), (2, .int a2), (3, .int a3)]) hx hb dX1_put_79 hl (by decide) rfl (fun ls hl => ?_)
            refine lv_bipush (v := (-12)) hx hb dX1_put_81 (by decide) ?_
            cases hf
            refine W.widen (k := 3) (n := 1000) (Nat.le_of_ble_eq_true rfl) (Nat.le_of_ble_eq_true rfl) ?_
            exact rt_i hx hb hr hlk hH dX1_put_83
      · have hf := in_ c31 hf
        refine lv_aload hx hb dX1_put_37 (lv_at hl 0 rfl) ?_
        obtain ⟨t29, et29, hf⟩ := bs_ hf
        by_cases c30 : t29 = 1
        · have hf := ip_ c30 hf
          refine mg_cast (tag := 1) hx hb hown (hts _ q202) hKn hH (cc_of et29 c30) dX1_put_39 ?_
          refine lv_iload_n hx hb dX1_put_42 rfl (lv_at hl 3 rfl) ?_
          refine lv_iload_n hx hb dX1_put_43 rfl (lv_at hl 4 rfl) ?_
          refine lv_i2b hx hb dX1_put_44 rfl ?_
          obtain ⟨b26, eb26, hf⟩ := bs_ hf
          by_cases c27 : b26 = true
          · have hf := ip_ c27 hf
            refine wx_idx (st := []) hx hnt hts hKn hH (hl.1.trans hml.symm) (by decide : 1 < 3) (eb26.trans (congrArg some c27)) (Nat.le_of_ble_eq_true rfl) (Nat.le_of_ble_eq_true rfl) (Nat.le_of_ble_eq_true rfl) (Nat.le_of_ble_eq_true rfl) (fun T cell ty h1 h2 h3 X => X.bastoreOut hx h1 h2 h3 (g := F0 m 45 ls [.int (a3.toInt8.toInt32), .int a2, .ref o6]) rfl rfl (by rw [hb]; exact dX1_put_45)) (fun H locs hH hcl => ?_)
            refine wx_catch (pc := 45) (own := "SideBySide") (C := "java/lang/ArrayIndexOutOfBoundsException") (ok := (fun k9 => decide (k9 = 366))) (h := 84) hown htab ⟨fun _ => ⟨by decide, "java/lang/ClassCastException", hts _ q102, Or.inr ⟨rfl, hKn.2.2.2.2.1 ("java/lang/ArrayIndexOutOfBoundsException", "java/lang/ClassCastException") (by decide +kernel)⟩⟩, fun _ => ⟨by decide, "java/lang/ArrayIndexOutOfBoundsException", hts _ q995, Or.inl ⟨rfl, hKn.2.2.2.1 ("java/lang/ArrayIndexOutOfBoundsException", "java/lang/ArrayIndexOutOfBoundsException") (by decide +kernel)⟩⟩, trivial⟩ (by decide) hcl ?_
            refine W.widen (k := 3) (n := 1000) (Nat.le_of_ble_eq_true rfl) (Nat.le_of_ble_eq_true rfl) ?_
            refine lv_astore (lv' := [(5, .ref (n + 2)), (4, .ref o6), (0, .ref a0), (1, .int a1), (2, .int a2), (3, .int a3)]) hx hb dX1_put_84 hl (by decide) rfl (fun ls hl => ?_)
            refine lv_bipush (v := (-13)) hx hb dX1_put_86 (by decide) ?_
            cases hf
            refine W.widen (k := 3) (n := 1000) (Nat.le_of_ble_eq_true rfl) (Nat.le_of_ble_eq_true rfl) ?_
            exact rt_i hx hb hr hlk hH dX1_put_88
          · have hf := in_ c27 hf
            obtain ⟨M28, eM28, hf⟩ := bs_ hf
            refine mg_bast hx hb hKn hH eM28 dX1_put_45 (fun H locs hH => ?_)
            refine lv_goto (tgt := 77) hx hb dX1_put_46 (by decide) ?_
            refine lv_iconst (v := 0) hx hb dX1_put_77 (by decide) ?_
            cases hf
            refine W.widen (k := 3) (n := 1000) (Nat.le_of_ble_eq_true rfl) (Nat.le_of_ble_eq_true rfl) ?_
            exact rt_i hx hb hr hlk hH dX1_put_78
        · have hf := in_ c30 hf
          refine mg_castx (tag := 1) hx hb hnt hown (by decide) (hts _ q202) hts hKn hH (hl.1.trans hml.symm) et29 c30 (Nat.le_of_ble_eq_true rfl) (Nat.le_of_ble_eq_true rfl) (Nat.le_of_ble_eq_true rfl) (Nat.le_of_ble_eq_true rfl) dX1_put_39 (fun H locs hH hcl => ?_)
          refine wx_catch (pc := 39) (own := "SideBySide") (C := "java/lang/ClassCastException") (ok := (fun k9 => decide (k9 = 174))) (h := 79) hown htab ⟨fun _ => ⟨by decide, "java/lang/ClassCastException", hts _ q102, Or.inl ⟨rfl, hKn.2.2.2.1 ("java/lang/ClassCastException", "java/lang/ClassCastException") (by decide +kernel)⟩⟩, fun _ => ⟨by decide, "java/lang/ArrayIndexOutOfBoundsException", hts _ q995, Or.inr ⟨rfl, hKn.2.2.2.2.1 ("java/lang/ClassCastException", "java/lang/ArrayIndexOutOfBoundsException") (by decide +kernel)⟩⟩, trivial⟩ (by decide) hcl ?_
          refine W.widen (k := 3) (n := 1000) (Nat.le_of_ble_eq_true rfl) (Nat.le_of_ble_eq_true rfl) ?_
          refine lv_astore (lv' := [(5, .ref (n + 2)), (4, .ref o6), (0, .ref a0), (1, .int a1), (2, .int a2), (3, .int a3)]) hx hb dX1_put_79 hl (by decide) rfl (fun ls hl => ?_)
          refine lv_bipush (v := (-12)) hx hb dX1_put_81 (by decide) ?_
          cases hf
          refine W.widen (k := 3) (n := 1000) (Nat.le_of_ble_eq_true rfl) (Nat.le_of_ble_eq_true rfl) ?_
          exact rt_i hx hb hr hlk hH dX1_put_83
  · have hf := ip_ c32 hf
    refine lv_iconst (v := (-1)) hx hb dX1_put_8 (by decide) ?_
    cases hf
    refine W.widen (k := 3) (n := 1000) (Nat.le_of_ble_eq_true rfl) (Nat.le_of_ble_eq_true rfl) ?_
    exact rt_i hx hb hr hlk hH dX1_put_9
