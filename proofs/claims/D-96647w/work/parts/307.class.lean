set_option maxRecDepth 100000
def fX1_draughts_L87 (K73 : Mem_ → Nat → Int32 → Int32 → Int32 → Int64 → Int64 → Int32 → Option (Int64 × Mem_)) : Nat → Mem_ → Nat → Int32 → Int32 → Int32 → Int64 → Int64 → Int32 → Int64 → Int32 → Option (Int64 × Mem_)
  | 0, _, _, _, _, _, _, _, _, _, _ => none
  | fuel + 1, M, x0, x1, x2, x3, x4, x6, x8, x9, x11 =>
    if x1 ≤ x11 then
      (ck_ M x0 0).bind fun u15 =>
      bw_ (fX1_goesOn M x0 x8 x1) fun r16 M17 =>
      if (b2_ r16) = 0 then
        lt_ ((x4 + 0)) fun v18 =>
        lt_ (x8 + 1) fun v19 =>
        K73 M17 x0 x1 x2 x3 v18 x6 v19
      else
        lt_ ((x4 + x9)) fun v20 =>
        lt_ (x8 + 1) fun v21 =>
        K73 M17 x0 x1 x2 x3 v20 x6 v21
    else
      lt_ (fX1_has x8 x11) fun r23 =>
      if (b2_ r23) = 0 then
        lt_ ((x9 * ((x2 - 1).toInt64))) fun v24 =>
        lt_ (x11 + 1) fun v25 =>
        fX1_draughts_L87 K73 fuel M x0 x1 x2 x3 x4 x6 x8 v24 v25
      else
        lt_ ((x9 * 1)) fun v26 =>
        lt_ (x11 + 1) fun v27 =>
        fX1_draughts_L87 K73 fuel M x0 x1 x2 x3 x4 x6 x8 v26 v27
def fX1_draughts_L73 : Nat → Mem_ → Nat → Int32 → Int32 → Int32 → Int64 → Int64 → Int32 → Option (Int64 × Mem_)
  | 0, _, _, _, _, _, _, _, _ => none
  | fuel + 1, M, x0, x1, x2, x3, x4, x6, x8 =>
    if (1 <<< (x1 &&& 31)) ≤ x8 then
      (fX1_partOf x4 x6 x3).bind fun r13 =>
      some (r13, M)
    else
      fX1_draughts_L87 (fX1_draughts_L73 fuel) 1000 M x0 x1 x2 x3 x4 x6 x8 1 0
def fX1_draughts_L51 : Nat → Mem_ → Nat → Int32 → Int32 → Int32 → Int64 → Int64 → Int32 → Option (Int64 × Mem_)
  | 0, _, _, _, _, _, _, _, _ => none
  | fuel + 1, M, x0, x1, x2, x3, x4, x6, x8 =>
    if x1 ≤ x8 then
      fX1_draughts_L73 1000 M x0 x1 x2 x3 x4 x6 0
    else
      lt_ ((x6 * (x2.toInt64))) fun v10 =>
      lt_ (x8 + 1) fun v11 =>
      fX1_draughts_L51 fuel M x0 x1 x2 x3 x4 v10 v11
def fX1_draughts (M : Mem_) (a0 : Nat) (a1 : Int32) (a2 : Int32) (a3 : Int32) : Option (Int64 × Mem_) :=
  (gR_ M a0 0 0).bind fun v1 =>
  (gI_ M v1 1 9).bind fun v2 =>
  lt_ (if v2 < 5 then v2 else 5) fun v3 =>
  lt_ (fX1_isIn a1 0 v3) fun r4 =>
  if (b2_ r4) = 0 then
    some (1000000001, M)
  else
    lt_ (fX1_isIn a2 2 20) fun r5 =>
    if (b2_ r5) = 0 then
      some (1000000001, M)
    else
      lt_ (fX1_isIn a3 0 1) fun r6 =>
      if (b2_ r6) = 0 then
        some (1000000001, M)
      else
        fX1_draughts_L51 1000 M a0 a1 a2 a3 0 1 0
theorem kdX1_draughts : yX1_draughts.cls ≠ "java/lang/invoke/MethodHandle" ∧ yX1_draughts.cls ≠ "java/lang/invoke/VarHandle" ∧ (parseMethodDescriptor yX1_draughts.desc).map (fun d => d.parameters.length) = some 3 := by decide +kernel
set_option maxHeartbeats 4000000 in
theorem mX1_draughts (l : Launch) (G : GT_) (M : Mem_) (n : Nat) (a0 : Nat) (a1 : Int32) (a2 : Int32) (a3 : Int32) (r : Int64) (M1 : Mem_) (hf : fX1_draughts M a0 a1 a2 a3 = some (r, M1)) : Ct_ G l yX1_draughts (ws_ yX1_draughts cX1_draughts 12 (some .long)) ({ frames := 62, cells := 0, slots := 0, locals := 1427 }) 0 0 [.ref a0, .int a1, .int a2, .int a3] M n (some (.long r)) M1 n := by
  refine en_ (by decide) (Nat.le_of_ble_eq_true rfl) ?_
  intro p e s m below meth c hx hb hr hlk hml hown hts hname hKn hH ls hl
  have hown : s.vm.findClass RX1 = some m.cls := hown
  have hl : lv_has ls 12 [(0, .ref a0), (1, .int a1), (2, .int a2), (3, .int a3)] := hl
  have w87 : ∀ (K73 : Mem_ → Nat → Int32 → Int32 → Int32 → Int64 → Int64 → Int32 → Option (Int64 × Mem_)), (∀ (M : Mem_) (x0 : Nat) (x1 : Int32) (x2 : Int32) (x3 : Int32) (x4 : Int64) (x6 : Int64) (x8 : Int32) (H : Heap) (locs : List Loc) (ls : Array Slot), St_ G n M s H locs → lv_has ls 12 [(0, .ref x0), (1, .int x1), (2, .int x2), (3, .int x3), (4, .long x4), (6, .long x6), (8, .int x8)] → K73 M x0 x1 x2 x3 x4 x6 x8 = some (r, M1) → W p l e ({ frames := 62, cells := 0, slots := 0, locals := 1427 } : Room) s m ([.ref a0, .int a1, .int a2, .int a3] : List Value).toArray below meth c H locs 0 0 (MQ below (Qc_ G (some (.long r)) M1 n) ([.ref a0, .int a1, .int a2, .int a3] : List Value).toArray s 0 0 (fun q => G.1 ≤ q)) (F0 m 73 ls [])) → ∀ (fuel : Nat), ∀ (M : Mem_) (x0 : Nat) (x1 : Int32) (x2 : Int32) (x3 : Int32) (x4 : Int64) (x6 : Int64) (x8 : Int32) (x9 : Int64) (x11 : Int32) (H : Heap) (locs : List Loc) (ls : Array Slot), St_ G n M s H locs → lv_has ls 12 [(0, .ref x0), (1, .int x1), (2, .int x2), (3, .int x3), (4, .long x4), (6, .long x6), (8, .int x8), (9, .long x9), (11, .int x11)] → fX1_draughts_L87 K73 fuel M x0 x1 x2 x3 x4 x6 x8 x9 x11 = some (r, M1) → W p l e ({ frames := 62, cells := 0, slots := 0, locals := 1427 } : Room) s m ([.ref a0, .int a1, .int a2, .int a3] : List Value).toArray below meth c H locs 0 0 (MQ below (Qc_ G (some (.long r)) M1 n) ([.ref a0, .int a1, .int a2, .int a3] : List Value).toArray s 0 0 (fun q => G.1 ≤ q)) (F0 m 87 ls []) := by
    intro K73 hK73 fuel
    induction fuel with
    | zero =>
      intro M x0 x1 x2 x3 x4 x6 x8 x9 x11 H locs ls hH hl hf
      cases hf
    | succ fuel ih =>
      intro M x0 x1 x2 x3 x4 x6 x8 x9 x11 H locs ls hH hl hf
      unfold fX1_draughts_L87 at hf
      refine lv_iload hx hb dX1_draughts_87 (lv_at hl 8 rfl) ?_
      refine lv_iload_n hx hb dX1_draughts_89 rfl (lv_at hl 1 rfl) ?_
      refine lv_icmp_ge (tgt := 122) hx hb dX1_draughts_90 (by decide) (fun c29 => ?_) (fun c29 => ?_)
      · have hf := ip_ c29 hf
        refine lv_lload hx hb dX1_draughts_122 (lv_at hl 4 rfl) ?_
        refine lv_aload_n hx hb dX1_draughts_124 rfl (lv_at hl 0 rfl) ?_
        refine lv_iload hx hb dX1_draughts_125 (lv_at hl 6 rfl) ?_
        refine lv_iload_n hx hb dX1_draughts_127 rfl (lv_at hl 1 rfl) ?_
        obtain ⟨u15, eu15, hf⟩ := bs_ hf
        obtain ⟨r16, M17, er16, hf⟩ := bws_ hf
        refine cl_i0 hH (rn_V ⟨hx, hb, hml, hown, hts⟩ hKn hH (mX1_goesOn l G M n x0 x8 x1 r16 M17 er16) (cwV 2 hts (lw_V q809 q811 qs36 q67 q812) rfl rfl rfl ⟨rfl, kdX1_goesOn⟩ ⟨Nat.le_of_ble_eq_true rfl, Nat.le_of_ble_eq_true rfl⟩) eu15 rfl rfl hl.1 (Nat.le_of_ble_eq_true rfl) dX1_draughts_128 ⟨(Nat.le_of_ble_eq_true rfl), (Nat.le_of_ble_eq_true rfl)⟩ rfl) (fun H locs hH => ?_)
        refine lv_if_eq (tgt := 139) hx hb dX1_draughts_131 (by decide) (fun c22 => ?_) (fun c22 => ?_)
        · have hf := ip_ c22 hf
          refine lv_lconst (v := 0) hx hb dX1_draughts_139 (by decide) ?_
          refine lv_ladd hx hb dX1_draughts_140 ?_
          refine lv_topl (fun v18 ev18 => ?_)
          have hf := lu_ ev18 hf
          refine lv_lstore (lv' := [(4, .long v18), (0, .ref x0), (1, .int x1), (2, .int x2), (3, .int x3), (6, .long x6), (8, .int x8), (9, .long x9), (11, .int x11)]) hx hb dX1_draughts_141 hl (by decide) rfl (fun ls hl => ?_)
          obtain ⟨v19, ev19⟩ : ∃ z : Int32, z = x8 + 1 := ⟨_, rfl⟩
          have hf := lu_ ev19 hf
          refine lv_iinc (v := v19) (lv' := [(8, .int v19), (4, .long v18), (0, .ref x0), (1, .int x1), (2, .int x2), (3, .int x3), (6, .long x6), (9, .long x9), (11, .int x11)]) hx hb dX1_draughts_143 hl (k := 6) rfl (by rw [ev19]; rfl) (by decide) rfl (fun ls hl => ?_)
          refine lv_goto (tgt := 73) hx hb dX1_draughts_146 (by decide) ?_
          exact hK73 M17 x0 x1 x2 x3 v18 x6 v19 _ _ ls hH (lv_sub hl [2, 3, 4, 5, 1, 6, 0] rfl) hf
        · have hf := in_ c22 hf
          refine lv_lload hx hb dX1_draughts_134 (lv_at hl 7 rfl) ?_
          refine lv_goto (tgt := 140) hx hb dX1_draughts_136 (by decide) ?_
          refine lv_ladd hx hb dX1_draughts_140 ?_
          refine lv_topl (fun v20 ev20 => ?_)
          have hf := lu_ ev20 hf
          refine lv_lstore (lv' := [(4, .long v20), (0, .ref x0), (1, .int x1), (2, .int x2), (3, .int x3), (6, .long x6), (8, .int x8), (9, .long x9), (11, .int x11)]) hx hb dX1_draughts_141 hl (by decide) rfl (fun ls hl => ?_)
          obtain ⟨v21, ev21⟩ : ∃ z : Int32, z = x8 + 1 := ⟨_, rfl⟩
          have hf := lu_ ev21 hf
          refine lv_iinc (v := v21) (lv' := [(8, .int v21), (4, .long v20), (0, .ref x0), (1, .int x1), (2, .int x2), (3, .int x3), (6, .long x6), (9, .long x9), (11, .int x11)]) hx hb dX1_draughts_143 hl (k := 6) rfl (by rw [ev21]; rfl) (by decide) rfl (fun ls hl => ?_)
          refine lv_goto (tgt := 73) hx hb dX1_draughts_146 (by decide) ?_
          exact hK73 M17 x0 x1 x2 x3 v20 x6 v21 _ _ ls hH (lv_sub hl [2, 3, 4, 5, 1, 6, 0] rfl) hf
      · have hf := in_ c29 hf
        refine lv_lload hx hb dX1_draughts_93 (lv_at hl 7 rfl) ?_
        refine lv_iload hx hb dX1_draughts_95 (lv_at hl 6 rfl) ?_
        refine lv_iload hx hb dX1_draughts_97 (lv_at hl 8 rfl) ?_
        obtain ⟨r23, er23⟩ : ∃ z, z = fX1_has x8 x11 := ⟨_, rfl⟩
        have hf := lu_ er23 hf
        refine cl_i0 hH (rn_S ⟨hx, hb, hml, hown, hts⟩ hKn hH (mX1_has l G M n x8 x11 r23 er23.symm) (va_cwS 2 hts (lw_S q808 q526 q67 q527) rfl rfl rfl kdX1_has ⟨Nat.le_of_ble_eq_true rfl, Nat.le_of_ble_eq_true rfl⟩) rfl hl.1 (Nat.le_of_ble_eq_true rfl) dX1_draughts_99 ⟨(Nat.le_of_ble_eq_true rfl), (Nat.le_of_ble_eq_true rfl)⟩ rfl) (fun H locs hH => ?_)
        refine lv_if_eq (tgt := 109) hx hb dX1_draughts_102 (by decide) (fun c28 => ?_) (fun c28 => ?_)
        · have hf := ip_ c28 hf
          refine lv_iload_n hx hb dX1_draughts_109 rfl (lv_at hl 2 rfl) ?_
          refine lv_iconst (v := 1) hx hb dX1_draughts_110 (by decide) ?_
          refine lv_isub hx hb dX1_draughts_111 ?_
          refine lv_i2l hx hb dX1_draughts_112 rfl ?_
          refine lv_lmul hx hb dX1_draughts_113 ?_
          refine lv_topl (fun v24 ev24 => ?_)
          have hf := lu_ ev24 hf
          refine lv_lstore (lv' := [(9, .long v24), (0, .ref x0), (1, .int x1), (2, .int x2), (3, .int x3), (4, .long x4), (6, .long x6), (8, .int x8), (11, .int x11)]) hx hb dX1_draughts_114 hl (by decide) rfl (fun ls hl => ?_)
          obtain ⟨v25, ev25⟩ : ∃ z : Int32, z = x11 + 1 := ⟨_, rfl⟩
          have hf := lu_ ev25 hf
          refine lv_iinc (v := v25) (lv' := [(11, .int v25), (9, .long v24), (0, .ref x0), (1, .int x1), (2, .int x2), (3, .int x3), (4, .long x4), (6, .long x6), (8, .int x8)]) hx hb dX1_draughts_116 hl (k := 8) rfl (by rw [ev25]; rfl) (by decide) rfl (fun ls hl => ?_)
          refine lv_goto (tgt := 87) hx hb dX1_draughts_119 (by decide) ?_
          exact ih M x0 x1 x2 x3 x4 x6 x8 v24 v25 _ _ ls hH (lv_sub hl [2, 3, 4, 5, 6, 7, 8, 1, 0] rfl) hf
        · have hf := in_ c28 hf
          refine lv_lconst (v := 1) hx hb dX1_draughts_105 (by decide) ?_
          refine lv_goto (tgt := 113) hx hb dX1_draughts_106 (by decide) ?_
          refine lv_lmul hx hb dX1_draughts_113 ?_
          refine lv_topl (fun v26 ev26 => ?_)
          have hf := lu_ ev26 hf
          refine lv_lstore (lv' := [(9, .long v26), (0, .ref x0), (1, .int x1), (2, .int x2), (3, .int x3), (4, .long x4), (6, .long x6), (8, .int x8), (11, .int x11)]) hx hb dX1_draughts_114 hl (by decide) rfl (fun ls hl => ?_)
          obtain ⟨v27, ev27⟩ : ∃ z : Int32, z = x11 + 1 := ⟨_, rfl⟩
          have hf := lu_ ev27 hf
          refine lv_iinc (v := v27) (lv' := [(11, .int v27), (9, .long v26), (0, .ref x0), (1, .int x1), (2, .int x2), (3, .int x3), (4, .long x4), (6, .long x6), (8, .int x8)]) hx hb dX1_draughts_116 hl (k := 8) rfl (by rw [ev27]; rfl) (by decide) rfl (fun ls hl => ?_)
          refine lv_goto (tgt := 87) hx hb dX1_draughts_119 (by decide) ?_
          exact ih M x0 x1 x2 x3 x4 x6 x8 v26 v27 _ _ ls hH (lv_sub hl [2, 3, 4, 5, 6, 7, 8, 1, 0] rfl) hf
  have w73 : ∀ (fuel : Nat), ∀ (M : Mem_) (x0 : Nat) (x1 : Int32) (x2 : Int32) (x3 : Int32) (x4 : Int64) (x6 : Int64) (x8 : Int32) (H : Heap) (locs : List Loc) (ls : Array Slot), St_ G n M s H locs → lv_has ls 12 [(0, .ref x0), (1, .int x1), (2, .int x2), (3, .int x3), (4, .long x4), (6, .long x6), (8, .int x8)] → fX1_draughts_L73 fuel M x0 x1 x2 x3 x4 x6 x8 = some (r, M1) → W p l e ({ frames := 62, cells := 0, slots := 0, locals := 1427 } : Room) s m ([.ref a0, .int a1, .int a2, .int a3] : List Value).toArray below meth c H locs 0 0 (MQ below (Qc_ G (some (.long r)) M1 n) ([.ref a0, .int a1, .int a2, .int a3] : List Value).toArray s 0 0 (fun q => G.1 ≤ q)) (F0 m 73 ls []) := by
    intro fuel
    induction fuel with
    | zero =>
      intro M x0 x1 x2 x3 x4 x6 x8 H locs ls hH hl hf
      cases hf
    | succ fuel ih =>
      intro M x0 x1 x2 x3 x4 x6 x8 H locs ls hH hl hf
      unfold fX1_draughts_L73 at hf
      refine lv_iload hx hb dX1_draughts_73 (lv_at hl 6 rfl) ?_
      refine lv_iconst (v := 1) hx hb dX1_draughts_75 (by decide) ?_
      refine lv_iload_n hx hb dX1_draughts_76 rfl (lv_at hl 1 rfl) ?_
      refine lv_ishl hx hb dX1_draughts_77 ?_
      refine lv_icmp_ge (tgt := 149) hx hb dX1_draughts_78 (by decide) (fun c14 => ?_) (fun c14 => ?_)
      · have hf := ip_ c14 hf
        refine lv_lload hx hb dX1_draughts_149 (lv_at hl 4 rfl) ?_
        refine lv_lload hx hb dX1_draughts_151 (lv_at hl 5 rfl) ?_
        refine lv_iload_n hx hb dX1_draughts_153 rfl (lv_at hl 3 rfl) ?_
        obtain ⟨r13, er13, hf⟩ := bs_ hf
        refine cl_l0 hH (rn_S ⟨hx, hb, hml, hown, hts⟩ hKn hH (mX1_partOf l G M n x4 x6 x3 r13 er13) (va_cwS 3 hts (lw_S q813 q814 q67 q815) rfl rfl rfl kdX1_partOf ⟨Nat.le_of_ble_eq_true rfl, Nat.le_of_ble_eq_true rfl⟩) rfl hl.1 (Nat.le_of_ble_eq_true rfl) dX1_draughts_154 ⟨(Nat.le_of_ble_eq_true rfl), (Nat.le_of_ble_eq_true rfl)⟩ rfl) (fun H locs hH => ?_)
        cases hf
        exact rt_l hx hb hr hlk hH dX1_draughts_157
      · have hf := in_ c14 hf
        refine lv_lconst (v := 1) hx hb dX1_draughts_81 (by decide) ?_
        refine lv_lstore (lv' := [(9, .long 1), (0, .ref x0), (1, .int x1), (2, .int x2), (3, .int x3), (4, .long x4), (6, .long x6), (8, .int x8)]) hx hb dX1_draughts_82 hl (by decide) rfl (fun ls hl => ?_)
        refine lv_iconst (v := 0) hx hb dX1_draughts_84 (by decide) ?_
        refine lv_istore (lv' := [(11, .int 0), (9, .long 1), (0, .ref x0), (1, .int x1), (2, .int x2), (3, .int x3), (4, .long x4), (6, .long x6), (8, .int x8)]) hx hb dX1_draughts_85 hl (by decide) rfl (fun ls hl => ?_)
        exact w87 _ ih 1000 M x0 x1 x2 x3 x4 x6 x8 1 0 _ _ ls hH (lv_sub hl [2, 3, 4, 5, 6, 7, 8, 1, 0] rfl) hf
  have w51 : ∀ (fuel : Nat), ∀ (M : Mem_) (x0 : Nat) (x1 : Int32) (x2 : Int32) (x3 : Int32) (x4 : Int64) (x6 : Int64) (x8 : Int32) (H : Heap) (locs : List Loc) (ls : Array Slot), St_ G n M s H locs → lv_has ls 12 [(0, .ref x0), (1, .int x1), (2, .int x2), (3, .int x3), (4, .long x4), (6, .long x6), (8, .int x8)] → fX1_draughts_L51 fuel M x0 x1 x2 x3 x4 x6 x8 = some (r, M1) → W p l e ({ frames := 62, cells := 0, slots := 0, locals := 1427 } : Room) s m ([.ref a0, .int a1, .int a2, .int a3] : List Value).toArray below meth c H locs 0 0 (MQ below (Qc_ G (some (.long r)) M1 n) ([.ref a0, .int a1, .int a2, .int a3] : List Value).toArray s 0 0 (fun q => G.1 ≤ q)) (F0 m 51 ls []) := by
    intro fuel
    induction fuel with
    | zero =>
      intro M x0 x1 x2 x3 x4 x6 x8 H locs ls hH hl hf
      cases hf
    | succ fuel ih =>
      intro M x0 x1 x2 x3 x4 x6 x8 H locs ls hH hl hf
      unfold fX1_draughts_L51 at hf
      refine lv_iload hx hb dX1_draughts_51 (lv_at hl 6 rfl) ?_
      refine lv_iload_n hx hb dX1_draughts_53 rfl (lv_at hl 1 rfl) ?_
      refine lv_icmp_ge (tgt := 70) hx hb dX1_draughts_54 (by decide) (fun c12 => ?_) (fun c12 => ?_)
      · have hf := ip_ c12 hf
        refine lv_iconst (v := 0) hx hb dX1_draughts_70 (by decide) ?_
        refine lv_istore (lv' := [(8, .int 0), (0, .ref x0), (1, .int x1), (2, .int x2), (3, .int x3), (4, .long x4), (6, .long x6)]) hx hb dX1_draughts_71 hl (by decide) rfl (fun ls hl => ?_)
        exact w73 1000 M x0 x1 x2 x3 x4 x6 0 _ _ ls hH (lv_sub hl [1, 2, 3, 4, 5, 6, 0] rfl) hf
      · have hf := in_ c12 hf
        refine lv_lload hx hb dX1_draughts_57 (lv_at hl 5 rfl) ?_
        refine lv_iload_n hx hb dX1_draughts_59 rfl (lv_at hl 2 rfl) ?_
        refine lv_i2l hx hb dX1_draughts_60 rfl ?_
        refine lv_lmul hx hb dX1_draughts_61 ?_
        refine lv_topl (fun v10 ev10 => ?_)
        have hf := lu_ ev10 hf
        refine lv_lstore (lv' := [(6, .long v10), (0, .ref x0), (1, .int x1), (2, .int x2), (3, .int x3), (4, .long x4), (8, .int x8)]) hx hb dX1_draughts_62 hl (by decide) rfl (fun ls hl => ?_)
        obtain ⟨v11, ev11⟩ : ∃ z : Int32, z = x8 + 1 := ⟨_, rfl⟩
        have hf := lu_ ev11 hf
        refine lv_iinc (v := v11) (lv' := [(8, .int v11), (6, .long v10), (0, .ref x0), (1, .int x1), (2, .int x2), (3, .int x3), (4, .long x4)]) hx hb dX1_draughts_64 hl (k := 6) rfl (by rw [ev11]; rfl) (by decide) rfl (fun ls hl => ?_)
        refine lv_goto (tgt := 51) hx hb dX1_draughts_67 (by decide) ?_
        exact ih M x0 x1 x2 x3 x4 v10 v11 _ _ ls hH (lv_sub hl [2, 3, 4, 5, 6, 1, 0] rfl) hf
  unfold fX1_draughts at hf
  refine lv_iload_n hx hb dX1_draughts_0 rfl (lv_at hl 1 rfl) ?_
  refine lv_iconst (v := 0) hx hb dX1_draughts_1 (by decide) ?_
  refine lv_iconst (v := 5) hx hb dX1_draughts_2 (by decide) ?_
  refine lv_aload_n hx hb dX1_draughts_3 rfl (lv_at hl 0 rfl) ?_
  obtain ⟨v1, ev1, hf⟩ := bs_ hf
  refine mg_gR hx hb hts hown hKn hH ev1 in_X1 rfl (by decide) (hts _ q937) (fun _ h9 => h9) dX1_draughts_4 ?_
  obtain ⟨v2, ev2, hf⟩ := bs_ hf
  refine mg_gI hx hb hts hown hKn hH ev2 in_X2 rfl (by decide) (hts _ q890) (fun _ h9 => h9) dX1_draughts_7 ?_
  refine va_mmin hx hb (by rw [hml, hl.1]) hown (hts _ q806) (hts _ q444) (hts _ q89) (hts _ q445) (Nat.le_of_ble_eq_true rfl) (Nat.le_of_ble_eq_true rfl) (Nat.le_of_ble_eq_true rfl) (Nat.le_of_ble_eq_true rfl) dX1_draughts_10 ?_
  refine lv_topi (fun v3 ev3 => ?_)
  have hf := lu_ ev3 hf
  obtain ⟨r4, er4⟩ : ∃ z, z = fX1_isIn a1 0 v3 := ⟨_, rfl⟩
  have hf := lu_ er4 hf
  refine cl_i0 hH (rn_S ⟨hx, hb, hml, hown, hts⟩ hKn hH (mX1_isIn l G M n a1 0 v3 r4 er4.symm) (va_cwS 3 hts (lw_S q199 q200 q67 q201) rfl rfl rfl kdX1_isIn ⟨Nat.le_of_ble_eq_true rfl, Nat.le_of_ble_eq_true rfl⟩) rfl hl.1 (Nat.le_of_ble_eq_true rfl) dX1_draughts_13 ⟨(Nat.le_of_ble_eq_true rfl), (Nat.le_of_ble_eq_true rfl)⟩ rfl) (fun H locs hH => ?_)
  refine lv_if_eq (tgt := 38) hx hb dX1_draughts_16 (by decide) (fun c9 => ?_) (fun c9 => ?_)
  · have hf := ip_ c9 hf
    refine lv_ldc2 hx hb hown (hts _ q807) dX1_draughts_38 ?_
    cases hf
    exact rt_l hx hb hr hlk hH dX1_draughts_41
  · have hf := in_ c9 hf
    refine lv_iload_n hx hb dX1_draughts_19 rfl (lv_at hl 2 rfl) ?_
    refine lv_iconst (v := 2) hx hb dX1_draughts_20 (by decide) ?_
    refine lv_bipush (v := 20) hx hb dX1_draughts_21 (by decide) ?_
    obtain ⟨r5, er5⟩ : ∃ z, z = fX1_isIn a2 2 20 := ⟨_, rfl⟩
    have hf := lu_ er5 hf
    refine cl_i0 hH (rn_S ⟨hx, hb, hml, hown, hts⟩ hKn hH (mX1_isIn l G M n a2 2 20 r5 er5.symm) (va_cwS 3 hts (lw_S q199 q200 q67 q201) rfl rfl rfl kdX1_isIn ⟨Nat.le_of_ble_eq_true rfl, Nat.le_of_ble_eq_true rfl⟩) rfl hl.1 (Nat.le_of_ble_eq_true rfl) dX1_draughts_23 ⟨(Nat.le_of_ble_eq_true rfl), (Nat.le_of_ble_eq_true rfl)⟩ rfl) (fun H locs hH => ?_)
    refine lv_if_eq (tgt := 38) hx hb dX1_draughts_26 (by decide) (fun c8 => ?_) (fun c8 => ?_)
    · have hf := ip_ c8 hf
      refine lv_ldc2 hx hb hown (hts _ q807) dX1_draughts_38 ?_
      cases hf
      exact rt_l hx hb hr hlk hH dX1_draughts_41
    · have hf := in_ c8 hf
      refine lv_iload_n hx hb dX1_draughts_29 rfl (lv_at hl 3 rfl) ?_
      refine lv_iconst (v := 0) hx hb dX1_draughts_30 (by decide) ?_
      refine lv_iconst (v := 1) hx hb dX1_draughts_31 (by decide) ?_
      obtain ⟨r6, er6⟩ : ∃ z, z = fX1_isIn a3 0 1 := ⟨_, rfl⟩
      have hf := lu_ er6 hf
      refine cl_i0 hH (rn_S ⟨hx, hb, hml, hown, hts⟩ hKn hH (mX1_isIn l G M n a3 0 1 r6 er6.symm) (va_cwS 3 hts (lw_S q199 q200 q67 q201) rfl rfl rfl kdX1_isIn ⟨Nat.le_of_ble_eq_true rfl, Nat.le_of_ble_eq_true rfl⟩) rfl hl.1 (Nat.le_of_ble_eq_true rfl) dX1_draughts_32 ⟨(Nat.le_of_ble_eq_true rfl), (Nat.le_of_ble_eq_true rfl)⟩ rfl) (fun H locs hH => ?_)
      refine lv_if_ne (tgt := 42) hx hb dX1_draughts_35 (by decide) (fun c7 => ?_) (fun c7 => ?_)
      · have hf := in_ c7 hf
        refine lv_lconst (v := 0) hx hb dX1_draughts_42 (by decide) ?_
        refine lv_lstore (lv' := [(4, .long 0), (0, .ref a0), (1, .int a1), (2, .int a2), (3, .int a3)]) hx hb dX1_draughts_43 hl (by decide) rfl (fun ls hl => ?_)
        refine lv_lconst (v := 1) hx hb dX1_draughts_45 (by decide) ?_
        refine lv_lstore (lv' := [(6, .long 1), (4, .long 0), (0, .ref a0), (1, .int a1), (2, .int a2), (3, .int a3)]) hx hb dX1_draughts_46 hl (by decide) rfl (fun ls hl => ?_)
        refine lv_iconst (v := 0) hx hb dX1_draughts_48 (by decide) ?_
        refine lv_istore (lv' := [(8, .int 0), (6, .long 1), (4, .long 0), (0, .ref a0), (1, .int a1), (2, .int a2), (3, .int a3)]) hx hb dX1_draughts_49 hl (by decide) rfl (fun ls hl => ?_)
        exact w51 1000 M a0 a1 a2 a3 0 1 0 _ _ ls hH (lv_sub hl [3, 4, 5, 6, 2, 1, 0] rfl) hf
      · have hf := ip_ c7 hf
        refine lv_ldc2 hx hb hown (hts _ q807) dX1_draughts_38 ?_
        cases hf
        exact rt_l hx hb hr hlk hH dX1_draughts_41
def fX1_mean (M : Mem_) (a0 : Nat) (a1 : Int32) : Option Int64 :=
  lt_ (fX1_isIn a1 0 1) fun r1 =>
  if (b2_ r1) = 0 then
    some 1000000001
  else
    (gR_ M a0 0 0).bind fun v2 =>
    (ck_ M v2 1).bind fun u3 =>
    (fX2_tiredOf M v2 0).bind fun r4 =>
    (gR_ M a0 0 0).bind fun v5 =>
    (ck_ M v5 1).bind fun u6 =>
    (fX2_tiredOf M v5 1).bind fun r7 =>
    (fX1_partOf ((r4 + r7).toInt64) 4 a1).bind fun r8 =>
    some r8
theorem kdX1_mean : yX1_mean.cls ≠ "java/lang/invoke/MethodHandle" ∧ yX1_mean.cls ≠ "java/lang/invoke/VarHandle" ∧ (parseMethodDescriptor yX1_mean.desc).map (fun d => d.parameters.length) = some 1 := by decide +kernel
set_option maxHeartbeats 4000000 in
theorem mX1_mean (l : Launch) (G : GT_) (M : Mem_) (n : Nat) (a0 : Nat) (a1 : Int32) (r : Int64) (hf : fX1_mean M a0 a1 = some r) : Ct_ G l yX1_mean (ws_ yX1_mean cX1_mean 2 (some .long)) ({ frames := 62, cells := 0, slots := 0, locals := 1427 }) 0 0 [.ref a0, .int a1] M n (some (.long r)) M n := by
  refine en_ (by decide) (Nat.le_of_ble_eq_true rfl) ?_
  intro p e s m below meth c hx hb hr hlk hml hown hts hname hKn hH ls hl
  have hown : s.vm.findClass RX1 = some m.cls := hown
  have hl : lv_has ls 2 [(0, .ref a0), (1, .int a1)] := hl
  unfold fX1_mean at hf
  generalize s.heap = H at hH ⊢
  refine lv_iload_n hx hb dX1_mean_0 rfl (lv_at hl 1 rfl) ?_
  refine lv_iconst (v := 0) hx hb dX1_mean_1 (by decide) ?_
  refine lv_iconst (v := 1) hx hb dX1_mean_2 (by decide) ?_
  obtain ⟨r1, er1⟩ : ∃ z, z = fX1_isIn a1 0 1 := ⟨_, rfl⟩
  have hf := lu_ er1 hf
  refine cl_i0 hH (rn_S ⟨hx, hb, hml, hown, hts⟩ hKn hH (mX1_isIn l G M n a1 0 1 r1 er1.symm) (va_cwS 3 hts (lw_S q199 q200 q67 q201) rfl rfl rfl kdX1_isIn ⟨Nat.le_of_ble_eq_true rfl, Nat.le_of_ble_eq_true rfl⟩) rfl hl.1 (Nat.le_of_ble_eq_true rfl) dX1_mean_3 ⟨(Nat.le_of_ble_eq_true rfl), (Nat.le_of_ble_eq_true rfl)⟩ rfl) (fun H locs hH => ?_)
  refine lv_if_ne (tgt := 13) hx hb dX1_mean_6 (by decide) (fun c9 => ?_) (fun c9 => ?_)
  · have hf := in_ c9 hf
    refine lv_aload_n hx hb dX1_mean_13 rfl (lv_at hl 0 rfl) ?_
    obtain ⟨v2, ev2, hf⟩ := bs_ hf
    refine mg_gR hx hb hts hown hKn hH ev2 in_X1 rfl (by decide) (hts _ q937) (fun _ h9 => h9) dX1_mean_14 ?_
    refine lv_iconst (v := 0) hx hb dX1_mean_17 (by decide) ?_
    obtain ⟨u3, eu3, hf⟩ := bs_ hf
    obtain ⟨r4, er4, hf⟩ := bs_ hf
    refine cl_i0 hH (rn_V ⟨hx, hb, hml, hown, hts⟩ hKn hH (mX2_tiredOf l G M n v2 0 r4 er4) (cwV 1 hts (lw_V q798 q799 q800 q68 q801) rfl rfl rfl ⟨rfl, kdX2_tiredOf⟩ ⟨Nat.le_of_ble_eq_true rfl, Nat.le_of_ble_eq_true rfl⟩) eu3 rfl rfl hl.1 (Nat.le_of_ble_eq_true rfl) dX1_mean_18 ⟨(Nat.le_of_ble_eq_true rfl), (Nat.le_of_ble_eq_true rfl)⟩ rfl) (fun H locs hH => ?_)
    refine lv_aload_n hx hb dX1_mean_21 rfl (lv_at hl 0 rfl) ?_
    obtain ⟨v5, ev5, hf⟩ := bs_ hf
    refine mg_gR hx hb hts hown hKn hH ev5 in_X1 rfl (by decide) (hts _ q937) (fun _ h9 => h9) dX1_mean_22 ?_
    refine lv_iconst (v := 1) hx hb dX1_mean_25 (by decide) ?_
    obtain ⟨u6, eu6, hf⟩ := bs_ hf
    obtain ⟨r7, er7, hf⟩ := bs_ hf
    refine cl_i0 hH (rn_V ⟨hx, hb, hml, hown, hts⟩ hKn hH (mX2_tiredOf l G M n v5 1 r7 er7) (cwV 1 hts (lw_V q798 q799 q800 q68 q801) rfl rfl rfl ⟨rfl, kdX2_tiredOf⟩ ⟨Nat.le_of_ble_eq_true rfl, Nat.le_of_ble_eq_true rfl⟩) eu6 rfl rfl hl.1 (Nat.le_of_ble_eq_true rfl) dX1_mean_26 ⟨(Nat.le_of_ble_eq_true rfl), (Nat.le_of_ble_eq_true rfl)⟩ rfl) (fun H locs hH => ?_)
    refine lv_iadd hx hb dX1_mean_29 ?_
    refine lv_i2l hx hb dX1_mean_30 rfl ?_
    refine lv_ldc2 hx hb hown (hts _ q823) dX1_mean_31 ?_
    refine lv_iload_n hx hb dX1_mean_34 rfl (lv_at hl 1 rfl) ?_
    obtain ⟨r8, er8, hf⟩ := bs_ hf
    refine cl_l0 hH (rn_S ⟨hx, hb, hml, hown, hts⟩ hKn hH (mX1_partOf l G M n ((r4 + r7).toInt64) 4 a1 r8 er8) (va_cwS 3 hts (lw_S q813 q814 q67 q815) rfl rfl rfl kdX1_partOf ⟨Nat.le_of_ble_eq_true rfl, Nat.le_of_ble_eq_true rfl⟩) rfl hl.1 (Nat.le_of_ble_eq_true rfl) dX1_mean_35 ⟨(Nat.le_of_ble_eq_true rfl), (Nat.le_of_ble_eq_true rfl)⟩ rfl) (fun H locs hH => ?_)
    cases hf
    exact rt_l hx hb hr hlk hH dX1_mean_38
  · have hf := ip_ c9 hf
    refine lv_ldc2 hx hb hown (hts _ q807) dX1_mean_9 ?_
    cases hf
    exact rt_l hx hb hr hlk hH dX1_mean_12
def fX1_forged_L45 : Nat → Mem_ → Nat → Int32 → Int32 → Nat → Int32 → Int32 → Option (Int32 × Mem_)
  | 0, _, _, _, _, _, _, _ => none
  | fuel + 1, M, x0, x1, x2, x3, x4, x5 =>
    (fX1_sizeOf M x3).bind fun r12 =>
    if r12 ≤ (2 * x5) then
      some ((-4), M)
    else
      (fX1_elementOf M x3 (2 * x5)).bind fun r13 =>
      (fX1_elementOf M x3 ((2 * x5) + 1)).bind fun r14 =>
      if x4 = 0 then
        (ck_ M x0 0).bind fun u15 =>
        (fX1_isHit M x0 r13 r14).bind fun r16 =>
        if (b2_ r16) = 0 then
          some (x5, M)
        else
          (gR_ M x0 0 2).bind fun v17 =>
          (ck_ M v17 1).bind fun u18 =>
          bw_ (fX2_hits M v17 r13 r14) fun r19 M20 =>
          lt_ (x5 + 1) fun v21 =>
          fX1_forged_L45 fuel M20 x0 x1 x2 x3 (b2_ r19) v21
      else
        some (x5, M)
def fX1_forged (M : Mem_) (a0 : Nat) (a1 : Int32) : Option (Int32 × Mem_) :=
  (ck_ M a0 0).bind fun u1 =>
  (fX1_notRow M a0 a1).bind fun r2 =>
  if r2 = 0 then
    (gR_ M a0 0 8).bind fun v3 =>
    (aR_ M v3 5 a1).bind fun v4 =>
    (gR_ M v4 2 0).bind fun v5 =>
    (fX1_sizeOf M v5).bind fun r6 =>
    if (r6 - r6 / 2 * 2) = 1 then
      some ((-13), M)
    else
      (ck_ M a0 0).bind fun u7 =>
      (fX1_minds M a0).bind fun M9 =>
      fX1_forged_L45 1000 M9 a0 a1 r2 v5 0 0
  else
    some (r2, M)
theorem kdX1_forged : yX1_forged.cls ≠ "java/lang/invoke/MethodHandle" ∧ yX1_forged.cls ≠ "java/lang/invoke/VarHandle" ∧ (parseMethodDescriptor yX1_forged.desc).map (fun d => d.parameters.length) = some 1 := by decide +kernel
set_option maxHeartbeats 4000000 in
theorem mX1_forged (l : Launch) (G : GT_) (M : Mem_) (n : Nat) (a0 : Nat) (a1 : Int32) (r : Int32) (M1 : Mem_) (hf : fX1_forged M a0 a1 = some (r, M1)) : Ct_ G l yX1_forged (ws_ yX1_forged cX1_forged 8 (some .int)) ({ frames := 4, cells := 0, slots := 0, locals := 100 }) 0 0 [.ref a0, .int a1] M n (some (.int r)) M1 n := by
  refine en_ (by decide) (Nat.le_of_ble_eq_true rfl) ?_
  intro p e s m below meth c hx hb hr hlk hml hown hts hname hKn hH ls hl
  have hown : s.vm.findClass RX1 = some m.cls := hown
  have hl : lv_has ls 8 [(0, .ref a0), (1, .int a1)] := hl
  have w45 : ∀ (fuel : Nat), ∀ (M : Mem_) (x0 : Nat) (x1 : Int32) (x2 : Int32) (x3 : Nat) (x4 : Int32) (x5 : Int32) (H : Heap) (locs : List Loc) (ls : Array Slot), St_ G n M s H locs → lv_has ls 8 [(0, .ref x0), (1, .int x1), (2, .int x2), (3, .ref x3), (4, .int x4), (5, .int x5)] → fX1_forged_L45 fuel M x0 x1 x2 x3 x4 x5 = some (r, M1) → W p l e ({ frames := 4, cells := 0, slots := 0, locals := 100 } : Room) s m ([.ref a0, .int a1] : List Value).toArray below meth c H locs 0 0 (MQ below (Qc_ G (some (.int r)) M1 n) ([.ref a0, .int a1] : List Value).toArray s 0 0 (fun q => G.1 ≤ q)) (F0 m 45 ls []) := by
    intro fuel
    induction fuel with
    | zero =>
      intro M x0 x1 x2 x3 x4 x5 H locs ls hH hl hf
      cases hf
    | succ fuel ih =>
      intro M x0 x1 x2 x3 x4 x5 H locs ls hH hl hf
      unfold fX1_forged_L45 at hf
      refine lv_iconst (v := 2) hx hb dX1_forged_45 (by decide) ?_
      refine lv_iload hx hb dX1_forged_46 (lv_at hl 5 rfl) ?_
      refine lv_imul hx hb dX1_forged_48 ?_
      refine lv_aload_n hx hb dX1_forged_49 rfl (lv_at hl 3 rfl) ?_
      obtain ⟨r12, er12, hf⟩ := bs_ hf
      refine cl_i0 hH (rn_S ⟨hx, hb, hml, hown, hts⟩ hKn hH (mX1_sizeOf l G M n x3 r12 er12) (va_cwS 1 hts (lw_S q745 q746 q67 q747) rfl rfl rfl kdX1_sizeOf ⟨Nat.le_of_ble_eq_true rfl, Nat.le_of_ble_eq_true rfl⟩) rfl hl.1 (Nat.le_of_ble_eq_true rfl) dX1_forged_50 ⟨(Nat.le_of_ble_eq_true rfl), (Nat.le_of_ble_eq_true rfl)⟩ rfl) (fun H locs hH => ?_)
      refine lv_icmp_ge (tgt := 116) hx hb dX1_forged_53 (by decide) (fun c24 => ?_) (fun c24 => ?_)
      · have hf := ip_ c24 hf
        refine lv_bipush (v := (-4)) hx hb dX1_forged_116 (by decide) ?_
        cases hf
        exact rt_i hx hb hr hlk hH dX1_forged_118
      · have hf := in_ c24 hf
        refine lv_aload_n hx hb dX1_forged_56 rfl (lv_at hl 3 rfl) ?_
        refine lv_iconst (v := 2) hx hb dX1_forged_57 (by decide) ?_
        refine lv_iload hx hb dX1_forged_58 (lv_at hl 5 rfl) ?_
        refine lv_imul hx hb dX1_forged_60 ?_
        obtain ⟨r13, er13, hf⟩ := bs_ hf
        refine cl_i0 hH (rn_S ⟨hx, hb, hml, hown, hts⟩ hKn hH (mX1_elementOf l G M n x3 (2 * x5) r13 er13) (va_cwS 2 hts (lw_S q748 q749 q67 q750) rfl rfl rfl kdX1_elementOf ⟨Nat.le_of_ble_eq_true rfl, Nat.le_of_ble_eq_true rfl⟩) rfl hl.1 (Nat.le_of_ble_eq_true rfl) dX1_forged_61 ⟨(Nat.le_of_ble_eq_true rfl), (Nat.le_of_ble_eq_true rfl)⟩ rfl) (fun H locs hH => ?_)
        refine lv_istore (lv' := [(6, .int r13), (0, .ref x0), (1, .int x1), (2, .int x2), (3, .ref x3), (4, .int x4), (5, .int x5)]) hx hb dX1_forged_64 hl (by decide) rfl (fun ls hl => ?_)
        refine lv_aload_n hx hb dX1_forged_66 rfl (lv_at hl 4 rfl) ?_
        refine lv_iconst (v := 2) hx hb dX1_forged_67 (by decide) ?_
        refine lv_iload hx hb dX1_forged_68 (lv_at hl 6 rfl) ?_
        refine lv_imul hx hb dX1_forged_70 ?_
        refine lv_iconst (v := 1) hx hb dX1_forged_71 (by decide) ?_
        refine lv_iadd hx hb dX1_forged_72 ?_
        obtain ⟨r14, er14, hf⟩ := bs_ hf
        refine cl_i0 hH (rn_S ⟨hx, hb, hml, hown, hts⟩ hKn hH (mX1_elementOf l G M n x3 ((2 * x5) + 1) r14 er14) (va_cwS 2 hts (lw_S q748 q749 q67 q750) rfl rfl rfl kdX1_elementOf ⟨Nat.le_of_ble_eq_true rfl, Nat.le_of_ble_eq_true rfl⟩) rfl hl.1 (Nat.le_of_ble_eq_true rfl) dX1_forged_73 ⟨(Nat.le_of_ble_eq_true rfl), (Nat.le_of_ble_eq_true rfl)⟩ rfl) (fun H locs hH => ?_)
        refine lv_istore (lv' := [(7, .int r14), (6, .int r13), (0, .ref x0), (1, .int x1), (2, .int x2), (3, .ref x3), (4, .int x4), (5, .int x5)]) hx hb dX1_forged_76 hl (by decide) rfl (fun ls hl => ?_)
        refine lv_iload hx hb dX1_forged_78 (lv_at hl 6 rfl) ?_
        refine lv_if_ne (tgt := 94) hx hb dX1_forged_80 (by decide) (fun c23 => ?_) (fun c23 => ?_)
        · have hf := in_ c23 hf
          refine lv_iload hx hb dX1_forged_94 (lv_at hl 7 rfl) ?_
          cases hf
          exact rt_i hx hb hr hlk hH dX1_forged_96
        · have hf := ip_ c23 hf
          refine lv_aload_n hx hb dX1_forged_83 rfl (lv_at hl 2 rfl) ?_
          refine lv_iload hx hb dX1_forged_84 (lv_at hl 1 rfl) ?_
          refine lv_iload hx hb dX1_forged_86 (lv_at hl 0 rfl) ?_
          obtain ⟨u15, eu15, hf⟩ := bs_ hf
          obtain ⟨r16, er16, hf⟩ := bs_ hf
          refine cl_i0 hH (rn_V ⟨hx, hb, hml, hown, hts⟩ hKn hH (mX1_isHit l G M n x0 r13 r14 r16 er16) (cwV 2 hts (lw_V q644 q646 qs20 q67 q647) rfl rfl rfl ⟨rfl, kdX1_isHit⟩ ⟨Nat.le_of_ble_eq_true rfl, Nat.le_of_ble_eq_true rfl⟩) eu15 rfl rfl hl.1 (Nat.le_of_ble_eq_true rfl) dX1_forged_88 ⟨(Nat.le_of_ble_eq_true rfl), (Nat.le_of_ble_eq_true rfl)⟩ rfl) (fun H locs hH => ?_)
          refine lv_if_ne (tgt := 97) hx hb dX1_forged_91 (by decide) (fun c22 => ?_) (fun c22 => ?_)
          · have hf := in_ c22 hf
            refine lv_aload_n hx hb dX1_forged_97 rfl (lv_at hl 2 rfl) ?_
            obtain ⟨v17, ev17, hf⟩ := bs_ hf
            refine mg_gR hx hb hts hown hKn hH ev17 in_X1 rfl (by decide) (hts _ q939) (fun _ h9 => h9) dX1_forged_98 ?_
            refine lv_iload hx hb dX1_forged_101 (lv_at hl 1 rfl) ?_
            refine lv_iload hx hb dX1_forged_103 (lv_at hl 0 rfl) ?_
            obtain ⟨u18, eu18, hf⟩ := bs_ hf
            obtain ⟨r19, M20, er19, hf⟩ := bws_ hf
            refine cl_i0 hH (rn_V ⟨hx, hb, hml, hown, hts⟩ hKn hH (mX2_hits l G M n v17 r13 r14 r19 M20 er19) (cwV 2 hts (lw_V q411 q412 q413 q68 q414) rfl rfl rfl ⟨rfl, kdX2_hits⟩ ⟨Nat.le_of_ble_eq_true rfl, Nat.le_of_ble_eq_true rfl⟩) eu18 rfl rfl hl.1 (Nat.le_of_ble_eq_true rfl) dX1_forged_105 ⟨(Nat.le_of_ble_eq_true rfl), (Nat.le_of_ble_eq_true rfl)⟩ rfl) (fun H locs hH => ?_)
            refine lv_istore (lv' := [(4, .int (b2_ r19)), (7, .int r14), (6, .int r13), (0, .ref x0), (1, .int x1), (2, .int x2), (3, .ref x3), (5, .int x5)]) hx hb dX1_forged_108 hl (by decide) rfl (fun ls hl => ?_)
            obtain ⟨v21, ev21⟩ : ∃ z : Int32, z = x5 + 1 := ⟨_, rfl⟩
            have hf := lu_ ev21 hf
            refine lv_iinc (v := v21) (lv' := [(5, .int v21), (4, .int (b2_ r19)), (7, .int r14), (6, .int r13), (0, .ref x0), (1, .int x1), (2, .int x2), (3, .ref x3)]) hx hb dX1_forged_110 hl (k := 7) rfl (by rw [ev21]; rfl) (by decide) rfl (fun ls hl => ?_)
            refine lv_goto (tgt := 45) hx hb dX1_forged_113 (by decide) ?_
            exact ih M20 x0 x1 x2 x3 (b2_ r19) v21 _ _ ls hH (lv_sub hl [4, 5, 6, 7, 1, 0] rfl) hf
          · have hf := ip_ c22 hf
            refine lv_iload hx hb dX1_forged_94 (lv_at hl 7 rfl) ?_
            cases hf
            exact rt_i hx hb hr hlk hH dX1_forged_96
  unfold fX1_forged at hf
  refine lv_aload_n hx hb dX1_forged_0 rfl (lv_at hl 0 rfl) ?_
  refine lv_iload_n hx hb dX1_forged_1 rfl (lv_at hl 1 rfl) ?_
  obtain ⟨u1, eu1, hf⟩ := bs_ hf
  obtain ⟨r2, er2, hf⟩ := bs_ hf
  refine cl_i0 hH (rn_V ⟨hx, hb, hml, hown, hts⟩ hKn hH (mX1_notRow l G M n a0 a1 r2 er2) (cwV 1 hts (lw_V q736 q738 qs30 q67 q739) rfl rfl rfl ⟨rfl, kdX1_notRow⟩ ⟨Nat.le_of_ble_eq_true rfl, Nat.le_of_ble_eq_true rfl⟩) eu1 rfl rfl hl.1 (Nat.le_of_ble_eq_true rfl) dX1_forged_2 ⟨(Nat.le_of_ble_eq_true rfl), (Nat.le_of_ble_eq_true rfl)⟩ rfl) (fun H locs hH => ?_)
  refine lv_istore_n (lv' := [(2, .int r2), (0, .ref a0), (1, .int a1)]) hx hb dX1_forged_5 rfl hl (by decide) rfl (fun ls hl => ?_)
  refine lv_iload_n hx hb dX1_forged_6 rfl (lv_at hl 0 rfl) ?_
  refine lv_if_eq (tgt := 12) hx hb dX1_forged_7 (by decide) (fun c11 => ?_) (fun c11 => ?_)
  · have hf := ip_ c11 hf
    refine lv_aload_n hx hb dX1_forged_12 rfl (lv_at hl 1 rfl) ?_
    obtain ⟨v3, ev3, hf⟩ := bs_ hf
    refine mg_gR hx hb hts hown hKn hH ev3 in_X1 rfl (by decide) (hts _ q945) (fun _ h9 => h9) dX1_forged_13 ?_
    refine lv_iload_n hx hb dX1_forged_16 rfl (lv_at hl 2 rfl) ?_
    obtain ⟨v4, ev4, hf⟩ := bs_ hf
    refine mg_aald5 hx hb hKn hH ev4 dX1_forged_17 ?_
    obtain ⟨v5, ev5, hf⟩ := bs_ hf
    refine mg_gR hx hb hts hown hKn hH ev5 in_X3 rfl (by decide) (hts _ q933) (fun _ h9 => h9) dX1_forged_18 ?_
    refine lv_astore_n (lv' := [(3, .ref v5), (2, .int r2), (0, .ref a0), (1, .int a1)]) hx hb dX1_forged_21 rfl hl (by decide) rfl (fun ls hl => ?_)
    refine lv_aload_n hx hb dX1_forged_22 rfl (lv_at hl 0 rfl) ?_
    obtain ⟨r6, er6, hf⟩ := bs_ hf
    refine cl_i0 hH (rn_S ⟨hx, hb, hml, hown, hts⟩ hKn hH (mX1_sizeOf l G M n v5 r6 er6) (va_cwS 1 hts (lw_S q745 q746 q67 q747) rfl rfl rfl kdX1_sizeOf ⟨Nat.le_of_ble_eq_true rfl, Nat.le_of_ble_eq_true rfl⟩) rfl hl.1 (Nat.le_of_ble_eq_true rfl) dX1_forged_23 ⟨(Nat.le_of_ble_eq_true rfl), (Nat.le_of_ble_eq_true rfl)⟩ rfl) (fun H locs hH => ?_)
    refine lv_iconst (v := 2) hx hb dX1_forged_26 (by decide) ?_
    refine lv_irem hx hb dX1_forged_27 (by decide) ?_
    refine lv_iconst (v := 1) hx hb dX1_forged_28 (by decide) ?_
    refine lv_icmp_ne (tgt := 35) hx hb dX1_forged_29 (by decide) (fun c10 => ?_) (fun c10 => ?_)
    · have hf := in_ c10 hf
      refine lv_aload_n hx hb dX1_forged_35 rfl (lv_at hl 2 rfl) ?_
      obtain ⟨u7, eu7, hf⟩ := bs_ hf
      obtain ⟨M9, er8, hf⟩ := bs_ hf
      refine cl_v0 hH (rn_V ⟨hx, hb, hml, hown, hts⟩ hKn hH (mX1_minds l G M n a0 M9 er8) (cwV 0 hts (lw_V q662 q664 qs22 q67 q665) rfl rfl rfl ⟨rfl, kdX1_minds⟩ ⟨Nat.le_of_ble_eq_true rfl, Nat.le_of_ble_eq_true rfl⟩) eu7 rfl rfl hl.1 (Nat.le_of_ble_eq_true rfl) dX1_forged_36 ⟨(Nat.le_of_ble_eq_true rfl), (Nat.le_of_ble_eq_true rfl)⟩ rfl) (fun H locs hH => ?_)
      refine lv_iconst (v := 0) hx hb dX1_forged_39 (by decide) ?_
      refine lv_istore (lv' := [(4, .int 0), (3, .ref v5), (2, .int r2), (0, .ref a0), (1, .int a1)]) hx hb dX1_forged_40 hl (by decide) rfl (fun ls hl => ?_)
      refine lv_iconst (v := 0) hx hb dX1_forged_42 (by decide) ?_
      refine lv_istore (lv' := [(5, .int 0), (4, .int 0), (3, .ref v5), (2, .int r2), (0, .ref a0), (1, .int a1)]) hx hb dX1_forged_43 hl (by decide) rfl (fun ls hl => ?_)
      exact w45 1000 M9 a0 a1 r2 v5 0 0 _ _ ls hH (lv_sub hl [4, 5, 3, 2, 1, 0] rfl) hf
    · have hf := ip_ c10 hf
      refine lv_bipush (v := (-13)) hx hb dX1_forged_32 (by decide) ?_
      cases hf
      exact rt_i hx hb hr hlk hH dX1_forged_34
  · have hf := in_ c11 hf
    refine lv_iload_n hx hb dX1_forged_10 rfl (lv_at hl 0 rfl) ?_
    cases hf
    exact rt_i hx hb hr hlk hH dX1_forged_11
def fX2_allPoints (M : Mem_) (a0 : Nat) : Option Int32 :=
  (gR_ M a0 1 6).bind fun v1 =>
  (aI_ M v1 0 0).bind fun v2 =>
  (gR_ M a0 1 6).bind fun v3 =>
  (aI_ M v3 0 1).bind fun v4 =>
  some (v2 + v4)
theorem kdX2_allPoints : yX2_allPoints.cls ≠ "java/lang/invoke/MethodHandle" ∧ yX2_allPoints.cls ≠ "java/lang/invoke/VarHandle" ∧ (parseMethodDescriptor yX2_allPoints.desc).map (fun d => d.parameters.length) = some 0 := by decide +kernel
set_option maxHeartbeats 4000000 in
theorem mX2_allPoints (l : Launch) (G : GT_) (M : Mem_) (n : Nat) (a0 : Nat) (r : Int32) (hf : fX2_allPoints M a0 = some r) : Ct_ G l yX2_allPoints (ws_ yX2_allPoints cX2_allPoints 1 (some .int)) ({ frames := 0, cells := 0, slots := 0, locals := 0 }) 0 0 [.ref a0] M n (some (.int r)) M n := by
  refine en_ (by decide) (Nat.le_of_ble_eq_true rfl) ?_
  intro p e s m below meth c hx hb hr hlk hml hown hts hname hKn hH ls hl
  have hown : s.vm.findClass RX2 = some m.cls := hown
  have hl : lv_has ls 1 [(0, .ref a0)] := hl
  unfold fX2_allPoints at hf
  generalize s.heap = H at hH ⊢
  refine lv_aload_n hx hb dX2_allPoints_0 rfl (lv_at hl 0 rfl) ?_
  obtain ⟨v1, ev1, hf⟩ := bs_ hf
  refine mg_gR hx hb hts hown hKn hH ev1 in_X2 rfl (by decide) (hts _ q883) (fun _ h9 => h9) dX2_allPoints_1 ?_
  refine lv_iconst (v := 0) hx hb dX2_allPoints_4 (by decide) ?_
  obtain ⟨v2, ev2, hf⟩ := bs_ hf
  refine mg_iald hx hb hKn hH ev2 dX2_allPoints_5 ?_
  refine lv_aload_n hx hb dX2_allPoints_6 rfl (lv_at hl 0 rfl) ?_
  obtain ⟨v3, ev3, hf⟩ := bs_ hf
  refine mg_gR hx hb hts hown hKn hH ev3 in_X2 rfl (by decide) (hts _ q883) (fun _ h9 => h9) dX2_allPoints_7 ?_
  refine lv_iconst (v := 1) hx hb dX2_allPoints_10 (by decide) ?_
  obtain ⟨v4, ev4, hf⟩ := bs_ hf
  refine mg_iald hx hb hKn hH ev4 dX2_allPoints_11 ?_
  refine lv_iadd hx hb dX2_allPoints_12 ?_
  cases hf
  exact rt_i hx hb hr hlk hH dX2_allPoints_13
def fX1_judge_L42 : Nat → Mem_ → Nat → Int32 → Int32 → Nat → Int32 → Option (Int32 × Mem_)
  | 0, _, _, _, _, _, _ => none
  | fuel + 1, M, x0, x1, x2, x3, x4 =>
    (fX1_sizeOf M x3).bind fun r13 =>
    if r13 ≤ x4 then
      some ((-4), M)
    else
      (fX1_isSkipped M x3 x4).bind fun r14 =>
      if (b2_ r14) = 0 then
        (fX1_elementOf M x3 x4).bind fun r25 =>
        (gR_ M x0 0 2).bind fun v26 =>
        (ck_ M v26 1).bind fun u27 =>
        (fX2_allPoints M v26).bind fun r28 =>
        if r25 = r28 then
          (gR_ M x0 0 2).bind fun v29 =>
          if (x4 - x4 / 2 * 2) = 0 then
            (ck_ M v29 1).bind fun u34 =>
            bw_ (fX2_hits M v29 0 0) fun r35 M36 =>
            lt_ (x4 + 1) fun v37 =>
            fX1_judge_L42 fuel M36 x0 x1 x2 x3 v37
          else
            (ck_ M v29 1).bind fun u30 =>
            bw_ (fX2_hits M v29 0 8) fun r31 M32 =>
            lt_ (x4 + 1) fun v33 =>
            fX1_judge_L42 fuel M32 x0 x1 x2 x3 v33
        else
          some (x4, M)
      else
        (gR_ M x0 0 2).bind fun v15 =>
        if (x4 - x4 / 2 * 2) = 0 then
          (ck_ M v15 1).bind fun u20 =>
          bw_ (fX2_hits M v15 0 0) fun r21 M22 =>
          lt_ (x4 + 1) fun v23 =>
          fX1_judge_L42 fuel M22 x0 x1 x2 x3 v23
        else
          (ck_ M v15 1).bind fun u16 =>
          bw_ (fX2_hits M v15 0 8) fun r17 M18 =>
          lt_ (x4 + 1) fun v19 =>
          fX1_judge_L42 fuel M18 x0 x1 x2 x3 v19
def fX1_judge (M : Mem_) (a0 : Nat) (a1 : Int32) : Option (Int32 × Mem_) :=
  (ck_ M a0 0).bind fun u1 =>
  (fX1_notRow M a0 a1).bind fun r2 =>
  if r2 = 0 then
    (gR_ M a0 0 0).bind fun v3 =>
    (gI_ M v3 1 9).bind fun v4 =>
    if v4 = 0 then
      some ((-3), M)
    else
      (gR_ M a0 0 8).bind fun v5 =>
      (aR_ M v5 5 a1).bind fun v6 =>
      (gR_ M v6 2 0).bind fun v7 =>
      (ck_ M a0 0).bind fun u8 =>
      (fX1_minds M a0).bind fun M10 =>
      fX1_judge_L42 1000 M10 a0 a1 r2 v7 0
  else
    some (r2, M)
theorem kdX1_judge : yX1_judge.cls ≠ "java/lang/invoke/MethodHandle" ∧ yX1_judge.cls ≠ "java/lang/invoke/VarHandle" ∧ (parseMethodDescriptor yX1_judge.desc).map (fun d => d.parameters.length) = some 1 := by decide +kernel
set_option maxHeartbeats 4000000 in
theorem mX1_judge (l : Launch) (G : GT_) (M : Mem_) (n : Nat) (a0 : Nat) (a1 : Int32) (r : Int32) (M1 : Mem_) (hf : fX1_judge M a0 a1 = some (r, M1)) : Ct_ G l yX1_judge (ws_ yX1_judge cX1_judge 5 (some .int)) ({ frames := 4, cells := 0, slots := 0, locals := 100 }) 0 0 [.ref a0, .int a1] M n (some (.int r)) M1 n := by
  refine en_ (by decide) (Nat.le_of_ble_eq_true rfl) ?_
  intro p e s m below meth c hx hb hr hlk hml hown hts hname hKn hH ls hl
  have hown : s.vm.findClass RX1 = some m.cls := hown
  have hl : lv_has ls 5 [(0, .ref a0), (1, .int a1)] := hl
  have w42 : ∀ (fuel : Nat), ∀ (M : Mem_) (x0 : Nat) (x1 : Int32) (x2 : Int32) (x3 : Nat) (x4 : Int32) (H : Heap) (locs : List Loc) (ls : Array Slot), St_ G n M s H locs → lv_has ls 5 [(0, .ref x0), (1, .int x1), (2, .int x2), (3, .ref x3), (4, .int x4)] → fX1_judge_L42 fuel M x0 x1 x2 x3 x4 = some (r, M1) → W p l e ({ frames := 4, cells := 0, slots := 0, locals := 100 } : Room) s m ([.ref a0, .int a1] : List Value).toArray below meth c H locs 0 0 (MQ below (Qc_ G (some (.int r)) M1 n) ([.ref a0, .int a1] : List Value).toArray s 0 0 (fun q => G.1 ≤ q)) (F0 m 42 ls []) := by
    intro fuel
    induction fuel with
    | zero =>
      intro M x0 x1 x2 x3 x4 H locs ls hH hl hf
      cases hf
    | succ fuel ih =>
      intro M x0 x1 x2 x3 x4 H locs ls hH hl hf
      unfold fX1_judge_L42 at hf
      refine lv_iload hx hb dX1_judge_42 (lv_at hl 4 rfl) ?_
      refine lv_aload_n hx hb dX1_judge_44 rfl (lv_at hl 3 rfl) ?_
      obtain ⟨r13, er13, hf⟩ := bs_ hf
      refine cl_i0 hH (rn_S ⟨hx, hb, hml, hown, hts⟩ hKn hH (mX1_sizeOf l G M n x3 r13 er13) (va_cwS 1 hts (lw_S q745 q746 q67 q747) rfl rfl rfl kdX1_sizeOf ⟨Nat.le_of_ble_eq_true rfl, Nat.le_of_ble_eq_true rfl⟩) rfl hl.1 (Nat.le_of_ble_eq_true rfl) dX1_judge_45 ⟨(Nat.le_of_ble_eq_true rfl), (Nat.le_of_ble_eq_true rfl)⟩ rfl) (fun H locs hH => ?_)
      refine lv_icmp_ge (tgt := 107) hx hb dX1_judge_48 (by decide) (fun c41 => ?_) (fun c41 => ?_)
      · have hf := ip_ c41 hf
        refine lv_bipush (v := (-4)) hx hb dX1_judge_107 (by decide) ?_
        cases hf
        exact rt_i hx hb hr hlk hH dX1_judge_109
      · have hf := in_ c41 hf
        refine lv_aload_n hx hb dX1_judge_51 rfl (lv_at hl 3 rfl) ?_
        refine lv_iload hx hb dX1_judge_52 (lv_at hl 4 rfl) ?_
        obtain ⟨r14, er14, hf⟩ := bs_ hf
        refine cl_i0 hH (rn_S ⟨hx, hb, hml, hown, hts⟩ hKn hH (mX1_isSkipped l G M n x3 x4 r14 er14) (va_cwS 2 hts (lw_S q775 q776 q67 q777) rfl rfl rfl kdX1_isSkipped ⟨Nat.le_of_ble_eq_true rfl, Nat.le_of_ble_eq_true rfl⟩) rfl hl.1 (Nat.le_of_ble_eq_true rfl) dX1_judge_54 ⟨(Nat.le_of_ble_eq_true rfl), (Nat.le_of_ble_eq_true rfl)⟩ rfl) (fun H locs hH => ?_)
        refine lv_if_ne (tgt := 79) hx hb dX1_judge_57 (by decide) (fun c40 => ?_) (fun c40 => ?_)
        · have hf := in_ c40 hf
          refine lv_aload_n hx hb dX1_judge_79 rfl (lv_at hl 0 rfl) ?_
          obtain ⟨v15, ev15, hf⟩ := bs_ hf
          refine mg_gR hx hb hts hown hKn hH ev15 in_X1 rfl (by decide) (hts _ q939) (fun _ h9 => h9) dX1_judge_80 ?_
          refine lv_iconst (v := 0) hx hb dX1_judge_83 (by decide) ?_
          refine lv_iload hx hb dX1_judge_84 (lv_at hl 4 rfl) ?_
          refine lv_iconst (v := 2) hx hb dX1_judge_86 (by decide) ?_
          refine lv_irem hx hb dX1_judge_87 (by decide) ?_
          refine lv_if_ne (tgt := 95) hx hb dX1_judge_88 (by decide) (fun c24 => ?_) (fun c24 => ?_)
          · have hf := in_ c24 hf
            refine lv_bipush (v := 8) hx hb dX1_judge_95 (by decide) ?_
            obtain ⟨u16, eu16, hf⟩ := bs_ hf
            obtain ⟨r17, M18, er17, hf⟩ := bws_ hf
            refine cl_i0 hH (rn_V ⟨hx, hb, hml, hown, hts⟩ hKn hH (mX2_hits l G M n v15 0 8 r17 M18 er17) (cwV 2 hts (lw_V q411 q412 q413 q68 q414) rfl rfl rfl ⟨rfl, kdX2_hits⟩ ⟨Nat.le_of_ble_eq_true rfl, Nat.le_of_ble_eq_true rfl⟩) eu16 rfl rfl hl.1 (Nat.le_of_ble_eq_true rfl) dX1_judge_97 ⟨(Nat.le_of_ble_eq_true rfl), (Nat.le_of_ble_eq_true rfl)⟩ rfl) (fun H locs hH => ?_)
            refine lv_pop hx hb dX1_judge_100 rfl ?_
            obtain ⟨v19, ev19⟩ : ∃ z : Int32, z = x4 + 1 := ⟨_, rfl⟩
            have hf := lu_ ev19 hf
            refine lv_iinc (v := v19) (lv' := [(4, .int v19), (0, .ref x0), (1, .int x1), (2, .int x2), (3, .ref x3)]) hx hb dX1_judge_101 hl (k := 4) rfl (by rw [ev19]; rfl) (by decide) rfl (fun ls hl => ?_)
            refine lv_goto (tgt := 42) hx hb dX1_judge_104 (by decide) ?_
            exact ih M18 x0 x1 x2 x3 v19 _ _ ls hH (lv_sub hl [1, 2, 3, 4, 0] rfl) hf
          · have hf := ip_ c24 hf
            refine lv_iconst (v := 0) hx hb dX1_judge_91 (by decide) ?_
            refine lv_goto (tgt := 97) hx hb dX1_judge_92 (by decide) ?_
            obtain ⟨u20, eu20, hf⟩ := bs_ hf
            obtain ⟨r21, M22, er21, hf⟩ := bws_ hf
            refine cl_i0 hH (rn_V ⟨hx, hb, hml, hown, hts⟩ hKn hH (mX2_hits l G M n v15 0 0 r21 M22 er21) (cwV 2 hts (lw_V q411 q412 q413 q68 q414) rfl rfl rfl ⟨rfl, kdX2_hits⟩ ⟨Nat.le_of_ble_eq_true rfl, Nat.le_of_ble_eq_true rfl⟩) eu20 rfl rfl hl.1 (Nat.le_of_ble_eq_true rfl) dX1_judge_97 ⟨(Nat.le_of_ble_eq_true rfl), (Nat.le_of_ble_eq_true rfl)⟩ rfl) (fun H locs hH => ?_)
            refine lv_pop hx hb dX1_judge_100 rfl ?_
            obtain ⟨v23, ev23⟩ : ∃ z : Int32, z = x4 + 1 := ⟨_, rfl⟩
            have hf := lu_ ev23 hf
            refine lv_iinc (v := v23) (lv' := [(4, .int v23), (0, .ref x0), (1, .int x1), (2, .int x2), (3, .ref x3)]) hx hb dX1_judge_101 hl (k := 4) rfl (by rw [ev23]; rfl) (by decide) rfl (fun ls hl => ?_)
            refine lv_goto (tgt := 42) hx hb dX1_judge_104 (by decide) ?_
            exact ih M22 x0 x1 x2 x3 v23 _ _ ls hH (lv_sub hl [1, 2, 3, 4, 0] rfl) hf
        · have hf := ip_ c40 hf
          refine lv_aload_n hx hb dX1_judge_60 rfl (lv_at hl 3 rfl) ?_
          refine lv_iload hx hb dX1_judge_61 (lv_at hl 4 rfl) ?_
          obtain ⟨r25, er25, hf⟩ := bs_ hf
          refine cl_i0 hH (rn_S ⟨hx, hb, hml, hown, hts⟩ hKn hH (mX1_elementOf l G M n x3 x4 r25 er25) (va_cwS 2 hts (lw_S q748 q749 q67 q750) rfl rfl rfl kdX1_elementOf ⟨Nat.le_of_ble_eq_true rfl, Nat.le_of_ble_eq_true rfl⟩) rfl hl.1 (Nat.le_of_ble_eq_true rfl) dX1_judge_63 ⟨(Nat.le_of_ble_eq_true rfl), (Nat.le_of_ble_eq_true rfl)⟩ rfl) (fun H locs hH => ?_)
          refine lv_aload_n hx hb dX1_judge_66 rfl (lv_at hl 0 rfl) ?_
          obtain ⟨v26, ev26, hf⟩ := bs_ hf
          refine mg_gR hx hb hts hown hKn hH ev26 in_X1 rfl (by decide) (hts _ q939) (fun _ h9 => h9) dX1_judge_67 ?_
          obtain ⟨u27, eu27, hf⟩ := bs_ hf
          obtain ⟨r28, er28, hf⟩ := bs_ hf
          refine cl_i0 hH (rn_V ⟨hx, hb, hml, hown, hts⟩ hKn hH (mX2_allPoints l G M n v26 r28 er28) (cwV 0 hts (lw_V q832 q833 q834 q68 q835) rfl rfl rfl ⟨rfl, kdX2_allPoints⟩ ⟨Nat.le_of_ble_eq_true rfl, Nat.le_of_ble_eq_true rfl⟩) eu27 rfl rfl hl.1 (Nat.le_of_ble_eq_true rfl) dX1_judge_70 ⟨(Nat.le_of_ble_eq_true rfl), (Nat.le_of_ble_eq_true rfl)⟩ rfl) (fun H locs hH => ?_)
          refine lv_icmp_eq (tgt := 79) hx hb dX1_judge_73 (by decide) (fun c39 => ?_) (fun c39 => ?_)
          · have hf := ip_ c39 hf
            refine lv_aload_n hx hb dX1_judge_79 rfl (lv_at hl 0 rfl) ?_
            obtain ⟨v29, ev29, hf⟩ := bs_ hf
            refine mg_gR hx hb hts hown hKn hH ev29 in_X1 rfl (by decide) (hts _ q939) (fun _ h9 => h9) dX1_judge_80 ?_
            refine lv_iconst (v := 0) hx hb dX1_judge_83 (by decide) ?_
            refine lv_iload hx hb dX1_judge_84 (lv_at hl 4 rfl) ?_
            refine lv_iconst (v := 2) hx hb dX1_judge_86 (by decide) ?_
            refine lv_irem hx hb dX1_judge_87 (by decide) ?_
            refine lv_if_ne (tgt := 95) hx hb dX1_judge_88 (by decide) (fun c38 => ?_) (fun c38 => ?_)
            · have hf := in_ c38 hf
              refine lv_bipush (v := 8) hx hb dX1_judge_95 (by decide) ?_
              obtain ⟨u30, eu30, hf⟩ := bs_ hf
              obtain ⟨r31, M32, er31, hf⟩ := bws_ hf
              refine cl_i0 hH (rn_V ⟨hx, hb, hml, hown, hts⟩ hKn hH (mX2_hits l G M n v29 0 8 r31 M32 er31) (cwV 2 hts (lw_V q411 q412 q413 q68 q414) rfl rfl rfl ⟨rfl, kdX2_hits⟩ ⟨Nat.le_of_ble_eq_true rfl, Nat.le_of_ble_eq_true rfl⟩) eu30 rfl rfl hl.1 (Nat.le_of_ble_eq_true rfl) dX1_judge_97 ⟨(Nat.le_of_ble_eq_true rfl), (Nat.le_of_ble_eq_true rfl)⟩ rfl) (fun H locs hH => ?_)
              refine lv_pop hx hb dX1_judge_100 rfl ?_
              obtain ⟨v33, ev33⟩ : ∃ z : Int32, z = x4 + 1 := ⟨_, rfl⟩
              have hf := lu_ ev33 hf
              refine lv_iinc (v := v33) (lv' := [(4, .int v33), (0, .ref x0), (1, .int x1), (2, .int x2), (3, .ref x3)]) hx hb dX1_judge_101 hl (k := 4) rfl (by rw [ev33]; rfl) (by decide) rfl (fun ls hl => ?_)
              refine lv_goto (tgt := 42) hx hb dX1_judge_104 (by decide) ?_
              exact ih M32 x0 x1 x2 x3 v33 _ _ ls hH (lv_sub hl [1, 2, 3, 4, 0] rfl) hf
            · have hf := ip_ c38 hf
              refine lv_iconst (v := 0) hx hb dX1_judge_91 (by decide) ?_
              refine lv_goto (tgt := 97) hx hb dX1_judge_92 (by decide) ?_
              obtain ⟨u34, eu34, hf⟩ := bs_ hf
              obtain ⟨r35, M36, er35, hf⟩ := bws_ hf
              refine cl_i0 hH (rn_V ⟨hx, hb, hml, hown, hts⟩ hKn hH (mX2_hits l G M n v29 0 0 r35 M36 er35) (cwV 2 hts (lw_V q411 q412 q413 q68 q414) rfl rfl rfl ⟨rfl, kdX2_hits⟩ ⟨Nat.le_of_ble_eq_true rfl, Nat.le_of_ble_eq_true rfl⟩) eu34 rfl rfl hl.1 (Nat.le_of_ble_eq_true rfl) dX1_judge_97 ⟨(Nat.le_of_ble_eq_true rfl), (Nat.le_of_ble_eq_true rfl)⟩ rfl) (fun H locs hH => ?_)
              refine lv_pop hx hb dX1_judge_100 rfl ?_
              obtain ⟨v37, ev37⟩ : ∃ z : Int32, z = x4 + 1 := ⟨_, rfl⟩
              have hf := lu_ ev37 hf
              refine lv_iinc (v := v37) (lv' := [(4, .int v37), (0, .ref x0), (1, .int x1), (2, .int x2), (3, .ref x3)]) hx hb dX1_judge_101 hl (k := 4) rfl (by rw [ev37]; rfl) (by decide) rfl (fun ls hl => ?_)
              refine lv_goto (tgt := 42) hx hb dX1_judge_104 (by decide) ?_
              exact ih M36 x0 x1 x2 x3 v37 _ _ ls hH (lv_sub hl [1, 2, 3, 4, 0] rfl) hf
          · have hf := in_ c39 hf
            refine lv_iload hx hb dX1_judge_76 (lv_at hl 4 rfl) ?_
            cases hf
            exact rt_i hx hb hr hlk hH dX1_judge_78
  unfold fX1_judge at hf
  refine lv_aload_n hx hb dX1_judge_0 rfl (lv_at hl 0 rfl) ?_
  refine lv_iload_n hx hb dX1_judge_1 rfl (lv_at hl 1 rfl) ?_
  obtain ⟨u1, eu1, hf⟩ := bs_ hf
  obtain ⟨r2, er2, hf⟩ := bs_ hf
  refine cl_i0 hH (rn_V ⟨hx, hb, hml, hown, hts⟩ hKn hH (mX1_notRow l G M n a0 a1 r2 er2) (cwV 1 hts (lw_V q736 q738 qs30 q67 q739) rfl rfl rfl ⟨rfl, kdX1_notRow⟩ ⟨Nat.le_of_ble_eq_true rfl, Nat.le_of_ble_eq_true rfl⟩) eu1 rfl rfl hl.1 (Nat.le_of_ble_eq_true rfl) dX1_judge_2 ⟨(Nat.le_of_ble_eq_true rfl), (Nat.le_of_ble_eq_true rfl)⟩ rfl) (fun H locs hH => ?_)
  refine lv_istore_n (lv' := [(2, .int r2), (0, .ref a0), (1, .int a1)]) hx hb dX1_judge_5 rfl hl (by decide) rfl (fun ls hl => ?_)
  refine lv_iload_n hx hb dX1_judge_6 rfl (lv_at hl 0 rfl) ?_
  refine lv_if_eq (tgt := 12) hx hb dX1_judge_7 (by decide) (fun c12 => ?_) (fun c12 => ?_)
  · have hf := ip_ c12 hf
    refine lv_aload_n hx hb dX1_judge_12 rfl (lv_at hl 1 rfl) ?_
    obtain ⟨v3, ev3, hf⟩ := bs_ hf
    refine mg_gR hx hb hts hown hKn hH ev3 in_X1 rfl (by decide) (hts _ q937) (fun _ h9 => h9) dX1_judge_13 ?_
    obtain ⟨v4, ev4, hf⟩ := bs_ hf
    refine mg_gI hx hb hts hown hKn hH ev4 in_X2 rfl (by decide) (hts _ q890) (fun _ h9 => h9) dX1_judge_16 ?_
    refine lv_if_ne (tgt := 25) hx hb dX1_judge_19 (by decide) (fun c11 => ?_) (fun c11 => ?_)
    · have hf := in_ c11 hf
      refine lv_aload_n hx hb dX1_judge_25 rfl (lv_at hl 1 rfl) ?_
      obtain ⟨v5, ev5, hf⟩ := bs_ hf
      refine mg_gR hx hb hts hown hKn hH ev5 in_X1 rfl (by decide) (hts _ q945) (fun _ h9 => h9) dX1_judge_26 ?_
      refine lv_iload_n hx hb dX1_judge_29 rfl (lv_at hl 2 rfl) ?_
      obtain ⟨v6, ev6, hf⟩ := bs_ hf
      refine mg_aald5 hx hb hKn hH ev6 dX1_judge_30 ?_
      obtain ⟨v7, ev7, hf⟩ := bs_ hf
      refine mg_gR hx hb hts hown hKn hH ev7 in_X3 rfl (by decide) (hts _ q933) (fun _ h9 => h9) dX1_judge_31 ?_
      refine lv_astore_n (lv' := [(3, .ref v7), (2, .int r2), (0, .ref a0), (1, .int a1)]) hx hb dX1_judge_34 rfl hl (by decide) rfl (fun ls hl => ?_)
      refine lv_aload_n hx hb dX1_judge_35 rfl (lv_at hl 2 rfl) ?_
      obtain ⟨u8, eu8, hf⟩ := bs_ hf
      obtain ⟨M10, er9, hf⟩ := bs_ hf
      refine cl_v0 hH (rn_V ⟨hx, hb, hml, hown, hts⟩ hKn hH (mX1_minds l G M n a0 M10 er9) (cwV 0 hts (lw_V q662 q664 qs22 q67 q665) rfl rfl rfl ⟨rfl, kdX1_minds⟩ ⟨Nat.le_of_ble_eq_true rfl, Nat.le_of_ble_eq_true rfl⟩) eu8 rfl rfl hl.1 (Nat.le_of_ble_eq_true rfl) dX1_judge_36 ⟨(Nat.le_of_ble_eq_true rfl), (Nat.le_of_ble_eq_true rfl)⟩ rfl) (fun H locs hH => ?_)
      refine lv_iconst (v := 0) hx hb dX1_judge_39 (by decide) ?_
      refine lv_istore (lv' := [(4, .int 0), (3, .ref v7), (2, .int r2), (0, .ref a0), (1, .int a1)]) hx hb dX1_judge_40 hl (by decide) rfl (fun ls hl => ?_)
      exact w42 1000 M10 a0 a1 r2 v7 0 _ _ ls hH (lv_sub hl [3, 4, 2, 1, 0] rfl) hf
    · have hf := ip_ c11 hf
      refine lv_bipush (v := (-3)) hx hb dX1_judge_22 (by decide) ?_
      cases hf
      exact rt_i hx hb hr hlk hH dX1_judge_24
  · have hf := in_ c12 hf
    refine lv_iload_n hx hb dX1_judge_10 rfl (lv_at hl 0 rfl) ?_
    cases hf
    exact rt_i hx hb hr hlk hH dX1_judge_11
def fX1_draw (M : Mem_) (a0 : Nat) (a1 : Int32) : Option (Int32 × Mem_) :=
  (gI_ M a0 0 7).bind fun v1 =>
  lt_ (((v1 * 1103515245) + 12345)) fun v2 =>
  (pF_ M a0 0 7 (.int v2)).bind fun M3 =>
  (gI_ M3 a0 0 7).bind fun v4 =>
  (rm_ ((v4 &&& 2147483647) / 65536) a1).bind fun v5 =>
  some (v5, M3)
theorem kdX1_draw : yX1_draw.cls ≠ "java/lang/invoke/MethodHandle" ∧ yX1_draw.cls ≠ "java/lang/invoke/VarHandle" ∧ (parseMethodDescriptor yX1_draw.desc).map (fun d => d.parameters.length) = some 1 := by decide +kernel
set_option maxHeartbeats 4000000 in
theorem mX1_draw (l : Launch) (G : GT_) (M : Mem_) (n : Nat) (a0 : Nat) (a1 : Int32) (r : Int32) (M1 : Mem_) (hf : fX1_draw M a0 a1 = some (r, M1)) : Ct_ G l yX1_draw (ws_ yX1_draw cX1_draw 2 (some .int)) ({ frames := 0, cells := 0, slots := 0, locals := 0 }) 0 0 [.ref a0, .int a1] M n (some (.int r)) M1 n := by
  refine en_ (by decide) (Nat.le_of_ble_eq_true rfl) ?_
  intro p e s m below meth c hx hb hr hlk hml hown hts hname hKn hH ls hl
  have hown : s.vm.findClass RX1 = some m.cls := hown
  have hl : lv_has ls 2 [(0, .ref a0), (1, .int a1)] := hl
  unfold fX1_draw at hf
  generalize s.heap = H at hH ⊢
  refine lv_aload_n hx hb dX1_draw_0 rfl (lv_at hl 0 rfl) ?_
  refine lv_aload_n hx hb dX1_draw_1 rfl (lv_at hl 0 rfl) ?_
  obtain ⟨v1, ev1, hf⟩ := bs_ hf
  refine mg_gI hx hb hts hown hKn hH ev1 in_X1 rfl (by decide) (hts _ q944) (fun _ h9 => h9) dX1_draw_2 ?_
  refine lv_ldcw hx hb hown (hts _ q844) dX1_draw_5 ?_
  refine lv_imul hx hb dX1_draw_8 ?_
  refine lv_sipush (v := 12345) hx hb dX1_draw_9 (by decide) ?_
  refine lv_iadd hx hb dX1_draw_12 ?_
  refine lv_topi (fun v2 ev2 => ?_)
  have hf := lu_ ev2 hf
  obtain ⟨M3, eM3, hf⟩ := bs_ hf
  refine mg_pF hx hb hts hown hKn hH eM3 in_X1 tyX1_ok nmX1 rfl (by decide) (hts _ q944) (fun _ h9 => h9) rfl rfl rfl dX1_draw_13 (fun H locs hH => ?_)
  refine lv_aload_n hx hb dX1_draw_16 rfl (lv_at hl 0 rfl) ?_
  obtain ⟨v4, ev4, hf⟩ := bs_ hf
  refine mg_gI hx hb hts hown hKn hH ev4 in_X1 rfl (by decide) (hts _ q944) (fun _ h9 => h9) dX1_draw_17 ?_
  refine lv_ldcw hx hb hown (hts _ q845) dX1_draw_20 ?_
  refine lv_iand hx hb dX1_draw_23 ?_
  refine lv_ldcw hx hb hown (hts _ q846) dX1_draw_24 ?_
  refine lv_idiv hx hb dX1_draw_27 (by decide) ?_
  refine lv_iload_n hx hb dX1_draw_28 rfl (lv_at hl 1 rfl) ?_
  obtain ⟨v5, ev5, hf⟩ := bs_ hf
  refine lv_irem hx hb dX1_draw_29 (rm_spec ev5).1 ?_
  rw [← (rm_spec ev5).2]
  cases hf
  exact rt_i hx hb hr hlk hH dX1_draw_30
def fX1_nights_L58 (K45 : Mem_ → Nat → Int32 → Int32 → Int32 → Int32 → Int32 → Option (Int32 × Mem_)) : Nat → Mem_ → Nat → Int32 → Int32 → Int32 → Int32 → Int32 → Int32 → Option (Int32 × Mem_)
  | 0, _, _, _, _, _, _, _, _ => none
  | fuel + 1, M, x0, x1, x2, x3, x4, x5, x6 =>
    if 12 ≤ x6 then
      (gR_ M x0 0 2).bind fun v13 =>
      (gR_ M v13 1 6).bind fun v14 =>
      (aI_ M v14 0 x3).bind fun v15 =>
      (gR_ M x0 0 0).bind fun v16 =>
      (gR_ M v16 1 6).bind fun v17 =>
      (aI_ M v17 0 x3).bind fun v18 =>
      lt_ ((x4 + (v15 - v18))) fun v19 =>
      lt_ (x5 + 1) fun v20 =>
      K45 M x0 x1 x2 x3 v19 v20
    else
      (gR_ M x0 0 2).bind fun v21 =>
      (gI_ M v21 1 9).bind fun v22 =>
      (ck_ M x0 0).bind fun u23 =>
      bw_ (fX1_draw M x0 v22) fun r24 M25 =>
      (gR_ M25 x0 0 2).bind fun v26 =>
      (ck_ M25 x0 0).bind fun u27 =>
      bw_ (fX1_draw M25 x0 9) fun r28 M29 =>
      (ck_ M29 v26 1).bind fun u30 =>
      bw_ (fX2_hits M29 v26 r24 r28) fun r31 M32 =>
      lt_ (x6 + 1) fun v33 =>
      fX1_nights_L58 K45 fuel M32 x0 x1 x2 x3 x4 x5 v33
def fX1_nights_L45 : Nat → Mem_ → Nat → Int32 → Int32 → Int32 → Int32 → Int32 → Option (Int32 × Mem_)
  | 0, _, _, _, _, _, _, _ => none
  | fuel + 1, M, x0, x1, x2, x3, x4, x5 =>
    if x1 ≤ x5 then
      some (x4, M)
    else
      (ck_ M x0 0).bind fun u9 =>
      (fX1_minds M x0).bind fun M11 =>
      fX1_nights_L58 (fX1_nights_L45 fuel) 1000 M11 x0 x1 x2 x3 x4 x5 0
def fX1_nights (M : Mem_) (a0 : Nat) (a1 : Int32) (a2 : Int32) (a3 : Int32) : Option (Int32 × Mem_) :=
  lt_ (fX1_isIn a1 1 20) fun r1 =>
  if (b2_ r1) = 0 then
    some ((-1), M)
  else
    lt_ (fX1_isIn a3 0 1) fun r2 =>
    if (b2_ r2) = 0 then
      some ((-1), M)
    else
      (gR_ M a0 0 0).bind fun v3 =>
      (gI_ M v3 1 9).bind fun v4 =>
      if v4 = 0 then
        some ((-3), M)
      else
        (pF_ M a0 0 7 (.int a2)).bind fun M5 =>
        fX1_nights_L45 1000 M5 a0 a1 a2 a3 0 0
theorem kdX1_nights : yX1_nights.cls ≠ "java/lang/invoke/MethodHandle" ∧ yX1_nights.cls ≠ "java/lang/invoke/VarHandle" ∧ (parseMethodDescriptor yX1_nights.desc).map (fun d => d.parameters.length) = some 3 := by decide +kernel
set_option maxHeartbeats 4000000 in
theorem mX1_nights (l : Launch) (G : GT_) (M : Mem_) (n : Nat) (a0 : Nat) (a1 : Int32) (a2 : Int32) (a3 : Int32) (r : Int32) (M1 : Mem_) (hf : fX1_nights M a0 a1 a2 a3 = some (r, M1)) : Ct_ G l yX1_nights (ws_ yX1_nights cX1_nights 8 (some .int)) ({ frames := 4, cells := 0, slots := 0, locals := 100 }) 0 0 [.ref a0, .int a1, .int a2, .int a3] M n (some (.int r)) M1 n := by
  refine en_ (by decide) (Nat.le_of_ble_eq_true rfl) ?_
  intro p e s m below meth c hx hb hr hlk hml hown hts hname hKn hH ls hl
  have hown : s.vm.findClass RX1 = some m.cls := hown
  have hl : lv_has ls 8 [(0, .ref a0), (1, .int a1), (2, .int a2), (3, .int a3)] := hl
  have w58 : ∀ (K45 : Mem_ → Nat → Int32 → Int32 → Int32 → Int32 → Int32 → Option (Int32 × Mem_)), (∀ (M : Mem_) (x0 : Nat) (x1 : Int32) (x2 : Int32) (x3 : Int32) (x4 : Int32) (x5 : Int32) (H : Heap) (locs : List Loc) (ls : Array Slot), St_ G n M s H locs → lv_has ls 8 [(0, .ref x0), (1, .int x1), (2, .int x2), (3, .int x3), (4, .int x4), (5, .int x5)] → K45 M x0 x1 x2 x3 x4 x5 = some (r, M1) → W p l e ({ frames := 4, cells := 0, slots := 0, locals := 100 } : Room) s m ([.ref a0, .int a1, .int a2, .int a3] : List Value).toArray below meth c H locs 0 0 (MQ below (Qc_ G (some (.int r)) M1 n) ([.ref a0, .int a1, .int a2, .int a3] : List Value).toArray s 0 0 (fun q => G.1 ≤ q)) (F0 m 45 ls [])) → ∀ (fuel : Nat), ∀ (M : Mem_) (x0 : Nat) (x1 : Int32) (x2 : Int32) (x3 : Int32) (x4 : Int32) (x5 : Int32) (x6 : Int32) (H : Heap) (locs : List Loc) (ls : Array Slot), St_ G n M s H locs → lv_has ls 8 [(0, .ref x0), (1, .int x1), (2, .int x2), (3, .int x3), (4, .int x4), (5, .int x5), (6, .int x6)] → fX1_nights_L58 K45 fuel M x0 x1 x2 x3 x4 x5 x6 = some (r, M1) → W p l e ({ frames := 4, cells := 0, slots := 0, locals := 100 } : Room) s m ([.ref a0, .int a1, .int a2, .int a3] : List Value).toArray below meth c H locs 0 0 (MQ below (Qc_ G (some (.int r)) M1 n) ([.ref a0, .int a1, .int a2, .int a3] : List Value).toArray s 0 0 (fun q => G.1 ≤ q)) (F0 m 58 ls []) := by
    intro K45 hK45 fuel
    induction fuel with
    | zero =>
      intro M x0 x1 x2 x3 x4 x5 x6 H locs ls hH hl hf
      cases hf
    | succ fuel ih =>
      intro M x0 x1 x2 x3 x4 x5 x6 H locs ls hH hl hf
      unfold fX1_nights_L58 at hf
      refine lv_iload hx hb dX1_nights_58 (lv_at hl 6 rfl) ?_
      refine lv_bipush (v := 12) hx hb dX1_nights_60 (by decide) ?_
      refine lv_icmp_ge (tgt := 100) hx hb dX1_nights_62 (by decide) (fun c34 => ?_) (fun c34 => ?_)
      · have hf := ip_ c34 hf
        refine lv_iload hx hb dX1_nights_100 (lv_at hl 4 rfl) ?_
        refine lv_aload_n hx hb dX1_nights_102 rfl (lv_at hl 0 rfl) ?_
        obtain ⟨v13, ev13, hf⟩ := bs_ hf
        refine mg_gR hx hb hts hown hKn hH ev13 in_X1 rfl (by decide) (hts _ q939) (fun _ h9 => h9) dX1_nights_103 ?_
        obtain ⟨v14, ev14, hf⟩ := bs_ hf
        refine mg_gR hx hb hts hown hKn hH ev14 in_X2 rfl (by decide) (hts _ q884) (fun _ h9 => h9) dX1_nights_106 ?_
        refine lv_iload_n hx hb dX1_nights_109 rfl (lv_at hl 3 rfl) ?_
        obtain ⟨v15, ev15, hf⟩ := bs_ hf
        refine mg_iald hx hb hKn hH ev15 dX1_nights_110 ?_
        refine lv_aload_n hx hb dX1_nights_111 rfl (lv_at hl 0 rfl) ?_
        obtain ⟨v16, ev16, hf⟩ := bs_ hf
        refine mg_gR hx hb hts hown hKn hH ev16 in_X1 rfl (by decide) (hts _ q937) (fun _ h9 => h9) dX1_nights_112 ?_
        obtain ⟨v17, ev17, hf⟩ := bs_ hf
        refine mg_gR hx hb hts hown hKn hH ev17 in_X2 rfl (by decide) (hts _ q884) (fun _ h9 => h9) dX1_nights_115 ?_
        refine lv_iload_n hx hb dX1_nights_118 rfl (lv_at hl 3 rfl) ?_
        obtain ⟨v18, ev18, hf⟩ := bs_ hf
        refine mg_iald hx hb hKn hH ev18 dX1_nights_119 ?_
        refine lv_isub hx hb dX1_nights_120 ?_
        refine lv_iadd hx hb dX1_nights_121 ?_
        refine lv_topi (fun v19 ev19 => ?_)
        have hf := lu_ ev19 hf
        refine lv_istore (lv' := [(4, .int v19), (0, .ref x0), (1, .int x1), (2, .int x2), (3, .int x3), (5, .int x5), (6, .int x6)]) hx hb dX1_nights_122 hl (by decide) rfl (fun ls hl => ?_)
        obtain ⟨v20, ev20⟩ : ∃ z : Int32, z = x5 + 1 := ⟨_, rfl⟩
        have hf := lu_ ev20 hf
        refine lv_iinc (v := v20) (lv' := [(5, .int v20), (4, .int v19), (0, .ref x0), (1, .int x1), (2, .int x2), (3, .int x3), (6, .int x6)]) hx hb dX1_nights_124 hl (k := 5) rfl (by rw [ev20]; rfl) (by decide) rfl (fun ls hl => ?_)
        refine lv_goto (tgt := 45) hx hb dX1_nights_127 (by decide) ?_
        exact hK45 M x0 x1 x2 x3 v19 v20 _ _ ls hH (lv_sub hl [2, 3, 4, 5, 1, 0] rfl) hf
      · have hf := in_ c34 hf
        refine lv_aload_n hx hb dX1_nights_65 rfl (lv_at hl 0 rfl) ?_
        refine lv_aload_n hx hb dX1_nights_66 rfl (lv_at hl 0 rfl) ?_
        obtain ⟨v21, ev21, hf⟩ := bs_ hf
        refine mg_gR hx hb hts hown hKn hH ev21 in_X1 rfl (by decide) (hts _ q939) (fun _ h9 => h9) dX1_nights_67 ?_
        obtain ⟨v22, ev22, hf⟩ := bs_ hf
        refine mg_gI hx hb hts hown hKn hH ev22 in_X2 rfl (by decide) (hts _ q890) (fun _ h9 => h9) dX1_nights_70 ?_
        obtain ⟨u23, eu23, hf⟩ := bs_ hf
        obtain ⟨r24, M25, er24, hf⟩ := bws_ hf
        refine cl_i0 hH (rn_V ⟨hx, hb, hml, hown, hts⟩ hKn hH (mX1_draw l G M n x0 v22 r24 M25 er24) (cwV 1 hts (lw_V q840 q842 qs37 q67 q843) rfl rfl rfl ⟨rfl, kdX1_draw⟩ ⟨Nat.le_of_ble_eq_true rfl, Nat.le_of_ble_eq_true rfl⟩) eu23 rfl rfl hl.1 (Nat.le_of_ble_eq_true rfl) dX1_nights_73 ⟨(Nat.le_of_ble_eq_true rfl), (Nat.le_of_ble_eq_true rfl)⟩ rfl) (fun H locs hH => ?_)
        refine lv_istore (lv' := [(7, .int r24), (0, .ref x0), (1, .int x1), (2, .int x2), (3, .int x3), (4, .int x4), (5, .int x5), (6, .int x6)]) hx hb dX1_nights_76 hl (by decide) rfl (fun ls hl => ?_)
        refine lv_aload_n hx hb dX1_nights_78 rfl (lv_at hl 1 rfl) ?_
        obtain ⟨v26, ev26, hf⟩ := bs_ hf
        refine mg_gR hx hb hts hown hKn hH ev26 in_X1 rfl (by decide) (hts _ q939) (fun _ h9 => h9) dX1_nights_79 ?_
        refine lv_iload hx hb dX1_nights_82 (lv_at hl 0 rfl) ?_
        refine lv_aload_n hx hb dX1_nights_84 rfl (lv_at hl 1 rfl) ?_
        refine lv_bipush (v := 9) hx hb dX1_nights_85 (by decide) ?_
        obtain ⟨u27, eu27, hf⟩ := bs_ hf
        obtain ⟨r28, M29, er28, hf⟩ := bws_ hf
        refine cl_i0 hH (rn_V ⟨hx, hb, hml, hown, hts⟩ hKn hH (mX1_draw l G M25 n x0 9 r28 M29 er28) (cwV 1 hts (lw_V q840 q842 qs37 q67 q843) rfl rfl rfl ⟨rfl, kdX1_draw⟩ ⟨Nat.le_of_ble_eq_true rfl, Nat.le_of_ble_eq_true rfl⟩) eu27 rfl rfl hl.1 (Nat.le_of_ble_eq_true rfl) dX1_nights_87 ⟨(Nat.le_of_ble_eq_true rfl), (Nat.le_of_ble_eq_true rfl)⟩ rfl) (fun H locs hH => ?_)
        obtain ⟨u30, eu30, hf⟩ := bs_ hf
        obtain ⟨r31, M32, er31, hf⟩ := bws_ hf
        refine cl_i0 hH (rn_V ⟨hx, hb, hml, hown, hts⟩ hKn hH (mX2_hits l G M29 n v26 r24 r28 r31 M32 er31) (cwV 2 hts (lw_V q411 q412 q413 q68 q414) rfl rfl rfl ⟨rfl, kdX2_hits⟩ ⟨Nat.le_of_ble_eq_true rfl, Nat.le_of_ble_eq_true rfl⟩) eu30 rfl rfl hl.1 (Nat.le_of_ble_eq_true rfl) dX1_nights_90 ⟨(Nat.le_of_ble_eq_true rfl), (Nat.le_of_ble_eq_true rfl)⟩ rfl) (fun H locs hH => ?_)
        refine lv_pop hx hb dX1_nights_93 rfl ?_
        obtain ⟨v33, ev33⟩ : ∃ z : Int32, z = x6 + 1 := ⟨_, rfl⟩
        have hf := lu_ ev33 hf
        refine lv_iinc (v := v33) (lv' := [(6, .int v33), (7, .int r24), (0, .ref x0), (1, .int x1), (2, .int x2), (3, .int x3), (4, .int x4), (5, .int x5)]) hx hb dX1_nights_94 hl (k := 7) rfl (by rw [ev33]; rfl) (by decide) rfl (fun ls hl => ?_)
        refine lv_goto (tgt := 58) hx hb dX1_nights_97 (by decide) ?_
        exact ih M32 x0 x1 x2 x3 x4 x5 v33 _ _ ls hH (lv_sub hl [2, 3, 4, 5, 6, 7, 0] rfl) hf
  have w45 : ∀ (fuel : Nat), ∀ (M : Mem_) (x0 : Nat) (x1 : Int32) (x2 : Int32) (x3 : Int32) (x4 : Int32) (x5 : Int32) (H : Heap) (locs : List Loc) (ls : Array Slot), St_ G n M s H locs → lv_has ls 8 [(0, .ref x0), (1, .int x1), (2, .int x2), (3, .int x3), (4, .int x4), (5, .int x5)] → fX1_nights_L45 fuel M x0 x1 x2 x3 x4 x5 = some (r, M1) → W p l e ({ frames := 4, cells := 0, slots := 0, locals := 100 } : Room) s m ([.ref a0, .int a1, .int a2, .int a3] : List Value).toArray below meth c H locs 0 0 (MQ below (Qc_ G (some (.int r)) M1 n) ([.ref a0, .int a1, .int a2, .int a3] : List Value).toArray s 0 0 (fun q => G.1 ≤ q)) (F0 m 45 ls []) := by
    intro fuel
    induction fuel with
    | zero =>
      intro M x0 x1 x2 x3 x4 x5 H locs ls hH hl hf
      cases hf
    | succ fuel ih =>
      intro M x0 x1 x2 x3 x4 x5 H locs ls hH hl hf
      unfold fX1_nights_L45 at hf
      refine lv_iload hx hb dX1_nights_45 (lv_at hl 5 rfl) ?_
      refine lv_iload_n hx hb dX1_nights_47 rfl (lv_at hl 1 rfl) ?_
      refine lv_icmp_ge (tgt := 130) hx hb dX1_nights_48 (by decide) (fun c12 => ?_) (fun c12 => ?_)
      · have hf := ip_ c12 hf
        refine lv_iload hx hb dX1_nights_130 (lv_at hl 4 rfl) ?_
        cases hf
        exact rt_i hx hb hr hlk hH dX1_nights_132
      · have hf := in_ c12 hf
        refine lv_aload_n hx hb dX1_nights_51 rfl (lv_at hl 0 rfl) ?_
        obtain ⟨u9, eu9, hf⟩ := bs_ hf
        obtain ⟨M11, er10, hf⟩ := bs_ hf
        refine cl_v0 hH (rn_V ⟨hx, hb, hml, hown, hts⟩ hKn hH (mX1_minds l G M n x0 M11 er10) (cwV 0 hts (lw_V q662 q664 qs22 q67 q665) rfl rfl rfl ⟨rfl, kdX1_minds⟩ ⟨Nat.le_of_ble_eq_true rfl, Nat.le_of_ble_eq_true rfl⟩) eu9 rfl rfl hl.1 (Nat.le_of_ble_eq_true rfl) dX1_nights_52 ⟨(Nat.le_of_ble_eq_true rfl), (Nat.le_of_ble_eq_true rfl)⟩ rfl) (fun H locs hH => ?_)
        refine lv_iconst (v := 0) hx hb dX1_nights_55 (by decide) ?_
        refine lv_istore (lv' := [(6, .int 0), (0, .ref x0), (1, .int x1), (2, .int x2), (3, .int x3), (4, .int x4), (5, .int x5)]) hx hb dX1_nights_56 hl (by decide) rfl (fun ls hl => ?_)
        exact w58 _ ih 1000 M11 x0 x1 x2 x3 x4 x5 0 _ _ ls hH (lv_sub hl [1, 2, 3, 4, 5, 6, 0] rfl) hf
  unfold fX1_nights at hf
  refine lv_iload_n hx hb dX1_nights_0 rfl (lv_at hl 1 rfl) ?_
  refine lv_iconst (v := 1) hx hb dX1_nights_1 (by decide) ?_
  refine lv_bipush (v := 20) hx hb dX1_nights_2 (by decide) ?_
  obtain ⟨r1, er1⟩ : ∃ z, z = fX1_isIn a1 1 20 := ⟨_, rfl⟩
  have hf := lu_ er1 hf
  refine cl_i0 hH (rn_S ⟨hx, hb, hml, hown, hts⟩ hKn hH (mX1_isIn l G M n a1 1 20 r1 er1.symm) (va_cwS 3 hts (lw_S q199 q200 q67 q201) rfl rfl rfl kdX1_isIn ⟨Nat.le_of_ble_eq_true rfl, Nat.le_of_ble_eq_true rfl⟩) rfl hl.1 (Nat.le_of_ble_eq_true rfl) dX1_nights_4 ⟨(Nat.le_of_ble_eq_true rfl), (Nat.le_of_ble_eq_true rfl)⟩ rfl) (fun H locs hH => ?_)
  refine lv_if_eq (tgt := 19) hx hb dX1_nights_7 (by decide) (fun c8 => ?_) (fun c8 => ?_)
  · have hf := ip_ c8 hf
    refine lv_iconst (v := (-1)) hx hb dX1_nights_19 (by decide) ?_
    cases hf
    exact rt_i hx hb hr hlk hH dX1_nights_20
  · have hf := in_ c8 hf
    refine lv_iload_n hx hb dX1_nights_10 rfl (lv_at hl 3 rfl) ?_
    refine lv_iconst (v := 0) hx hb dX1_nights_11 (by decide) ?_
    refine lv_iconst (v := 1) hx hb dX1_nights_12 (by decide) ?_
    obtain ⟨r2, er2⟩ : ∃ z, z = fX1_isIn a3 0 1 := ⟨_, rfl⟩
    have hf := lu_ er2 hf
    refine cl_i0 hH (rn_S ⟨hx, hb, hml, hown, hts⟩ hKn hH (mX1_isIn l G M n a3 0 1 r2 er2.symm) (va_cwS 3 hts (lw_S q199 q200 q67 q201) rfl rfl rfl kdX1_isIn ⟨Nat.le_of_ble_eq_true rfl, Nat.le_of_ble_eq_true rfl⟩) rfl hl.1 (Nat.le_of_ble_eq_true rfl) dX1_nights_13 ⟨(Nat.le_of_ble_eq_true rfl), (Nat.le_of_ble_eq_true rfl)⟩ rfl) (fun H locs hH => ?_)
    refine lv_if_ne (tgt := 21) hx hb dX1_nights_16 (by decide) (fun c7 => ?_) (fun c7 => ?_)
    · have hf := in_ c7 hf
      refine lv_aload_n hx hb dX1_nights_21 rfl (lv_at hl 0 rfl) ?_
      obtain ⟨v3, ev3, hf⟩ := bs_ hf
      refine mg_gR hx hb hts hown hKn hH ev3 in_X1 rfl (by decide) (hts _ q937) (fun _ h9 => h9) dX1_nights_22 ?_
      obtain ⟨v4, ev4, hf⟩ := bs_ hf
      refine mg_gI hx hb hts hown hKn hH ev4 in_X2 rfl (by decide) (hts _ q890) (fun _ h9 => h9) dX1_nights_25 ?_
      refine lv_if_ne (tgt := 34) hx hb dX1_nights_28 (by decide) (fun c6 => ?_) (fun c6 => ?_)
      · have hf := in_ c6 hf
        refine lv_aload_n hx hb dX1_nights_34 rfl (lv_at hl 0 rfl) ?_
        refine lv_iload_n hx hb dX1_nights_35 rfl (lv_at hl 2 rfl) ?_
        obtain ⟨M5, eM5, hf⟩ := bs_ hf
        refine mg_pF hx hb hts hown hKn hH eM5 in_X1 tyX1_ok nmX1 rfl (by decide) (hts _ q944) (fun _ h9 => h9) rfl rfl rfl dX1_nights_36 (fun H locs hH => ?_)
        refine lv_iconst (v := 0) hx hb dX1_nights_39 (by decide) ?_
        refine lv_istore (lv' := [(4, .int 0), (0, .ref a0), (1, .int a1), (2, .int a2), (3, .int a3)]) hx hb dX1_nights_40 hl (by decide) rfl (fun ls hl => ?_)
        refine lv_iconst (v := 0) hx hb dX1_nights_42 (by decide) ?_
        refine lv_istore (lv' := [(5, .int 0), (4, .int 0), (0, .ref a0), (1, .int a1), (2, .int a2), (3, .int a3)]) hx hb dX1_nights_43 hl (by decide) rfl (fun ls hl => ?_)
        exact w45 1000 M5 a0 a1 a2 a3 0 0 _ _ ls hH (lv_sub hl [2, 3, 4, 5, 1, 0] rfl) hf
      · have hf := ip_ c6 hf
        refine lv_bipush (v := (-3)) hx hb dX1_nights_31 (by decide) ?_
        cases hf
        exact rt_i hx hb hr hlk hH dX1_nights_33
    · have hf := ip_ c7 hf
      refine lv_iconst (v := (-1)) hx hb dX1_nights_19 (by decide) ?_
      cases hf
      exact rt_i hx hb hr hlk hH dX1_nights_20
def fX1_image (M : Mem_) (a0 : Nat) : Option (Int32 × Mem_) :=
  (gR_ M a0 0 1).bind fun v1 =>
  (gR_ M a0 0 0).bind fun v2 =>
  (ck_ M v1 1).bind fun u3 =>
  (fX2_takes M v1 v2).bind fun M5 =>
  (pF_ M5 a0 0 4 (.int 1)).bind fun M6 =>
  (gR_ M6 a0 0 0).bind fun v7 =>
  (gI_ M6 v7 1 12).bind fun v8 =>
  some (v8, M6)
theorem kdX1_image : yX1_image.cls ≠ "java/lang/invoke/MethodHandle" ∧ yX1_image.cls ≠ "java/lang/invoke/VarHandle" ∧ (parseMethodDescriptor yX1_image.desc).map (fun d => d.parameters.length) = some 0 := by decide +kernel
set_option maxHeartbeats 4000000 in
theorem mX1_image (l : Launch) (G : GT_) (M : Mem_) (n : Nat) (a0 : Nat) (r : Int32) (M1 : Mem_) (hf : fX1_image M a0 = some (r, M1)) : Ct_ G l yX1_image (ws_ yX1_image cX1_image 1 (some .int)) ({ frames := 3, cells := 0, slots := 0, locals := 60 }) 0 0 [.ref a0] M n (some (.int r)) M1 n := by
  refine en_ (by decide) (Nat.le_of_ble_eq_true rfl) ?_
  intro p e s m below meth c hx hb hr hlk hml hown hts hname hKn hH ls hl
  have hown : s.vm.findClass RX1 = some m.cls := hown
  have hl : lv_has ls 1 [(0, .ref a0)] := hl
  unfold fX1_image at hf
  generalize s.heap = H at hH ⊢
  refine lv_aload_n hx hb dX1_image_0 rfl (lv_at hl 0 rfl) ?_
  obtain ⟨v1, ev1, hf⟩ := bs_ hf
  refine mg_gR hx hb hts hown hKn hH ev1 in_X1 rfl (by decide) (hts _ q938) (fun _ h9 => h9) dX1_image_1 ?_
  refine lv_aload_n hx hb dX1_image_4 rfl (lv_at hl 0 rfl) ?_
  obtain ⟨v2, ev2, hf⟩ := bs_ hf
  refine mg_gR hx hb hts hown hKn hH ev2 in_X1 rfl (by decide) (hts _ q937) (fun _ h9 => h9) dX1_image_5 ?_
  obtain ⟨u3, eu3, hf⟩ := bs_ hf
  obtain ⟨M5, er4, hf⟩ := bs_ hf
  refine cl_v0 hH (rn_V ⟨hx, hb, hml, hown, hts⟩ hKn hH (mX2_takes l G M n v1 v2 M5 er4) (cwV 1 hts (lw_V q299 q300 q301 q68 q302) rfl rfl rfl ⟨rfl, kdX2_takes⟩ ⟨Nat.le_of_ble_eq_true rfl, Nat.le_of_ble_eq_true rfl⟩) eu3 rfl rfl hl.1 (Nat.le_of_ble_eq_true rfl) dX1_image_8 ⟨(Nat.le_of_ble_eq_true rfl), (Nat.le_of_ble_eq_true rfl)⟩ rfl) (fun H locs hH => ?_)
  refine lv_aload_n hx hb dX1_image_11 rfl (lv_at hl 0 rfl) ?_
  refine lv_iconst (v := 1) hx hb dX1_image_12 (by decide) ?_
  obtain ⟨M6, eM6, hf⟩ := bs_ hf
  refine mg_pF hx hb hts hown hKn hH eM6 in_X1 tyX1_ok nmX1 rfl (by decide) (hts _ q941) (fun _ h9 => h9) rfl rfl rfl dX1_image_13 (fun H locs hH => ?_)
  refine lv_aload_n hx hb dX1_image_16 rfl (lv_at hl 0 rfl) ?_
  obtain ⟨v7, ev7, hf⟩ := bs_ hf
  refine mg_gR hx hb hts hown hKn hH ev7 in_X1 rfl (by decide) (hts _ q937) (fun _ h9 => h9) dX1_image_17 ?_
  obtain ⟨v8, ev8, hf⟩ := bs_ hf
  refine mg_gI hx hb hts hown hKn hH ev8 in_X2 rfl (by decide) (hts _ q896) (fun _ h9 => h9) dX1_image_20 ?_
  cases hf
  exact rt_i hx hb hr hlk hH dX1_image_23
def fX1_restore (M : Mem_) (a0 : Nat) : Option (Int32 × Mem_) :=
  (gI_ M a0 0 4).bind fun v1 =>
  if v1 = 0 then
    some ((-3), M)
  else
    (gR_ M a0 0 0).bind fun v2 =>
    (gR_ M a0 0 1).bind fun v3 =>
    (ck_ M v2 1).bind fun u4 =>
    (fX2_takes M v2 v3).bind fun M6 =>
    (gR_ M6 a0 0 0).bind fun v7 =>
    (gI_ M6 v7 1 12).bind fun v8 =>
    some (v8, M6)
theorem kdX1_restore : yX1_restore.cls ≠ "java/lang/invoke/MethodHandle" ∧ yX1_restore.cls ≠ "java/lang/invoke/VarHandle" ∧ (parseMethodDescriptor yX1_restore.desc).map (fun d => d.parameters.length) = some 0 := by decide +kernel
set_option maxHeartbeats 4000000 in
theorem mX1_restore (l : Launch) (G : GT_) (M : Mem_) (n : Nat) (a0 : Nat) (r : Int32) (M1 : Mem_) (hf : fX1_restore M a0 = some (r, M1)) : Ct_ G l yX1_restore (ws_ yX1_restore cX1_restore 1 (some .int)) ({ frames := 3, cells := 0, slots := 0, locals := 60 }) 0 0 [.ref a0] M n (some (.int r)) M1 n := by
  refine en_ (by decide) (Nat.le_of_ble_eq_true rfl) ?_
  intro p e s m below meth c hx hb hr hlk hml hown hts hname hKn hH ls hl
  have hown : s.vm.findClass RX1 = some m.cls := hown
  have hl : lv_has ls 1 [(0, .ref a0)] := hl
  unfold fX1_restore at hf
  generalize s.heap = H at hH ⊢
  refine lv_aload_n hx hb dX1_restore_0 rfl (lv_at hl 0 rfl) ?_
  obtain ⟨v1, ev1, hf⟩ := bs_ hf
  refine mg_gI hx hb hts hown hKn hH ev1 in_X1 rfl (by decide) (hts _ q941) (fun _ h9 => h9) dX1_restore_1 ?_
  refine lv_if_ne (tgt := 10) hx hb dX1_restore_4 (by decide) (fun c9 => ?_) (fun c9 => ?_)
  · have hf := in_ c9 hf
    refine lv_aload_n hx hb dX1_restore_10 rfl (lv_at hl 0 rfl) ?_
    obtain ⟨v2, ev2, hf⟩ := bs_ hf
    refine mg_gR hx hb hts hown hKn hH ev2 in_X1 rfl (by decide) (hts _ q937) (fun _ h9 => h9) dX1_restore_11 ?_
    refine lv_aload_n hx hb dX1_restore_14 rfl (lv_at hl 0 rfl) ?_
    obtain ⟨v3, ev3, hf⟩ := bs_ hf
    refine mg_gR hx hb hts hown hKn hH ev3 in_X1 rfl (by decide) (hts _ q938) (fun _ h9 => h9) dX1_restore_15 ?_
    obtain ⟨u4, eu4, hf⟩ := bs_ hf
    obtain ⟨M6, er5, hf⟩ := bs_ hf
    refine cl_v0 hH (rn_V ⟨hx, hb, hml, hown, hts⟩ hKn hH (mX2_takes l G M n v2 v3 M6 er5) (cwV 1 hts (lw_V q299 q300 q301 q68 q302) rfl rfl rfl ⟨rfl, kdX2_takes⟩ ⟨Nat.le_of_ble_eq_true rfl, Nat.le_of_ble_eq_true rfl⟩) eu4 rfl rfl hl.1 (Nat.le_of_ble_eq_true rfl) dX1_restore_18 ⟨(Nat.le_of_ble_eq_true rfl), (Nat.le_of_ble_eq_true rfl)⟩ rfl) (fun H locs hH => ?_)
    refine lv_aload_n hx hb dX1_restore_21 rfl (lv_at hl 0 rfl) ?_
    obtain ⟨v7, ev7, hf⟩ := bs_ hf
    refine mg_gR hx hb hts hown hKn hH ev7 in_X1 rfl (by decide) (hts _ q937) (fun _ h9 => h9) dX1_restore_22 ?_
    obtain ⟨v8, ev8, hf⟩ := bs_ hf
    refine mg_gI hx hb hts hown hKn hH ev8 in_X2 rfl (by decide) (hts _ q896) (fun _ h9 => h9) dX1_restore_25 ?_
    cases hf
    exact rt_i hx hb hr hlk hH dX1_restore_28
  · have hf := ip_ c9 hf
    refine lv_bipush (v := (-3)) hx hb dX1_restore_7 (by decide) ?_
    cases hf
    exact rt_i hx hb hr hlk hH dX1_restore_9
def fX1_count (M : Mem_) (a0 : Nat) (a1 : Int32) : Option Int32 :=
  if a1 = 0 then
    (gR_ M a0 0 0).bind fun v2 =>
    (gI_ M v2 1 9).bind fun v3 =>
    some v3
  else
    if a1 = 1 then
      (gR_ M a0 0 0).bind fun v5 =>
      (gI_ M v5 1 12).bind fun v6 =>
      some v6
    else
      if a1 = 2 then
        (gR_ M a0 0 0).bind fun v8 =>
        (gI_ M v8 1 10).bind fun v9 =>
        some v9
      else
        if a1 = 3 then
          (gR_ M a0 0 0).bind fun v11 =>
          (gI_ M v11 1 11).bind fun v12 =>
          some (v12 + 1)
        else
          if a1 = 4 then
            (gR_ M a0 0 0).bind fun v14 =>
            (ck_ M v14 1).bind fun u15 =>
            (fX2_tiredOf M v14 0).bind fun r16 =>
            (gR_ M a0 0 0).bind fun v17 =>
            (ck_ M v17 1).bind fun u18 =>
            (fX2_tiredOf M v17 1).bind fun r19 =>
            some (r16 + r19)
          else
            if a1 = 5 then
              (gR_ M a0 0 0).bind fun v21 =>
              (gI_ M v21 1 8).bind fun v22 =>
              some v22
            else
              some (-1)
theorem kdX1_count : yX1_count.cls ≠ "java/lang/invoke/MethodHandle" ∧ yX1_count.cls ≠ "java/lang/invoke/VarHandle" ∧ (parseMethodDescriptor yX1_count.desc).map (fun d => d.parameters.length) = some 1 := by decide +kernel
set_option maxHeartbeats 4000000 in
theorem mX1_count (l : Launch) (G : GT_) (M : Mem_) (n : Nat) (a0 : Nat) (a1 : Int32) (r : Int32) (hf : fX1_count M a0 a1 = some r) : Ct_ G l yX1_count (ws_ yX1_count cX1_count 2 (some .int)) ({ frames := 1, cells := 0, slots := 0, locals := 21 }) 0 0 [.ref a0, .int a1] M n (some (.int r)) M n := by
  refine en_ (by decide) (Nat.le_of_ble_eq_true rfl) ?_
  intro p e s m below meth c hx hb hr hlk hml hown hts hname hKn hH ls hl
  have hown : s.vm.findClass RX1 = some m.cls := hown
  have hl : lv_has ls 2 [(0, .ref a0), (1, .int a1)] := hl
  unfold fX1_count at hf
  generalize s.heap = H at hH ⊢
  refine lv_iload_n hx hb dX1_count_0 rfl (lv_at hl 1 rfl) ?_
  by_cases c1 : a1 = 0
  · have hf := ip_ c1 hf
    refine sw_I (off := 39) (tgt := 40) hx hb dX1_count_1 c1 (by decide) (by decide) (by decide) (by decide) ?_
    refine lv_aload_n hx hb dX1_count_40 rfl (lv_at hl 0 rfl) ?_
    obtain ⟨v2, ev2, hf⟩ := bs_ hf
    refine mg_gR hx hb hts hown hKn hH ev2 in_X1 rfl (by decide) (hts _ q937) (fun _ h9 => h9) dX1_count_41 ?_
    obtain ⟨v3, ev3, hf⟩ := bs_ hf
    refine mg_gI hx hb hts hown hKn hH ev3 in_X2 rfl (by decide) (hts _ q890) (fun _ h9 => h9) dX1_count_44 ?_
    cases hf
    exact rt_i hx hb hr hlk hH dX1_count_47
  · have hf := in_ c1 hf
    by_cases c4 : a1 = 1
    · have hf := ip_ c4 hf
      refine sw_I (off := 47) (tgt := 48) hx hb dX1_count_1 c4 (by decide) (by decide) (by decide) (by decide) ?_
      refine lv_aload_n hx hb dX1_count_48 rfl (lv_at hl 0 rfl) ?_
      obtain ⟨v5, ev5, hf⟩ := bs_ hf
      refine mg_gR hx hb hts hown hKn hH ev5 in_X1 rfl (by decide) (hts _ q937) (fun _ h9 => h9) dX1_count_49 ?_
      obtain ⟨v6, ev6, hf⟩ := bs_ hf
      refine mg_gI hx hb hts hown hKn hH ev6 in_X2 rfl (by decide) (hts _ q896) (fun _ h9 => h9) dX1_count_52 ?_
      cases hf
      exact rt_i hx hb hr hlk hH dX1_count_55
    · have hf := in_ c4 hf
      by_cases c7 : a1 = 2
      · have hf := ip_ c7 hf
        refine sw_I (off := 55) (tgt := 56) hx hb dX1_count_1 c7 (by decide) (by decide) (by decide) (by decide) ?_
        refine lv_aload_n hx hb dX1_count_56 rfl (lv_at hl 0 rfl) ?_
        obtain ⟨v8, ev8, hf⟩ := bs_ hf
        refine mg_gR hx hb hts hown hKn hH ev8 in_X1 rfl (by decide) (hts _ q937) (fun _ h9 => h9) dX1_count_57 ?_
        obtain ⟨v9, ev9, hf⟩ := bs_ hf
        refine mg_gI hx hb hts hown hKn hH ev9 in_X2 rfl (by decide) (hts _ q892) (fun _ h9 => h9) dX1_count_60 ?_
        cases hf
        exact rt_i hx hb hr hlk hH dX1_count_63
      · have hf := in_ c7 hf
        by_cases c10 : a1 = 3
        · have hf := ip_ c10 hf
          refine sw_I (off := 63) (tgt := 64) hx hb dX1_count_1 c10 (by decide) (by decide) (by decide) (by decide) ?_
          refine lv_aload_n hx hb dX1_count_64 rfl (lv_at hl 0 rfl) ?_
          obtain ⟨v11, ev11, hf⟩ := bs_ hf
          refine mg_gR hx hb hts hown hKn hH ev11 in_X1 rfl (by decide) (hts _ q937) (fun _ h9 => h9) dX1_count_65 ?_
          obtain ⟨v12, ev12, hf⟩ := bs_ hf
          refine mg_gI hx hb hts hown hKn hH ev12 in_X2 rfl (by decide) (hts _ q894) (fun _ h9 => h9) dX1_count_68 ?_
          refine lv_iconst (v := 1) hx hb dX1_count_71 (by decide) ?_
          refine lv_iadd hx hb dX1_count_72 ?_
          cases hf
          exact rt_i hx hb hr hlk hH dX1_count_73
        · have hf := in_ c10 hf
          by_cases c13 : a1 = 4
          · have hf := ip_ c13 hf
            refine sw_I (off := 73) (tgt := 74) hx hb dX1_count_1 c13 (by decide) (by decide) (by decide) (by decide) ?_
            refine lv_aload_n hx hb dX1_count_74 rfl (lv_at hl 0 rfl) ?_
            obtain ⟨v14, ev14, hf⟩ := bs_ hf
            refine mg_gR hx hb hts hown hKn hH ev14 in_X1 rfl (by decide) (hts _ q937) (fun _ h9 => h9) dX1_count_75 ?_
            refine lv_iconst (v := 0) hx hb dX1_count_78 (by decide) ?_
            obtain ⟨u15, eu15, hf⟩ := bs_ hf
            obtain ⟨r16, er16, hf⟩ := bs_ hf
            refine cl_i0 hH (rn_V ⟨hx, hb, hml, hown, hts⟩ hKn hH (mX2_tiredOf l G M n v14 0 r16 er16) (cwV 1 hts (lw_V q798 q799 q800 q68 q801) rfl rfl rfl ⟨rfl, kdX2_tiredOf⟩ ⟨Nat.le_of_ble_eq_true rfl, Nat.le_of_ble_eq_true rfl⟩) eu15 rfl rfl hl.1 (Nat.le_of_ble_eq_true rfl) dX1_count_79 ⟨(Nat.le_of_ble_eq_true rfl), (Nat.le_of_ble_eq_true rfl)⟩ rfl) (fun H locs hH => ?_)
            refine lv_aload_n hx hb dX1_count_82 rfl (lv_at hl 0 rfl) ?_
            obtain ⟨v17, ev17, hf⟩ := bs_ hf
            refine mg_gR hx hb hts hown hKn hH ev17 in_X1 rfl (by decide) (hts _ q937) (fun _ h9 => h9) dX1_count_83 ?_
            refine lv_iconst (v := 1) hx hb dX1_count_86 (by decide) ?_
            obtain ⟨u18, eu18, hf⟩ := bs_ hf
            obtain ⟨r19, er19, hf⟩ := bs_ hf
            refine cl_i0 hH (rn_V ⟨hx, hb, hml, hown, hts⟩ hKn hH (mX2_tiredOf l G M n v17 1 r19 er19) (cwV 1 hts (lw_V q798 q799 q800 q68 q801) rfl rfl rfl ⟨rfl, kdX2_tiredOf⟩ ⟨Nat.le_of_ble_eq_true rfl, Nat.le_of_ble_eq_true rfl⟩) eu18 rfl rfl hl.1 (Nat.le_of_ble_eq_true rfl) dX1_count_87 ⟨(Nat.le_of_ble_eq_true rfl), (Nat.le_of_ble_eq_true rfl)⟩ rfl) (fun H locs hH => ?_)
            refine lv_iadd hx hb dX1_count_90 ?_
            cases hf
            exact rt_i hx hb hr hlk hH dX1_count_91
          · have hf := in_ c13 hf
            by_cases c20 : a1 = 5
            · have hf := ip_ c20 hf
              refine sw_I (off := 91) (tgt := 92) hx hb dX1_count_1 c20 (by decide) (by decide) (by decide) (by decide) ?_
              refine lv_aload_n hx hb dX1_count_92 rfl (lv_at hl 0 rfl) ?_
              obtain ⟨v21, ev21, hf⟩ := bs_ hf
              refine mg_gR hx hb hts hown hKn hH ev21 in_X1 rfl (by decide) (hts _ q937) (fun _ h9 => h9) dX1_count_93 ?_
              obtain ⟨v22, ev22, hf⟩ := bs_ hf
              refine mg_gI hx hb hts hown hKn hH ev22 in_X2 rfl (by decide) (hts _ q888) (fun _ h9 => h9) dX1_count_96 ?_
              cases hf
              exact rt_i hx hb hr hlk hH dX1_count_99
            · have hf := in_ c20 hf
              refine sw_D (tgt := 100) hx hb dX1_count_1 [(0, 39), (1, 47), (2, 55), (3, 63), (4, 73), (5, 91)] (by decide) (by decide) (by decide) ⟨Or.inr (lv_neT c1 (by decide)), Or.inr (lv_neT c4 (by decide)), Or.inr (lv_neT c7 (by decide)), Or.inr (lv_neT c10 (by decide)), Or.inr (lv_neT c13 (by decide)), Or.inr (lv_neT c20 (by decide)), trivial⟩ (by decide) ?_
              refine lv_iconst (v := (-1)) hx hb dX1_count_100 (by decide) ?_
              cases hf
              exact rt_i hx hb hr hlk hH dX1_count_101
