set_option maxRecDepth 100000
def fX4_whatIs_L122 (K61 : Mem_ → Nat → Int32 → Int32 → Int32 → Int32 → Int32 → Int32 → Option (Int32 × Mem_)) : Nat → Mem_ → Nat → Int32 → Int32 → Int32 → Int32 → Int32 → Int32 → Int32 → Int32 → Option (Int32 × Mem_)
  | 0, _, _, _, _, _, _, _, _, _, _ => none
  | fuel + 1, M, x0, x1, x2, x3, x4, x5, x6, x7, x8 =>
    (gR_ M x0 3 17).bind fun v38 =>
    (aI_ M v38 0 x1).bind fun v39 =>
    if v39 ≤ x8 then
      if x7 = 0 then
        lt_ ((x5 ||| 0)) fun v40 =>
        lt_ (x6 + 1) fun v41 =>
        K61 M x0 x1 x2 x3 x4 v40 v41
      else
        lt_ ((x5 ||| (1 <<< (x6 &&& 31)))) fun v42 =>
        lt_ (x6 + 1) fun v43 =>
        K61 M x0 x1 x2 x3 x4 v42 v43
    else
      (ck_ M x0 3).bind fun u45 =>
      (fX4_isSkipped M x0 x1 x8).bind fun r46 =>
      if (b2_ r46) = 0 then
        (gR_ M x0 3 18).bind fun v49 =>
        (aI_ M v49 0 ((100 * x1) + x8)).bind fun v50 =>
        (gR_ M x0 3 1).bind fun v51 =>
        (fX4_fallsIn M v51 x2 x8).bind fun r52 =>
        if v50 = r52 then
          lt_ ((x7 &&& 1)) fun v55 =>
          lt_ (x8 + 1) fun v56 =>
          fX4_whatIs_L122 K61 fuel M x0 x1 x2 x3 x4 x5 x6 v55 v56
        else
          lt_ ((x7 &&& 0)) fun v53 =>
          lt_ (x8 + 1) fun v54 =>
          fX4_whatIs_L122 K61 fuel M x0 x1 x2 x3 x4 x5 x6 v53 v54
      else
        lt_ ((x7 &&& 1)) fun v47 =>
        lt_ (x8 + 1) fun v48 =>
        fX4_whatIs_L122 K61 fuel M x0 x1 x2 x3 x4 x5 x6 v47 v48
def fX4_whatIs_L61 : Nat → Mem_ → Nat → Int32 → Int32 → Int32 → Int32 → Int32 → Int32 → Option (Int32 × Mem_)
  | 0, _, _, _, _, _, _, _, _ => none
  | fuel + 1, M, x0, x1, x2, x3, x4, x5, x6 =>
    if x3 = 0 then
      if 8 ≤ x6 then
        some (x5, M)
      else
        (gR_ M x0 3 0).bind fun v26 =>
        (gR_ M x0 3 1).bind fun v27 =>
        (fX4_copies M v26 v27).bind fun M29 =>
        if x3 = 0 then
          (gR_ M29 x0 3 1).bind fun v32 =>
          lt_ (fX4_ofS x2 0) fun r33 =>
          (sI_ M29 v32 0 r33 x6).bind fun M34 =>
          fX4_whatIs_L122 (fX4_whatIs_L61 fuel) 1000 M34 x0 x1 x2 x3 x4 x5 x6 1 0
        else
          (gR_ M29 x0 3 1).bind fun v30 =>
          (sI_ M29 v30 0 3 (x6 - 1)).bind fun M31 =>
          fX4_whatIs_L122 (fX4_whatIs_L61 fuel) 1000 M31 x0 x1 x2 x3 x4 x5 x6 1 0
    else
      if 3 ≤ x6 then
        some (x5, M)
      else
        (gR_ M x0 3 0).bind fun v15 =>
        (gR_ M x0 3 1).bind fun v16 =>
        (fX4_copies M v15 v16).bind fun M18 =>
        if x3 = 0 then
          (gR_ M18 x0 3 1).bind fun v21 =>
          lt_ (fX4_ofS x2 0) fun r22 =>
          (sI_ M18 v21 0 r22 x6).bind fun M23 =>
          fX4_whatIs_L122 (fX4_whatIs_L61 fuel) 1000 M23 x0 x1 x2 x3 x4 x5 x6 1 0
        else
          (gR_ M18 x0 3 1).bind fun v19 =>
          (sI_ M18 v19 0 3 (x6 - 1)).bind fun M20 =>
          fX4_whatIs_L122 (fX4_whatIs_L61 fuel) 1000 M20 x0 x1 x2 x3 x4 x5 x6 1 0
def fX4_whatIs (M : Mem_) (a0 : Nat) (a1 : Int32) (a2 : Int32) (a3 : Int32) : Option (Int32 × Mem_) :=
  (ck_ M a0 3).bind fun u1 =>
  (fX4_isStroke M a0 a2).bind fun r2 =>
  if (b2_ r2) = 0 then
    some ((-1), M)
  else
    lt_ (fX4_isIn a3 0 1) fun r3 =>
    if (b2_ r3) = 0 then
      some ((-1), M)
    else
      (ck_ M a0 3).bind fun u4 =>
      (fX4_wrongRow M a0 a1 (-1)).bind fun r5 =>
      if r5 = 0 then
        (gR_ M a0 3 17).bind fun v7 =>
        (aI_ M v7 0 a1).bind fun v8 =>
        if v8 ≤ 9 then
          if r5 = 0 then
            fX4_whatIs_L61 1000 M a0 a1 a2 a3 r5 0 0
          else
            some (r5, M)
        else
          some ((-13), M)
      else
        if r5 = 0 then
          fX4_whatIs_L61 1000 M a0 a1 a2 a3 r5 0 0
        else
          some (r5, M)
theorem kdX4_whatIs : yX4_whatIs.cls ≠ "java/lang/invoke/MethodHandle" ∧ yX4_whatIs.cls ≠ "java/lang/invoke/VarHandle" ∧ (parseMethodDescriptor yX4_whatIs.desc).map (fun d => d.parameters.length) = some 3 := by decide +kernel
set_option maxHeartbeats 4000000 in
theorem mX4_whatIs (l : Launch) (G : GT_) (M : Mem_) (n : Nat) (a0 : Nat) (a1 : Int32) (a2 : Int32) (a3 : Int32) (r : Int32) (M1 : Mem_) (hf : fX4_whatIs M a0 a1 a2 a3 = some (r, M1)) : Ct_ G l yX4_whatIs (ws_ yX4_whatIs cX4_whatIs 9 (some .int)) ({ frames := 3, cells := 0, slots := 0, locals := 64 }) 0 0 [.ref a0, .int a1, .int a2, .int a3] M n (some (.int r)) M1 n := by
  refine en_ (by decide) (Nat.le_of_ble_eq_true rfl) ?_
  intro p e s m below meth c hx hb hr hlk hml hown hts hname hKn hH ls hl
  have hown : s.vm.findClass RX4 = some m.cls := hown
  have hl : lv_has ls 9 [(0, .ref a0), (1, .int a1), (2, .int a2), (3, .int a3)] := hl
  have w122 : ∀ (K61 : Mem_ → Nat → Int32 → Int32 → Int32 → Int32 → Int32 → Int32 → Option (Int32 × Mem_)), (∀ (M : Mem_) (x0 : Nat) (x1 : Int32) (x2 : Int32) (x3 : Int32) (x4 : Int32) (x5 : Int32) (x6 : Int32) (H : Heap) (locs : List Loc) (ls : Array Slot), St_ G n M s H locs → lv_has ls 9 [(0, .ref x0), (1, .int x1), (2, .int x2), (3, .int x3), (4, .int x4), (5, .int x5), (6, .int x6)] → K61 M x0 x1 x2 x3 x4 x5 x6 = some (r, M1) → W p l e ({ frames := 3, cells := 0, slots := 0, locals := 64 } : Room) s m ([.ref a0, .int a1, .int a2, .int a3] : List Value).toArray below meth c H locs 0 0 (MQ below (Qc_ G (some (.int r)) M1 n) ([.ref a0, .int a1, .int a2, .int a3] : List Value).toArray s 0 0 (fun q => G.1 ≤ q)) (F0 m 61 ls [])) → ∀ (fuel : Nat), ∀ (M : Mem_) (x0 : Nat) (x1 : Int32) (x2 : Int32) (x3 : Int32) (x4 : Int32) (x5 : Int32) (x6 : Int32) (x7 : Int32) (x8 : Int32) (H : Heap) (locs : List Loc) (ls : Array Slot), St_ G n M s H locs → lv_has ls 9 [(0, .ref x0), (1, .int x1), (2, .int x2), (3, .int x3), (4, .int x4), (5, .int x5), (6, .int x6), (7, .int x7), (8, .int x8)] → fX4_whatIs_L122 K61 fuel M x0 x1 x2 x3 x4 x5 x6 x7 x8 = some (r, M1) → W p l e ({ frames := 3, cells := 0, slots := 0, locals := 64 } : Room) s m ([.ref a0, .int a1, .int a2, .int a3] : List Value).toArray below meth c H locs 0 0 (MQ below (Qc_ G (some (.int r)) M1 n) ([.ref a0, .int a1, .int a2, .int a3] : List Value).toArray s 0 0 (fun q => G.1 ≤ q)) (F0 m 122 ls []) := by
    intro K61 hK61 fuel
    induction fuel with
    | zero =>
      intro M x0 x1 x2 x3 x4 x5 x6 x7 x8 H locs ls hH hl hf
      cases hf
    | succ fuel ih =>
      intro M x0 x1 x2 x3 x4 x5 x6 x7 x8 H locs ls hH hl hf
      unfold fX4_whatIs_L122 at hf
      refine lv_iload hx hb dX4_whatIs_122 (lv_at hl 8 rfl) ?_
      refine lv_aload_n hx hb dX4_whatIs_124 rfl (lv_at hl 0 rfl) ?_
      obtain ⟨v38, ev38, hf⟩ := bs_ hf
      refine mg_gR hx hb hts hown hKn hH ev38 in_X4 rfl (by decide) (hts _ q1193) (fun _ h9 => h9) dX4_whatIs_125 ?_
      refine lv_iload_n hx hb dX4_whatIs_128 rfl (lv_at hl 1 rfl) ?_
      obtain ⟨v39, ev39, hf⟩ := bs_ hf
      refine mg_iald hx hb hKn hH ev39 dX4_whatIs_129 ?_
      refine lv_icmp_ge (tgt := 184) hx hb dX4_whatIs_130 (by decide) (fun c59 => ?_) (fun c59 => ?_)
      · have hf := ip_ c59 hf
        refine lv_iload hx hb dX4_whatIs_184 (lv_at hl 5 rfl) ?_
        refine lv_iload hx hb dX4_whatIs_186 (lv_at hl 7 rfl) ?_
        refine lv_if_eq (tgt := 198) hx hb dX4_whatIs_188 (by decide) (fun c44 => ?_) (fun c44 => ?_)
        · have hf := ip_ c44 hf
          refine lv_iconst (v := 0) hx hb dX4_whatIs_198 (by decide) ?_
          refine lv_ior hx hb dX4_whatIs_199 ?_
          refine lv_topi (fun v40 ev40 => ?_)
          have hf := lu_ ev40 hf
          refine lv_istore (lv' := [(5, .int v40), (0, .ref x0), (1, .int x1), (2, .int x2), (3, .int x3), (4, .int x4), (6, .int x6), (7, .int x7), (8, .int x8)]) hx hb dX4_whatIs_200 hl (by decide) rfl (fun ls hl => ?_)
          obtain ⟨v41, ev41⟩ : ∃ z : Int32, z = x6 + 1 := ⟨_, rfl⟩
          have hf := lu_ ev41 hf
          refine lv_iinc (v := v41) (lv' := [(6, .int v41), (5, .int v40), (0, .ref x0), (1, .int x1), (2, .int x2), (3, .int x3), (4, .int x4), (7, .int x7), (8, .int x8)]) hx hb dX4_whatIs_202 hl (k := 6) rfl (by rw [ev41]; rfl) (by decide) rfl (fun ls hl => ?_)
          refine lv_goto (tgt := 61) hx hb dX4_whatIs_205 (by decide) ?_
          exact hK61 M x0 x1 x2 x3 x4 v40 v41 _ _ ls hH (lv_sub hl [2, 3, 4, 5, 6, 1, 0] rfl) hf
        · have hf := in_ c44 hf
          refine lv_iconst (v := 1) hx hb dX4_whatIs_191 (by decide) ?_
          refine lv_iload hx hb dX4_whatIs_192 (lv_at hl 6 rfl) ?_
          refine lv_ishl hx hb dX4_whatIs_194 ?_
          refine lv_goto (tgt := 199) hx hb dX4_whatIs_195 (by decide) ?_
          refine lv_ior hx hb dX4_whatIs_199 ?_
          refine lv_topi (fun v42 ev42 => ?_)
          have hf := lu_ ev42 hf
          refine lv_istore (lv' := [(5, .int v42), (0, .ref x0), (1, .int x1), (2, .int x2), (3, .int x3), (4, .int x4), (6, .int x6), (7, .int x7), (8, .int x8)]) hx hb dX4_whatIs_200 hl (by decide) rfl (fun ls hl => ?_)
          obtain ⟨v43, ev43⟩ : ∃ z : Int32, z = x6 + 1 := ⟨_, rfl⟩
          have hf := lu_ ev43 hf
          refine lv_iinc (v := v43) (lv' := [(6, .int v43), (5, .int v42), (0, .ref x0), (1, .int x1), (2, .int x2), (3, .int x3), (4, .int x4), (7, .int x7), (8, .int x8)]) hx hb dX4_whatIs_202 hl (k := 6) rfl (by rw [ev43]; rfl) (by decide) rfl (fun ls hl => ?_)
          refine lv_goto (tgt := 61) hx hb dX4_whatIs_205 (by decide) ?_
          exact hK61 M x0 x1 x2 x3 x4 v42 v43 _ _ ls hH (lv_sub hl [2, 3, 4, 5, 6, 1, 0] rfl) hf
      · have hf := in_ c59 hf
        refine lv_iload hx hb dX4_whatIs_133 (lv_at hl 7 rfl) ?_
        refine lv_aload_n hx hb dX4_whatIs_135 rfl (lv_at hl 0 rfl) ?_
        refine lv_iload_n hx hb dX4_whatIs_136 rfl (lv_at hl 1 rfl) ?_
        refine lv_iload hx hb dX4_whatIs_137 (lv_at hl 8 rfl) ?_
        obtain ⟨u45, eu45, hf⟩ := bs_ hf
        obtain ⟨r46, er46, hf⟩ := bs_ hf
        refine cl_i0 hH (rn_V ⟨hx, hb, hml, hown, hts⟩ hKn hH (mX4_isSkipped l G M n x0 x1 x8 r46 er46) (cwV 2 hts (lw_V q1497 q1499 qs61 q70 q1500) rfl rfl rfl ⟨rfl, kdX4_isSkipped⟩ ⟨Nat.le_of_ble_eq_true rfl, Nat.le_of_ble_eq_true rfl⟩) eu45 rfl rfl hl.1 (Nat.le_of_ble_eq_true rfl) dX4_whatIs_139 ⟨(Nat.le_of_ble_eq_true rfl), (Nat.le_of_ble_eq_true rfl)⟩ rfl) (fun H locs hH => ?_)
        refine lv_if_ne (tgt := 170) hx hb dX4_whatIs_142 (by decide) (fun c58 => ?_) (fun c58 => ?_)
        · have hf := in_ c58 hf
          refine lv_iconst (v := 1) hx hb dX4_whatIs_170 (by decide) ?_
          refine lv_goto (tgt := 175) hx hb dX4_whatIs_171 (by decide) ?_
          refine lv_iand hx hb dX4_whatIs_175 ?_
          refine lv_topi (fun v47 ev47 => ?_)
          have hf := lu_ ev47 hf
          refine lv_istore (lv' := [(7, .int v47), (0, .ref x0), (1, .int x1), (2, .int x2), (3, .int x3), (4, .int x4), (5, .int x5), (6, .int x6), (8, .int x8)]) hx hb dX4_whatIs_176 hl (by decide) rfl (fun ls hl => ?_)
          obtain ⟨v48, ev48⟩ : ∃ z : Int32, z = x8 + 1 := ⟨_, rfl⟩
          have hf := lu_ ev48 hf
          refine lv_iinc (v := v48) (lv' := [(8, .int v48), (7, .int v47), (0, .ref x0), (1, .int x1), (2, .int x2), (3, .int x3), (4, .int x4), (5, .int x5), (6, .int x6)]) hx hb dX4_whatIs_178 hl (k := 8) rfl (by rw [ev48]; rfl) (by decide) rfl (fun ls hl => ?_)
          refine lv_goto (tgt := 122) hx hb dX4_whatIs_181 (by decide) ?_
          exact ih M x0 x1 x2 x3 x4 x5 x6 v47 v48 _ _ ls hH (lv_sub hl [2, 3, 4, 5, 6, 7, 8, 1, 0] rfl) hf
        · have hf := ip_ c58 hf
          refine lv_aload_n hx hb dX4_whatIs_145 rfl (lv_at hl 0 rfl) ?_
          obtain ⟨v49, ev49, hf⟩ := bs_ hf
          refine mg_gR hx hb hts hown hKn hH ev49 in_X4 rfl (by decide) (hts _ q1194) (fun _ h9 => h9) dX4_whatIs_146 ?_
          refine lv_bipush (v := 100) hx hb dX4_whatIs_149 (by decide) ?_
          refine lv_iload_n hx hb dX4_whatIs_151 rfl (lv_at hl 1 rfl) ?_
          refine lv_imul hx hb dX4_whatIs_152 ?_
          refine lv_iload hx hb dX4_whatIs_153 (lv_at hl 8 rfl) ?_
          refine lv_iadd hx hb dX4_whatIs_155 ?_
          obtain ⟨v50, ev50, hf⟩ := bs_ hf
          refine mg_iald hx hb hKn hH ev50 dX4_whatIs_156 ?_
          refine lv_aload_n hx hb dX4_whatIs_157 rfl (lv_at hl 0 rfl) ?_
          obtain ⟨v51, ev51, hf⟩ := bs_ hf
          refine mg_gR hx hb hts hown hKn hH ev51 in_X4 rfl (by decide) (hts _ q1177) (fun _ h9 => h9) dX4_whatIs_158 ?_
          refine lv_iload_n hx hb dX4_whatIs_161 rfl (lv_at hl 2 rfl) ?_
          refine lv_iload hx hb dX4_whatIs_162 (lv_at hl 8 rfl) ?_
          obtain ⟨r52, er52, hf⟩ := bs_ hf
          refine cl_i0 hH (rn_S ⟨hx, hb, hml, hown, hts⟩ hKn hH (mX4_fallsIn l G M n v51 x2 x8 r52 er52) (va_cwS 3 hts (lw_S q1298 q1299 q70 q1300) rfl rfl rfl kdX4_fallsIn ⟨Nat.le_of_ble_eq_true rfl, Nat.le_of_ble_eq_true rfl⟩) rfl hl.1 (Nat.le_of_ble_eq_true rfl) dX4_whatIs_164 ⟨(Nat.le_of_ble_eq_true rfl), (Nat.le_of_ble_eq_true rfl)⟩ rfl) (fun H locs hH => ?_)
          refine lv_icmp_ne (tgt := 174) hx hb dX4_whatIs_167 (by decide) (fun c57 => ?_) (fun c57 => ?_)
          · have hf := in_ c57 hf
            refine lv_iconst (v := 0) hx hb dX4_whatIs_174 (by decide) ?_
            refine lv_iand hx hb dX4_whatIs_175 ?_
            refine lv_topi (fun v53 ev53 => ?_)
            have hf := lu_ ev53 hf
            refine lv_istore (lv' := [(7, .int v53), (0, .ref x0), (1, .int x1), (2, .int x2), (3, .int x3), (4, .int x4), (5, .int x5), (6, .int x6), (8, .int x8)]) hx hb dX4_whatIs_176 hl (by decide) rfl (fun ls hl => ?_)
            obtain ⟨v54, ev54⟩ : ∃ z : Int32, z = x8 + 1 := ⟨_, rfl⟩
            have hf := lu_ ev54 hf
            refine lv_iinc (v := v54) (lv' := [(8, .int v54), (7, .int v53), (0, .ref x0), (1, .int x1), (2, .int x2), (3, .int x3), (4, .int x4), (5, .int x5), (6, .int x6)]) hx hb dX4_whatIs_178 hl (k := 8) rfl (by rw [ev54]; rfl) (by decide) rfl (fun ls hl => ?_)
            refine lv_goto (tgt := 122) hx hb dX4_whatIs_181 (by decide) ?_
            exact ih M x0 x1 x2 x3 x4 x5 x6 v53 v54 _ _ ls hH (lv_sub hl [2, 3, 4, 5, 6, 7, 8, 1, 0] rfl) hf
          · have hf := ip_ c57 hf
            refine lv_iconst (v := 1) hx hb dX4_whatIs_170 (by decide) ?_
            refine lv_goto (tgt := 175) hx hb dX4_whatIs_171 (by decide) ?_
            refine lv_iand hx hb dX4_whatIs_175 ?_
            refine lv_topi (fun v55 ev55 => ?_)
            have hf := lu_ ev55 hf
            refine lv_istore (lv' := [(7, .int v55), (0, .ref x0), (1, .int x1), (2, .int x2), (3, .int x3), (4, .int x4), (5, .int x5), (6, .int x6), (8, .int x8)]) hx hb dX4_whatIs_176 hl (by decide) rfl (fun ls hl => ?_)
            obtain ⟨v56, ev56⟩ : ∃ z : Int32, z = x8 + 1 := ⟨_, rfl⟩
            have hf := lu_ ev56 hf
            refine lv_iinc (v := v56) (lv' := [(8, .int v56), (7, .int v55), (0, .ref x0), (1, .int x1), (2, .int x2), (3, .int x3), (4, .int x4), (5, .int x5), (6, .int x6)]) hx hb dX4_whatIs_178 hl (k := 8) rfl (by rw [ev56]; rfl) (by decide) rfl (fun ls hl => ?_)
            refine lv_goto (tgt := 122) hx hb dX4_whatIs_181 (by decide) ?_
            exact ih M x0 x1 x2 x3 x4 x5 x6 v55 v56 _ _ ls hH (lv_sub hl [2, 3, 4, 5, 6, 7, 8, 1, 0] rfl) hf
  have w61 : ∀ (fuel : Nat), ∀ (M : Mem_) (x0 : Nat) (x1 : Int32) (x2 : Int32) (x3 : Int32) (x4 : Int32) (x5 : Int32) (x6 : Int32) (H : Heap) (locs : List Loc) (ls : Array Slot), St_ G n M s H locs → lv_has ls 9 [(0, .ref x0), (1, .int x1), (2, .int x2), (3, .int x3), (4, .int x4), (5, .int x5), (6, .int x6)] → fX4_whatIs_L61 fuel M x0 x1 x2 x3 x4 x5 x6 = some (r, M1) → W p l e ({ frames := 3, cells := 0, slots := 0, locals := 64 } : Room) s m ([.ref a0, .int a1, .int a2, .int a3] : List Value).toArray below meth c H locs 0 0 (MQ below (Qc_ G (some (.int r)) M1 n) ([.ref a0, .int a1, .int a2, .int a3] : List Value).toArray s 0 0 (fun q => G.1 ≤ q)) (F0 m 61 ls []) := by
    intro fuel
    induction fuel with
    | zero =>
      intro M x0 x1 x2 x3 x4 x5 x6 H locs ls hH hl hf
      cases hf
    | succ fuel ih =>
      intro M x0 x1 x2 x3 x4 x5 x6 H locs ls hH hl hf
      unfold fX4_whatIs_L61 at hf
      refine lv_iload hx hb dX4_whatIs_61 (lv_at hl 6 rfl) ?_
      refine lv_iload_n hx hb dX4_whatIs_63 rfl (lv_at hl 3 rfl) ?_
      refine lv_if_ne (tgt := 72) hx hb dX4_whatIs_64 (by decide) (fun c37 => ?_) (fun c37 => ?_)
      · have hf := in_ c37 hf
        refine lv_iconst (v := 3) hx hb dX4_whatIs_72 (by decide) ?_
        refine lv_icmp_ge (tgt := 208) hx hb dX4_whatIs_73 (by decide) (fun c25 => ?_) (fun c25 => ?_)
        · have hf := ip_ c25 hf
          refine lv_iload hx hb dX4_whatIs_208 (lv_at hl 5 rfl) ?_
          cases hf
          exact rt_i hx hb hr hlk hH dX4_whatIs_210
        · have hf := in_ c25 hf
          refine lv_iconst (v := 1) hx hb dX4_whatIs_76 (by decide) ?_
          refine lv_istore (lv' := [(7, .int 1), (0, .ref x0), (1, .int x1), (2, .int x2), (3, .int x3), (4, .int x4), (5, .int x5), (6, .int x6)]) hx hb dX4_whatIs_77 hl (by decide) rfl (fun ls hl => ?_)
          refine lv_aload_n hx hb dX4_whatIs_79 rfl (lv_at hl 1 rfl) ?_
          obtain ⟨v15, ev15, hf⟩ := bs_ hf
          refine mg_gR hx hb hts hown hKn hH ev15 in_X4 rfl (by decide) (hts _ q1176) (fun _ h9 => h9) dX4_whatIs_80 ?_
          refine lv_aload_n hx hb dX4_whatIs_83 rfl (lv_at hl 1 rfl) ?_
          obtain ⟨v16, ev16, hf⟩ := bs_ hf
          refine mg_gR hx hb hts hown hKn hH ev16 in_X4 rfl (by decide) (hts _ q1177) (fun _ h9 => h9) dX4_whatIs_84 ?_
          obtain ⟨M18, er17, hf⟩ := bs_ hf
          refine cl_v0 hH (rn_S ⟨hx, hb, hml, hown, hts⟩ hKn hH (mX4_copies l G M n v15 v16 M18 er17) (va_cwS 2 hts (lw_S q1263 q1264 q70 q1265) rfl rfl rfl kdX4_copies ⟨Nat.le_of_ble_eq_true rfl, Nat.le_of_ble_eq_true rfl⟩) rfl hl.1 (Nat.le_of_ble_eq_true rfl) dX4_whatIs_87 ⟨(Nat.le_of_ble_eq_true rfl), (Nat.le_of_ble_eq_true rfl)⟩ rfl) (fun H locs hH => ?_)
          refine lv_iload_n hx hb dX4_whatIs_90 rfl (lv_at hl 4 rfl) ?_
          refine lv_if_ne (tgt := 109) hx hb dX4_whatIs_91 (by decide) (fun c24 => ?_) (fun c24 => ?_)
          · have hf := in_ c24 hf
            refine lv_aload_n hx hb dX4_whatIs_109 rfl (lv_at hl 1 rfl) ?_
            obtain ⟨v19, ev19, hf⟩ := bs_ hf
            refine mg_gR hx hb hts hown hKn hH ev19 in_X4 rfl (by decide) (hts _ q1177) (fun _ h9 => h9) dX4_whatIs_110 ?_
            refine lv_iconst (v := 3) hx hb dX4_whatIs_113 (by decide) ?_
            refine lv_iload hx hb dX4_whatIs_114 (lv_at hl 7 rfl) ?_
            refine lv_iconst (v := 1) hx hb dX4_whatIs_116 (by decide) ?_
            refine lv_isub hx hb dX4_whatIs_117 ?_
            obtain ⟨M20, eM20, hf⟩ := bs_ hf
            refine mg_iast hx hb hKn hH eM20 dX4_whatIs_118 (fun H locs hH => ?_)
            refine lv_iconst (v := 0) hx hb dX4_whatIs_119 (by decide) ?_
            refine lv_istore (lv' := [(8, .int 0), (7, .int 1), (0, .ref x0), (1, .int x1), (2, .int x2), (3, .int x3), (4, .int x4), (5, .int x5), (6, .int x6)]) hx hb dX4_whatIs_120 hl (by decide) rfl (fun ls hl => ?_)
            exact w122 _ ih 1000 M20 x0 x1 x2 x3 x4 x5 x6 1 0 _ _ ls hH (lv_sub hl [2, 3, 4, 5, 6, 7, 8, 1, 0] rfl) hf
          · have hf := ip_ c24 hf
            refine lv_aload_n hx hb dX4_whatIs_94 rfl (lv_at hl 1 rfl) ?_
            obtain ⟨v21, ev21, hf⟩ := bs_ hf
            refine mg_gR hx hb hts hown hKn hH ev21 in_X4 rfl (by decide) (hts _ q1177) (fun _ h9 => h9) dX4_whatIs_95 ?_
            refine lv_iload_n hx hb dX4_whatIs_98 rfl (lv_at hl 3 rfl) ?_
            refine lv_iconst (v := 0) hx hb dX4_whatIs_99 (by decide) ?_
            obtain ⟨r22, er22⟩ : ∃ z, z = fX4_ofS x2 0 := ⟨_, rfl⟩
            have hf := lu_ er22 hf
            refine cl_i0 hH (rn_S ⟨hx, hb, hml, hown, hts⟩ hKn hH (mX4_ofS l G M18 n x2 0 r22 er22.symm) (va_cwS 2 hts (lw_S q1274 q1275 q70 q1276) rfl rfl rfl kdX4_ofS ⟨Nat.le_of_ble_eq_true rfl, Nat.le_of_ble_eq_true rfl⟩) rfl hl.1 (Nat.le_of_ble_eq_true rfl) dX4_whatIs_100 ⟨(Nat.le_of_ble_eq_true rfl), (Nat.le_of_ble_eq_true rfl)⟩ rfl) (fun H locs hH => ?_)
            refine lv_iload hx hb dX4_whatIs_103 (lv_at hl 7 rfl) ?_
            obtain ⟨M23, eM23, hf⟩ := bs_ hf
            refine mg_iast hx hb hKn hH eM23 dX4_whatIs_105 (fun H locs hH => ?_)
            refine lv_goto (tgt := 119) hx hb dX4_whatIs_106 (by decide) ?_
            refine lv_iconst (v := 0) hx hb dX4_whatIs_119 (by decide) ?_
            refine lv_istore (lv' := [(8, .int 0), (7, .int 1), (0, .ref x0), (1, .int x1), (2, .int x2), (3, .int x3), (4, .int x4), (5, .int x5), (6, .int x6)]) hx hb dX4_whatIs_120 hl (by decide) rfl (fun ls hl => ?_)
            exact w122 _ ih 1000 M23 x0 x1 x2 x3 x4 x5 x6 1 0 _ _ ls hH (lv_sub hl [2, 3, 4, 5, 6, 7, 8, 1, 0] rfl) hf
      · have hf := ip_ c37 hf
        refine lv_bipush (v := 8) hx hb dX4_whatIs_67 (by decide) ?_
        refine lv_goto (tgt := 73) hx hb dX4_whatIs_69 (by decide) ?_
        refine lv_icmp_ge (tgt := 208) hx hb dX4_whatIs_73 (by decide) (fun c36 => ?_) (fun c36 => ?_)
        · have hf := ip_ c36 hf
          refine lv_iload hx hb dX4_whatIs_208 (lv_at hl 5 rfl) ?_
          cases hf
          exact rt_i hx hb hr hlk hH dX4_whatIs_210
        · have hf := in_ c36 hf
          refine lv_iconst (v := 1) hx hb dX4_whatIs_76 (by decide) ?_
          refine lv_istore (lv' := [(7, .int 1), (0, .ref x0), (1, .int x1), (2, .int x2), (3, .int x3), (4, .int x4), (5, .int x5), (6, .int x6)]) hx hb dX4_whatIs_77 hl (by decide) rfl (fun ls hl => ?_)
          refine lv_aload_n hx hb dX4_whatIs_79 rfl (lv_at hl 1 rfl) ?_
          obtain ⟨v26, ev26, hf⟩ := bs_ hf
          refine mg_gR hx hb hts hown hKn hH ev26 in_X4 rfl (by decide) (hts _ q1176) (fun _ h9 => h9) dX4_whatIs_80 ?_
          refine lv_aload_n hx hb dX4_whatIs_83 rfl (lv_at hl 1 rfl) ?_
          obtain ⟨v27, ev27, hf⟩ := bs_ hf
          refine mg_gR hx hb hts hown hKn hH ev27 in_X4 rfl (by decide) (hts _ q1177) (fun _ h9 => h9) dX4_whatIs_84 ?_
          obtain ⟨M29, er28, hf⟩ := bs_ hf
          refine cl_v0 hH (rn_S ⟨hx, hb, hml, hown, hts⟩ hKn hH (mX4_copies l G M n v26 v27 M29 er28) (va_cwS 2 hts (lw_S q1263 q1264 q70 q1265) rfl rfl rfl kdX4_copies ⟨Nat.le_of_ble_eq_true rfl, Nat.le_of_ble_eq_true rfl⟩) rfl hl.1 (Nat.le_of_ble_eq_true rfl) dX4_whatIs_87 ⟨(Nat.le_of_ble_eq_true rfl), (Nat.le_of_ble_eq_true rfl)⟩ rfl) (fun H locs hH => ?_)
          refine lv_iload_n hx hb dX4_whatIs_90 rfl (lv_at hl 4 rfl) ?_
          refine lv_if_ne (tgt := 109) hx hb dX4_whatIs_91 (by decide) (fun c35 => ?_) (fun c35 => ?_)
          · have hf := in_ c35 hf
            refine lv_aload_n hx hb dX4_whatIs_109 rfl (lv_at hl 1 rfl) ?_
            obtain ⟨v30, ev30, hf⟩ := bs_ hf
            refine mg_gR hx hb hts hown hKn hH ev30 in_X4 rfl (by decide) (hts _ q1177) (fun _ h9 => h9) dX4_whatIs_110 ?_
            refine lv_iconst (v := 3) hx hb dX4_whatIs_113 (by decide) ?_
            refine lv_iload hx hb dX4_whatIs_114 (lv_at hl 7 rfl) ?_
            refine lv_iconst (v := 1) hx hb dX4_whatIs_116 (by decide) ?_
            refine lv_isub hx hb dX4_whatIs_117 ?_
            obtain ⟨M31, eM31, hf⟩ := bs_ hf
            refine mg_iast hx hb hKn hH eM31 dX4_whatIs_118 (fun H locs hH => ?_)
            refine lv_iconst (v := 0) hx hb dX4_whatIs_119 (by decide) ?_
            refine lv_istore (lv' := [(8, .int 0), (7, .int 1), (0, .ref x0), (1, .int x1), (2, .int x2), (3, .int x3), (4, .int x4), (5, .int x5), (6, .int x6)]) hx hb dX4_whatIs_120 hl (by decide) rfl (fun ls hl => ?_)
            exact w122 _ ih 1000 M31 x0 x1 x2 x3 x4 x5 x6 1 0 _ _ ls hH (lv_sub hl [2, 3, 4, 5, 6, 7, 8, 1, 0] rfl) hf
          · have hf := ip_ c35 hf
            refine lv_aload_n hx hb dX4_whatIs_94 rfl (lv_at hl 1 rfl) ?_
            obtain ⟨v32, ev32, hf⟩ := bs_ hf
            refine mg_gR hx hb hts hown hKn hH ev32 in_X4 rfl (by decide) (hts _ q1177) (fun _ h9 => h9) dX4_whatIs_95 ?_
            refine lv_iload_n hx hb dX4_whatIs_98 rfl (lv_at hl 3 rfl) ?_
            refine lv_iconst (v := 0) hx hb dX4_whatIs_99 (by decide) ?_
            obtain ⟨r33, er33⟩ : ∃ z, z = fX4_ofS x2 0 := ⟨_, rfl⟩
            have hf := lu_ er33 hf
            refine cl_i0 hH (rn_S ⟨hx, hb, hml, hown, hts⟩ hKn hH (mX4_ofS l G M29 n x2 0 r33 er33.symm) (va_cwS 2 hts (lw_S q1274 q1275 q70 q1276) rfl rfl rfl kdX4_ofS ⟨Nat.le_of_ble_eq_true rfl, Nat.le_of_ble_eq_true rfl⟩) rfl hl.1 (Nat.le_of_ble_eq_true rfl) dX4_whatIs_100 ⟨(Nat.le_of_ble_eq_true rfl), (Nat.le_of_ble_eq_true rfl)⟩ rfl) (fun H locs hH => ?_)
            refine lv_iload hx hb dX4_whatIs_103 (lv_at hl 7 rfl) ?_
            obtain ⟨M34, eM34, hf⟩ := bs_ hf
            refine mg_iast hx hb hKn hH eM34 dX4_whatIs_105 (fun H locs hH => ?_)
            refine lv_goto (tgt := 119) hx hb dX4_whatIs_106 (by decide) ?_
            refine lv_iconst (v := 0) hx hb dX4_whatIs_119 (by decide) ?_
            refine lv_istore (lv' := [(8, .int 0), (7, .int 1), (0, .ref x0), (1, .int x1), (2, .int x2), (3, .int x3), (4, .int x4), (5, .int x5), (6, .int x6)]) hx hb dX4_whatIs_120 hl (by decide) rfl (fun ls hl => ?_)
            exact w122 _ ih 1000 M34 x0 x1 x2 x3 x4 x5 x6 1 0 _ _ ls hH (lv_sub hl [2, 3, 4, 5, 6, 7, 8, 1, 0] rfl) hf
  unfold fX4_whatIs at hf
  refine lv_aload_n hx hb dX4_whatIs_0 rfl (lv_at hl 0 rfl) ?_
  refine lv_iload_n hx hb dX4_whatIs_1 rfl (lv_at hl 2 rfl) ?_
  obtain ⟨u1, eu1, hf⟩ := bs_ hf
  obtain ⟨r2, er2, hf⟩ := bs_ hf
  refine cl_i0 hH (rn_V ⟨hx, hb, hml, hown, hts⟩ hKn hH (mX4_isStroke l G M n a0 a2 r2 er2) (cwV 1 hts (lw_V q1283 q1285 qs44 q70 q1286) rfl rfl rfl ⟨rfl, kdX4_isStroke⟩ ⟨Nat.le_of_ble_eq_true rfl, Nat.le_of_ble_eq_true rfl⟩) eu1 rfl rfl hl.1 (Nat.le_of_ble_eq_true rfl) dX4_whatIs_2 ⟨(Nat.le_of_ble_eq_true rfl), (Nat.le_of_ble_eq_true rfl)⟩ rfl) (fun H locs hH => ?_)
  refine lv_if_eq (tgt := 17) hx hb dX4_whatIs_5 (by decide) (fun c14 => ?_) (fun c14 => ?_)
  · have hf := ip_ c14 hf
    refine lv_iconst (v := (-1)) hx hb dX4_whatIs_17 (by decide) ?_
    cases hf
    exact rt_i hx hb hr hlk hH dX4_whatIs_18
  · have hf := in_ c14 hf
    refine lv_iload_n hx hb dX4_whatIs_8 rfl (lv_at hl 3 rfl) ?_
    refine lv_iconst (v := 0) hx hb dX4_whatIs_9 (by decide) ?_
    refine lv_iconst (v := 1) hx hb dX4_whatIs_10 (by decide) ?_
    obtain ⟨r3, er3⟩ : ∃ z, z = fX4_isIn a3 0 1 := ⟨_, rfl⟩
    have hf := lu_ er3 hf
    refine cl_i0 hH (rn_S ⟨hx, hb, hml, hown, hts⟩ hKn hH (mX4_isIn l G M n a3 0 1 r3 er3.symm) (va_cwS 3 hts (lw_S q1248 q1249 q70 q1250) rfl rfl rfl kdX4_isIn ⟨Nat.le_of_ble_eq_true rfl, Nat.le_of_ble_eq_true rfl⟩) rfl hl.1 (Nat.le_of_ble_eq_true rfl) dX4_whatIs_11 ⟨(Nat.le_of_ble_eq_true rfl), (Nat.le_of_ble_eq_true rfl)⟩ rfl) (fun H locs hH => ?_)
    refine lv_if_ne (tgt := 19) hx hb dX4_whatIs_14 (by decide) (fun c13 => ?_) (fun c13 => ?_)
    · have hf := in_ c13 hf
      refine lv_aload_n hx hb dX4_whatIs_19 rfl (lv_at hl 0 rfl) ?_
      refine lv_iload_n hx hb dX4_whatIs_20 rfl (lv_at hl 1 rfl) ?_
      refine lv_iconst (v := (-1)) hx hb dX4_whatIs_21 (by decide) ?_
      obtain ⟨u4, eu4, hf⟩ := bs_ hf
      obtain ⟨r5, er5, hf⟩ := bs_ hf
      refine cl_i0 hH (rn_V ⟨hx, hb, hml, hown, hts⟩ hKn hH (mX4_wrongRow l G M n a0 a1 (-1) r5 er5) (cwV 2 hts (lw_V q1241 q1243 qs38 q70 q1244) rfl rfl rfl ⟨rfl, kdX4_wrongRow⟩ ⟨Nat.le_of_ble_eq_true rfl, Nat.le_of_ble_eq_true rfl⟩) eu4 rfl rfl hl.1 (Nat.le_of_ble_eq_true rfl) dX4_whatIs_22 ⟨(Nat.le_of_ble_eq_true rfl), (Nat.le_of_ble_eq_true rfl)⟩ rfl) (fun H locs hH => ?_)
      refine lv_istore (lv' := [(4, .int r5), (0, .ref a0), (1, .int a1), (2, .int a2), (3, .int a3)]) hx hb dX4_whatIs_25 hl (by decide) rfl (fun ls hl => ?_)
      refine lv_iload hx hb dX4_whatIs_27 (lv_at hl 0 rfl) ?_
      refine lv_if_ne (tgt := 47) hx hb dX4_whatIs_29 (by decide) (fun c12 => ?_) (fun c12 => ?_)
      · have hf := in_ c12 hf
        refine lv_iload hx hb dX4_whatIs_47 (lv_at hl 0 rfl) ?_
        refine lv_if_eq (tgt := 55) hx hb dX4_whatIs_49 (by decide) (fun c6 => ?_) (fun c6 => ?_)
        · have hf := ip_ c6 hf
          refine lv_iconst (v := 0) hx hb dX4_whatIs_55 (by decide) ?_
          refine lv_istore (lv' := [(5, .int 0), (4, .int r5), (0, .ref a0), (1, .int a1), (2, .int a2), (3, .int a3)]) hx hb dX4_whatIs_56 hl (by decide) rfl (fun ls hl => ?_)
          refine lv_iconst (v := 0) hx hb dX4_whatIs_58 (by decide) ?_
          refine lv_istore (lv' := [(6, .int 0), (5, .int 0), (4, .int r5), (0, .ref a0), (1, .int a1), (2, .int a2), (3, .int a3)]) hx hb dX4_whatIs_59 hl (by decide) rfl (fun ls hl => ?_)
          exact w61 1000 M a0 a1 a2 a3 r5 0 0 _ _ ls hH (lv_sub hl [3, 4, 5, 6, 2, 1, 0] rfl) hf
        · have hf := in_ c6 hf
          refine lv_iload hx hb dX4_whatIs_52 (lv_at hl 0 rfl) ?_
          cases hf
          exact rt_i hx hb hr hlk hH dX4_whatIs_54
      · have hf := ip_ c12 hf
        refine lv_aload_n hx hb dX4_whatIs_32 rfl (lv_at hl 1 rfl) ?_
        obtain ⟨v7, ev7, hf⟩ := bs_ hf
        refine mg_gR hx hb hts hown hKn hH ev7 in_X4 rfl (by decide) (hts _ q1193) (fun _ h9 => h9) dX4_whatIs_33 ?_
        refine lv_iload_n hx hb dX4_whatIs_36 rfl (lv_at hl 2 rfl) ?_
        obtain ⟨v8, ev8, hf⟩ := bs_ hf
        refine mg_iald hx hb hKn hH ev8 dX4_whatIs_37 ?_
        refine lv_bipush (v := 9) hx hb dX4_whatIs_38 (by decide) ?_
        refine lv_icmp_le (tgt := 47) hx hb dX4_whatIs_40 (by decide) (fun c11 => ?_) (fun c11 => ?_)
        · have hf := ip_ c11 hf
          refine lv_iload hx hb dX4_whatIs_47 (lv_at hl 0 rfl) ?_
          refine lv_if_eq (tgt := 55) hx hb dX4_whatIs_49 (by decide) (fun c9 => ?_) (fun c9 => ?_)
          · have hf := ip_ c9 hf
            refine lv_iconst (v := 0) hx hb dX4_whatIs_55 (by decide) ?_
            refine lv_istore (lv' := [(5, .int 0), (4, .int r5), (0, .ref a0), (1, .int a1), (2, .int a2), (3, .int a3)]) hx hb dX4_whatIs_56 hl (by decide) rfl (fun ls hl => ?_)
            refine lv_iconst (v := 0) hx hb dX4_whatIs_58 (by decide) ?_
            refine lv_istore (lv' := [(6, .int 0), (5, .int 0), (4, .int r5), (0, .ref a0), (1, .int a1), (2, .int a2), (3, .int a3)]) hx hb dX4_whatIs_59 hl (by decide) rfl (fun ls hl => ?_)
            exact w61 1000 M a0 a1 a2 a3 r5 0 0 _ _ ls hH (lv_sub hl [3, 4, 5, 6, 2, 1, 0] rfl) hf
          · have hf := in_ c9 hf
            refine lv_iload hx hb dX4_whatIs_52 (lv_at hl 0 rfl) ?_
            cases hf
            exact rt_i hx hb hr hlk hH dX4_whatIs_54
        · have hf := in_ c11 hf
          refine lv_bipush (v := (-13)) hx hb dX4_whatIs_43 (by decide) ?_
          refine lv_istore (lv' := [(4, .int (-13)), (0, .ref a0), (1, .int a1), (2, .int a2), (3, .int a3)]) hx hb dX4_whatIs_45 hl (by decide) rfl (fun ls hl => ?_)
          refine lv_iload hx hb dX4_whatIs_47 (lv_at hl 0 rfl) ?_
          refine lv_if_eq (tgt := 55) hx hb dX4_whatIs_49 (by decide) (fun c10 => ?_) (fun c10 => ?_)
          · exact absurd c10 (by decide)
          · refine lv_iload hx hb dX4_whatIs_52 (lv_at hl 0 rfl) ?_
            cases hf
            exact rt_i hx hb hr hlk hH dX4_whatIs_54
    · have hf := ip_ c13 hf
      refine lv_iconst (v := (-1)) hx hb dX4_whatIs_17 (by decide) ?_
      cases hf
      exact rt_i hx hb hr hlk hH dX4_whatIs_18
def fX4_habits_L90 (K52 : Mem_ → Nat → Int32 → Int32 → Int32 → Int32 → Option (Int32 × Mem_)) : Nat → Mem_ → Nat → Int32 → Int32 → Int32 → Int32 → Int32 → Int32 → Option (Int32 × Mem_)
  | 0, _, _, _, _, _, _, _, _ => none
  | fuel + 1, M, x0, x1, x2, x3, x4, x5, x6 =>
    (gR_ M x0 3 17).bind fun v33 =>
    (aI_ M v33 0 x1).bind fun v34 =>
    if v34 ≤ x6 then
      if x5 = 0 then
        lt_ ((x3 ||| 0)) fun v35 =>
        lt_ (x4 + 1) fun v36 =>
        K52 M x0 x1 x2 v35 v36
      else
        lt_ ((x3 ||| (1 <<< (x4 &&& 31)))) fun v37 =>
        lt_ (x4 + 1) fun v38 =>
        K52 M x0 x1 x2 v37 v38
    else
      (ck_ M x0 3).bind fun u40 =>
      (fX4_isSkipped M x0 x1 x6).bind fun r41 =>
      if (b2_ r41) = 0 then
        (gR_ M x0 3 18).bind fun v44 =>
        (aI_ M v44 0 ((100 * x1) + x6)).bind fun v45 =>
        (gR_ M x0 3 1).bind fun v46 =>
        (ck_ M x0 3).bind fun u47 =>
        (fX4_otherSide M x0).bind fun r48 =>
        (gR_ M x0 3 1).bind fun v49 =>
        (fX4_fallsIn M v49 0 x6).bind fun r50 =>
        (fX4_whoseIn M v46 r48 r50).bind fun r51 =>
        if v45 = r51 then
          lt_ ((x5 &&& 1)) fun v54 =>
          lt_ (x6 + 1) fun v55 =>
          fX4_habits_L90 K52 fuel M x0 x1 x2 x3 x4 v54 v55
        else
          lt_ ((x5 &&& 0)) fun v52 =>
          lt_ (x6 + 1) fun v53 =>
          fX4_habits_L90 K52 fuel M x0 x1 x2 x3 x4 v52 v53
      else
        lt_ ((x5 &&& 1)) fun v42 =>
        lt_ (x6 + 1) fun v43 =>
        fX4_habits_L90 K52 fuel M x0 x1 x2 x3 x4 v42 v43
def fX4_habits_L52 : Nat → Mem_ → Nat → Int32 → Int32 → Int32 → Int32 → Option (Int32 × Mem_)
  | 0, _, _, _, _, _, _ => none
  | fuel + 1, M, x0, x1, x2, x3, x4 =>
    if 4 ≤ x4 then
      some (x3, M)
    else
      (gR_ M x0 3 0).bind fun v23 =>
      (gR_ M x0 3 1).bind fun v24 =>
      (fX4_copies M v23 v24).bind fun M26 =>
      (gR_ M26 x0 3 1).bind fun v27 =>
      (ck_ M26 x0 3).bind fun u28 =>
      (fX4_otherSide M26 x0).bind fun r29 =>
      lt_ (fX4_ofSide r29 1) fun r30 =>
      (sI_ M26 v27 0 r30 x4).bind fun M31 =>
      fX4_habits_L90 (fX4_habits_L52 fuel) 1000 M31 x0 x1 x2 x3 x4 1 0
def fX4_habits (M : Mem_) (a0 : Nat) (a1 : Int32) : Option (Int32 × Mem_) :=
  (ck_ M a0 3).bind fun u1 =>
  (fX4_wrongRow M a0 a1 (-1)).bind fun r2 =>
  if r2 = 0 then
    (gR_ M a0 3 17).bind fun v10 =>
    (aI_ M v10 0 a1).bind fun v11 =>
    if v11 ≤ 9 then
      if r2 = 0 then
        (gR_ M a0 3 0).bind fun v13 =>
        (aI_ M v13 0 0).bind fun v14 =>
        if v14 = 0 then
          some ((-3), M)
        else
          if r2 = 0 then
            fX4_habits_L52 1000 M a0 a1 r2 0 0
          else
            some (r2, M)
      else
        if r2 = 0 then
          fX4_habits_L52 1000 M a0 a1 r2 0 0
        else
          some (r2, M)
    else
      some ((-13), M)
  else
    if r2 = 0 then
      (gR_ M a0 3 0).bind fun v4 =>
      (aI_ M v4 0 0).bind fun v5 =>
      if v5 = 0 then
        some ((-3), M)
      else
        if r2 = 0 then
          fX4_habits_L52 1000 M a0 a1 r2 0 0
        else
          some (r2, M)
    else
      if r2 = 0 then
        fX4_habits_L52 1000 M a0 a1 r2 0 0
      else
        some (r2, M)
theorem kdX4_habits : yX4_habits.cls ≠ "java/lang/invoke/MethodHandle" ∧ yX4_habits.cls ≠ "java/lang/invoke/VarHandle" ∧ (parseMethodDescriptor yX4_habits.desc).map (fun d => d.parameters.length) = some 1 := by decide +kernel
set_option maxHeartbeats 4000000 in
theorem mX4_habits (l : Launch) (G : GT_) (M : Mem_) (n : Nat) (a0 : Nat) (a1 : Int32) (r : Int32) (M1 : Mem_) (hf : fX4_habits M a0 a1 = some (r, M1)) : Ct_ G l yX4_habits (ws_ yX4_habits cX4_habits 7 (some .int)) ({ frames := 3, cells := 0, slots := 0, locals := 69 }) 0 0 [.ref a0, .int a1] M n (some (.int r)) M1 n := by
  refine en_ (by decide) (Nat.le_of_ble_eq_true rfl) ?_
  intro p e s m below meth c hx hb hr hlk hml hown hts hname hKn hH ls hl
  have hown : s.vm.findClass RX4 = some m.cls := hown
  have hl : lv_has ls 7 [(0, .ref a0), (1, .int a1)] := hl
  have w90 : ∀ (K52 : Mem_ → Nat → Int32 → Int32 → Int32 → Int32 → Option (Int32 × Mem_)), (∀ (M : Mem_) (x0 : Nat) (x1 : Int32) (x2 : Int32) (x3 : Int32) (x4 : Int32) (H : Heap) (locs : List Loc) (ls : Array Slot), St_ G n M s H locs → lv_has ls 7 [(0, .ref x0), (1, .int x1), (2, .int x2), (3, .int x3), (4, .int x4)] → K52 M x0 x1 x2 x3 x4 = some (r, M1) → W p l e ({ frames := 3, cells := 0, slots := 0, locals := 69 } : Room) s m ([.ref a0, .int a1] : List Value).toArray below meth c H locs 0 0 (MQ below (Qc_ G (some (.int r)) M1 n) ([.ref a0, .int a1] : List Value).toArray s 0 0 (fun q => G.1 ≤ q)) (F0 m 52 ls [])) → ∀ (fuel : Nat), ∀ (M : Mem_) (x0 : Nat) (x1 : Int32) (x2 : Int32) (x3 : Int32) (x4 : Int32) (x5 : Int32) (x6 : Int32) (H : Heap) (locs : List Loc) (ls : Array Slot), St_ G n M s H locs → lv_has ls 7 [(0, .ref x0), (1, .int x1), (2, .int x2), (3, .int x3), (4, .int x4), (5, .int x5), (6, .int x6)] → fX4_habits_L90 K52 fuel M x0 x1 x2 x3 x4 x5 x6 = some (r, M1) → W p l e ({ frames := 3, cells := 0, slots := 0, locals := 69 } : Room) s m ([.ref a0, .int a1] : List Value).toArray below meth c H locs 0 0 (MQ below (Qc_ G (some (.int r)) M1 n) ([.ref a0, .int a1] : List Value).toArray s 0 0 (fun q => G.1 ≤ q)) (F0 m 90 ls []) := by
    intro K52 hK52 fuel
    induction fuel with
    | zero =>
      intro M x0 x1 x2 x3 x4 x5 x6 H locs ls hH hl hf
      cases hf
    | succ fuel ih =>
      intro M x0 x1 x2 x3 x4 x5 x6 H locs ls hH hl hf
      unfold fX4_habits_L90 at hf
      refine lv_iload hx hb dX4_habits_90 (lv_at hl 6 rfl) ?_
      refine lv_aload_n hx hb dX4_habits_92 rfl (lv_at hl 0 rfl) ?_
      obtain ⟨v33, ev33, hf⟩ := bs_ hf
      refine mg_gR hx hb hts hown hKn hH ev33 in_X4 rfl (by decide) (hts _ q1193) (fun _ h9 => h9) dX4_habits_93 ?_
      refine lv_iload_n hx hb dX4_habits_96 rfl (lv_at hl 1 rfl) ?_
      obtain ⟨v34, ev34, hf⟩ := bs_ hf
      refine mg_iald hx hb hKn hH ev34 dX4_habits_97 ?_
      refine lv_icmp_ge (tgt := 163) hx hb dX4_habits_98 (by decide) (fun c58 => ?_) (fun c58 => ?_)
      · have hf := ip_ c58 hf
        refine lv_iload_n hx hb dX4_habits_163 rfl (lv_at hl 3 rfl) ?_
        refine lv_iload hx hb dX4_habits_164 (lv_at hl 5 rfl) ?_
        refine lv_if_eq (tgt := 176) hx hb dX4_habits_166 (by decide) (fun c39 => ?_) (fun c39 => ?_)
        · have hf := ip_ c39 hf
          refine lv_iconst (v := 0) hx hb dX4_habits_176 (by decide) ?_
          refine lv_ior hx hb dX4_habits_177 ?_
          refine lv_topi (fun v35 ev35 => ?_)
          have hf := lu_ ev35 hf
          refine lv_istore_n (lv' := [(3, .int v35), (0, .ref x0), (1, .int x1), (2, .int x2), (4, .int x4), (5, .int x5), (6, .int x6)]) hx hb dX4_habits_178 rfl hl (by decide) rfl (fun ls hl => ?_)
          obtain ⟨v36, ev36⟩ : ∃ z : Int32, z = x4 + 1 := ⟨_, rfl⟩
          have hf := lu_ ev36 hf
          refine lv_iinc (v := v36) (lv' := [(4, .int v36), (3, .int v35), (0, .ref x0), (1, .int x1), (2, .int x2), (5, .int x5), (6, .int x6)]) hx hb dX4_habits_179 hl (k := 4) rfl (by rw [ev36]; rfl) (by decide) rfl (fun ls hl => ?_)
          refine lv_goto (tgt := 52) hx hb dX4_habits_182 (by decide) ?_
          exact hK52 M x0 x1 x2 v35 v36 _ _ ls hH (lv_sub hl [2, 3, 4, 1, 0] rfl) hf
        · have hf := in_ c39 hf
          refine lv_iconst (v := 1) hx hb dX4_habits_169 (by decide) ?_
          refine lv_iload hx hb dX4_habits_170 (lv_at hl 4 rfl) ?_
          refine lv_ishl hx hb dX4_habits_172 ?_
          refine lv_goto (tgt := 177) hx hb dX4_habits_173 (by decide) ?_
          refine lv_ior hx hb dX4_habits_177 ?_
          refine lv_topi (fun v37 ev37 => ?_)
          have hf := lu_ ev37 hf
          refine lv_istore_n (lv' := [(3, .int v37), (0, .ref x0), (1, .int x1), (2, .int x2), (4, .int x4), (5, .int x5), (6, .int x6)]) hx hb dX4_habits_178 rfl hl (by decide) rfl (fun ls hl => ?_)
          obtain ⟨v38, ev38⟩ : ∃ z : Int32, z = x4 + 1 := ⟨_, rfl⟩
          have hf := lu_ ev38 hf
          refine lv_iinc (v := v38) (lv' := [(4, .int v38), (3, .int v37), (0, .ref x0), (1, .int x1), (2, .int x2), (5, .int x5), (6, .int x6)]) hx hb dX4_habits_179 hl (k := 4) rfl (by rw [ev38]; rfl) (by decide) rfl (fun ls hl => ?_)
          refine lv_goto (tgt := 52) hx hb dX4_habits_182 (by decide) ?_
          exact hK52 M x0 x1 x2 v37 v38 _ _ ls hH (lv_sub hl [2, 3, 4, 1, 0] rfl) hf
      · have hf := in_ c58 hf
        refine lv_iload hx hb dX4_habits_101 (lv_at hl 5 rfl) ?_
        refine lv_aload_n hx hb dX4_habits_103 rfl (lv_at hl 0 rfl) ?_
        refine lv_iload_n hx hb dX4_habits_104 rfl (lv_at hl 1 rfl) ?_
        refine lv_iload hx hb dX4_habits_105 (lv_at hl 6 rfl) ?_
        obtain ⟨u40, eu40, hf⟩ := bs_ hf
        obtain ⟨r41, er41, hf⟩ := bs_ hf
        refine cl_i0 hH (rn_V ⟨hx, hb, hml, hown, hts⟩ hKn hH (mX4_isSkipped l G M n x0 x1 x6 r41 er41) (cwV 2 hts (lw_V q1497 q1499 qs61 q70 q1500) rfl rfl rfl ⟨rfl, kdX4_isSkipped⟩ ⟨Nat.le_of_ble_eq_true rfl, Nat.le_of_ble_eq_true rfl⟩) eu40 rfl rfl hl.1 (Nat.le_of_ble_eq_true rfl) dX4_habits_107 ⟨(Nat.le_of_ble_eq_true rfl), (Nat.le_of_ble_eq_true rfl)⟩ rfl) (fun H locs hH => ?_)
        refine lv_if_ne (tgt := 149) hx hb dX4_habits_110 (by decide) (fun c57 => ?_) (fun c57 => ?_)
        · have hf := in_ c57 hf
          refine lv_iconst (v := 1) hx hb dX4_habits_149 (by decide) ?_
          refine lv_goto (tgt := 154) hx hb dX4_habits_150 (by decide) ?_
          refine lv_iand hx hb dX4_habits_154 ?_
          refine lv_topi (fun v42 ev42 => ?_)
          have hf := lu_ ev42 hf
          refine lv_istore (lv' := [(5, .int v42), (0, .ref x0), (1, .int x1), (2, .int x2), (3, .int x3), (4, .int x4), (6, .int x6)]) hx hb dX4_habits_155 hl (by decide) rfl (fun ls hl => ?_)
          obtain ⟨v43, ev43⟩ : ∃ z : Int32, z = x6 + 1 := ⟨_, rfl⟩
          have hf := lu_ ev43 hf
          refine lv_iinc (v := v43) (lv' := [(6, .int v43), (5, .int v42), (0, .ref x0), (1, .int x1), (2, .int x2), (3, .int x3), (4, .int x4)]) hx hb dX4_habits_157 hl (k := 6) rfl (by rw [ev43]; rfl) (by decide) rfl (fun ls hl => ?_)
          refine lv_goto (tgt := 90) hx hb dX4_habits_160 (by decide) ?_
          exact ih M x0 x1 x2 x3 x4 v42 v43 _ _ ls hH (lv_sub hl [2, 3, 4, 5, 6, 1, 0] rfl) hf
        · have hf := ip_ c57 hf
          refine lv_aload_n hx hb dX4_habits_113 rfl (lv_at hl 0 rfl) ?_
          obtain ⟨v44, ev44, hf⟩ := bs_ hf
          refine mg_gR hx hb hts hown hKn hH ev44 in_X4 rfl (by decide) (hts _ q1194) (fun _ h9 => h9) dX4_habits_114 ?_
          refine lv_bipush (v := 100) hx hb dX4_habits_117 (by decide) ?_
          refine lv_iload_n hx hb dX4_habits_119 rfl (lv_at hl 1 rfl) ?_
          refine lv_imul hx hb dX4_habits_120 ?_
          refine lv_iload hx hb dX4_habits_121 (lv_at hl 6 rfl) ?_
          refine lv_iadd hx hb dX4_habits_123 ?_
          obtain ⟨v45, ev45, hf⟩ := bs_ hf
          refine mg_iald hx hb hKn hH ev45 dX4_habits_124 ?_
          refine lv_aload_n hx hb dX4_habits_125 rfl (lv_at hl 0 rfl) ?_
          obtain ⟨v46, ev46, hf⟩ := bs_ hf
          refine mg_gR hx hb hts hown hKn hH ev46 in_X4 rfl (by decide) (hts _ q1177) (fun _ h9 => h9) dX4_habits_126 ?_
          refine lv_aload_n hx hb dX4_habits_129 rfl (lv_at hl 0 rfl) ?_
          obtain ⟨u47, eu47, hf⟩ := bs_ hf
          obtain ⟨r48, er48, hf⟩ := bs_ hf
          refine cl_i0 hH (rn_V ⟨hx, hb, hml, hown, hts⟩ hKn hH (mX4_otherSide l G M n x0 r48 er48) (cwV 0 hts (lw_V q1404 q1406 qs52 q70 q1407) rfl rfl rfl ⟨rfl, kdX4_otherSide⟩ ⟨Nat.le_of_ble_eq_true rfl, Nat.le_of_ble_eq_true rfl⟩) eu47 rfl rfl hl.1 (Nat.le_of_ble_eq_true rfl) dX4_habits_130 ⟨(Nat.le_of_ble_eq_true rfl), (Nat.le_of_ble_eq_true rfl)⟩ rfl) (fun H locs hH => ?_)
          refine lv_aload_n hx hb dX4_habits_133 rfl (lv_at hl 0 rfl) ?_
          obtain ⟨v49, ev49, hf⟩ := bs_ hf
          refine mg_gR hx hb hts hown hKn hH ev49 in_X4 rfl (by decide) (hts _ q1177) (fun _ h9 => h9) dX4_habits_134 ?_
          refine lv_iconst (v := 0) hx hb dX4_habits_137 (by decide) ?_
          refine lv_iload hx hb dX4_habits_138 (lv_at hl 6 rfl) ?_
          obtain ⟨r50, er50, hf⟩ := bs_ hf
          refine cl_i0 hH (rn_S ⟨hx, hb, hml, hown, hts⟩ hKn hH (mX4_fallsIn l G M n v49 0 x6 r50 er50) (va_cwS 3 hts (lw_S q1298 q1299 q70 q1300) rfl rfl rfl kdX4_fallsIn ⟨Nat.le_of_ble_eq_true rfl, Nat.le_of_ble_eq_true rfl⟩) rfl hl.1 (Nat.le_of_ble_eq_true rfl) dX4_habits_140 ⟨(Nat.le_of_ble_eq_true rfl), (Nat.le_of_ble_eq_true rfl)⟩ rfl) (fun H locs hH => ?_)
          obtain ⟨r51, er51, hf⟩ := bs_ hf
          refine cl_i0 hH (rn_S ⟨hx, hb, hml, hown, hts⟩ hKn hH (mX4_whoseIn l G M n v46 r48 r50 r51 er51) (va_cwS 3 hts (lw_S q1307 q1308 q70 q1309) rfl rfl rfl kdX4_whoseIn ⟨Nat.le_of_ble_eq_true rfl, Nat.le_of_ble_eq_true rfl⟩) rfl hl.1 (Nat.le_of_ble_eq_true rfl) dX4_habits_143 ⟨(Nat.le_of_ble_eq_true rfl), (Nat.le_of_ble_eq_true rfl)⟩ rfl) (fun H locs hH => ?_)
          refine lv_icmp_ne (tgt := 153) hx hb dX4_habits_146 (by decide) (fun c56 => ?_) (fun c56 => ?_)
          · have hf := in_ c56 hf
            refine lv_iconst (v := 0) hx hb dX4_habits_153 (by decide) ?_
            refine lv_iand hx hb dX4_habits_154 ?_
            refine lv_topi (fun v52 ev52 => ?_)
            have hf := lu_ ev52 hf
            refine lv_istore (lv' := [(5, .int v52), (0, .ref x0), (1, .int x1), (2, .int x2), (3, .int x3), (4, .int x4), (6, .int x6)]) hx hb dX4_habits_155 hl (by decide) rfl (fun ls hl => ?_)
            obtain ⟨v53, ev53⟩ : ∃ z : Int32, z = x6 + 1 := ⟨_, rfl⟩
            have hf := lu_ ev53 hf
            refine lv_iinc (v := v53) (lv' := [(6, .int v53), (5, .int v52), (0, .ref x0), (1, .int x1), (2, .int x2), (3, .int x3), (4, .int x4)]) hx hb dX4_habits_157 hl (k := 6) rfl (by rw [ev53]; rfl) (by decide) rfl (fun ls hl => ?_)
            refine lv_goto (tgt := 90) hx hb dX4_habits_160 (by decide) ?_
            exact ih M x0 x1 x2 x3 x4 v52 v53 _ _ ls hH (lv_sub hl [2, 3, 4, 5, 6, 1, 0] rfl) hf
          · have hf := ip_ c56 hf
            refine lv_iconst (v := 1) hx hb dX4_habits_149 (by decide) ?_
            refine lv_goto (tgt := 154) hx hb dX4_habits_150 (by decide) ?_
            refine lv_iand hx hb dX4_habits_154 ?_
            refine lv_topi (fun v54 ev54 => ?_)
            have hf := lu_ ev54 hf
            refine lv_istore (lv' := [(5, .int v54), (0, .ref x0), (1, .int x1), (2, .int x2), (3, .int x3), (4, .int x4), (6, .int x6)]) hx hb dX4_habits_155 hl (by decide) rfl (fun ls hl => ?_)
            obtain ⟨v55, ev55⟩ : ∃ z : Int32, z = x6 + 1 := ⟨_, rfl⟩
            have hf := lu_ ev55 hf
            refine lv_iinc (v := v55) (lv' := [(6, .int v55), (5, .int v54), (0, .ref x0), (1, .int x1), (2, .int x2), (3, .int x3), (4, .int x4)]) hx hb dX4_habits_157 hl (k := 6) rfl (by rw [ev55]; rfl) (by decide) rfl (fun ls hl => ?_)
            refine lv_goto (tgt := 90) hx hb dX4_habits_160 (by decide) ?_
            exact ih M x0 x1 x2 x3 x4 v54 v55 _ _ ls hH (lv_sub hl [2, 3, 4, 5, 6, 1, 0] rfl) hf
  have w52 : ∀ (fuel : Nat), ∀ (M : Mem_) (x0 : Nat) (x1 : Int32) (x2 : Int32) (x3 : Int32) (x4 : Int32) (H : Heap) (locs : List Loc) (ls : Array Slot), St_ G n M s H locs → lv_has ls 7 [(0, .ref x0), (1, .int x1), (2, .int x2), (3, .int x3), (4, .int x4)] → fX4_habits_L52 fuel M x0 x1 x2 x3 x4 = some (r, M1) → W p l e ({ frames := 3, cells := 0, slots := 0, locals := 69 } : Room) s m ([.ref a0, .int a1] : List Value).toArray below meth c H locs 0 0 (MQ below (Qc_ G (some (.int r)) M1 n) ([.ref a0, .int a1] : List Value).toArray s 0 0 (fun q => G.1 ≤ q)) (F0 m 52 ls []) := by
    intro fuel
    induction fuel with
    | zero =>
      intro M x0 x1 x2 x3 x4 H locs ls hH hl hf
      cases hf
    | succ fuel ih =>
      intro M x0 x1 x2 x3 x4 H locs ls hH hl hf
      unfold fX4_habits_L52 at hf
      refine lv_iload hx hb dX4_habits_52 (lv_at hl 4 rfl) ?_
      refine lv_iconst (v := 4) hx hb dX4_habits_54 (by decide) ?_
      refine lv_icmp_ge (tgt := 185) hx hb dX4_habits_55 (by decide) (fun c32 => ?_) (fun c32 => ?_)
      · have hf := ip_ c32 hf
        refine lv_iload_n hx hb dX4_habits_185 rfl (lv_at hl 3 rfl) ?_
        cases hf
        exact rt_i hx hb hr hlk hH dX4_habits_186
      · have hf := in_ c32 hf
        refine lv_iconst (v := 1) hx hb dX4_habits_58 (by decide) ?_
        refine lv_istore (lv' := [(5, .int 1), (0, .ref x0), (1, .int x1), (2, .int x2), (3, .int x3), (4, .int x4)]) hx hb dX4_habits_59 hl (by decide) rfl (fun ls hl => ?_)
        refine lv_aload_n hx hb dX4_habits_61 rfl (lv_at hl 1 rfl) ?_
        obtain ⟨v23, ev23, hf⟩ := bs_ hf
        refine mg_gR hx hb hts hown hKn hH ev23 in_X4 rfl (by decide) (hts _ q1176) (fun _ h9 => h9) dX4_habits_62 ?_
        refine lv_aload_n hx hb dX4_habits_65 rfl (lv_at hl 1 rfl) ?_
        obtain ⟨v24, ev24, hf⟩ := bs_ hf
        refine mg_gR hx hb hts hown hKn hH ev24 in_X4 rfl (by decide) (hts _ q1177) (fun _ h9 => h9) dX4_habits_66 ?_
        obtain ⟨M26, er25, hf⟩ := bs_ hf
        refine cl_v0 hH (rn_S ⟨hx, hb, hml, hown, hts⟩ hKn hH (mX4_copies l G M n v23 v24 M26 er25) (va_cwS 2 hts (lw_S q1263 q1264 q70 q1265) rfl rfl rfl kdX4_copies ⟨Nat.le_of_ble_eq_true rfl, Nat.le_of_ble_eq_true rfl⟩) rfl hl.1 (Nat.le_of_ble_eq_true rfl) dX4_habits_69 ⟨(Nat.le_of_ble_eq_true rfl), (Nat.le_of_ble_eq_true rfl)⟩ rfl) (fun H locs hH => ?_)
        refine lv_aload_n hx hb dX4_habits_72 rfl (lv_at hl 1 rfl) ?_
        obtain ⟨v27, ev27, hf⟩ := bs_ hf
        refine mg_gR hx hb hts hown hKn hH ev27 in_X4 rfl (by decide) (hts _ q1177) (fun _ h9 => h9) dX4_habits_73 ?_
        refine lv_aload_n hx hb dX4_habits_76 rfl (lv_at hl 1 rfl) ?_
        obtain ⟨u28, eu28, hf⟩ := bs_ hf
        obtain ⟨r29, er29, hf⟩ := bs_ hf
        refine cl_i0 hH (rn_V ⟨hx, hb, hml, hown, hts⟩ hKn hH (mX4_otherSide l G M26 n x0 r29 er29) (cwV 0 hts (lw_V q1404 q1406 qs52 q70 q1407) rfl rfl rfl ⟨rfl, kdX4_otherSide⟩ ⟨Nat.le_of_ble_eq_true rfl, Nat.le_of_ble_eq_true rfl⟩) eu28 rfl rfl hl.1 (Nat.le_of_ble_eq_true rfl) dX4_habits_77 ⟨(Nat.le_of_ble_eq_true rfl), (Nat.le_of_ble_eq_true rfl)⟩ rfl) (fun H locs hH => ?_)
        refine lv_iconst (v := 1) hx hb dX4_habits_80 (by decide) ?_
        obtain ⟨r30, er30⟩ : ∃ z, z = fX4_ofSide r29 1 := ⟨_, rfl⟩
        have hf := lu_ er30 hf
        refine cl_i0 hH (rn_S ⟨hx, hb, hml, hown, hts⟩ hKn hH (mX4_ofSide l G M26 n r29 1 r30 er30.symm) (va_cwS 2 hts (lw_S q1173 q1174 q70 q1175) rfl rfl rfl kdX4_ofSide ⟨Nat.le_of_ble_eq_true rfl, Nat.le_of_ble_eq_true rfl⟩) rfl hl.1 (Nat.le_of_ble_eq_true rfl) dX4_habits_81 ⟨(Nat.le_of_ble_eq_true rfl), (Nat.le_of_ble_eq_true rfl)⟩ rfl) (fun H locs hH => ?_)
        refine lv_iload hx hb dX4_habits_84 (lv_at hl 5 rfl) ?_
        obtain ⟨M31, eM31, hf⟩ := bs_ hf
        refine mg_iast hx hb hKn hH eM31 dX4_habits_86 (fun H locs hH => ?_)
        refine lv_iconst (v := 0) hx hb dX4_habits_87 (by decide) ?_
        refine lv_istore (lv' := [(6, .int 0), (5, .int 1), (0, .ref x0), (1, .int x1), (2, .int x2), (3, .int x3), (4, .int x4)]) hx hb dX4_habits_88 hl (by decide) rfl (fun ls hl => ?_)
        exact w90 _ ih 1000 M31 x0 x1 x2 x3 x4 1 0 _ _ ls hH (lv_sub hl [2, 3, 4, 5, 6, 1, 0] rfl) hf
  unfold fX4_habits at hf
  refine lv_aload_n hx hb dX4_habits_0 rfl (lv_at hl 0 rfl) ?_
  refine lv_iload_n hx hb dX4_habits_1 rfl (lv_at hl 1 rfl) ?_
  refine lv_iconst (v := (-1)) hx hb dX4_habits_2 (by decide) ?_
  obtain ⟨u1, eu1, hf⟩ := bs_ hf
  obtain ⟨r2, er2, hf⟩ := bs_ hf
  refine cl_i0 hH (rn_V ⟨hx, hb, hml, hown, hts⟩ hKn hH (mX4_wrongRow l G M n a0 a1 (-1) r2 er2) (cwV 2 hts (lw_V q1241 q1243 qs38 q70 q1244) rfl rfl rfl ⟨rfl, kdX4_wrongRow⟩ ⟨Nat.le_of_ble_eq_true rfl, Nat.le_of_ble_eq_true rfl⟩) eu1 rfl rfl hl.1 (Nat.le_of_ble_eq_true rfl) dX4_habits_3 ⟨(Nat.le_of_ble_eq_true rfl), (Nat.le_of_ble_eq_true rfl)⟩ rfl) (fun H locs hH => ?_)
  refine lv_istore_n (lv' := [(2, .int r2), (0, .ref a0), (1, .int a1)]) hx hb dX4_habits_6 rfl hl (by decide) rfl (fun ls hl => ?_)
  refine lv_iload_n hx hb dX4_habits_7 rfl (lv_at hl 0 rfl) ?_
  refine lv_if_ne (tgt := 25) hx hb dX4_habits_8 (by decide) (fun c22 => ?_) (fun c22 => ?_)
  · have hf := in_ c22 hf
    refine lv_iload_n hx hb dX4_habits_25 rfl (lv_at hl 0 rfl) ?_
    refine lv_if_ne (tgt := 41) hx hb dX4_habits_26 (by decide) (fun c9 => ?_) (fun c9 => ?_)
    · have hf := in_ c9 hf
      refine lv_iload_n hx hb dX4_habits_41 rfl (lv_at hl 0 rfl) ?_
      refine lv_if_eq (tgt := 47) hx hb dX4_habits_42 (by decide) (fun c3 => ?_) (fun c3 => ?_)
      · have hf := ip_ c3 hf
        refine lv_iconst (v := 0) hx hb dX4_habits_47 (by decide) ?_
        refine lv_istore_n (lv' := [(3, .int 0), (2, .int r2), (0, .ref a0), (1, .int a1)]) hx hb dX4_habits_48 rfl hl (by decide) rfl (fun ls hl => ?_)
        refine lv_iconst (v := 0) hx hb dX4_habits_49 (by decide) ?_
        refine lv_istore (lv' := [(4, .int 0), (3, .int 0), (2, .int r2), (0, .ref a0), (1, .int a1)]) hx hb dX4_habits_50 hl (by decide) rfl (fun ls hl => ?_)
        exact w52 1000 M a0 a1 r2 0 0 _ _ ls hH (lv_sub hl [3, 4, 2, 1, 0] rfl) hf
      · have hf := in_ c3 hf
        refine lv_iload_n hx hb dX4_habits_45 rfl (lv_at hl 0 rfl) ?_
        cases hf
        exact rt_i hx hb hr hlk hH dX4_habits_46
    · have hf := ip_ c9 hf
      refine lv_aload_n hx hb dX4_habits_29 rfl (lv_at hl 1 rfl) ?_
      obtain ⟨v4, ev4, hf⟩ := bs_ hf
      refine mg_gR hx hb hts hown hKn hH ev4 in_X4 rfl (by decide) (hts _ q1176) (fun _ h9 => h9) dX4_habits_30 ?_
      refine lv_iconst (v := 0) hx hb dX4_habits_33 (by decide) ?_
      obtain ⟨v5, ev5, hf⟩ := bs_ hf
      refine mg_iald hx hb hKn hH ev5 dX4_habits_34 ?_
      refine lv_if_ne (tgt := 41) hx hb dX4_habits_35 (by decide) (fun c8 => ?_) (fun c8 => ?_)
      · have hf := in_ c8 hf
        refine lv_iload_n hx hb dX4_habits_41 rfl (lv_at hl 0 rfl) ?_
        refine lv_if_eq (tgt := 47) hx hb dX4_habits_42 (by decide) (fun c6 => ?_) (fun c6 => ?_)
        · have hf := ip_ c6 hf
          refine lv_iconst (v := 0) hx hb dX4_habits_47 (by decide) ?_
          refine lv_istore_n (lv' := [(3, .int 0), (2, .int r2), (0, .ref a0), (1, .int a1)]) hx hb dX4_habits_48 rfl hl (by decide) rfl (fun ls hl => ?_)
          refine lv_iconst (v := 0) hx hb dX4_habits_49 (by decide) ?_
          refine lv_istore (lv' := [(4, .int 0), (3, .int 0), (2, .int r2), (0, .ref a0), (1, .int a1)]) hx hb dX4_habits_50 hl (by decide) rfl (fun ls hl => ?_)
          exact w52 1000 M a0 a1 r2 0 0 _ _ ls hH (lv_sub hl [3, 4, 2, 1, 0] rfl) hf
        · have hf := in_ c6 hf
          refine lv_iload_n hx hb dX4_habits_45 rfl (lv_at hl 0 rfl) ?_
          cases hf
          exact rt_i hx hb hr hlk hH dX4_habits_46
      · have hf := ip_ c8 hf
        refine lv_bipush (v := (-3)) hx hb dX4_habits_38 (by decide) ?_
        refine lv_istore_n (lv' := [(2, .int (-3)), (0, .ref a0), (1, .int a1)]) hx hb dX4_habits_40 rfl hl (by decide) rfl (fun ls hl => ?_)
        refine lv_iload_n hx hb dX4_habits_41 rfl (lv_at hl 0 rfl) ?_
        refine lv_if_eq (tgt := 47) hx hb dX4_habits_42 (by decide) (fun c7 => ?_) (fun c7 => ?_)
        · exact absurd c7 (by decide)
        · refine lv_iload_n hx hb dX4_habits_45 rfl (lv_at hl 0 rfl) ?_
          cases hf
          exact rt_i hx hb hr hlk hH dX4_habits_46
  · have hf := ip_ c22 hf
    refine lv_aload_n hx hb dX4_habits_11 rfl (lv_at hl 1 rfl) ?_
    obtain ⟨v10, ev10, hf⟩ := bs_ hf
    refine mg_gR hx hb hts hown hKn hH ev10 in_X4 rfl (by decide) (hts _ q1193) (fun _ h9 => h9) dX4_habits_12 ?_
    refine lv_iload_n hx hb dX4_habits_15 rfl (lv_at hl 2 rfl) ?_
    obtain ⟨v11, ev11, hf⟩ := bs_ hf
    refine mg_iald hx hb hKn hH ev11 dX4_habits_16 ?_
    refine lv_bipush (v := 9) hx hb dX4_habits_17 (by decide) ?_
    refine lv_icmp_le (tgt := 25) hx hb dX4_habits_19 (by decide) (fun c21 => ?_) (fun c21 => ?_)
    · have hf := ip_ c21 hf
      refine lv_iload_n hx hb dX4_habits_25 rfl (lv_at hl 0 rfl) ?_
      refine lv_if_ne (tgt := 41) hx hb dX4_habits_26 (by decide) (fun c18 => ?_) (fun c18 => ?_)
      · have hf := in_ c18 hf
        refine lv_iload_n hx hb dX4_habits_41 rfl (lv_at hl 0 rfl) ?_
        refine lv_if_eq (tgt := 47) hx hb dX4_habits_42 (by decide) (fun c12 => ?_) (fun c12 => ?_)
        · have hf := ip_ c12 hf
          refine lv_iconst (v := 0) hx hb dX4_habits_47 (by decide) ?_
          refine lv_istore_n (lv' := [(3, .int 0), (2, .int r2), (0, .ref a0), (1, .int a1)]) hx hb dX4_habits_48 rfl hl (by decide) rfl (fun ls hl => ?_)
          refine lv_iconst (v := 0) hx hb dX4_habits_49 (by decide) ?_
          refine lv_istore (lv' := [(4, .int 0), (3, .int 0), (2, .int r2), (0, .ref a0), (1, .int a1)]) hx hb dX4_habits_50 hl (by decide) rfl (fun ls hl => ?_)
          exact w52 1000 M a0 a1 r2 0 0 _ _ ls hH (lv_sub hl [3, 4, 2, 1, 0] rfl) hf
        · have hf := in_ c12 hf
          refine lv_iload_n hx hb dX4_habits_45 rfl (lv_at hl 0 rfl) ?_
          cases hf
          exact rt_i hx hb hr hlk hH dX4_habits_46
      · have hf := ip_ c18 hf
        refine lv_aload_n hx hb dX4_habits_29 rfl (lv_at hl 1 rfl) ?_
        obtain ⟨v13, ev13, hf⟩ := bs_ hf
        refine mg_gR hx hb hts hown hKn hH ev13 in_X4 rfl (by decide) (hts _ q1176) (fun _ h9 => h9) dX4_habits_30 ?_
        refine lv_iconst (v := 0) hx hb dX4_habits_33 (by decide) ?_
        obtain ⟨v14, ev14, hf⟩ := bs_ hf
        refine mg_iald hx hb hKn hH ev14 dX4_habits_34 ?_
        refine lv_if_ne (tgt := 41) hx hb dX4_habits_35 (by decide) (fun c17 => ?_) (fun c17 => ?_)
        · have hf := in_ c17 hf
          refine lv_iload_n hx hb dX4_habits_41 rfl (lv_at hl 0 rfl) ?_
          refine lv_if_eq (tgt := 47) hx hb dX4_habits_42 (by decide) (fun c15 => ?_) (fun c15 => ?_)
          · have hf := ip_ c15 hf
            refine lv_iconst (v := 0) hx hb dX4_habits_47 (by decide) ?_
            refine lv_istore_n (lv' := [(3, .int 0), (2, .int r2), (0, .ref a0), (1, .int a1)]) hx hb dX4_habits_48 rfl hl (by decide) rfl (fun ls hl => ?_)
            refine lv_iconst (v := 0) hx hb dX4_habits_49 (by decide) ?_
            refine lv_istore (lv' := [(4, .int 0), (3, .int 0), (2, .int r2), (0, .ref a0), (1, .int a1)]) hx hb dX4_habits_50 hl (by decide) rfl (fun ls hl => ?_)
            exact w52 1000 M a0 a1 r2 0 0 _ _ ls hH (lv_sub hl [3, 4, 2, 1, 0] rfl) hf
          · have hf := in_ c15 hf
            refine lv_iload_n hx hb dX4_habits_45 rfl (lv_at hl 0 rfl) ?_
            cases hf
            exact rt_i hx hb hr hlk hH dX4_habits_46
        · have hf := ip_ c17 hf
          refine lv_bipush (v := (-3)) hx hb dX4_habits_38 (by decide) ?_
          refine lv_istore_n (lv' := [(2, .int (-3)), (0, .ref a0), (1, .int a1)]) hx hb dX4_habits_40 rfl hl (by decide) rfl (fun ls hl => ?_)
          refine lv_iload_n hx hb dX4_habits_41 rfl (lv_at hl 0 rfl) ?_
          refine lv_if_eq (tgt := 47) hx hb dX4_habits_42 (by decide) (fun c16 => ?_) (fun c16 => ?_)
          · exact absurd c16 (by decide)
          · refine lv_iload_n hx hb dX4_habits_45 rfl (lv_at hl 0 rfl) ?_
            cases hf
            exact rt_i hx hb hr hlk hH dX4_habits_46
    · have hf := in_ c21 hf
      refine lv_bipush (v := (-13)) hx hb dX4_habits_22 (by decide) ?_
      refine lv_istore_n (lv' := [(2, .int (-13)), (0, .ref a0), (1, .int a1)]) hx hb dX4_habits_24 rfl hl (by decide) rfl (fun ls hl => ?_)
      refine lv_iload_n hx hb dX4_habits_25 rfl (lv_at hl 0 rfl) ?_
      refine lv_if_ne (tgt := 41) hx hb dX4_habits_26 (by decide) (fun c19 => ?_) (fun c19 => ?_)
      · refine lv_iload_n hx hb dX4_habits_41 rfl (lv_at hl 0 rfl) ?_
        refine lv_if_eq (tgt := 47) hx hb dX4_habits_42 (by decide) (fun c20 => ?_) (fun c20 => ?_)
        · exact absurd c20 (by decide)
        · refine lv_iload_n hx hb dX4_habits_45 rfl (lv_at hl 0 rfl) ?_
          cases hf
          exact rt_i hx hb hr hlk hH dX4_habits_46
      · exact absurd c19 (by decide)
def fX4_costBy2_L39 : Nat → Mem_ → Nat → Int32 → Int32 → Int32 → Int32 → Int32 → Option (Int32 × Mem_)
  | 0, _, _, _, _, _, _, _ => none
  | fuel + 1, M, x0, x1, x2, x3, x4, x5 =>
    if 6 ≤ x5 then
      (gR_ M x0 3 1).bind fun v11 =>
      lt_ (fX4_ofP (2 * x1) 2) fun r12 =>
      (aI_ M v11 0 r12).bind fun v13 =>
      (gR_ M x0 3 1).bind fun v14 =>
      lt_ (fX4_ofP ((2 * x1) + 1) 2) fun r15 =>
      (aI_ M v14 0 r15).bind fun v16 =>
      if x4 = x1 then
        some (((v13 + v16) - 9), M)
      else
        some (((v13 + v16) - 0), M)
    else
      if x4 = 2 then
        (gR_ M x0 3 1).bind fun v25 =>
        (aI_ M v25 0 2).bind fun v26 =>
        lt_ (fX4_sideOf v26) fun r27 =>
        (gR_ M x0 3 1).bind fun v28 =>
        if (x5 - x5 / 2 * 2) = 0 then
          (ck_ M x0 3).bind fun u35 =>
          bw_ (fX4_hits M x0 v28 0 0) fun r36 M37 =>
          if (b2_ r36) = 0 then
            lt_ (x5 + 1) fun v38 =>
            fX4_costBy2_L39 fuel M37 x0 x1 x2 x3 x4 v38
          else
            lt_ (x5 + 1) fun v39 =>
            fX4_costBy2_L39 fuel M37 x0 x1 x2 x3 r27 v39
        else
          (ck_ M x0 3).bind fun u29 =>
          bw_ (fX4_hits M x0 v28 0 8) fun r30 M31 =>
          if (b2_ r30) = 0 then
            lt_ (x5 + 1) fun v32 =>
            fX4_costBy2_L39 fuel M31 x0 x1 x2 x3 x4 v32
          else
            lt_ (x5 + 1) fun v33 =>
            fX4_costBy2_L39 fuel M31 x0 x1 x2 x3 r27 v33
      else
        (gR_ M x0 3 1).bind fun v18 =>
        lt_ (fX4_ofP (2 * x1) 2) fun r19 =>
        (aI_ M v18 0 r19).bind fun v20 =>
        (gR_ M x0 3 1).bind fun v21 =>
        lt_ (fX4_ofP ((2 * x1) + 1) 2) fun r22 =>
        (aI_ M v21 0 r22).bind fun v23 =>
        if x4 = x1 then
          some (((v20 + v23) - 9), M)
        else
          some (((v20 + v23) - 0), M)
def fX4_costBy2 (M : Mem_) (a0 : Nat) (a1 : Int32) (a2 : Int32) (a3 : Int32) : Option (Int32 × Mem_) :=
  (gR_ M a0 3 0).bind fun v1 =>
  (gR_ M a0 3 1).bind fun v2 =>
  (fX4_copies M v1 v2).bind fun M4 =>
  (gR_ M4 a0 3 1).bind fun v5 =>
  lt_ (fX4_ofSide 0 0) fun r6 =>
  (sI_ M4 v5 0 r6 a2).bind fun M7 =>
  (gR_ M7 a0 3 1).bind fun v8 =>
  lt_ (fX4_ofSide 1 0) fun r9 =>
  (sI_ M7 v8 0 r9 a3).bind fun M10 =>
  fX4_costBy2_L39 1000 M10 a0 a1 a2 a3 2 0
theorem kdX4_costBy2 : yX4_costBy2.cls ≠ "java/lang/invoke/MethodHandle" ∧ yX4_costBy2.cls ≠ "java/lang/invoke/VarHandle" ∧ (parseMethodDescriptor yX4_costBy2.desc).map (fun d => d.parameters.length) = some 3 := by decide +kernel
set_option maxHeartbeats 4000000 in
theorem mX4_costBy2 (l : Launch) (G : GT_) (M : Mem_) (n : Nat) (a0 : Nat) (a1 : Int32) (a2 : Int32) (a3 : Int32) (r : Int32) (M1 : Mem_) (hf : fX4_costBy2 M a0 a1 a2 a3 = some (r, M1)) : Ct_ G l yX4_costBy2 (ws_ yX4_costBy2 cX4_costBy2 7 (some .int)) ({ frames := 4, cells := 0, slots := 0, locals := 99 }) 0 0 [.ref a0, .int a1, .int a2, .int a3] M n (some (.int r)) M1 n := by
  refine en_ (by decide) (Nat.le_of_ble_eq_true rfl) ?_
  intro p e s m below meth c hx hb hr hlk hml hown hts hname hKn hH ls hl
  have hown : s.vm.findClass RX4 = some m.cls := hown
  have hl : lv_has ls 7 [(0, .ref a0), (1, .int a1), (2, .int a2), (3, .int a3)] := hl
  have w39 : ∀ (fuel : Nat), ∀ (M : Mem_) (x0 : Nat) (x1 : Int32) (x2 : Int32) (x3 : Int32) (x4 : Int32) (x5 : Int32) (H : Heap) (locs : List Loc) (ls : Array Slot), St_ G n M s H locs → lv_has ls 7 [(0, .ref x0), (1, .int x1), (2, .int x2), (3, .int x3), (4, .int x4), (5, .int x5)] → fX4_costBy2_L39 fuel M x0 x1 x2 x3 x4 x5 = some (r, M1) → W p l e ({ frames := 4, cells := 0, slots := 0, locals := 99 } : Room) s m ([.ref a0, .int a1, .int a2, .int a3] : List Value).toArray below meth c H locs 0 0 (MQ below (Qc_ G (some (.int r)) M1 n) ([.ref a0, .int a1, .int a2, .int a3] : List Value).toArray s 0 0 (fun q => G.1 ≤ q)) (F0 m 39 ls []) := by
    intro fuel
    induction fuel with
    | zero =>
      intro M x0 x1 x2 x3 x4 x5 H locs ls hH hl hf
      cases hf
    | succ fuel ih =>
      intro M x0 x1 x2 x3 x4 x5 H locs ls hH hl hf
      unfold fX4_costBy2_L39 at hf
      refine lv_iload hx hb dX4_costBy2_39 (lv_at hl 5 rfl) ?_
      refine lv_bipush (v := 6) hx hb dX4_costBy2_41 (by decide) ?_
      refine lv_icmp_ge (tgt := 98) hx hb dX4_costBy2_43 (by decide) (fun c43 => ?_) (fun c43 => ?_)
      · have hf := ip_ c43 hf
        refine lv_aload_n hx hb dX4_costBy2_98 rfl (lv_at hl 0 rfl) ?_
        obtain ⟨v11, ev11, hf⟩ := bs_ hf
        refine mg_gR hx hb hts hown hKn hH ev11 in_X4 rfl (by decide) (hts _ q1177) (fun _ h9 => h9) dX4_costBy2_99 ?_
        refine lv_iconst (v := 2) hx hb dX4_costBy2_102 (by decide) ?_
        refine lv_iload_n hx hb dX4_costBy2_103 rfl (lv_at hl 1 rfl) ?_
        refine lv_imul hx hb dX4_costBy2_104 ?_
        refine lv_iconst (v := 2) hx hb dX4_costBy2_105 (by decide) ?_
        obtain ⟨r12, er12⟩ : ∃ z, z = fX4_ofP (2 * x1) 2 := ⟨_, rfl⟩
        have hf := lu_ er12 hf
        refine cl_i0 hH (rn_S ⟨hx, hb, hml, hown, hts⟩ hKn hH (mX4_ofP l G M n (2 * x1) 2 r12 er12.symm) (va_cwS 2 hts (lw_S q1170 q1171 q70 q1172) rfl rfl rfl kdX4_ofP ⟨Nat.le_of_ble_eq_true rfl, Nat.le_of_ble_eq_true rfl⟩) rfl hl.1 (Nat.le_of_ble_eq_true rfl) dX4_costBy2_106 ⟨(Nat.le_of_ble_eq_true rfl), (Nat.le_of_ble_eq_true rfl)⟩ rfl) (fun H locs hH => ?_)
        obtain ⟨v13, ev13, hf⟩ := bs_ hf
        refine mg_iald hx hb hKn hH ev13 dX4_costBy2_109 ?_
        refine lv_aload_n hx hb dX4_costBy2_110 rfl (lv_at hl 0 rfl) ?_
        obtain ⟨v14, ev14, hf⟩ := bs_ hf
        refine mg_gR hx hb hts hown hKn hH ev14 in_X4 rfl (by decide) (hts _ q1177) (fun _ h9 => h9) dX4_costBy2_111 ?_
        refine lv_iconst (v := 2) hx hb dX4_costBy2_114 (by decide) ?_
        refine lv_iload_n hx hb dX4_costBy2_115 rfl (lv_at hl 1 rfl) ?_
        refine lv_imul hx hb dX4_costBy2_116 ?_
        refine lv_iconst (v := 1) hx hb dX4_costBy2_117 (by decide) ?_
        refine lv_iadd hx hb dX4_costBy2_118 ?_
        refine lv_iconst (v := 2) hx hb dX4_costBy2_119 (by decide) ?_
        obtain ⟨r15, er15⟩ : ∃ z, z = fX4_ofP ((2 * x1) + 1) 2 := ⟨_, rfl⟩
        have hf := lu_ er15 hf
        refine cl_i0 hH (rn_S ⟨hx, hb, hml, hown, hts⟩ hKn hH (mX4_ofP l G M n ((2 * x1) + 1) 2 r15 er15.symm) (va_cwS 2 hts (lw_S q1170 q1171 q70 q1172) rfl rfl rfl kdX4_ofP ⟨Nat.le_of_ble_eq_true rfl, Nat.le_of_ble_eq_true rfl⟩) rfl hl.1 (Nat.le_of_ble_eq_true rfl) dX4_costBy2_120 ⟨(Nat.le_of_ble_eq_true rfl), (Nat.le_of_ble_eq_true rfl)⟩ rfl) (fun H locs hH => ?_)
        obtain ⟨v16, ev16, hf⟩ := bs_ hf
        refine mg_iald hx hb hKn hH ev16 dX4_costBy2_123 ?_
        refine lv_iadd hx hb dX4_costBy2_124 ?_
        refine lv_iload hx hb dX4_costBy2_125 (lv_at hl 4 rfl) ?_
        refine lv_iload_n hx hb dX4_costBy2_127 rfl (lv_at hl 1 rfl) ?_
        refine lv_icmp_ne (tgt := 136) hx hb dX4_costBy2_128 (by decide) (fun c17 => ?_) (fun c17 => ?_)
        · have hf := in_ c17 hf
          refine lv_iconst (v := 0) hx hb dX4_costBy2_136 (by decide) ?_
          refine lv_isub hx hb dX4_costBy2_137 ?_
          cases hf
          exact rt_i hx hb hr hlk hH dX4_costBy2_138
        · have hf := ip_ c17 hf
          refine lv_bipush (v := 9) hx hb dX4_costBy2_131 (by decide) ?_
          refine lv_goto (tgt := 137) hx hb dX4_costBy2_133 (by decide) ?_
          refine lv_isub hx hb dX4_costBy2_137 ?_
          cases hf
          exact rt_i hx hb hr hlk hH dX4_costBy2_138
      · have hf := in_ c43 hf
        refine lv_iload hx hb dX4_costBy2_46 (lv_at hl 4 rfl) ?_
        refine lv_iconst (v := 2) hx hb dX4_costBy2_48 (by decide) ?_
        refine lv_icmp_ne (tgt := 98) hx hb dX4_costBy2_49 (by decide) (fun c42 => ?_) (fun c42 => ?_)
        · have hf := in_ c42 hf
          refine lv_aload_n hx hb dX4_costBy2_98 rfl (lv_at hl 0 rfl) ?_
          obtain ⟨v18, ev18, hf⟩ := bs_ hf
          refine mg_gR hx hb hts hown hKn hH ev18 in_X4 rfl (by decide) (hts _ q1177) (fun _ h9 => h9) dX4_costBy2_99 ?_
          refine lv_iconst (v := 2) hx hb dX4_costBy2_102 (by decide) ?_
          refine lv_iload_n hx hb dX4_costBy2_103 rfl (lv_at hl 1 rfl) ?_
          refine lv_imul hx hb dX4_costBy2_104 ?_
          refine lv_iconst (v := 2) hx hb dX4_costBy2_105 (by decide) ?_
          obtain ⟨r19, er19⟩ : ∃ z, z = fX4_ofP (2 * x1) 2 := ⟨_, rfl⟩
          have hf := lu_ er19 hf
          refine cl_i0 hH (rn_S ⟨hx, hb, hml, hown, hts⟩ hKn hH (mX4_ofP l G M n (2 * x1) 2 r19 er19.symm) (va_cwS 2 hts (lw_S q1170 q1171 q70 q1172) rfl rfl rfl kdX4_ofP ⟨Nat.le_of_ble_eq_true rfl, Nat.le_of_ble_eq_true rfl⟩) rfl hl.1 (Nat.le_of_ble_eq_true rfl) dX4_costBy2_106 ⟨(Nat.le_of_ble_eq_true rfl), (Nat.le_of_ble_eq_true rfl)⟩ rfl) (fun H locs hH => ?_)
          obtain ⟨v20, ev20, hf⟩ := bs_ hf
          refine mg_iald hx hb hKn hH ev20 dX4_costBy2_109 ?_
          refine lv_aload_n hx hb dX4_costBy2_110 rfl (lv_at hl 0 rfl) ?_
          obtain ⟨v21, ev21, hf⟩ := bs_ hf
          refine mg_gR hx hb hts hown hKn hH ev21 in_X4 rfl (by decide) (hts _ q1177) (fun _ h9 => h9) dX4_costBy2_111 ?_
          refine lv_iconst (v := 2) hx hb dX4_costBy2_114 (by decide) ?_
          refine lv_iload_n hx hb dX4_costBy2_115 rfl (lv_at hl 1 rfl) ?_
          refine lv_imul hx hb dX4_costBy2_116 ?_
          refine lv_iconst (v := 1) hx hb dX4_costBy2_117 (by decide) ?_
          refine lv_iadd hx hb dX4_costBy2_118 ?_
          refine lv_iconst (v := 2) hx hb dX4_costBy2_119 (by decide) ?_
          obtain ⟨r22, er22⟩ : ∃ z, z = fX4_ofP ((2 * x1) + 1) 2 := ⟨_, rfl⟩
          have hf := lu_ er22 hf
          refine cl_i0 hH (rn_S ⟨hx, hb, hml, hown, hts⟩ hKn hH (mX4_ofP l G M n ((2 * x1) + 1) 2 r22 er22.symm) (va_cwS 2 hts (lw_S q1170 q1171 q70 q1172) rfl rfl rfl kdX4_ofP ⟨Nat.le_of_ble_eq_true rfl, Nat.le_of_ble_eq_true rfl⟩) rfl hl.1 (Nat.le_of_ble_eq_true rfl) dX4_costBy2_120 ⟨(Nat.le_of_ble_eq_true rfl), (Nat.le_of_ble_eq_true rfl)⟩ rfl) (fun H locs hH => ?_)
          obtain ⟨v23, ev23, hf⟩ := bs_ hf
          refine mg_iald hx hb hKn hH ev23 dX4_costBy2_123 ?_
          refine lv_iadd hx hb dX4_costBy2_124 ?_
          refine lv_iload hx hb dX4_costBy2_125 (lv_at hl 4 rfl) ?_
          refine lv_iload_n hx hb dX4_costBy2_127 rfl (lv_at hl 1 rfl) ?_
          refine lv_icmp_ne (tgt := 136) hx hb dX4_costBy2_128 (by decide) (fun c24 => ?_) (fun c24 => ?_)
          · have hf := in_ c24 hf
            refine lv_iconst (v := 0) hx hb dX4_costBy2_136 (by decide) ?_
            refine lv_isub hx hb dX4_costBy2_137 ?_
            cases hf
            exact rt_i hx hb hr hlk hH dX4_costBy2_138
          · have hf := ip_ c24 hf
            refine lv_bipush (v := 9) hx hb dX4_costBy2_131 (by decide) ?_
            refine lv_goto (tgt := 137) hx hb dX4_costBy2_133 (by decide) ?_
            refine lv_isub hx hb dX4_costBy2_137 ?_
            cases hf
            exact rt_i hx hb hr hlk hH dX4_costBy2_138
        · have hf := ip_ c42 hf
          refine lv_aload_n hx hb dX4_costBy2_52 rfl (lv_at hl 0 rfl) ?_
          obtain ⟨v25, ev25, hf⟩ := bs_ hf
          refine mg_gR hx hb hts hown hKn hH ev25 in_X4 rfl (by decide) (hts _ q1177) (fun _ h9 => h9) dX4_costBy2_53 ?_
          refine lv_iconst (v := 2) hx hb dX4_costBy2_56 (by decide) ?_
          obtain ⟨v26, ev26, hf⟩ := bs_ hf
          refine mg_iald hx hb hKn hH ev26 dX4_costBy2_57 ?_
          obtain ⟨r27, er27⟩ : ∃ z, z = fX4_sideOf v26 := ⟨_, rfl⟩
          have hf := lu_ er27 hf
          refine cl_i0 hH (rn_S ⟨hx, hb, hml, hown, hts⟩ hKn hH (mX4_sideOf l G M n v26 r27 er27.symm) (va_cwS 1 hts (lw_S q1295 q1296 q70 q1297) rfl rfl rfl kdX4_sideOf ⟨Nat.le_of_ble_eq_true rfl, Nat.le_of_ble_eq_true rfl⟩) rfl hl.1 (Nat.le_of_ble_eq_true rfl) dX4_costBy2_58 ⟨(Nat.le_of_ble_eq_true rfl), (Nat.le_of_ble_eq_true rfl)⟩ rfl) (fun H locs hH => ?_)
          refine lv_istore (lv' := [(6, .int r27), (0, .ref x0), (1, .int x1), (2, .int x2), (3, .int x3), (4, .int x4), (5, .int x5)]) hx hb dX4_costBy2_61 hl (by decide) rfl (fun ls hl => ?_)
          refine lv_aload_n hx hb dX4_costBy2_63 rfl (lv_at hl 1 rfl) ?_
          refine lv_aload_n hx hb dX4_costBy2_64 rfl (lv_at hl 1 rfl) ?_
          obtain ⟨v28, ev28, hf⟩ := bs_ hf
          refine mg_gR hx hb hts hown hKn hH ev28 in_X4 rfl (by decide) (hts _ q1177) (fun _ h9 => h9) dX4_costBy2_65 ?_
          refine lv_iconst (v := 0) hx hb dX4_costBy2_68 (by decide) ?_
          refine lv_iload hx hb dX4_costBy2_69 (lv_at hl 6 rfl) ?_
          refine lv_iconst (v := 2) hx hb dX4_costBy2_71 (by decide) ?_
          refine lv_irem hx hb dX4_costBy2_72 (by decide) ?_
          refine lv_if_ne (tgt := 80) hx hb dX4_costBy2_73 (by decide) (fun c41 => ?_) (fun c41 => ?_)
          · have hf := in_ c41 hf
            refine lv_bipush (v := 8) hx hb dX4_costBy2_80 (by decide) ?_
            obtain ⟨u29, eu29, hf⟩ := bs_ hf
            obtain ⟨r30, M31, er30, hf⟩ := bws_ hf
            refine cl_i0 hH (rn_V ⟨hx, hb, hml, hown, hts⟩ hKn hH (mX4_hits l G M n x0 v28 0 8 r30 M31 er30) (cwV 3 hts (lw_V q1291 q1293 qs46 q70 q1294) rfl rfl rfl ⟨rfl, kdX4_hits⟩ ⟨Nat.le_of_ble_eq_true rfl, Nat.le_of_ble_eq_true rfl⟩) eu29 rfl rfl hl.1 (Nat.le_of_ble_eq_true rfl) dX4_costBy2_82 ⟨(Nat.le_of_ble_eq_true rfl), (Nat.le_of_ble_eq_true rfl)⟩ rfl) (fun H locs hH => ?_)
            refine lv_if_eq (tgt := 92) hx hb dX4_costBy2_85 (by decide) (fun c34 => ?_) (fun c34 => ?_)
            · have hf := ip_ c34 hf
              obtain ⟨v32, ev32⟩ : ∃ z : Int32, z = x5 + 1 := ⟨_, rfl⟩
              have hf := lu_ ev32 hf
              refine lv_iinc (v := v32) (lv' := [(5, .int v32), (6, .int r27), (0, .ref x0), (1, .int x1), (2, .int x2), (3, .int x3), (4, .int x4)]) hx hb dX4_costBy2_92 hl (k := 6) rfl (by rw [ev32]; rfl) (by decide) rfl (fun ls hl => ?_)
              refine lv_goto (tgt := 39) hx hb dX4_costBy2_95 (by decide) ?_
              exact ih M31 x0 x1 x2 x3 x4 v32 _ _ ls hH (lv_sub hl [2, 3, 4, 5, 6, 0] rfl) hf
            · have hf := in_ c34 hf
              refine lv_iload hx hb dX4_costBy2_88 (lv_at hl 0 rfl) ?_
              refine lv_istore (lv' := [(4, .int r27), (6, .int r27), (0, .ref x0), (1, .int x1), (2, .int x2), (3, .int x3), (5, .int x5)]) hx hb dX4_costBy2_90 hl (by decide) rfl (fun ls hl => ?_)
              obtain ⟨v33, ev33⟩ : ∃ z : Int32, z = x5 + 1 := ⟨_, rfl⟩
              have hf := lu_ ev33 hf
              refine lv_iinc (v := v33) (lv' := [(5, .int v33), (4, .int r27), (6, .int r27), (0, .ref x0), (1, .int x1), (2, .int x2), (3, .int x3)]) hx hb dX4_costBy2_92 hl (k := 6) rfl (by rw [ev33]; rfl) (by decide) rfl (fun ls hl => ?_)
              refine lv_goto (tgt := 39) hx hb dX4_costBy2_95 (by decide) ?_
              exact ih M31 x0 x1 x2 x3 r27 v33 _ _ ls hH (lv_sub hl [3, 4, 5, 6, 1, 0] rfl) hf
          · have hf := ip_ c41 hf
            refine lv_iconst (v := 0) hx hb dX4_costBy2_76 (by decide) ?_
            refine lv_goto (tgt := 82) hx hb dX4_costBy2_77 (by decide) ?_
            obtain ⟨u35, eu35, hf⟩ := bs_ hf
            obtain ⟨r36, M37, er36, hf⟩ := bws_ hf
            refine cl_i0 hH (rn_V ⟨hx, hb, hml, hown, hts⟩ hKn hH (mX4_hits l G M n x0 v28 0 0 r36 M37 er36) (cwV 3 hts (lw_V q1291 q1293 qs46 q70 q1294) rfl rfl rfl ⟨rfl, kdX4_hits⟩ ⟨Nat.le_of_ble_eq_true rfl, Nat.le_of_ble_eq_true rfl⟩) eu35 rfl rfl hl.1 (Nat.le_of_ble_eq_true rfl) dX4_costBy2_82 ⟨(Nat.le_of_ble_eq_true rfl), (Nat.le_of_ble_eq_true rfl)⟩ rfl) (fun H locs hH => ?_)
            refine lv_if_eq (tgt := 92) hx hb dX4_costBy2_85 (by decide) (fun c40 => ?_) (fun c40 => ?_)
            · have hf := ip_ c40 hf
              obtain ⟨v38, ev38⟩ : ∃ z : Int32, z = x5 + 1 := ⟨_, rfl⟩
              have hf := lu_ ev38 hf
              refine lv_iinc (v := v38) (lv' := [(5, .int v38), (6, .int r27), (0, .ref x0), (1, .int x1), (2, .int x2), (3, .int x3), (4, .int x4)]) hx hb dX4_costBy2_92 hl (k := 6) rfl (by rw [ev38]; rfl) (by decide) rfl (fun ls hl => ?_)
              refine lv_goto (tgt := 39) hx hb dX4_costBy2_95 (by decide) ?_
              exact ih M37 x0 x1 x2 x3 x4 v38 _ _ ls hH (lv_sub hl [2, 3, 4, 5, 6, 0] rfl) hf
            · have hf := in_ c40 hf
              refine lv_iload hx hb dX4_costBy2_88 (lv_at hl 0 rfl) ?_
              refine lv_istore (lv' := [(4, .int r27), (6, .int r27), (0, .ref x0), (1, .int x1), (2, .int x2), (3, .int x3), (5, .int x5)]) hx hb dX4_costBy2_90 hl (by decide) rfl (fun ls hl => ?_)
              obtain ⟨v39, ev39⟩ : ∃ z : Int32, z = x5 + 1 := ⟨_, rfl⟩
              have hf := lu_ ev39 hf
              refine lv_iinc (v := v39) (lv' := [(5, .int v39), (4, .int r27), (6, .int r27), (0, .ref x0), (1, .int x1), (2, .int x2), (3, .int x3)]) hx hb dX4_costBy2_92 hl (k := 6) rfl (by rw [ev39]; rfl) (by decide) rfl (fun ls hl => ?_)
              refine lv_goto (tgt := 39) hx hb dX4_costBy2_95 (by decide) ?_
              exact ih M37 x0 x1 x2 x3 r27 v39 _ _ ls hH (lv_sub hl [3, 4, 5, 6, 1, 0] rfl) hf
  unfold fX4_costBy2 at hf
  refine lv_aload_n hx hb dX4_costBy2_0 rfl (lv_at hl 0 rfl) ?_
  obtain ⟨v1, ev1, hf⟩ := bs_ hf
  refine mg_gR hx hb hts hown hKn hH ev1 in_X4 rfl (by decide) (hts _ q1176) (fun _ h9 => h9) dX4_costBy2_1 ?_
  refine lv_aload_n hx hb dX4_costBy2_4 rfl (lv_at hl 0 rfl) ?_
  obtain ⟨v2, ev2, hf⟩ := bs_ hf
  refine mg_gR hx hb hts hown hKn hH ev2 in_X4 rfl (by decide) (hts _ q1177) (fun _ h9 => h9) dX4_costBy2_5 ?_
  obtain ⟨M4, er3, hf⟩ := bs_ hf
  refine cl_v0 hH (rn_S ⟨hx, hb, hml, hown, hts⟩ hKn hH (mX4_copies l G M n v1 v2 M4 er3) (va_cwS 2 hts (lw_S q1263 q1264 q70 q1265) rfl rfl rfl kdX4_copies ⟨Nat.le_of_ble_eq_true rfl, Nat.le_of_ble_eq_true rfl⟩) rfl hl.1 (Nat.le_of_ble_eq_true rfl) dX4_costBy2_8 ⟨(Nat.le_of_ble_eq_true rfl), (Nat.le_of_ble_eq_true rfl)⟩ rfl) (fun H locs hH => ?_)
  refine lv_aload_n hx hb dX4_costBy2_11 rfl (lv_at hl 0 rfl) ?_
  obtain ⟨v5, ev5, hf⟩ := bs_ hf
  refine mg_gR hx hb hts hown hKn hH ev5 in_X4 rfl (by decide) (hts _ q1177) (fun _ h9 => h9) dX4_costBy2_12 ?_
  refine lv_iconst (v := 0) hx hb dX4_costBy2_15 (by decide) ?_
  refine lv_iconst (v := 0) hx hb dX4_costBy2_16 (by decide) ?_
  obtain ⟨r6, er6⟩ : ∃ z, z = fX4_ofSide 0 0 := ⟨_, rfl⟩
  have hf := lu_ er6 hf
  refine cl_i0 hH (rn_S ⟨hx, hb, hml, hown, hts⟩ hKn hH (mX4_ofSide l G M4 n 0 0 r6 er6.symm) (va_cwS 2 hts (lw_S q1173 q1174 q70 q1175) rfl rfl rfl kdX4_ofSide ⟨Nat.le_of_ble_eq_true rfl, Nat.le_of_ble_eq_true rfl⟩) rfl hl.1 (Nat.le_of_ble_eq_true rfl) dX4_costBy2_17 ⟨(Nat.le_of_ble_eq_true rfl), (Nat.le_of_ble_eq_true rfl)⟩ rfl) (fun H locs hH => ?_)
  refine lv_iload_n hx hb dX4_costBy2_20 rfl (lv_at hl 2 rfl) ?_
  obtain ⟨M7, eM7, hf⟩ := bs_ hf
  refine mg_iast hx hb hKn hH eM7 dX4_costBy2_21 (fun H locs hH => ?_)
  refine lv_aload_n hx hb dX4_costBy2_22 rfl (lv_at hl 0 rfl) ?_
  obtain ⟨v8, ev8, hf⟩ := bs_ hf
  refine mg_gR hx hb hts hown hKn hH ev8 in_X4 rfl (by decide) (hts _ q1177) (fun _ h9 => h9) dX4_costBy2_23 ?_
  refine lv_iconst (v := 1) hx hb dX4_costBy2_26 (by decide) ?_
  refine lv_iconst (v := 0) hx hb dX4_costBy2_27 (by decide) ?_
  obtain ⟨r9, er9⟩ : ∃ z, z = fX4_ofSide 1 0 := ⟨_, rfl⟩
  have hf := lu_ er9 hf
  refine cl_i0 hH (rn_S ⟨hx, hb, hml, hown, hts⟩ hKn hH (mX4_ofSide l G M7 n 1 0 r9 er9.symm) (va_cwS 2 hts (lw_S q1173 q1174 q70 q1175) rfl rfl rfl kdX4_ofSide ⟨Nat.le_of_ble_eq_true rfl, Nat.le_of_ble_eq_true rfl⟩) rfl hl.1 (Nat.le_of_ble_eq_true rfl) dX4_costBy2_28 ⟨(Nat.le_of_ble_eq_true rfl), (Nat.le_of_ble_eq_true rfl)⟩ rfl) (fun H locs hH => ?_)
  refine lv_iload_n hx hb dX4_costBy2_31 rfl (lv_at hl 3 rfl) ?_
  obtain ⟨M10, eM10, hf⟩ := bs_ hf
  refine mg_iast hx hb hKn hH eM10 dX4_costBy2_32 (fun H locs hH => ?_)
  refine lv_iconst (v := 2) hx hb dX4_costBy2_33 (by decide) ?_
  refine lv_istore (lv' := [(4, .int 2), (0, .ref a0), (1, .int a1), (2, .int a2), (3, .int a3)]) hx hb dX4_costBy2_34 hl (by decide) rfl (fun ls hl => ?_)
  refine lv_iconst (v := 0) hx hb dX4_costBy2_36 (by decide) ?_
  refine lv_istore (lv' := [(5, .int 0), (4, .int 2), (0, .ref a0), (1, .int a1), (2, .int a2), (3, .int a3)]) hx hb dX4_costBy2_37 hl (by decide) rfl (fun ls hl => ?_)
  exact w39 1000 M10 a0 a1 a2 a3 2 0 _ _ ls hH (lv_sub hl [2, 3, 4, 5, 1, 0] rfl) hf
def fX4_two_L14 : Nat → Mem_ → Nat → Int32 → Option (Int32 × Mem_)
  | 0, _, _, _ => none
  | fuel + 1, M, x0, x1 =>
    if 4 ≤ x1 then
      some ((-4), M)
    else
      lt_ ((x1 / 2)) fun v4 =>
      lt_ ((x1 - x1 / 2 * 2)) fun v5 =>
      (ck_ M x0 3).bind fun u6 =>
      bw_ (fX4_costBy2 M x0 0 (1 - v4) v5) fun r7 M8 =>
      (ck_ M8 x0 3).bind fun u9 =>
      bw_ (fX4_costBy2 M8 x0 0 v4 v5) fun r10 M11 =>
      if r7 < r10 then
        lt_ (x1 + 1) fun v12 =>
        fX4_two_L14 fuel M11 x0 v12
      else
        (ck_ M11 x0 3).bind fun u13 =>
        bw_ (fX4_costBy2 M11 x0 1 v4 (1 - v5)) fun r14 M15 =>
        (ck_ M15 x0 3).bind fun u16 =>
        bw_ (fX4_costBy2 M15 x0 1 v4 v5) fun r17 M18 =>
        if r14 < r17 then
          lt_ (x1 + 1) fun v19 =>
          fX4_two_L14 fuel M18 x0 v19
        else
          some (((10 * v4) + v5), M18)
def fX4_two (M : Mem_) (a0 : Nat) : Option (Int32 × Mem_) :=
  (gR_ M a0 3 0).bind fun v1 =>
  (aI_ M v1 0 0).bind fun v2 =>
  if v2 = 0 then
    some ((-3), M)
  else
    fX4_two_L14 1000 M a0 0
theorem kdX4_two : yX4_two.cls ≠ "java/lang/invoke/MethodHandle" ∧ yX4_two.cls ≠ "java/lang/invoke/VarHandle" ∧ (parseMethodDescriptor yX4_two.desc).map (fun d => d.parameters.length) = some 0 := by decide +kernel
set_option maxHeartbeats 4000000 in
theorem mX4_two (l : Launch) (G : GT_) (M : Mem_) (n : Nat) (a0 : Nat) (r : Int32) (M1 : Mem_) (hf : fX4_two M a0 = some (r, M1)) : Ct_ G l yX4_two (ws_ yX4_two cX4_two 4 (some .int)) ({ frames := 5, cells := 0, slots := 0, locals := 125 }) 0 0 [.ref a0] M n (some (.int r)) M1 n := by
  refine en_ (by decide) (Nat.le_of_ble_eq_true rfl) ?_
  intro p e s m below meth c hx hb hr hlk hml hown hts hname hKn hH ls hl
  have hown : s.vm.findClass RX4 = some m.cls := hown
  have hl : lv_has ls 4 [(0, .ref a0)] := hl
  have w14 : ∀ (fuel : Nat), ∀ (M : Mem_) (x0 : Nat) (x1 : Int32) (H : Heap) (locs : List Loc) (ls : Array Slot), St_ G n M s H locs → lv_has ls 4 [(0, .ref x0), (1, .int x1)] → fX4_two_L14 fuel M x0 x1 = some (r, M1) → W p l e ({ frames := 5, cells := 0, slots := 0, locals := 125 } : Room) s m ([.ref a0] : List Value).toArray below meth c H locs 0 0 (MQ below (Qc_ G (some (.int r)) M1 n) ([.ref a0] : List Value).toArray s 0 0 (fun q => G.1 ≤ q)) (F0 m 14 ls []) := by
    intro fuel
    induction fuel with
    | zero =>
      intro M x0 x1 H locs ls hH hl hf
      cases hf
    | succ fuel ih =>
      intro M x0 x1 H locs ls hH hl hf
      unfold fX4_two_L14 at hf
      refine lv_iload_n hx hb dX4_two_14 rfl (lv_at hl 1 rfl) ?_
      refine lv_iconst (v := 4) hx hb dX4_two_15 (by decide) ?_
      refine lv_icmp_ge (tgt := 78) hx hb dX4_two_16 (by decide) (fun c22 => ?_) (fun c22 => ?_)
      · have hf := ip_ c22 hf
        refine lv_bipush (v := (-4)) hx hb dX4_two_78 (by decide) ?_
        cases hf
        exact rt_i hx hb hr hlk hH dX4_two_80
      · have hf := in_ c22 hf
        refine lv_iload_n hx hb dX4_two_19 rfl (lv_at hl 1 rfl) ?_
        refine lv_iconst (v := 2) hx hb dX4_two_20 (by decide) ?_
        refine lv_idiv hx hb dX4_two_21 (by decide) ?_
        refine lv_topi (fun v4 ev4 => ?_)
        have hf := lu_ ev4 hf
        refine lv_istore_n (lv' := [(2, .int v4), (0, .ref x0), (1, .int x1)]) hx hb dX4_two_22 rfl hl (by decide) rfl (fun ls hl => ?_)
        refine lv_iload_n hx hb dX4_two_23 rfl (lv_at hl 2 rfl) ?_
        refine lv_iconst (v := 2) hx hb dX4_two_24 (by decide) ?_
        refine lv_irem hx hb dX4_two_25 (by decide) ?_
        refine lv_topi (fun v5 ev5 => ?_)
        have hf := lu_ ev5 hf
        refine lv_istore_n (lv' := [(3, .int v5), (2, .int v4), (0, .ref x0), (1, .int x1)]) hx hb dX4_two_26 rfl hl (by decide) rfl (fun ls hl => ?_)
        refine lv_aload_n hx hb dX4_two_27 rfl (lv_at hl 2 rfl) ?_
        refine lv_iconst (v := 0) hx hb dX4_two_28 (by decide) ?_
        refine lv_iconst (v := 1) hx hb dX4_two_29 (by decide) ?_
        refine lv_iload_n hx hb dX4_two_30 rfl (lv_at hl 1 rfl) ?_
        refine lv_isub hx hb dX4_two_31 ?_
        refine lv_iload_n hx hb dX4_two_32 rfl (lv_at hl 0 rfl) ?_
        obtain ⟨u6, eu6, hf⟩ := bs_ hf
        obtain ⟨r7, M8, er7, hf⟩ := bws_ hf
        refine cl_i0 hH (rn_V ⟨hx, hb, hml, hown, hts⟩ hKn hH (mX4_costBy2 l G M n x0 0 (1 - v4) v5 r7 M8 er7) (cwV 3 hts (lw_V q1513 q1515 qs62 q70 q1516) rfl rfl rfl ⟨rfl, kdX4_costBy2⟩ ⟨Nat.le_of_ble_eq_true rfl, Nat.le_of_ble_eq_true rfl⟩) eu6 rfl rfl hl.1 (Nat.le_of_ble_eq_true rfl) dX4_two_33 ⟨(Nat.le_of_ble_eq_true rfl), (Nat.le_of_ble_eq_true rfl)⟩ rfl) (fun H locs hH => ?_)
        refine lv_aload_n hx hb dX4_two_36 rfl (lv_at hl 2 rfl) ?_
        refine lv_iconst (v := 0) hx hb dX4_two_37 (by decide) ?_
        refine lv_iload_n hx hb dX4_two_38 rfl (lv_at hl 1 rfl) ?_
        refine lv_iload_n hx hb dX4_two_39 rfl (lv_at hl 0 rfl) ?_
        obtain ⟨u9, eu9, hf⟩ := bs_ hf
        obtain ⟨r10, M11, er10, hf⟩ := bws_ hf
        refine cl_i0 hH (rn_V ⟨hx, hb, hml, hown, hts⟩ hKn hH (mX4_costBy2 l G M8 n x0 0 v4 v5 r10 M11 er10) (cwV 3 hts (lw_V q1513 q1515 qs62 q70 q1516) rfl rfl rfl ⟨rfl, kdX4_costBy2⟩ ⟨Nat.le_of_ble_eq_true rfl, Nat.le_of_ble_eq_true rfl⟩) eu9 rfl rfl hl.1 (Nat.le_of_ble_eq_true rfl) dX4_two_40 ⟨(Nat.le_of_ble_eq_true rfl), (Nat.le_of_ble_eq_true rfl)⟩ rfl) (fun H locs hH => ?_)
        refine lv_icmp_lt (tgt := 72) hx hb dX4_two_43 (by decide) (fun c21 => ?_) (fun c21 => ?_)
        · have hf := ip_ c21 hf
          obtain ⟨v12, ev12⟩ : ∃ z : Int32, z = x1 + 1 := ⟨_, rfl⟩
          have hf := lu_ ev12 hf
          refine lv_iinc (v := v12) (lv' := [(1, .int v12), (3, .int v5), (2, .int v4), (0, .ref x0)]) hx hb dX4_two_72 hl (k := 3) rfl (by rw [ev12]; rfl) (by decide) rfl (fun ls hl => ?_)
          refine lv_goto (tgt := 14) hx hb dX4_two_75 (by decide) ?_
          exact ih M11 x0 v12 _ _ ls hH (lv_sub hl [3, 0] rfl) hf
        · have hf := in_ c21 hf
          refine lv_aload_n hx hb dX4_two_46 rfl (lv_at hl 2 rfl) ?_
          refine lv_iconst (v := 1) hx hb dX4_two_47 (by decide) ?_
          refine lv_iload_n hx hb dX4_two_48 rfl (lv_at hl 1 rfl) ?_
          refine lv_iconst (v := 1) hx hb dX4_two_49 (by decide) ?_
          refine lv_iload_n hx hb dX4_two_50 rfl (lv_at hl 0 rfl) ?_
          refine lv_isub hx hb dX4_two_51 ?_
          obtain ⟨u13, eu13, hf⟩ := bs_ hf
          obtain ⟨r14, M15, er14, hf⟩ := bws_ hf
          refine cl_i0 hH (rn_V ⟨hx, hb, hml, hown, hts⟩ hKn hH (mX4_costBy2 l G M11 n x0 1 v4 (1 - v5) r14 M15 er14) (cwV 3 hts (lw_V q1513 q1515 qs62 q70 q1516) rfl rfl rfl ⟨rfl, kdX4_costBy2⟩ ⟨Nat.le_of_ble_eq_true rfl, Nat.le_of_ble_eq_true rfl⟩) eu13 rfl rfl hl.1 (Nat.le_of_ble_eq_true rfl) dX4_two_52 ⟨(Nat.le_of_ble_eq_true rfl), (Nat.le_of_ble_eq_true rfl)⟩ rfl) (fun H locs hH => ?_)
          refine lv_aload_n hx hb dX4_two_55 rfl (lv_at hl 2 rfl) ?_
          refine lv_iconst (v := 1) hx hb dX4_two_56 (by decide) ?_
          refine lv_iload_n hx hb dX4_two_57 rfl (lv_at hl 1 rfl) ?_
          refine lv_iload_n hx hb dX4_two_58 rfl (lv_at hl 0 rfl) ?_
          obtain ⟨u16, eu16, hf⟩ := bs_ hf
          obtain ⟨r17, M18, er17, hf⟩ := bws_ hf
          refine cl_i0 hH (rn_V ⟨hx, hb, hml, hown, hts⟩ hKn hH (mX4_costBy2 l G M15 n x0 1 v4 v5 r17 M18 er17) (cwV 3 hts (lw_V q1513 q1515 qs62 q70 q1516) rfl rfl rfl ⟨rfl, kdX4_costBy2⟩ ⟨Nat.le_of_ble_eq_true rfl, Nat.le_of_ble_eq_true rfl⟩) eu16 rfl rfl hl.1 (Nat.le_of_ble_eq_true rfl) dX4_two_59 ⟨(Nat.le_of_ble_eq_true rfl), (Nat.le_of_ble_eq_true rfl)⟩ rfl) (fun H locs hH => ?_)
          refine lv_icmp_lt (tgt := 72) hx hb dX4_two_62 (by decide) (fun c20 => ?_) (fun c20 => ?_)
          · have hf := ip_ c20 hf
            obtain ⟨v19, ev19⟩ : ∃ z : Int32, z = x1 + 1 := ⟨_, rfl⟩
            have hf := lu_ ev19 hf
            refine lv_iinc (v := v19) (lv' := [(1, .int v19), (3, .int v5), (2, .int v4), (0, .ref x0)]) hx hb dX4_two_72 hl (k := 3) rfl (by rw [ev19]; rfl) (by decide) rfl (fun ls hl => ?_)
            refine lv_goto (tgt := 14) hx hb dX4_two_75 (by decide) ?_
            exact ih M18 x0 v19 _ _ ls hH (lv_sub hl [3, 0] rfl) hf
          · have hf := in_ c20 hf
            refine lv_bipush (v := 10) hx hb dX4_two_65 (by decide) ?_
            refine lv_iload_n hx hb dX4_two_67 rfl (lv_at hl 1 rfl) ?_
            refine lv_imul hx hb dX4_two_68 ?_
            refine lv_iload_n hx hb dX4_two_69 rfl (lv_at hl 0 rfl) ?_
            refine lv_iadd hx hb dX4_two_70 ?_
            cases hf
            exact rt_i hx hb hr hlk hH dX4_two_71
  unfold fX4_two at hf
  refine lv_aload_n hx hb dX4_two_0 rfl (lv_at hl 0 rfl) ?_
  obtain ⟨v1, ev1, hf⟩ := bs_ hf
  refine mg_gR hx hb hts hown hKn hH ev1 in_X4 rfl (by decide) (hts _ q1176) (fun _ h9 => h9) dX4_two_1 ?_
  refine lv_iconst (v := 0) hx hb dX4_two_4 (by decide) ?_
  obtain ⟨v2, ev2, hf⟩ := bs_ hf
  refine mg_iald hx hb hKn hH ev2 dX4_two_5 ?_
  refine lv_if_ne (tgt := 12) hx hb dX4_two_6 (by decide) (fun c3 => ?_) (fun c3 => ?_)
  · have hf := in_ c3 hf
    refine lv_iconst (v := 0) hx hb dX4_two_12 (by decide) ?_
    refine lv_istore_n (lv' := [(1, .int 0), (0, .ref a0)]) hx hb dX4_two_13 rfl hl (by decide) rfl (fun ls hl => ?_)
    exact w14 1000 M a0 0 _ _ ls hH (lv_sub hl [1, 0] rfl) hf
  · have hf := ip_ c3 hf
    refine lv_bipush (v := (-3)) hx hb dX4_two_9 (by decide) ?_
    cases hf
    exact rt_i hx hb hr hlk hH dX4_two_11
def fX4_has (a0 : Int32) (a1 : Int32) : Bool :=
  if ((a0 >>> (a1 &&& 31)) &&& 1) = 1 then
    true
  else
    false
theorem kdX4_has : yX4_has.cls ≠ "java/lang/invoke/MethodHandle" ∧ yX4_has.cls ≠ "java/lang/invoke/VarHandle" ∧ (parseMethodDescriptor yX4_has.desc).map (fun d => d.parameters.length) = some 2 := by decide +kernel
set_option maxHeartbeats 4000000 in
theorem mX4_has (l : Launch) (G : GT_) (M : Mem_) (n : Nat) (a0 : Int32) (a1 : Int32) (r : Bool) (hf : fX4_has a0 a1 = r) : Ct_ G l yX4_has (ws_ yX4_has cX4_has 2 (some .boolean)) ({ frames := 0, cells := 0, slots := 0, locals := 0 }) 0 0 [.int a0, .int a1] M n (some (.int (b2_ r))) M n := by
  refine en_ (by decide) (Nat.le_of_ble_eq_true rfl) ?_
  intro p e s m below meth c hx hb hr hlk hml hown hts hname hKn hH ls hl
  have hown : s.vm.findClass RX4 = some m.cls := hown
  have hl : lv_has ls 2 [(0, .int a0), (1, .int a1)] := hl
  unfold fX4_has at hf
  generalize s.heap = H at hH ⊢
  refine lv_iload_n hx hb dX4_has_0 rfl (lv_at hl 0 rfl) ?_
  refine lv_iload_n hx hb dX4_has_1 rfl (lv_at hl 1 rfl) ?_
  refine lv_ishr hx hb dX4_has_2 ?_
  refine lv_iconst (v := 1) hx hb dX4_has_3 (by decide) ?_
  refine lv_iand hx hb dX4_has_4 ?_
  refine lv_iconst (v := 1) hx hb dX4_has_5 (by decide) ?_
  refine lv_icmp_ne (tgt := 13) hx hb dX4_has_6 (by decide) (fun c1 => ?_) (fun c1 => ?_)
  · have hf := in_ c1 hf
    refine lv_iconst (v := 0) hx hb dX4_has_13 (by decide) ?_
    subst hf
    exact rt_b (b := false) hx hb hr hlk hH dX4_has_14
  · have hf := ip_ c1 hf
    refine lv_iconst (v := 1) hx hb dX4_has_9 (by decide) ?_
    refine lv_goto (tgt := 14) hx hb dX4_has_10 (by decide) ?_
    subst hf
    exact rt_b (b := true) hx hb hr hlk hH dX4_has_14
