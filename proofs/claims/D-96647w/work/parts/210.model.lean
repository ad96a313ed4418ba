set_option maxRecDepth 100000
def fX4_copy_L122 : Nat → Mem_ → Nat → Int32 → Int32 → Int32 → Int32 → Int32 → Int32 → Option (Int32 × Mem_)
  | 0, _, _, _, _, _, _, _, _ => none
  | fuel + 1, M, x0, x1, x2, x3, x4, x5, x6 =>
    if x5 ≤ x6 then
      some (x5, M)
    else
      if x2 ≤ x4 then
        lt_ (((x5 - 1) - x6)) fun v31 =>
        (gR_ M x0 3 18).bind fun v32 =>
        (gR_ M x0 3 18).bind fun v33 =>
        (aI_ M v33 0 (((100 * x1) + x2) + v31)).bind fun v34 =>
        (sI_ M v32 0 (((100 * x3) + x4) + v31) v34).bind fun M35 =>
        lt_ (x6 + 1) fun v36 =>
        fX4_copy_L122 fuel M35 x0 x1 x2 x3 x4 x5 v36
      else
        (gR_ M x0 3 18).bind fun v37 =>
        (gR_ M x0 3 18).bind fun v38 =>
        (aI_ M v38 0 (((100 * x1) + x2) + x6)).bind fun v39 =>
        (sI_ M v37 0 (((100 * x3) + x4) + x6) v39).bind fun M40 =>
        lt_ (x6 + 1) fun v41 =>
        fX4_copy_L122 fuel M40 x0 x1 x2 x3 x4 x5 v41
def fX4_copy (M : Mem_) (a0 : Nat) (a1 : Int32) (a2 : Int32) (a3 : Int32) (a4 : Int32) (a5 : Int32) : Option (Int32 × Mem_) :=
  lt_ (fX4_isShelf a1) fun r1 =>
  if (b2_ r1) = 0 then
    some ((-1), M)
  else
    lt_ (fX4_isShelf a3) fun r2 =>
    if (b2_ r2) = 0 then
      some ((-1), M)
    else
      (gR_ M a0 3 13).bind fun v3 =>
      (aI_ M v3 0 a1).bind fun v4 =>
      if v4 = 0 then
        some ((-11), M)
      else
        (gR_ M a0 3 13).bind fun v5 =>
        (aI_ M v5 0 a3).bind fun v6 =>
        if v6 = 0 then
          some ((-11), M)
        else
          (gR_ M a0 3 13).bind fun v7 =>
          (aI_ M v7 0 a1).bind fun v8 =>
          if v8 = 2 then
            (gR_ M a0 3 13).bind fun v9 =>
            (aI_ M v9 0 a3).bind fun v10 =>
            if v10 = 2 then
              (gR_ M a0 3 16).bind fun v11 =>
              (aI_ M v11 0 a1).bind fun v12 =>
              (gR_ M a0 3 16).bind fun v13 =>
              (aI_ M v13 0 a3).bind fun v14 =>
              if v12 = v14 then
                if a5 < 0 then
                  some ((-13), M)
                else
                  if a2 < 0 then
                    some ((-13), M)
                  else
                    if a4 < 0 then
                      some ((-13), M)
                    else
                      (gR_ M a0 3 17).bind fun v15 =>
                      (aI_ M v15 0 a1).bind fun v16 =>
                      if (v16 - a2) < a5 then
                        some ((-13), M)
                      else
                        (gR_ M a0 3 17).bind fun v17 =>
                        (aI_ M v17 0 a3).bind fun v18 =>
                        if a5 ≤ (v18 - a4) then
                          fX4_copy_L122 1000 M a0 a1 a2 a3 a4 a5 0
                        else
                          some ((-13), M)
              else
                some ((-12), M)
            else
              some ((-12), M)
          else
            some ((-12), M)
theorem kdX4_copy : yX4_copy.cls ≠ "java/lang/invoke/MethodHandle" ∧ yX4_copy.cls ≠ "java/lang/invoke/VarHandle" ∧ (parseMethodDescriptor yX4_copy.desc).map (fun d => d.parameters.length) = some 5 := by decide +kernel
set_option maxHeartbeats 4000000 in
theorem mX4_copy (l : Launch) (G : GT_) (M : Mem_) (n : Nat) (a0 : Nat) (a1 : Int32) (a2 : Int32) (a3 : Int32) (a4 : Int32) (a5 : Int32) (r : Int32) (M1 : Mem_) (hf : fX4_copy M a0 a1 a2 a3 a4 a5 = some (r, M1)) : Ct_ G l yX4_copy (ws_ yX4_copy cX4_copy 8 (some .int)) ({ frames := 2, cells := 0, slots := 0, locals := 42 }) 0 0 [.ref a0, .int a1, .int a2, .int a3, .int a4, .int a5] M n (some (.int r)) M1 n := by
  refine en_ (by decide) (Nat.le_of_ble_eq_true rfl) ?_
  intro p e s m below meth c hx hb hr hlk hml hown hts hname hKn hH ls hl
  have hown : s.vm.findClass RX4 = some m.cls := hown
  have hl : lv_has ls 8 [(0, .ref a0), (1, .int a1), (2, .int a2), (3, .int a3), (4, .int a4), (5, .int a5)] := hl
  have w122 : ∀ (fuel : Nat), ∀ (M : Mem_) (x0 : Nat) (x1 : Int32) (x2 : Int32) (x3 : Int32) (x4 : Int32) (x5 : Int32) (x6 : Int32) (H : Heap) (locs : List Loc) (ls : Array Slot), St_ G n M s H locs → lv_has ls 8 [(0, .ref x0), (1, .int x1), (2, .int x2), (3, .int x3), (4, .int x4), (5, .int x5), (6, .int x6)] → fX4_copy_L122 fuel M x0 x1 x2 x3 x4 x5 x6 = some (r, M1) → W p l e ({ frames := 2, cells := 0, slots := 0, locals := 42 } : Room) s m ([.ref a0, .int a1, .int a2, .int a3, .int a4, .int a5] : List Value).toArray below meth c H locs 0 0 (MQ below (Qc_ G (some (.int r)) M1 n) ([.ref a0, .int a1, .int a2, .int a3, .int a4, .int a5] : List Value).toArray s 0 0 (fun q => G.1 ≤ q)) (F0 m 122 ls []) := by
    intro fuel
    induction fuel with
    | zero =>
      intro M x0 x1 x2 x3 x4 x5 x6 H locs ls hH hl hf
      cases hf
    | succ fuel ih =>
      intro M x0 x1 x2 x3 x4 x5 x6 H locs ls hH hl hf
      unfold fX4_copy_L122 at hf
      refine lv_iload hx hb dX4_copy_122 (lv_at hl 6 rfl) ?_
      refine lv_iload hx hb dX4_copy_124 (lv_at hl 5 rfl) ?_
      refine lv_icmp_ge (tgt := 184) hx hb dX4_copy_126 (by decide) (fun c43 => ?_) (fun c43 => ?_)
      · have hf := ip_ c43 hf
        refine lv_iload hx hb dX4_copy_184 (lv_at hl 5 rfl) ?_
        cases hf
        exact rt_i hx hb hr hlk hH dX4_copy_186
      · have hf := in_ c43 hf
        refine lv_iload_n hx hb dX4_copy_129 rfl (lv_at hl 2 rfl) ?_
        refine lv_iload hx hb dX4_copy_130 (lv_at hl 4 rfl) ?_
        refine lv_icmp_le (tgt := 140) hx hb dX4_copy_132 (by decide) (fun c42 => ?_) (fun c42 => ?_)
        · have hf := ip_ c42 hf
          refine lv_iload hx hb dX4_copy_140 (lv_at hl 5 rfl) ?_
          refine lv_iconst (v := 1) hx hb dX4_copy_142 (by decide) ?_
          refine lv_isub hx hb dX4_copy_143 ?_
          refine lv_iload hx hb dX4_copy_144 (lv_at hl 6 rfl) ?_
          refine lv_isub hx hb dX4_copy_146 ?_
          refine lv_topi (fun v31 ev31 => ?_)
          have hf := lu_ ev31 hf
          refine lv_istore (lv' := [(7, .int v31), (0, .ref x0), (1, .int x1), (2, .int x2), (3, .int x3), (4, .int x4), (5, .int x5), (6, .int x6)]) hx hb dX4_copy_147 hl (by decide) rfl (fun ls hl => ?_)
          refine lv_aload_n hx hb dX4_copy_149 rfl (lv_at hl 1 rfl) ?_
          obtain ⟨v32, ev32, hf⟩ := bs_ hf
          refine mg_gR hx hb hts hown hKn hH ev32 in_X4 rfl (by decide) (hts _ q1194) (fun _ h9 => h9) dX4_copy_150 ?_
          refine lv_bipush (v := 100) hx hb dX4_copy_153 (by decide) ?_
          refine lv_iload_n hx hb dX4_copy_155 rfl (lv_at hl 4 rfl) ?_
          refine lv_imul hx hb dX4_copy_156 ?_
          refine lv_iload hx hb dX4_copy_157 (lv_at hl 5 rfl) ?_
          refine lv_iadd hx hb dX4_copy_159 ?_
          refine lv_iload hx hb dX4_copy_160 (lv_at hl 0 rfl) ?_
          refine lv_iadd hx hb dX4_copy_162 ?_
          refine lv_aload_n hx hb dX4_copy_163 rfl (lv_at hl 1 rfl) ?_
          obtain ⟨v33, ev33, hf⟩ := bs_ hf
          refine mg_gR hx hb hts hown hKn hH ev33 in_X4 rfl (by decide) (hts _ q1194) (fun _ h9 => h9) dX4_copy_164 ?_
          refine lv_bipush (v := 100) hx hb dX4_copy_167 (by decide) ?_
          refine lv_iload_n hx hb dX4_copy_169 rfl (lv_at hl 2 rfl) ?_
          refine lv_imul hx hb dX4_copy_170 ?_
          refine lv_iload_n hx hb dX4_copy_171 rfl (lv_at hl 3 rfl) ?_
          refine lv_iadd hx hb dX4_copy_172 ?_
          refine lv_iload hx hb dX4_copy_173 (lv_at hl 0 rfl) ?_
          refine lv_iadd hx hb dX4_copy_175 ?_
          obtain ⟨v34, ev34, hf⟩ := bs_ hf
          refine mg_iald hx hb hKn hH ev34 dX4_copy_176 ?_
          obtain ⟨M35, eM35, hf⟩ := bs_ hf
          refine mg_iast hx hb hKn hH eM35 dX4_copy_177 (fun H locs hH => ?_)
          obtain ⟨v36, ev36⟩ : ∃ z : Int32, z = x6 + 1 := ⟨_, rfl⟩
          have hf := lu_ ev36 hf
          refine lv_iinc (v := v36) (lv' := [(6, .int v36), (7, .int v31), (0, .ref x0), (1, .int x1), (2, .int x2), (3, .int x3), (4, .int x4), (5, .int x5)]) hx hb dX4_copy_178 hl (k := 7) rfl (by rw [ev36]; rfl) (by decide) rfl (fun ls hl => ?_)
          refine lv_goto (tgt := 122) hx hb dX4_copy_181 (by decide) ?_
          exact ih M35 x0 x1 x2 x3 x4 x5 v36 _ _ ls hH (lv_sub hl [2, 3, 4, 5, 6, 7, 0] rfl) hf
        · have hf := in_ c42 hf
          refine lv_iload hx hb dX4_copy_135 (lv_at hl 6 rfl) ?_
          refine lv_goto (tgt := 147) hx hb dX4_copy_137 (by decide) ?_
          refine lv_istore (lv' := [(7, .int x6), (0, .ref x0), (1, .int x1), (2, .int x2), (3, .int x3), (4, .int x4), (5, .int x5), (6, .int x6)]) hx hb dX4_copy_147 hl (by decide) rfl (fun ls hl => ?_)
          refine lv_aload_n hx hb dX4_copy_149 rfl (lv_at hl 1 rfl) ?_
          obtain ⟨v37, ev37, hf⟩ := bs_ hf
          refine mg_gR hx hb hts hown hKn hH ev37 in_X4 rfl (by decide) (hts _ q1194) (fun _ h9 => h9) dX4_copy_150 ?_
          refine lv_bipush (v := 100) hx hb dX4_copy_153 (by decide) ?_
          refine lv_iload_n hx hb dX4_copy_155 rfl (lv_at hl 4 rfl) ?_
          refine lv_imul hx hb dX4_copy_156 ?_
          refine lv_iload hx hb dX4_copy_157 (lv_at hl 5 rfl) ?_
          refine lv_iadd hx hb dX4_copy_159 ?_
          refine lv_iload hx hb dX4_copy_160 (lv_at hl 0 rfl) ?_
          refine lv_iadd hx hb dX4_copy_162 ?_
          refine lv_aload_n hx hb dX4_copy_163 rfl (lv_at hl 1 rfl) ?_
          obtain ⟨v38, ev38, hf⟩ := bs_ hf
          refine mg_gR hx hb hts hown hKn hH ev38 in_X4 rfl (by decide) (hts _ q1194) (fun _ h9 => h9) dX4_copy_164 ?_
          refine lv_bipush (v := 100) hx hb dX4_copy_167 (by decide) ?_
          refine lv_iload_n hx hb dX4_copy_169 rfl (lv_at hl 2 rfl) ?_
          refine lv_imul hx hb dX4_copy_170 ?_
          refine lv_iload_n hx hb dX4_copy_171 rfl (lv_at hl 3 rfl) ?_
          refine lv_iadd hx hb dX4_copy_172 ?_
          refine lv_iload hx hb dX4_copy_173 (lv_at hl 0 rfl) ?_
          refine lv_iadd hx hb dX4_copy_175 ?_
          obtain ⟨v39, ev39, hf⟩ := bs_ hf
          refine mg_iald hx hb hKn hH ev39 dX4_copy_176 ?_
          obtain ⟨M40, eM40, hf⟩ := bs_ hf
          refine mg_iast hx hb hKn hH eM40 dX4_copy_177 (fun H locs hH => ?_)
          obtain ⟨v41, ev41⟩ : ∃ z : Int32, z = x6 + 1 := ⟨_, rfl⟩
          have hf := lu_ ev41 hf
          refine lv_iinc (v := v41) (lv' := [(6, .int v41), (7, .int x6), (0, .ref x0), (1, .int x1), (2, .int x2), (3, .int x3), (4, .int x4), (5, .int x5)]) hx hb dX4_copy_178 hl (k := 7) rfl (by rw [ev41]; rfl) (by decide) rfl (fun ls hl => ?_)
          refine lv_goto (tgt := 122) hx hb dX4_copy_181 (by decide) ?_
          exact ih M40 x0 x1 x2 x3 x4 x5 v41 _ _ ls hH (lv_sub hl [2, 3, 4, 5, 6, 7, 0] rfl) hf
  unfold fX4_copy at hf
  refine lv_iload_n hx hb dX4_copy_0 rfl (lv_at hl 1 rfl) ?_
  obtain ⟨r1, er1⟩ : ∃ z, z = fX4_isShelf a1 := ⟨_, rfl⟩
  have hf := lu_ er1 hf
  refine cl_i0 hH (rn_S ⟨hx, hb, hml, hown, hts⟩ hKn hH (mX4_isShelf l G M n a1 r1 er1.symm) (va_cwS 1 hts (lw_S q1245 q1246 q70 q1247) rfl rfl rfl kdX4_isShelf ⟨Nat.le_of_ble_eq_true rfl, Nat.le_of_ble_eq_true rfl⟩) rfl hl.1 (Nat.le_of_ble_eq_true rfl) dX4_copy_1 ⟨(Nat.le_of_ble_eq_true rfl), (Nat.le_of_ble_eq_true rfl)⟩ rfl) (fun H locs hH => ?_)
  refine lv_if_eq (tgt := 14) hx hb dX4_copy_4 (by decide) (fun c30 => ?_) (fun c30 => ?_)
  · have hf := ip_ c30 hf
    refine lv_iconst (v := (-1)) hx hb dX4_copy_14 (by decide) ?_
    cases hf
    exact rt_i hx hb hr hlk hH dX4_copy_15
  · have hf := in_ c30 hf
    refine lv_iload_n hx hb dX4_copy_7 rfl (lv_at hl 3 rfl) ?_
    obtain ⟨r2, er2⟩ : ∃ z, z = fX4_isShelf a3 := ⟨_, rfl⟩
    have hf := lu_ er2 hf
    refine cl_i0 hH (rn_S ⟨hx, hb, hml, hown, hts⟩ hKn hH (mX4_isShelf l G M n a3 r2 er2.symm) (va_cwS 1 hts (lw_S q1245 q1246 q70 q1247) rfl rfl rfl kdX4_isShelf ⟨Nat.le_of_ble_eq_true rfl, Nat.le_of_ble_eq_true rfl⟩) rfl hl.1 (Nat.le_of_ble_eq_true rfl) dX4_copy_8 ⟨(Nat.le_of_ble_eq_true rfl), (Nat.le_of_ble_eq_true rfl)⟩ rfl) (fun H locs hH => ?_)
    refine lv_if_ne (tgt := 16) hx hb dX4_copy_11 (by decide) (fun c29 => ?_) (fun c29 => ?_)
    · have hf := in_ c29 hf
      refine lv_aload_n hx hb dX4_copy_16 rfl (lv_at hl 0 rfl) ?_
      obtain ⟨v3, ev3, hf⟩ := bs_ hf
      refine mg_gR hx hb hts hown hKn hH ev3 in_X4 rfl (by decide) (hts _ q1189) (fun _ h9 => h9) dX4_copy_17 ?_
      refine lv_iload_n hx hb dX4_copy_20 rfl (lv_at hl 1 rfl) ?_
      obtain ⟨v4, ev4, hf⟩ := bs_ hf
      refine mg_iald hx hb hKn hH ev4 dX4_copy_21 ?_
      refine lv_if_eq (tgt := 34) hx hb dX4_copy_22 (by decide) (fun c28 => ?_) (fun c28 => ?_)
      · have hf := ip_ c28 hf
        refine lv_bipush (v := (-11)) hx hb dX4_copy_34 (by decide) ?_
        cases hf
        exact rt_i hx hb hr hlk hH dX4_copy_36
      · have hf := in_ c28 hf
        refine lv_aload_n hx hb dX4_copy_25 rfl (lv_at hl 0 rfl) ?_
        obtain ⟨v5, ev5, hf⟩ := bs_ hf
        refine mg_gR hx hb hts hown hKn hH ev5 in_X4 rfl (by decide) (hts _ q1189) (fun _ h9 => h9) dX4_copy_26 ?_
        refine lv_iload_n hx hb dX4_copy_29 rfl (lv_at hl 3 rfl) ?_
        obtain ⟨v6, ev6, hf⟩ := bs_ hf
        refine mg_iald hx hb hKn hH ev6 dX4_copy_30 ?_
        refine lv_if_ne (tgt := 37) hx hb dX4_copy_31 (by decide) (fun c27 => ?_) (fun c27 => ?_)
        · have hf := in_ c27 hf
          refine lv_aload_n hx hb dX4_copy_37 rfl (lv_at hl 0 rfl) ?_
          obtain ⟨v7, ev7, hf⟩ := bs_ hf
          refine mg_gR hx hb hts hown hKn hH ev7 in_X4 rfl (by decide) (hts _ q1189) (fun _ h9 => h9) dX4_copy_38 ?_
          refine lv_iload_n hx hb dX4_copy_41 rfl (lv_at hl 1 rfl) ?_
          obtain ⟨v8, ev8, hf⟩ := bs_ hf
          refine mg_iald hx hb hKn hH ev8 dX4_copy_42 ?_
          refine lv_iconst (v := 2) hx hb dX4_copy_43 (by decide) ?_
          refine lv_icmp_ne (tgt := 72) hx hb dX4_copy_44 (by decide) (fun c26 => ?_) (fun c26 => ?_)
          · have hf := in_ c26 hf
            refine lv_bipush (v := (-12)) hx hb dX4_copy_72 (by decide) ?_
            cases hf
            exact rt_i hx hb hr hlk hH dX4_copy_74
          · have hf := ip_ c26 hf
            refine lv_aload_n hx hb dX4_copy_47 rfl (lv_at hl 0 rfl) ?_
            obtain ⟨v9, ev9, hf⟩ := bs_ hf
            refine mg_gR hx hb hts hown hKn hH ev9 in_X4 rfl (by decide) (hts _ q1189) (fun _ h9 => h9) dX4_copy_48 ?_
            refine lv_iload_n hx hb dX4_copy_51 rfl (lv_at hl 3 rfl) ?_
            obtain ⟨v10, ev10, hf⟩ := bs_ hf
            refine mg_iald hx hb hKn hH ev10 dX4_copy_52 ?_
            refine lv_iconst (v := 2) hx hb dX4_copy_53 (by decide) ?_
            refine lv_icmp_ne (tgt := 72) hx hb dX4_copy_54 (by decide) (fun c25 => ?_) (fun c25 => ?_)
            · have hf := in_ c25 hf
              refine lv_bipush (v := (-12)) hx hb dX4_copy_72 (by decide) ?_
              cases hf
              exact rt_i hx hb hr hlk hH dX4_copy_74
            · have hf := ip_ c25 hf
              refine lv_aload_n hx hb dX4_copy_57 rfl (lv_at hl 0 rfl) ?_
              obtain ⟨v11, ev11, hf⟩ := bs_ hf
              refine mg_gR hx hb hts hown hKn hH ev11 in_X4 rfl (by decide) (hts _ q1192) (fun _ h9 => h9) dX4_copy_58 ?_
              refine lv_iload_n hx hb dX4_copy_61 rfl (lv_at hl 1 rfl) ?_
              obtain ⟨v12, ev12, hf⟩ := bs_ hf
              refine mg_iald hx hb hKn hH ev12 dX4_copy_62 ?_
              refine lv_aload_n hx hb dX4_copy_63 rfl (lv_at hl 0 rfl) ?_
              obtain ⟨v13, ev13, hf⟩ := bs_ hf
              refine mg_gR hx hb hts hown hKn hH ev13 in_X4 rfl (by decide) (hts _ q1192) (fun _ h9 => h9) dX4_copy_64 ?_
              refine lv_iload_n hx hb dX4_copy_67 rfl (lv_at hl 3 rfl) ?_
              obtain ⟨v14, ev14, hf⟩ := bs_ hf
              refine mg_iald hx hb hKn hH ev14 dX4_copy_68 ?_
              refine lv_icmp_eq (tgt := 75) hx hb dX4_copy_69 (by decide) (fun c24 => ?_) (fun c24 => ?_)
              · have hf := ip_ c24 hf
                refine lv_iload hx hb dX4_copy_75 (lv_at hl 5 rfl) ?_
                refine lv_if_lt (tgt := 116) hx hb dX4_copy_77 (by decide) (fun c23 => ?_) (fun c23 => ?_)
                · have hf := ip_ c23 hf
                  refine lv_bipush (v := (-13)) hx hb dX4_copy_116 (by decide) ?_
                  cases hf
                  exact rt_i hx hb hr hlk hH dX4_copy_118
                · have hf := in_ c23 hf
                  refine lv_iload_n hx hb dX4_copy_80 rfl (lv_at hl 2 rfl) ?_
                  refine lv_if_lt (tgt := 116) hx hb dX4_copy_81 (by decide) (fun c22 => ?_) (fun c22 => ?_)
                  · have hf := ip_ c22 hf
                    refine lv_bipush (v := (-13)) hx hb dX4_copy_116 (by decide) ?_
                    cases hf
                    exact rt_i hx hb hr hlk hH dX4_copy_118
                  · have hf := in_ c22 hf
                    refine lv_iload hx hb dX4_copy_84 (lv_at hl 4 rfl) ?_
                    refine lv_if_lt (tgt := 116) hx hb dX4_copy_86 (by decide) (fun c21 => ?_) (fun c21 => ?_)
                    · have hf := ip_ c21 hf
                      refine lv_bipush (v := (-13)) hx hb dX4_copy_116 (by decide) ?_
                      cases hf
                      exact rt_i hx hb hr hlk hH dX4_copy_118
                    · have hf := in_ c21 hf
                      refine lv_iload hx hb dX4_copy_89 (lv_at hl 5 rfl) ?_
                      refine lv_aload_n hx hb dX4_copy_91 rfl (lv_at hl 0 rfl) ?_
                      obtain ⟨v15, ev15, hf⟩ := bs_ hf
                      refine mg_gR hx hb hts hown hKn hH ev15 in_X4 rfl (by decide) (hts _ q1193) (fun _ h9 => h9) dX4_copy_92 ?_
                      refine lv_iload_n hx hb dX4_copy_95 rfl (lv_at hl 1 rfl) ?_
                      obtain ⟨v16, ev16, hf⟩ := bs_ hf
                      refine mg_iald hx hb hKn hH ev16 dX4_copy_96 ?_
                      refine lv_iload_n hx hb dX4_copy_97 rfl (lv_at hl 2 rfl) ?_
                      refine lv_isub hx hb dX4_copy_98 ?_
                      refine lv_icmp_gt (tgt := 116) hx hb dX4_copy_99 (by decide) (fun c20 => ?_) (fun c20 => ?_)
                      · have hf := ip_ c20 hf
                        refine lv_bipush (v := (-13)) hx hb dX4_copy_116 (by decide) ?_
                        cases hf
                        exact rt_i hx hb hr hlk hH dX4_copy_118
                      · have hf := in_ c20 hf
                        refine lv_iload hx hb dX4_copy_102 (lv_at hl 5 rfl) ?_
                        refine lv_aload_n hx hb dX4_copy_104 rfl (lv_at hl 0 rfl) ?_
                        obtain ⟨v17, ev17, hf⟩ := bs_ hf
                        refine mg_gR hx hb hts hown hKn hH ev17 in_X4 rfl (by decide) (hts _ q1193) (fun _ h9 => h9) dX4_copy_105 ?_
                        refine lv_iload_n hx hb dX4_copy_108 rfl (lv_at hl 3 rfl) ?_
                        obtain ⟨v18, ev18, hf⟩ := bs_ hf
                        refine mg_iald hx hb hKn hH ev18 dX4_copy_109 ?_
                        refine lv_iload hx hb dX4_copy_110 (lv_at hl 4 rfl) ?_
                        refine lv_isub hx hb dX4_copy_112 ?_
                        refine lv_icmp_le (tgt := 119) hx hb dX4_copy_113 (by decide) (fun c19 => ?_) (fun c19 => ?_)
                        · have hf := ip_ c19 hf
                          refine lv_iconst (v := 0) hx hb dX4_copy_119 (by decide) ?_
                          refine lv_istore (lv' := [(6, .int 0), (0, .ref a0), (1, .int a1), (2, .int a2), (3, .int a3), (4, .int a4), (5, .int a5)]) hx hb dX4_copy_120 hl (by decide) rfl (fun ls hl => ?_)
                          exact w122 1000 M a0 a1 a2 a3 a4 a5 0 _ _ ls hH (lv_sub hl [1, 2, 3, 4, 5, 6, 0] rfl) hf
                        · have hf := in_ c19 hf
                          refine lv_bipush (v := (-13)) hx hb dX4_copy_116 (by decide) ?_
                          cases hf
                          exact rt_i hx hb hr hlk hH dX4_copy_118
              · have hf := in_ c24 hf
                refine lv_bipush (v := (-12)) hx hb dX4_copy_72 (by decide) ?_
                cases hf
                exact rt_i hx hb hr hlk hH dX4_copy_74
        · have hf := ip_ c27 hf
          refine lv_bipush (v := (-11)) hx hb dX4_copy_34 (by decide) ?_
          cases hf
          exact rt_i hx hb hr hlk hH dX4_copy_36
    · have hf := ip_ c29 hf
      refine lv_iconst (v := (-1)) hx hb dX4_copy_14 (by decide) ?_
      cases hf
      exact rt_i hx hb hr hlk hH dX4_copy_15
def fX4_costBy (a0 : Int32) (a1 : Int32) : Int32 :=
  if a0 = 1 then
    6
  else
    if a0 = 2 then
      (2 + a1)
    else
      if a0 = 3 then
        1
      else
        if a0 = 4 then
          ((2 + a1) / 2)
        else
          if a0 = 5 then
            3
          else
            if a0 = 6 then
              a1
            else
              if a0 = 7 then
                0
              else
                2
theorem kdX4_costBy : yX4_costBy.cls ≠ "java/lang/invoke/MethodHandle" ∧ yX4_costBy.cls ≠ "java/lang/invoke/VarHandle" ∧ (parseMethodDescriptor yX4_costBy.desc).map (fun d => d.parameters.length) = some 2 := by decide +kernel
set_option maxHeartbeats 4000000 in
theorem mX4_costBy (l : Launch) (G : GT_) (M : Mem_) (n : Nat) (a0 : Int32) (a1 : Int32) (r : Int32) (hf : fX4_costBy a0 a1 = r) : Ct_ G l yX4_costBy (ws_ yX4_costBy cX4_costBy 2 (some .int)) ({ frames := 0, cells := 0, slots := 0, locals := 0 }) 0 0 [.int a0, .int a1] M n (some (.int r)) M n := by
  refine en_ (by decide) (Nat.le_of_ble_eq_true rfl) ?_
  intro p e s m below meth c hx hb hr hlk hml hown hts hname hKn hH ls hl
  have hown : s.vm.findClass RX4 = some m.cls := hown
  have hl : lv_has ls 2 [(0, .int a0), (1, .int a1)] := hl
  unfold fX4_costBy at hf
  generalize s.heap = H at hH ⊢
  refine lv_iload_n hx hb dX4_costBy_0 rfl (lv_at hl 0 rfl) ?_
  by_cases c1 : a0 = 1
  · have hf := ip_ c1 hf
    refine sw_I (off := 43) (tgt := 44) hx hb dX4_costBy_1 c1 (by decide) (by decide) (by decide) (by decide) ?_
    refine lv_bipush (v := 6) hx hb dX4_costBy_44 (by decide) ?_
    subst hf
    exact rt_i hx hb hr hlk hH dX4_costBy_46
  · have hf := in_ c1 hf
    by_cases c2 : a0 = 2
    · have hf := ip_ c2 hf
      refine sw_I (off := 46) (tgt := 47) hx hb dX4_costBy_1 c2 (by decide) (by decide) (by decide) (by decide) ?_
      refine lv_iconst (v := 2) hx hb dX4_costBy_47 (by decide) ?_
      refine lv_iload_n hx hb dX4_costBy_48 rfl (lv_at hl 1 rfl) ?_
      refine lv_iadd hx hb dX4_costBy_49 ?_
      subst hf
      exact rt_i hx hb hr hlk hH dX4_costBy_50
    · have hf := in_ c2 hf
      by_cases c3 : a0 = 3
      · have hf := ip_ c3 hf
        refine sw_I (off := 50) (tgt := 51) hx hb dX4_costBy_1 c3 (by decide) (by decide) (by decide) (by decide) ?_
        refine lv_iconst (v := 1) hx hb dX4_costBy_51 (by decide) ?_
        subst hf
        exact rt_i hx hb hr hlk hH dX4_costBy_52
      · have hf := in_ c3 hf
        by_cases c4 : a0 = 4
        · have hf := ip_ c4 hf
          refine sw_I (off := 52) (tgt := 53) hx hb dX4_costBy_1 c4 (by decide) (by decide) (by decide) (by decide) ?_
          refine lv_iconst (v := 2) hx hb dX4_costBy_53 (by decide) ?_
          refine lv_iload_n hx hb dX4_costBy_54 rfl (lv_at hl 1 rfl) ?_
          refine lv_iadd hx hb dX4_costBy_55 ?_
          refine lv_iconst (v := 2) hx hb dX4_costBy_56 (by decide) ?_
          refine lv_idiv hx hb dX4_costBy_57 (by decide) ?_
          subst hf
          exact rt_i hx hb hr hlk hH dX4_costBy_58
        · have hf := in_ c4 hf
          by_cases c5 : a0 = 5
          · have hf := ip_ c5 hf
            refine sw_I (off := 58) (tgt := 59) hx hb dX4_costBy_1 c5 (by decide) (by decide) (by decide) (by decide) ?_
            refine lv_iconst (v := 3) hx hb dX4_costBy_59 (by decide) ?_
            subst hf
            exact rt_i hx hb hr hlk hH dX4_costBy_60
          · have hf := in_ c5 hf
            by_cases c6 : a0 = 6
            · have hf := ip_ c6 hf
              refine sw_I (off := 60) (tgt := 61) hx hb dX4_costBy_1 c6 (by decide) (by decide) (by decide) (by decide) ?_
              refine lv_iload_n hx hb dX4_costBy_61 rfl (lv_at hl 1 rfl) ?_
              subst hf
              exact rt_i hx hb hr hlk hH dX4_costBy_62
            · have hf := in_ c6 hf
              by_cases c7 : a0 = 7
              · have hf := ip_ c7 hf
                refine sw_I (off := 62) (tgt := 63) hx hb dX4_costBy_1 c7 (by decide) (by decide) (by decide) (by decide) ?_
                refine lv_iconst (v := 0) hx hb dX4_costBy_63 (by decide) ?_
                subst hf
                exact rt_i hx hb hr hlk hH dX4_costBy_64
              · have hf := in_ c7 hf
                refine sw_D (tgt := 65) hx hb dX4_costBy_1 [(1, 43), (2, 46), (3, 50), (4, 52), (5, 58), (6, 60), (7, 62)] (by decide) (by decide) (by decide) ⟨Or.inr (lv_neT c1 (by decide)), Or.inr (lv_neT c2 (by decide)), Or.inr (lv_neT c3 (by decide)), Or.inr (lv_neT c4 (by decide)), Or.inr (lv_neT c5 (by decide)), Or.inr (lv_neT c6 (by decide)), Or.inr (lv_neT c7 (by decide)), trivial⟩ (by decide) ?_
                refine lv_iconst (v := 2) hx hb dX4_costBy_65 (by decide) ?_
                subst hf
                exact rt_i hx hb hr hlk hH dX4_costBy_66
def fX4_cost (M : Mem_) (a0 : Nat) (a1 : Int32) : Option Int32 :=
  (ck_ M a0 3).bind fun u1 =>
  (fX4_wrongKept M a0 a1).bind fun r2 =>
  if r2 = 0 then
    (gR_ M a0 3 14).bind fun v3 =>
    (aI_ M v3 0 a1).bind fun v4 =>
    (gR_ M a0 3 15).bind fun v5 =>
    (aI_ M v5 0 a1).bind fun v6 =>
    lt_ (fX4_costBy v4 v6) fun r7 =>
    some r7
  else
    some r2
theorem kdX4_cost : yX4_cost.cls ≠ "java/lang/invoke/MethodHandle" ∧ yX4_cost.cls ≠ "java/lang/invoke/VarHandle" ∧ (parseMethodDescriptor yX4_cost.desc).map (fun d => d.parameters.length) = some 1 := by decide +kernel
set_option maxHeartbeats 4000000 in
theorem mX4_cost (l : Launch) (G : GT_) (M : Mem_) (n : Nat) (a0 : Nat) (a1 : Int32) (r : Int32) (hf : fX4_cost M a0 a1 = some r) : Ct_ G l yX4_cost (ws_ yX4_cost cX4_cost 3 (some .int)) ({ frames := 3, cells := 0, slots := 0, locals := 63 }) 0 0 [.ref a0, .int a1] M n (some (.int r)) M n := by
  refine en_ (by decide) (Nat.le_of_ble_eq_true rfl) ?_
  intro p e s m below meth c hx hb hr hlk hml hown hts hname hKn hH ls hl
  have hown : s.vm.findClass RX4 = some m.cls := hown
  have hl : lv_has ls 3 [(0, .ref a0), (1, .int a1)] := hl
  unfold fX4_cost at hf
  generalize s.heap = H at hH ⊢
  refine lv_aload_n hx hb dX4_cost_0 rfl (lv_at hl 0 rfl) ?_
  refine lv_iload_n hx hb dX4_cost_1 rfl (lv_at hl 1 rfl) ?_
  obtain ⟨u1, eu1, hf⟩ := bs_ hf
  obtain ⟨r2, er2, hf⟩ := bs_ hf
  refine cl_i0 hH (rn_V ⟨hx, hb, hml, hown, hts⟩ hKn hH (mX4_wrongKept l G M n a0 a1 r2 er2) (cwV 1 hts (lw_V q1364 q1366 qs49 q70 q1367) rfl rfl rfl ⟨rfl, kdX4_wrongKept⟩ ⟨Nat.le_of_ble_eq_true rfl, Nat.le_of_ble_eq_true rfl⟩) eu1 rfl rfl hl.1 (Nat.le_of_ble_eq_true rfl) dX4_cost_2 ⟨(Nat.le_of_ble_eq_true rfl), (Nat.le_of_ble_eq_true rfl)⟩ rfl) (fun H locs hH => ?_)
  refine lv_istore_n (lv' := [(2, .int r2), (0, .ref a0), (1, .int a1)]) hx hb dX4_cost_5 rfl hl (by decide) rfl (fun ls hl => ?_)
  refine lv_iload_n hx hb dX4_cost_6 rfl (lv_at hl 0 rfl) ?_
  refine lv_if_eq (tgt := 14) hx hb dX4_cost_7 (by decide) (fun c8 => ?_) (fun c8 => ?_)
  · have hf := ip_ c8 hf
    refine lv_aload_n hx hb dX4_cost_14 rfl (lv_at hl 1 rfl) ?_
    obtain ⟨v3, ev3, hf⟩ := bs_ hf
    refine mg_gR hx hb hts hown hKn hH ev3 in_X4 rfl (by decide) (hts _ q1190) (fun _ h9 => h9) dX4_cost_15 ?_
    refine lv_iload_n hx hb dX4_cost_18 rfl (lv_at hl 2 rfl) ?_
    obtain ⟨v4, ev4, hf⟩ := bs_ hf
    refine mg_iald hx hb hKn hH ev4 dX4_cost_19 ?_
    refine lv_aload_n hx hb dX4_cost_20 rfl (lv_at hl 1 rfl) ?_
    obtain ⟨v5, ev5, hf⟩ := bs_ hf
    refine mg_gR hx hb hts hown hKn hH ev5 in_X4 rfl (by decide) (hts _ q1191) (fun _ h9 => h9) dX4_cost_21 ?_
    refine lv_iload_n hx hb dX4_cost_24 rfl (lv_at hl 2 rfl) ?_
    obtain ⟨v6, ev6, hf⟩ := bs_ hf
    refine mg_iald hx hb hKn hH ev6 dX4_cost_25 ?_
    obtain ⟨r7, er7⟩ : ∃ z, z = fX4_costBy v4 v6 := ⟨_, rfl⟩
    have hf := lu_ er7 hf
    refine cl_i0 hH (rn_S ⟨hx, hb, hml, hown, hts⟩ hKn hH (mX4_costBy l G M n v4 v6 r7 er7.symm) (va_cwS 2 hts (lw_S q1603 q1604 q70 q1605) rfl rfl rfl kdX4_costBy ⟨Nat.le_of_ble_eq_true rfl, Nat.le_of_ble_eq_true rfl⟩) rfl hl.1 (Nat.le_of_ble_eq_true rfl) dX4_cost_26 ⟨(Nat.le_of_ble_eq_true rfl), (Nat.le_of_ble_eq_true rfl)⟩ rfl) (fun H locs hH => ?_)
    cases hf
    exact rt_i hx hb hr hlk hH dX4_cost_29
  · have hf := in_ c8 hf
    refine lv_iload_n hx hb dX4_cost_10 rfl (lv_at hl 0 rfl) ?_
    refine lv_goto (tgt := 29) hx hb dX4_cost_11 (by decide) ?_
    cases hf
    exact rt_i hx hb hr hlk hH dX4_cost_29
def fX4_toss (M : Mem_) (a0 : Nat) (a1 : Int32) : Option Int32 :=
  (ck_ M a0 3).bind fun u1 =>
  (fX4_wrongKept M a0 a1).bind fun r2 =>
  if r2 = 0 then
    (gR_ M a0 3 14).bind fun v3 =>
    (aI_ M v3 0 a1).bind fun v4 =>
    (gR_ M a0 3 15).bind fun v5 =>
    (aI_ M v5 0 a1).bind fun v6 =>
    if v4 = 3 then
      some (-15)
    else
      if v4 = 5 then
        some (-15)
      else
        if v4 = 7 then
          some (-15)
        else
          if v6 = 0 then
            some (-15)
          else
            if v4 = 4 then
              lt_ (fX4_costBy v4 v6) fun r8 =>
              some (200 + r8)
            else
              if v4 = 2 then
                some (100 + v6)
              else
                some v6
  else
    some r2
theorem kdX4_toss : yX4_toss.cls ≠ "java/lang/invoke/MethodHandle" ∧ yX4_toss.cls ≠ "java/lang/invoke/VarHandle" ∧ (parseMethodDescriptor yX4_toss.desc).map (fun d => d.parameters.length) = some 1 := by decide +kernel
set_option maxHeartbeats 4000000 in
theorem mX4_toss (l : Launch) (G : GT_) (M : Mem_) (n : Nat) (a0 : Nat) (a1 : Int32) (r : Int32) (hf : fX4_toss M a0 a1 = some r) : Ct_ G l yX4_toss (ws_ yX4_toss cX4_toss 5 (some .int)) ({ frames := 3, cells := 0, slots := 0, locals := 63 }) 0 0 [.ref a0, .int a1] M n (some (.int r)) M n := by
  refine en_ (by decide) (Nat.le_of_ble_eq_true rfl) ?_
  intro p e s m below meth c hx hb hr hlk hml hown hts hname hKn hH ls hl
  have hown : s.vm.findClass RX4 = some m.cls := hown
  have hl : lv_has ls 5 [(0, .ref a0), (1, .int a1)] := hl
  unfold fX4_toss at hf
  generalize s.heap = H at hH ⊢
  refine lv_aload_n hx hb dX4_toss_0 rfl (lv_at hl 0 rfl) ?_
  refine lv_iload_n hx hb dX4_toss_1 rfl (lv_at hl 1 rfl) ?_
  obtain ⟨u1, eu1, hf⟩ := bs_ hf
  obtain ⟨r2, er2, hf⟩ := bs_ hf
  refine cl_i0 hH (rn_V ⟨hx, hb, hml, hown, hts⟩ hKn hH (mX4_wrongKept l G M n a0 a1 r2 er2) (cwV 1 hts (lw_V q1364 q1366 qs49 q70 q1367) rfl rfl rfl ⟨rfl, kdX4_wrongKept⟩ ⟨Nat.le_of_ble_eq_true rfl, Nat.le_of_ble_eq_true rfl⟩) eu1 rfl rfl hl.1 (Nat.le_of_ble_eq_true rfl) dX4_toss_2 ⟨(Nat.le_of_ble_eq_true rfl), (Nat.le_of_ble_eq_true rfl)⟩ rfl) (fun H locs hH => ?_)
  refine lv_istore_n (lv' := [(2, .int r2), (0, .ref a0), (1, .int a1)]) hx hb dX4_toss_5 rfl hl (by decide) rfl (fun ls hl => ?_)
  refine lv_iload_n hx hb dX4_toss_6 rfl (lv_at hl 0 rfl) ?_
  refine lv_if_eq (tgt := 12) hx hb dX4_toss_7 (by decide) (fun c14 => ?_) (fun c14 => ?_)
  · have hf := ip_ c14 hf
    refine lv_aload_n hx hb dX4_toss_12 rfl (lv_at hl 1 rfl) ?_
    obtain ⟨v3, ev3, hf⟩ := bs_ hf
    refine mg_gR hx hb hts hown hKn hH ev3 in_X4 rfl (by decide) (hts _ q1190) (fun _ h9 => h9) dX4_toss_13 ?_
    refine lv_iload_n hx hb dX4_toss_16 rfl (lv_at hl 2 rfl) ?_
    obtain ⟨v4, ev4, hf⟩ := bs_ hf
    refine mg_iald hx hb hKn hH ev4 dX4_toss_17 ?_
    refine lv_istore_n (lv' := [(3, .int v4), (2, .int r2), (0, .ref a0), (1, .int a1)]) hx hb dX4_toss_18 rfl hl (by decide) rfl (fun ls hl => ?_)
    refine lv_aload_n hx hb dX4_toss_19 rfl (lv_at hl 2 rfl) ?_
    obtain ⟨v5, ev5, hf⟩ := bs_ hf
    refine mg_gR hx hb hts hown hKn hH ev5 in_X4 rfl (by decide) (hts _ q1191) (fun _ h9 => h9) dX4_toss_20 ?_
    refine lv_iload_n hx hb dX4_toss_23 rfl (lv_at hl 3 rfl) ?_
    obtain ⟨v6, ev6, hf⟩ := bs_ hf
    refine mg_iald hx hb hKn hH ev6 dX4_toss_24 ?_
    refine lv_istore (lv' := [(4, .int v6), (3, .int v4), (2, .int r2), (0, .ref a0), (1, .int a1)]) hx hb dX4_toss_25 hl (by decide) rfl (fun ls hl => ?_)
    refine lv_iload_n hx hb dX4_toss_27 rfl (lv_at hl 1 rfl) ?_
    refine lv_iconst (v := 3) hx hb dX4_toss_28 (by decide) ?_
    refine lv_icmp_eq (tgt := 48) hx hb dX4_toss_29 (by decide) (fun c13 => ?_) (fun c13 => ?_)
    · have hf := ip_ c13 hf
      refine lv_bipush (v := (-15)) hx hb dX4_toss_48 (by decide) ?_
      cases hf
      exact rt_i hx hb hr hlk hH dX4_toss_50
    · have hf := in_ c13 hf
      refine lv_iload_n hx hb dX4_toss_32 rfl (lv_at hl 1 rfl) ?_
      refine lv_iconst (v := 5) hx hb dX4_toss_33 (by decide) ?_
      refine lv_icmp_eq (tgt := 48) hx hb dX4_toss_34 (by decide) (fun c12 => ?_) (fun c12 => ?_)
      · have hf := ip_ c12 hf
        refine lv_bipush (v := (-15)) hx hb dX4_toss_48 (by decide) ?_
        cases hf
        exact rt_i hx hb hr hlk hH dX4_toss_50
      · have hf := in_ c12 hf
        refine lv_iload_n hx hb dX4_toss_37 rfl (lv_at hl 1 rfl) ?_
        refine lv_bipush (v := 7) hx hb dX4_toss_38 (by decide) ?_
        refine lv_icmp_eq (tgt := 48) hx hb dX4_toss_40 (by decide) (fun c11 => ?_) (fun c11 => ?_)
        · have hf := ip_ c11 hf
          refine lv_bipush (v := (-15)) hx hb dX4_toss_48 (by decide) ?_
          cases hf
          exact rt_i hx hb hr hlk hH dX4_toss_50
        · have hf := in_ c11 hf
          refine lv_iload hx hb dX4_toss_43 (lv_at hl 0 rfl) ?_
          refine lv_if_ne (tgt := 51) hx hb dX4_toss_45 (by decide) (fun c10 => ?_) (fun c10 => ?_)
          · have hf := in_ c10 hf
            refine lv_iload_n hx hb dX4_toss_51 rfl (lv_at hl 1 rfl) ?_
            refine lv_iconst (v := 4) hx hb dX4_toss_52 (by decide) ?_
            refine lv_icmp_ne (tgt := 69) hx hb dX4_toss_53 (by decide) (fun c9 => ?_) (fun c9 => ?_)
            · have hf := in_ c9 hf
              refine lv_iload_n hx hb dX4_toss_69 rfl (lv_at hl 1 rfl) ?_
              refine lv_iconst (v := 2) hx hb dX4_toss_70 (by decide) ?_
              refine lv_icmp_ne (tgt := 82) hx hb dX4_toss_71 (by decide) (fun c7 => ?_) (fun c7 => ?_)
              · have hf := in_ c7 hf
                refine lv_iload hx hb dX4_toss_82 (lv_at hl 0 rfl) ?_
                cases hf
                exact rt_i hx hb hr hlk hH dX4_toss_84
              · have hf := ip_ c7 hf
                refine lv_bipush (v := 100) hx hb dX4_toss_74 (by decide) ?_
                refine lv_iload hx hb dX4_toss_76 (lv_at hl 0 rfl) ?_
                refine lv_iadd hx hb dX4_toss_78 ?_
                refine lv_goto (tgt := 84) hx hb dX4_toss_79 (by decide) ?_
                cases hf
                exact rt_i hx hb hr hlk hH dX4_toss_84
            · have hf := ip_ c9 hf
              refine lv_sipush (v := 200) hx hb dX4_toss_56 (by decide) ?_
              refine lv_iload_n hx hb dX4_toss_59 rfl (lv_at hl 1 rfl) ?_
              refine lv_iload hx hb dX4_toss_60 (lv_at hl 0 rfl) ?_
              obtain ⟨r8, er8⟩ : ∃ z, z = fX4_costBy v4 v6 := ⟨_, rfl⟩
              have hf := lu_ er8 hf
              refine cl_i0 hH (rn_S ⟨hx, hb, hml, hown, hts⟩ hKn hH (mX4_costBy l G M n v4 v6 r8 er8.symm) (va_cwS 2 hts (lw_S q1603 q1604 q70 q1605) rfl rfl rfl kdX4_costBy ⟨Nat.le_of_ble_eq_true rfl, Nat.le_of_ble_eq_true rfl⟩) rfl hl.1 (Nat.le_of_ble_eq_true rfl) dX4_toss_62 ⟨(Nat.le_of_ble_eq_true rfl), (Nat.le_of_ble_eq_true rfl)⟩ rfl) (fun H locs hH => ?_)
              refine lv_iadd hx hb dX4_toss_65 ?_
              refine lv_goto (tgt := 84) hx hb dX4_toss_66 (by decide) ?_
              cases hf
              exact rt_i hx hb hr hlk hH dX4_toss_84
          · have hf := ip_ c10 hf
            refine lv_bipush (v := (-15)) hx hb dX4_toss_48 (by decide) ?_
            cases hf
            exact rt_i hx hb hr hlk hH dX4_toss_50
  · have hf := in_ c14 hf
    refine lv_iload_n hx hb dX4_toss_10 rfl (lv_at hl 0 rfl) ?_
    cases hf
    exact rt_i hx hb hr hlk hH dX4_toss_11
