set_option maxRecDepth 100000
def fX4_readsStatement (M : Mem_) (a0 : Nat) : Option (Bool × Mem_) :=
  (ck_ M a0 3).bind fun u1 =>
  (fX4_here M a0).bind fun r2 =>
  (gI_ M a0 3 6).bind fun v3 =>
  lt_ ((v3 + 1)) fun v4 =>
  (pF_ M a0 3 6 (.int v4)).bind fun M5 =>
  if r2 = 98 then
    (ck_ M5 a0 3).bind fun u7 =>
    bw_ (fX4_readsNumber M5 a0 0 1) fun r8 M9 =>
    if (b2_ r8) = 0 then
      some (false, M9)
    else
      (ck_ M9 a0 3).bind fun u11 =>
      bw_ (fX4_readsNumber M9 a0 1 1) fun r12 M13 =>
      if (b2_ r12) = 0 then
        some (false, M13)
      else
        (ck_ M13 a0 3).bind fun u16 =>
        (fX4_here M13 a0).bind fun r17 =>
        if r17 = 59 then
          (gI_ M13 a0 3 6).bind fun v18 =>
          lt_ ((v18 + 1)) fun v19 =>
          (pF_ M13 a0 3 6 (.int v19)).bind fun M20 =>
          some (true, M20)
        else
          some (false, M13)
  else
    if r2 = 100 then
      (ck_ M5 a0 3).bind fun u25 =>
      bw_ (fX4_readsNumber M5 a0 0 1) fun r26 M27 =>
      if (b2_ r26) = 0 then
        some (false, M27)
      else
        (ck_ M27 a0 3).bind fun u28 =>
        (fX4_here M27 a0).bind fun r29 =>
        if r29 = 59 then
          (gI_ M27 a0 3 6).bind fun v30 =>
          lt_ ((v30 + 1)) fun v31 =>
          (pF_ M27 a0 3 6 (.int v31)).bind fun M32 =>
          some (true, M32)
        else
          some (false, M27)
    else
      if r2 = 102 then
        (ck_ M5 a0 3).bind fun u36 =>
        bw_ (fX4_readsNumber M5 a0 0 1) fun r37 M38 =>
        if (b2_ r37) = 0 then
          some (false, M38)
        else
          (ck_ M38 a0 3).bind fun u40 =>
          bw_ (fX4_readsNumber M38 a0 1 1) fun r41 M42 =>
          if (b2_ r41) = 0 then
            some (false, M42)
          else
            (ck_ M42 a0 3).bind fun u45 =>
            (fX4_here M42 a0).bind fun r46 =>
            if r46 = 59 then
              (gI_ M42 a0 3 6).bind fun v47 =>
              lt_ ((v47 + 1)) fun v48 =>
              (pF_ M42 a0 3 6 (.int v48)).bind fun M49 =>
              some (true, M49)
            else
              some (false, M42)
      else
        if r2 = 104 then
          (ck_ M5 a0 3).bind fun u54 =>
          bw_ (fX4_readsNumber M5 a0 0 1) fun r55 M56 =>
          if (b2_ r55) = 0 then
            some (false, M56)
          else
            (ck_ M56 a0 3).bind fun u58 =>
            bw_ (fX4_readsNumber M56 a0 1 1) fun r59 M60 =>
            if (b2_ r59) = 0 then
              some (false, M60)
            else
              (ck_ M60 a0 3).bind fun u63 =>
              (fX4_here M60 a0).bind fun r64 =>
              if r64 = 59 then
                (gI_ M60 a0 3 6).bind fun v65 =>
                lt_ ((v65 + 1)) fun v66 =>
                (pF_ M60 a0 3 6 (.int v66)).bind fun M67 =>
                some (true, M67)
              else
                some (false, M60)
        else
          if r2 = 108 then
            (ck_ M5 a0 3).bind fun u72 =>
            bw_ (fX4_readsNumber M5 a0 0 1) fun r73 M74 =>
            if (b2_ r73) = 0 then
              some (false, M74)
            else
              (ck_ M74 a0 3).bind fun u75 =>
              (fX4_here M74 a0).bind fun r76 =>
              if r76 = 59 then
                (gI_ M74 a0 3 6).bind fun v77 =>
                lt_ ((v77 + 1)) fun v78 =>
                (pF_ M74 a0 3 6 (.int v78)).bind fun M79 =>
                some (true, M79)
              else
                some (false, M74)
          else
            if r2 = 112 then
              (ck_ M5 a0 3).bind fun u83 =>
              bw_ (fX4_readsNumber M5 a0 0 1) fun r84 M85 =>
              if (b2_ r84) = 0 then
                some (false, M85)
              else
                (ck_ M85 a0 3).bind fun u87 =>
                bw_ (fX4_readsNumber M85 a0 1 1) fun r88 M89 =>
                if (b2_ r88) = 0 then
                  some (false, M89)
                else
                  (ck_ M89 a0 3).bind fun u91 =>
                  bw_ (fX4_readsNumber M89 a0 2 1) fun r92 M93 =>
                  if (b2_ r92) = 0 then
                    some (false, M93)
                  else
                    (ck_ M93 a0 3).bind fun u96 =>
                    (fX4_here M93 a0).bind fun r97 =>
                    if r97 = 59 then
                      (gI_ M93 a0 3 6).bind fun v98 =>
                      lt_ ((v98 + 1)) fun v99 =>
                      (pF_ M93 a0 3 6 (.int v99)).bind fun M100 =>
                      some (true, M100)
                    else
                      some (false, M93)
            else
              if r2 = 116 then
                (ck_ M5 a0 3).bind fun u106 =>
                bw_ (fX4_readsNumber M5 a0 0 1) fun r107 M108 =>
                if (b2_ r107) = 0 then
                  some (false, M108)
                else
                  (ck_ M108 a0 3).bind fun u110 =>
                  bw_ (fX4_readsNumber M108 a0 1 2) fun r111 M112 =>
                  if (b2_ r111) = 0 then
                    some (false, M112)
                  else
                    (ck_ M112 a0 3).bind fun u115 =>
                    (fX4_here M112 a0).bind fun r116 =>
                    if r116 = 59 then
                      (gI_ M112 a0 3 6).bind fun v117 =>
                      lt_ ((v117 + 1)) fun v118 =>
                      (pF_ M112 a0 3 6 (.int v118)).bind fun M119 =>
                      some (true, M119)
                    else
                      some (false, M112)
              else
                if r2 = 120 then
                  (ck_ M5 a0 3).bind fun u124 =>
                  bw_ (fX4_readsNumber M5 a0 0 1) fun r125 M126 =>
                  if (b2_ r125) = 0 then
                    some (false, M126)
                  else
                    (ck_ M126 a0 3).bind fun u128 =>
                    bw_ (fX4_readsNumber M126 a0 1 1) fun r129 M130 =>
                    if (b2_ r129) = 0 then
                      some (false, M130)
                    else
                      (ck_ M130 a0 3).bind fun u133 =>
                      (fX4_here M130 a0).bind fun r134 =>
                      if r134 = 59 then
                        (gI_ M130 a0 3 6).bind fun v135 =>
                        lt_ ((v135 + 1)) fun v136 =>
                        (pF_ M130 a0 3 6 (.int v136)).bind fun M137 =>
                        some (true, M137)
                      else
                        some (false, M130)
                else
                  (gI_ M5 a0 3 6).bind fun v141 =>
                  lt_ ((v141 - 1)) fun v142 =>
                  (pF_ M5 a0 3 6 (.int v142)).bind fun M143 =>
                  some (false, M143)
theorem kdX4_readsStatement : yX4_readsStatement.cls ≠ "java/lang/invoke/MethodHandle" ∧ yX4_readsStatement.cls ≠ "java/lang/invoke/VarHandle" ∧ (parseMethodDescriptor yX4_readsStatement.desc).map (fun d => d.parameters.length) = some 0 := by decide +kernel
set_option maxHeartbeats 4000000 in
theorem mX4_readsStatement (l : Launch) (G : GT_) (M : Mem_) (n : Nat) (a0 : Nat) (r : Bool) (M1 : Mem_) (hf : fX4_readsStatement M a0 = some (r, M1)) : Ct_ G l yX4_readsStatement (ws_ yX4_readsStatement cX4_readsStatement 3 (some .boolean)) ({ frames := 2, cells := 0, slots := 0, locals := 45 }) 0 0 [.ref a0] M n (some (.int (b2_ r))) M1 n := by
  refine en_ (by decide) (Nat.le_of_ble_eq_true rfl) ?_
  intro p e s m below meth c hx hb hr hlk hml hown hts hname hKn hH ls hl
  have hown : s.vm.findClass RX4 = some m.cls := hown
  have hl : lv_has ls 3 [(0, .ref a0)] := hl
  unfold fX4_readsStatement at hf
  generalize s.heap = H at hH ⊢
  refine lv_aload_n hx hb dX4_readsStatement_0 rfl (lv_at hl 0 rfl) ?_
  obtain ⟨u1, eu1, hf⟩ := bs_ hf
  obtain ⟨r2, er2, hf⟩ := bs_ hf
  refine cl_i0 hH (rn_V ⟨hx, hb, hml, hown, hts⟩ hKn hH (mX4_here l G M n a0 r2 er2) (cwV 0 hts (lw_V q1255 q1257 qs40 q70 q1258) rfl rfl rfl ⟨rfl, kdX4_here⟩ ⟨Nat.le_of_ble_eq_true rfl, Nat.le_of_ble_eq_true rfl⟩) eu1 rfl rfl hl.1 (Nat.le_of_ble_eq_true rfl) dX4_readsStatement_1 ⟨(Nat.le_of_ble_eq_true rfl), (Nat.le_of_ble_eq_true rfl)⟩ rfl) (fun H locs hH => ?_)
  refine lv_istore_n (lv' := [(1, .int r2), (0, .ref a0)]) hx hb dX4_readsStatement_4 rfl hl (by decide) rfl (fun ls hl => ?_)
  refine lv_aload_n hx hb dX4_readsStatement_5 rfl (lv_at hl 1 rfl) ?_
  refine lv_dup hx hb dX4_readsStatement_6 rfl ?_
  obtain ⟨v3, ev3, hf⟩ := bs_ hf
  refine mg_gI hx hb hts hown hKn hH ev3 in_X4 rfl (by decide) (hts _ q1182) (fun _ h9 => h9) dX4_readsStatement_7 ?_
  refine lv_iconst (v := 1) hx hb dX4_readsStatement_10 (by decide) ?_
  refine lv_iadd hx hb dX4_readsStatement_11 ?_
  refine lv_topi (fun v4 ev4 => ?_)
  have hf := lu_ ev4 hf
  obtain ⟨M5, eM5, hf⟩ := bs_ hf
  refine mg_pF hx hb hts hown hKn hH eM5 in_X4 tyX4_ok nmX4 rfl (by decide) (hts _ q1182) (fun _ h9 => h9) rfl rfl rfl dX4_readsStatement_12 (fun H locs hH => ?_)
  refine lv_iload_n hx hb dX4_readsStatement_15 rfl (lv_at hl 0 rfl) ?_
  by_cases c6 : r2 = 98
  · have hf := ip_ c6 hf
    refine sw_I (off := 108) (tgt := 124) hx hb dX4_readsStatement_16 c6 (by decide) (by decide) (by decide) (by decide) ?_
    refine lv_aload_n hx hb dX4_readsStatement_124 rfl (lv_at hl 1 rfl) ?_
    refine lv_iconst (v := 0) hx hb dX4_readsStatement_125 (by decide) ?_
    refine lv_iconst (v := 1) hx hb dX4_readsStatement_126 (by decide) ?_
    obtain ⟨u7, eu7, hf⟩ := bs_ hf
    obtain ⟨r8, M9, er8, hf⟩ := bws_ hf
    refine cl_i0 hH (rn_V ⟨hx, hb, hml, hown, hts⟩ hKn hH (mX4_readsNumber l G M5 n a0 0 1 r8 M9 er8) (cwV 2 hts (lw_V q1259 q1261 qs41 q70 q1262) rfl rfl rfl ⟨rfl, kdX4_readsNumber⟩ ⟨Nat.le_of_ble_eq_true rfl, Nat.le_of_ble_eq_true rfl⟩) eu7 rfl rfl hl.1 (Nat.le_of_ble_eq_true rfl) dX4_readsStatement_127 ⟨(Nat.le_of_ble_eq_true rfl), (Nat.le_of_ble_eq_true rfl)⟩ rfl) (fun H locs hH => ?_)
    refine lv_if_eq (tgt := 146) hx hb dX4_readsStatement_130 (by decide) (fun c23 => ?_) (fun c23 => ?_)
    · have hf := ip_ c23 hf
      refine lv_iconst (v := 0) hx hb dX4_readsStatement_146 (by decide) ?_
      refine lv_istore_n (lv' := [(2, .int 0), (1, .int r2), (0, .ref a0)]) hx hb dX4_readsStatement_147 rfl hl (by decide) rfl (fun ls hl => ?_)
      refine lv_goto (tgt := 236) hx hb dX4_readsStatement_148 (by decide) ?_
      refine lv_iload_n hx hb dX4_readsStatement_236 rfl (lv_at hl 0 rfl) ?_
      refine lv_if_eq (tgt := 249) hx hb dX4_readsStatement_237 (by decide) (fun c10 => ?_) (fun c10 => ?_)
      · refine lv_iconst (v := 0) hx hb dX4_readsStatement_249 (by decide) ?_
        cases hf
        exact rt_b (b := false) hx hb hr hlk hH dX4_readsStatement_250
      · exact absurd c10 (by decide)
    · have hf := in_ c23 hf
      refine lv_aload_n hx hb dX4_readsStatement_133 rfl (lv_at hl 1 rfl) ?_
      refine lv_iconst (v := 1) hx hb dX4_readsStatement_134 (by decide) ?_
      refine lv_iconst (v := 1) hx hb dX4_readsStatement_135 (by decide) ?_
      obtain ⟨u11, eu11, hf⟩ := bs_ hf
      obtain ⟨r12, M13, er12, hf⟩ := bws_ hf
      refine cl_i0 hH (rn_V ⟨hx, hb, hml, hown, hts⟩ hKn hH (mX4_readsNumber l G M9 n a0 1 1 r12 M13 er12) (cwV 2 hts (lw_V q1259 q1261 qs41 q70 q1262) rfl rfl rfl ⟨rfl, kdX4_readsNumber⟩ ⟨Nat.le_of_ble_eq_true rfl, Nat.le_of_ble_eq_true rfl⟩) eu11 rfl rfl hl.1 (Nat.le_of_ble_eq_true rfl) dX4_readsStatement_136 ⟨(Nat.le_of_ble_eq_true rfl), (Nat.le_of_ble_eq_true rfl)⟩ rfl) (fun H locs hH => ?_)
      refine lv_if_eq (tgt := 146) hx hb dX4_readsStatement_139 (by decide) (fun c22 => ?_) (fun c22 => ?_)
      · have hf := ip_ c22 hf
        refine lv_iconst (v := 0) hx hb dX4_readsStatement_146 (by decide) ?_
        refine lv_istore_n (lv' := [(2, .int 0), (1, .int r2), (0, .ref a0)]) hx hb dX4_readsStatement_147 rfl hl (by decide) rfl (fun ls hl => ?_)
        refine lv_goto (tgt := 236) hx hb dX4_readsStatement_148 (by decide) ?_
        refine lv_iload_n hx hb dX4_readsStatement_236 rfl (lv_at hl 0 rfl) ?_
        refine lv_if_eq (tgt := 249) hx hb dX4_readsStatement_237 (by decide) (fun c14 => ?_) (fun c14 => ?_)
        · refine lv_iconst (v := 0) hx hb dX4_readsStatement_249 (by decide) ?_
          cases hf
          exact rt_b (b := false) hx hb hr hlk hH dX4_readsStatement_250
        · exact absurd c14 (by decide)
      · have hf := in_ c22 hf
        refine lv_iconst (v := 1) hx hb dX4_readsStatement_142 (by decide) ?_
        refine lv_goto (tgt := 147) hx hb dX4_readsStatement_143 (by decide) ?_
        refine lv_istore_n (lv' := [(2, .int 1), (1, .int r2), (0, .ref a0)]) hx hb dX4_readsStatement_147 rfl hl (by decide) rfl (fun ls hl => ?_)
        refine lv_goto (tgt := 236) hx hb dX4_readsStatement_148 (by decide) ?_
        refine lv_iload_n hx hb dX4_readsStatement_236 rfl (lv_at hl 0 rfl) ?_
        refine lv_if_eq (tgt := 249) hx hb dX4_readsStatement_237 (by decide) (fun c15 => ?_) (fun c15 => ?_)
        · exact absurd c15 (by decide)
        · refine lv_aload_n hx hb dX4_readsStatement_240 rfl (lv_at hl 2 rfl) ?_
          obtain ⟨u16, eu16, hf⟩ := bs_ hf
          obtain ⟨r17, er17, hf⟩ := bs_ hf
          refine cl_i0 hH (rn_V ⟨hx, hb, hml, hown, hts⟩ hKn hH (mX4_here l G M13 n a0 r17 er17) (cwV 0 hts (lw_V q1255 q1257 qs40 q70 q1258) rfl rfl rfl ⟨rfl, kdX4_here⟩ ⟨Nat.le_of_ble_eq_true rfl, Nat.le_of_ble_eq_true rfl⟩) eu16 rfl rfl hl.1 (Nat.le_of_ble_eq_true rfl) dX4_readsStatement_241 ⟨(Nat.le_of_ble_eq_true rfl), (Nat.le_of_ble_eq_true rfl)⟩ rfl) (fun H locs hH => ?_)
          refine lv_bipush (v := 59) hx hb dX4_readsStatement_244 (by decide) ?_
          refine lv_icmp_eq (tgt := 251) hx hb dX4_readsStatement_246 (by decide) (fun c21 => ?_) (fun c21 => ?_)
          · have hf := ip_ c21 hf
            refine lv_aload_n hx hb dX4_readsStatement_251 rfl (lv_at hl 2 rfl) ?_
            refine lv_dup hx hb dX4_readsStatement_252 rfl ?_
            obtain ⟨v18, ev18, hf⟩ := bs_ hf
            refine mg_gI hx hb hts hown hKn hH ev18 in_X4 rfl (by decide) (hts _ q1182) (fun _ h9 => h9) dX4_readsStatement_253 ?_
            refine lv_iconst (v := 1) hx hb dX4_readsStatement_256 (by decide) ?_
            refine lv_iadd hx hb dX4_readsStatement_257 ?_
            refine lv_topi (fun v19 ev19 => ?_)
            have hf := lu_ ev19 hf
            obtain ⟨M20, eM20, hf⟩ := bs_ hf
            refine mg_pF hx hb hts hown hKn hH eM20 in_X4 tyX4_ok nmX4 rfl (by decide) (hts _ q1182) (fun _ h9 => h9) rfl rfl rfl dX4_readsStatement_258 (fun H locs hH => ?_)
            refine lv_iconst (v := 1) hx hb dX4_readsStatement_261 (by decide) ?_
            cases hf
            exact rt_b (b := true) hx hb hr hlk hH dX4_readsStatement_262
          · have hf := in_ c21 hf
            refine lv_iconst (v := 0) hx hb dX4_readsStatement_249 (by decide) ?_
            cases hf
            exact rt_b (b := false) hx hb hr hlk hH dX4_readsStatement_250
  · have hf := in_ c6 hf
    by_cases c24 : r2 = 100
    · have hf := ip_ c24 hf
      refine sw_I (off := 198) (tgt := 214) hx hb dX4_readsStatement_16 c24 (by decide) (by decide) (by decide) (by decide) ?_
      refine lv_aload_n hx hb dX4_readsStatement_214 rfl (lv_at hl 1 rfl) ?_
      refine lv_iconst (v := 0) hx hb dX4_readsStatement_215 (by decide) ?_
      refine lv_iconst (v := 1) hx hb dX4_readsStatement_216 (by decide) ?_
      obtain ⟨u25, eu25, hf⟩ := bs_ hf
      obtain ⟨r26, M27, er26, hf⟩ := bws_ hf
      refine cl_i0 hH (rn_V ⟨hx, hb, hml, hown, hts⟩ hKn hH (mX4_readsNumber l G M5 n a0 0 1 r26 M27 er26) (cwV 2 hts (lw_V q1259 q1261 qs41 q70 q1262) rfl rfl rfl ⟨rfl, kdX4_readsNumber⟩ ⟨Nat.le_of_ble_eq_true rfl, Nat.le_of_ble_eq_true rfl⟩) eu25 rfl rfl hl.1 (Nat.le_of_ble_eq_true rfl) dX4_readsStatement_217 ⟨(Nat.le_of_ble_eq_true rfl), (Nat.le_of_ble_eq_true rfl)⟩ rfl) (fun H locs hH => ?_)
      refine lv_istore_n (lv' := [(2, .int (b2_ r26)), (1, .int r2), (0, .ref a0)]) hx hb dX4_readsStatement_220 rfl hl (by decide) rfl (fun ls hl => ?_)
      refine lv_goto (tgt := 236) hx hb dX4_readsStatement_221 (by decide) ?_
      refine lv_iload_n hx hb dX4_readsStatement_236 rfl (lv_at hl 0 rfl) ?_
      refine lv_if_eq (tgt := 249) hx hb dX4_readsStatement_237 (by decide) (fun c34 => ?_) (fun c34 => ?_)
      · have hf := ip_ c34 hf
        refine lv_iconst (v := 0) hx hb dX4_readsStatement_249 (by decide) ?_
        cases hf
        exact rt_b (b := false) hx hb hr hlk hH dX4_readsStatement_250
      · have hf := in_ c34 hf
        refine lv_aload_n hx hb dX4_readsStatement_240 rfl (lv_at hl 2 rfl) ?_
        obtain ⟨u28, eu28, hf⟩ := bs_ hf
        obtain ⟨r29, er29, hf⟩ := bs_ hf
        refine cl_i0 hH (rn_V ⟨hx, hb, hml, hown, hts⟩ hKn hH (mX4_here l G M27 n a0 r29 er29) (cwV 0 hts (lw_V q1255 q1257 qs40 q70 q1258) rfl rfl rfl ⟨rfl, kdX4_here⟩ ⟨Nat.le_of_ble_eq_true rfl, Nat.le_of_ble_eq_true rfl⟩) eu28 rfl rfl hl.1 (Nat.le_of_ble_eq_true rfl) dX4_readsStatement_241 ⟨(Nat.le_of_ble_eq_true rfl), (Nat.le_of_ble_eq_true rfl)⟩ rfl) (fun H locs hH => ?_)
        refine lv_bipush (v := 59) hx hb dX4_readsStatement_244 (by decide) ?_
        refine lv_icmp_eq (tgt := 251) hx hb dX4_readsStatement_246 (by decide) (fun c33 => ?_) (fun c33 => ?_)
        · have hf := ip_ c33 hf
          refine lv_aload_n hx hb dX4_readsStatement_251 rfl (lv_at hl 2 rfl) ?_
          refine lv_dup hx hb dX4_readsStatement_252 rfl ?_
          obtain ⟨v30, ev30, hf⟩ := bs_ hf
          refine mg_gI hx hb hts hown hKn hH ev30 in_X4 rfl (by decide) (hts _ q1182) (fun _ h9 => h9) dX4_readsStatement_253 ?_
          refine lv_iconst (v := 1) hx hb dX4_readsStatement_256 (by decide) ?_
          refine lv_iadd hx hb dX4_readsStatement_257 ?_
          refine lv_topi (fun v31 ev31 => ?_)
          have hf := lu_ ev31 hf
          obtain ⟨M32, eM32, hf⟩ := bs_ hf
          refine mg_pF hx hb hts hown hKn hH eM32 in_X4 tyX4_ok nmX4 rfl (by decide) (hts _ q1182) (fun _ h9 => h9) rfl rfl rfl dX4_readsStatement_258 (fun H locs hH => ?_)
          refine lv_iconst (v := 1) hx hb dX4_readsStatement_261 (by decide) ?_
          cases hf
          exact rt_b (b := true) hx hb hr hlk hH dX4_readsStatement_262
        · have hf := in_ c33 hf
          refine lv_iconst (v := 0) hx hb dX4_readsStatement_249 (by decide) ?_
          cases hf
          exact rt_b (b := false) hx hb hr hlk hH dX4_readsStatement_250
    · have hf := in_ c24 hf
      by_cases c35 : r2 = 102
      · have hf := ip_ c35 hf
        refine sw_I (off := 108) (tgt := 124) hx hb dX4_readsStatement_16 c35 (by decide) (by decide) (by decide) (by decide) ?_
        refine lv_aload_n hx hb dX4_readsStatement_124 rfl (lv_at hl 1 rfl) ?_
        refine lv_iconst (v := 0) hx hb dX4_readsStatement_125 (by decide) ?_
        refine lv_iconst (v := 1) hx hb dX4_readsStatement_126 (by decide) ?_
        obtain ⟨u36, eu36, hf⟩ := bs_ hf
        obtain ⟨r37, M38, er37, hf⟩ := bws_ hf
        refine cl_i0 hH (rn_V ⟨hx, hb, hml, hown, hts⟩ hKn hH (mX4_readsNumber l G M5 n a0 0 1 r37 M38 er37) (cwV 2 hts (lw_V q1259 q1261 qs41 q70 q1262) rfl rfl rfl ⟨rfl, kdX4_readsNumber⟩ ⟨Nat.le_of_ble_eq_true rfl, Nat.le_of_ble_eq_true rfl⟩) eu36 rfl rfl hl.1 (Nat.le_of_ble_eq_true rfl) dX4_readsStatement_127 ⟨(Nat.le_of_ble_eq_true rfl), (Nat.le_of_ble_eq_true rfl)⟩ rfl) (fun H locs hH => ?_)
        refine lv_if_eq (tgt := 146) hx hb dX4_readsStatement_130 (by decide) (fun c52 => ?_) (fun c52 => ?_)
        · have hf := ip_ c52 hf
          refine lv_iconst (v := 0) hx hb dX4_readsStatement_146 (by decide) ?_
          refine lv_istore_n (lv' := [(2, .int 0), (1, .int r2), (0, .ref a0)]) hx hb dX4_readsStatement_147 rfl hl (by decide) rfl (fun ls hl => ?_)
          refine lv_goto (tgt := 236) hx hb dX4_readsStatement_148 (by decide) ?_
          refine lv_iload_n hx hb dX4_readsStatement_236 rfl (lv_at hl 0 rfl) ?_
          refine lv_if_eq (tgt := 249) hx hb dX4_readsStatement_237 (by decide) (fun c39 => ?_) (fun c39 => ?_)
          · refine lv_iconst (v := 0) hx hb dX4_readsStatement_249 (by decide) ?_
            cases hf
            exact rt_b (b := false) hx hb hr hlk hH dX4_readsStatement_250
          · exact absurd c39 (by decide)
        · have hf := in_ c52 hf
          refine lv_aload_n hx hb dX4_readsStatement_133 rfl (lv_at hl 1 rfl) ?_
          refine lv_iconst (v := 1) hx hb dX4_readsStatement_134 (by decide) ?_
          refine lv_iconst (v := 1) hx hb dX4_readsStatement_135 (by decide) ?_
          obtain ⟨u40, eu40, hf⟩ := bs_ hf
          obtain ⟨r41, M42, er41, hf⟩ := bws_ hf
          refine cl_i0 hH (rn_V ⟨hx, hb, hml, hown, hts⟩ hKn hH (mX4_readsNumber l G M38 n a0 1 1 r41 M42 er41) (cwV 2 hts (lw_V q1259 q1261 qs41 q70 q1262) rfl rfl rfl ⟨rfl, kdX4_readsNumber⟩ ⟨Nat.le_of_ble_eq_true rfl, Nat.le_of_ble_eq_true rfl⟩) eu40 rfl rfl hl.1 (Nat.le_of_ble_eq_true rfl) dX4_readsStatement_136 ⟨(Nat.le_of_ble_eq_true rfl), (Nat.le_of_ble_eq_true rfl)⟩ rfl) (fun H locs hH => ?_)
          refine lv_if_eq (tgt := 146) hx hb dX4_readsStatement_139 (by decide) (fun c51 => ?_) (fun c51 => ?_)
          · have hf := ip_ c51 hf
            refine lv_iconst (v := 0) hx hb dX4_readsStatement_146 (by decide) ?_
            refine lv_istore_n (lv' := [(2, .int 0), (1, .int r2), (0, .ref a0)]) hx hb dX4_readsStatement_147 rfl hl (by decide) rfl (fun ls hl => ?_)
            refine lv_goto (tgt := 236) hx hb dX4_readsStatement_148 (by decide) ?_
            refine lv_iload_n hx hb dX4_readsStatement_236 rfl (lv_at hl 0 rfl) ?_
            refine lv_if_eq (tgt := 249) hx hb dX4_readsStatement_237 (by decide) (fun c43 => ?_) (fun c43 => ?_)
            · refine lv_iconst (v := 0) hx hb dX4_readsStatement_249 (by decide) ?_
              cases hf
              exact rt_b (b := false) hx hb hr hlk hH dX4_readsStatement_250
            · exact absurd c43 (by decide)
          · have hf := in_ c51 hf
            refine lv_iconst (v := 1) hx hb dX4_readsStatement_142 (by decide) ?_
            refine lv_goto (tgt := 147) hx hb dX4_readsStatement_143 (by decide) ?_
            refine lv_istore_n (lv' := [(2, .int 1), (1, .int r2), (0, .ref a0)]) hx hb dX4_readsStatement_147 rfl hl (by decide) rfl (fun ls hl => ?_)
            refine lv_goto (tgt := 236) hx hb dX4_readsStatement_148 (by decide) ?_
            refine lv_iload_n hx hb dX4_readsStatement_236 rfl (lv_at hl 0 rfl) ?_
            refine lv_if_eq (tgt := 249) hx hb dX4_readsStatement_237 (by decide) (fun c44 => ?_) (fun c44 => ?_)
            · exact absurd c44 (by decide)
            · refine lv_aload_n hx hb dX4_readsStatement_240 rfl (lv_at hl 2 rfl) ?_
              obtain ⟨u45, eu45, hf⟩ := bs_ hf
              obtain ⟨r46, er46, hf⟩ := bs_ hf
              refine cl_i0 hH (rn_V ⟨hx, hb, hml, hown, hts⟩ hKn hH (mX4_here l G M42 n a0 r46 er46) (cwV 0 hts (lw_V q1255 q1257 qs40 q70 q1258) rfl rfl rfl ⟨rfl, kdX4_here⟩ ⟨Nat.le_of_ble_eq_true rfl, Nat.le_of_ble_eq_true rfl⟩) eu45 rfl rfl hl.1 (Nat.le_of_ble_eq_true rfl) dX4_readsStatement_241 ⟨(Nat.le_of_ble_eq_true rfl), (Nat.le_of_ble_eq_true rfl)⟩ rfl) (fun H locs hH => ?_)
              refine lv_bipush (v := 59) hx hb dX4_readsStatement_244 (by decide) ?_
              refine lv_icmp_eq (tgt := 251) hx hb dX4_readsStatement_246 (by decide) (fun c50 => ?_) (fun c50 => ?_)
              · have hf := ip_ c50 hf
                refine lv_aload_n hx hb dX4_readsStatement_251 rfl (lv_at hl 2 rfl) ?_
                refine lv_dup hx hb dX4_readsStatement_252 rfl ?_
                obtain ⟨v47, ev47, hf⟩ := bs_ hf
                refine mg_gI hx hb hts hown hKn hH ev47 in_X4 rfl (by decide) (hts _ q1182) (fun _ h9 => h9) dX4_readsStatement_253 ?_
                refine lv_iconst (v := 1) hx hb dX4_readsStatement_256 (by decide) ?_
                refine lv_iadd hx hb dX4_readsStatement_257 ?_
                refine lv_topi (fun v48 ev48 => ?_)
                have hf := lu_ ev48 hf
                obtain ⟨M49, eM49, hf⟩ := bs_ hf
                refine mg_pF hx hb hts hown hKn hH eM49 in_X4 tyX4_ok nmX4 rfl (by decide) (hts _ q1182) (fun _ h9 => h9) rfl rfl rfl dX4_readsStatement_258 (fun H locs hH => ?_)
                refine lv_iconst (v := 1) hx hb dX4_readsStatement_261 (by decide) ?_
                cases hf
                exact rt_b (b := true) hx hb hr hlk hH dX4_readsStatement_262
              · have hf := in_ c50 hf
                refine lv_iconst (v := 0) hx hb dX4_readsStatement_249 (by decide) ?_
                cases hf
                exact rt_b (b := false) hx hb hr hlk hH dX4_readsStatement_250
      · have hf := in_ c35 hf
        by_cases c53 : r2 = 104
        · have hf := ip_ c53 hf
          refine sw_I (off := 108) (tgt := 124) hx hb dX4_readsStatement_16 c53 (by decide) (by decide) (by decide) (by decide) ?_
          refine lv_aload_n hx hb dX4_readsStatement_124 rfl (lv_at hl 1 rfl) ?_
          refine lv_iconst (v := 0) hx hb dX4_readsStatement_125 (by decide) ?_
          refine lv_iconst (v := 1) hx hb dX4_readsStatement_126 (by decide) ?_
          obtain ⟨u54, eu54, hf⟩ := bs_ hf
          obtain ⟨r55, M56, er55, hf⟩ := bws_ hf
          refine cl_i0 hH (rn_V ⟨hx, hb, hml, hown, hts⟩ hKn hH (mX4_readsNumber l G M5 n a0 0 1 r55 M56 er55) (cwV 2 hts (lw_V q1259 q1261 qs41 q70 q1262) rfl rfl rfl ⟨rfl, kdX4_readsNumber⟩ ⟨Nat.le_of_ble_eq_true rfl, Nat.le_of_ble_eq_true rfl⟩) eu54 rfl rfl hl.1 (Nat.le_of_ble_eq_true rfl) dX4_readsStatement_127 ⟨(Nat.le_of_ble_eq_true rfl), (Nat.le_of_ble_eq_true rfl)⟩ rfl) (fun H locs hH => ?_)
          refine lv_if_eq (tgt := 146) hx hb dX4_readsStatement_130 (by decide) (fun c70 => ?_) (fun c70 => ?_)
          · have hf := ip_ c70 hf
            refine lv_iconst (v := 0) hx hb dX4_readsStatement_146 (by decide) ?_
            refine lv_istore_n (lv' := [(2, .int 0), (1, .int r2), (0, .ref a0)]) hx hb dX4_readsStatement_147 rfl hl (by decide) rfl (fun ls hl => ?_)
            refine lv_goto (tgt := 236) hx hb dX4_readsStatement_148 (by decide) ?_
            refine lv_iload_n hx hb dX4_readsStatement_236 rfl (lv_at hl 0 rfl) ?_
            refine lv_if_eq (tgt := 249) hx hb dX4_readsStatement_237 (by decide) (fun c57 => ?_) (fun c57 => ?_)
            · refine lv_iconst (v := 0) hx hb dX4_readsStatement_249 (by decide) ?_
              cases hf
              exact rt_b (b := false) hx hb hr hlk hH dX4_readsStatement_250
            · exact absurd c57 (by decide)
          · have hf := in_ c70 hf
            refine lv_aload_n hx hb dX4_readsStatement_133 rfl (lv_at hl 1 rfl) ?_
            refine lv_iconst (v := 1) hx hb dX4_readsStatement_134 (by decide) ?_
            refine lv_iconst (v := 1) hx hb dX4_readsStatement_135 (by decide) ?_
            obtain ⟨u58, eu58, hf⟩ := bs_ hf
            obtain ⟨r59, M60, er59, hf⟩ := bws_ hf
            refine cl_i0 hH (rn_V ⟨hx, hb, hml, hown, hts⟩ hKn hH (mX4_readsNumber l G M56 n a0 1 1 r59 M60 er59) (cwV 2 hts (lw_V q1259 q1261 qs41 q70 q1262) rfl rfl rfl ⟨rfl, kdX4_readsNumber⟩ ⟨Nat.le_of_ble_eq_true rfl, Nat.le_of_ble_eq_true rfl⟩) eu58 rfl rfl hl.1 (Nat.le_of_ble_eq_true rfl) dX4_readsStatement_136 ⟨(Nat.le_of_ble_eq_true rfl), (Nat.le_of_ble_eq_true rfl)⟩ rfl) (fun H locs hH => ?_)
            refine lv_if_eq (tgt := 146) hx hb dX4_readsStatement_139 (by decide) (fun c69 => ?_) (fun c69 => ?_)
            · have hf := ip_ c69 hf
              refine lv_iconst (v := 0) hx hb dX4_readsStatement_146 (by decide) ?_
              refine lv_istore_n (lv' := [(2, .int 0), (1, .int r2), (0, .ref a0)]) hx hb dX4_readsStatement_147 rfl hl (by decide) rfl (fun ls hl => ?_)
              refine lv_goto (tgt := 236) hx hb dX4_readsStatement_148 (by decide) ?_
              refine lv_iload_n hx hb dX4_readsStatement_236 rfl (lv_at hl 0 rfl) ?_
              refine lv_if_eq (tgt := 249) hx hb dX4_readsStatement_237 (by decide) (fun c61 => ?_) (fun c61 => ?_)
              · refine lv_iconst (v := 0) hx hb dX4_readsStatement_249 (by decide) ?_
                cases hf
                exact rt_b (b := false) hx hb hr hlk hH dX4_readsStatement_250
              · exact absurd c61 (by decide)
            · have hf := in_ c69 hf
              refine lv_iconst (v := 1) hx hb dX4_readsStatement_142 (by decide) ?_
              refine lv_goto (tgt := 147) hx hb dX4_readsStatement_143 (by decide) ?_
              refine lv_istore_n (lv' := [(2, .int 1), (1, .int r2), (0, .ref a0)]) hx hb dX4_readsStatement_147 rfl hl (by decide) rfl (fun ls hl => ?_)
              refine lv_goto (tgt := 236) hx hb dX4_readsStatement_148 (by decide) ?_
              refine lv_iload_n hx hb dX4_readsStatement_236 rfl (lv_at hl 0 rfl) ?_
              refine lv_if_eq (tgt := 249) hx hb dX4_readsStatement_237 (by decide) (fun c62 => ?_) (fun c62 => ?_)
              · exact absurd c62 (by decide)
              · refine lv_aload_n hx hb dX4_readsStatement_240 rfl (lv_at hl 2 rfl) ?_
                obtain ⟨u63, eu63, hf⟩ := bs_ hf
                obtain ⟨r64, er64, hf⟩ := bs_ hf
                refine cl_i0 hH (rn_V ⟨hx, hb, hml, hown, hts⟩ hKn hH (mX4_here l G M60 n a0 r64 er64) (cwV 0 hts (lw_V q1255 q1257 qs40 q70 q1258) rfl rfl rfl ⟨rfl, kdX4_here⟩ ⟨Nat.le_of_ble_eq_true rfl, Nat.le_of_ble_eq_true rfl⟩) eu63 rfl rfl hl.1 (Nat.le_of_ble_eq_true rfl) dX4_readsStatement_241 ⟨(Nat.le_of_ble_eq_true rfl), (Nat.le_of_ble_eq_true rfl)⟩ rfl) (fun H locs hH => ?_)
                refine lv_bipush (v := 59) hx hb dX4_readsStatement_244 (by decide) ?_
                refine lv_icmp_eq (tgt := 251) hx hb dX4_readsStatement_246 (by decide) (fun c68 => ?_) (fun c68 => ?_)
                · have hf := ip_ c68 hf
                  refine lv_aload_n hx hb dX4_readsStatement_251 rfl (lv_at hl 2 rfl) ?_
                  refine lv_dup hx hb dX4_readsStatement_252 rfl ?_
                  obtain ⟨v65, ev65, hf⟩ := bs_ hf
                  refine mg_gI hx hb hts hown hKn hH ev65 in_X4 rfl (by decide) (hts _ q1182) (fun _ h9 => h9) dX4_readsStatement_253 ?_
                  refine lv_iconst (v := 1) hx hb dX4_readsStatement_256 (by decide) ?_
                  refine lv_iadd hx hb dX4_readsStatement_257 ?_
                  refine lv_topi (fun v66 ev66 => ?_)
                  have hf := lu_ ev66 hf
                  obtain ⟨M67, eM67, hf⟩ := bs_ hf
                  refine mg_pF hx hb hts hown hKn hH eM67 in_X4 tyX4_ok nmX4 rfl (by decide) (hts _ q1182) (fun _ h9 => h9) rfl rfl rfl dX4_readsStatement_258 (fun H locs hH => ?_)
                  refine lv_iconst (v := 1) hx hb dX4_readsStatement_261 (by decide) ?_
                  cases hf
                  exact rt_b (b := true) hx hb hr hlk hH dX4_readsStatement_262
                · have hf := in_ c68 hf
                  refine lv_iconst (v := 0) hx hb dX4_readsStatement_249 (by decide) ?_
                  cases hf
                  exact rt_b (b := false) hx hb hr hlk hH dX4_readsStatement_250
        · have hf := in_ c53 hf
          by_cases c71 : r2 = 108
          · have hf := ip_ c71 hf
            refine sw_I (off := 198) (tgt := 214) hx hb dX4_readsStatement_16 c71 (by decide) (by decide) (by decide) (by decide) ?_
            refine lv_aload_n hx hb dX4_readsStatement_214 rfl (lv_at hl 1 rfl) ?_
            refine lv_iconst (v := 0) hx hb dX4_readsStatement_215 (by decide) ?_
            refine lv_iconst (v := 1) hx hb dX4_readsStatement_216 (by decide) ?_
            obtain ⟨u72, eu72, hf⟩ := bs_ hf
            obtain ⟨r73, M74, er73, hf⟩ := bws_ hf
            refine cl_i0 hH (rn_V ⟨hx, hb, hml, hown, hts⟩ hKn hH (mX4_readsNumber l G M5 n a0 0 1 r73 M74 er73) (cwV 2 hts (lw_V q1259 q1261 qs41 q70 q1262) rfl rfl rfl ⟨rfl, kdX4_readsNumber⟩ ⟨Nat.le_of_ble_eq_true rfl, Nat.le_of_ble_eq_true rfl⟩) eu72 rfl rfl hl.1 (Nat.le_of_ble_eq_true rfl) dX4_readsStatement_217 ⟨(Nat.le_of_ble_eq_true rfl), (Nat.le_of_ble_eq_true rfl)⟩ rfl) (fun H locs hH => ?_)
            refine lv_istore_n (lv' := [(2, .int (b2_ r73)), (1, .int r2), (0, .ref a0)]) hx hb dX4_readsStatement_220 rfl hl (by decide) rfl (fun ls hl => ?_)
            refine lv_goto (tgt := 236) hx hb dX4_readsStatement_221 (by decide) ?_
            refine lv_iload_n hx hb dX4_readsStatement_236 rfl (lv_at hl 0 rfl) ?_
            refine lv_if_eq (tgt := 249) hx hb dX4_readsStatement_237 (by decide) (fun c81 => ?_) (fun c81 => ?_)
            · have hf := ip_ c81 hf
              refine lv_iconst (v := 0) hx hb dX4_readsStatement_249 (by decide) ?_
              cases hf
              exact rt_b (b := false) hx hb hr hlk hH dX4_readsStatement_250
            · have hf := in_ c81 hf
              refine lv_aload_n hx hb dX4_readsStatement_240 rfl (lv_at hl 2 rfl) ?_
              obtain ⟨u75, eu75, hf⟩ := bs_ hf
              obtain ⟨r76, er76, hf⟩ := bs_ hf
              refine cl_i0 hH (rn_V ⟨hx, hb, hml, hown, hts⟩ hKn hH (mX4_here l G M74 n a0 r76 er76) (cwV 0 hts (lw_V q1255 q1257 qs40 q70 q1258) rfl rfl rfl ⟨rfl, kdX4_here⟩ ⟨Nat.le_of_ble_eq_true rfl, Nat.le_of_ble_eq_true rfl⟩) eu75 rfl rfl hl.1 (Nat.le_of_ble_eq_true rfl) dX4_readsStatement_241 ⟨(Nat.le_of_ble_eq_true rfl), (Nat.le_of_ble_eq_true rfl)⟩ rfl) (fun H locs hH => ?_)
              refine lv_bipush (v := 59) hx hb dX4_readsStatement_244 (by decide) ?_
              refine lv_icmp_eq (tgt := 251) hx hb dX4_readsStatement_246 (by decide) (fun c80 => ?_) (fun c80 => ?_)
              · have hf := ip_ c80 hf
                refine lv_aload_n hx hb dX4_readsStatement_251 rfl (lv_at hl 2 rfl) ?_
                refine lv_dup hx hb dX4_readsStatement_252 rfl ?_
                obtain ⟨v77, ev77, hf⟩ := bs_ hf
                refine mg_gI hx hb hts hown hKn hH ev77 in_X4 rfl (by decide) (hts _ q1182) (fun _ h9 => h9) dX4_readsStatement_253 ?_
                refine lv_iconst (v := 1) hx hb dX4_readsStatement_256 (by decide) ?_
                refine lv_iadd hx hb dX4_readsStatement_257 ?_
                refine lv_topi (fun v78 ev78 => ?_)
                have hf := lu_ ev78 hf
                obtain ⟨M79, eM79, hf⟩ := bs_ hf
                refine mg_pF hx hb hts hown hKn hH eM79 in_X4 tyX4_ok nmX4 rfl (by decide) (hts _ q1182) (fun _ h9 => h9) rfl rfl rfl dX4_readsStatement_258 (fun H locs hH => ?_)
                refine lv_iconst (v := 1) hx hb dX4_readsStatement_261 (by decide) ?_
                cases hf
                exact rt_b (b := true) hx hb hr hlk hH dX4_readsStatement_262
              · have hf := in_ c80 hf
                refine lv_iconst (v := 0) hx hb dX4_readsStatement_249 (by decide) ?_
                cases hf
                exact rt_b (b := false) hx hb hr hlk hH dX4_readsStatement_250
          · have hf := in_ c71 hf
            by_cases c82 : r2 = 112
            · have hf := ip_ c82 hf
              refine sw_I (off := 135) (tgt := 151) hx hb dX4_readsStatement_16 c82 (by decide) (by decide) (by decide) (by decide) ?_
              refine lv_aload_n hx hb dX4_readsStatement_151 rfl (lv_at hl 1 rfl) ?_
              refine lv_iconst (v := 0) hx hb dX4_readsStatement_152 (by decide) ?_
              refine lv_iconst (v := 1) hx hb dX4_readsStatement_153 (by decide) ?_
              obtain ⟨u83, eu83, hf⟩ := bs_ hf
              obtain ⟨r84, M85, er84, hf⟩ := bws_ hf
              refine cl_i0 hH (rn_V ⟨hx, hb, hml, hown, hts⟩ hKn hH (mX4_readsNumber l G M5 n a0 0 1 r84 M85 er84) (cwV 2 hts (lw_V q1259 q1261 qs41 q70 q1262) rfl rfl rfl ⟨rfl, kdX4_readsNumber⟩ ⟨Nat.le_of_ble_eq_true rfl, Nat.le_of_ble_eq_true rfl⟩) eu83 rfl rfl hl.1 (Nat.le_of_ble_eq_true rfl) dX4_readsStatement_154 ⟨(Nat.le_of_ble_eq_true rfl), (Nat.le_of_ble_eq_true rfl)⟩ rfl) (fun H locs hH => ?_)
              refine lv_if_eq (tgt := 182) hx hb dX4_readsStatement_157 (by decide) (fun c104 => ?_) (fun c104 => ?_)
              · have hf := ip_ c104 hf
                refine lv_iconst (v := 0) hx hb dX4_readsStatement_182 (by decide) ?_
                refine lv_istore_n (lv' := [(2, .int 0), (1, .int r2), (0, .ref a0)]) hx hb dX4_readsStatement_183 rfl hl (by decide) rfl (fun ls hl => ?_)
                refine lv_goto (tgt := 236) hx hb dX4_readsStatement_184 (by decide) ?_
                refine lv_iload_n hx hb dX4_readsStatement_236 rfl (lv_at hl 0 rfl) ?_
                refine lv_if_eq (tgt := 249) hx hb dX4_readsStatement_237 (by decide) (fun c86 => ?_) (fun c86 => ?_)
                · refine lv_iconst (v := 0) hx hb dX4_readsStatement_249 (by decide) ?_
                  cases hf
                  exact rt_b (b := false) hx hb hr hlk hH dX4_readsStatement_250
                · exact absurd c86 (by decide)
              · have hf := in_ c104 hf
                refine lv_aload_n hx hb dX4_readsStatement_160 rfl (lv_at hl 1 rfl) ?_
                refine lv_iconst (v := 1) hx hb dX4_readsStatement_161 (by decide) ?_
                refine lv_iconst (v := 1) hx hb dX4_readsStatement_162 (by decide) ?_
                obtain ⟨u87, eu87, hf⟩ := bs_ hf
                obtain ⟨r88, M89, er88, hf⟩ := bws_ hf
                refine cl_i0 hH (rn_V ⟨hx, hb, hml, hown, hts⟩ hKn hH (mX4_readsNumber l G M85 n a0 1 1 r88 M89 er88) (cwV 2 hts (lw_V q1259 q1261 qs41 q70 q1262) rfl rfl rfl ⟨rfl, kdX4_readsNumber⟩ ⟨Nat.le_of_ble_eq_true rfl, Nat.le_of_ble_eq_true rfl⟩) eu87 rfl rfl hl.1 (Nat.le_of_ble_eq_true rfl) dX4_readsStatement_163 ⟨(Nat.le_of_ble_eq_true rfl), (Nat.le_of_ble_eq_true rfl)⟩ rfl) (fun H locs hH => ?_)
                refine lv_if_eq (tgt := 182) hx hb dX4_readsStatement_166 (by decide) (fun c103 => ?_) (fun c103 => ?_)
                · have hf := ip_ c103 hf
                  refine lv_iconst (v := 0) hx hb dX4_readsStatement_182 (by decide) ?_
                  refine lv_istore_n (lv' := [(2, .int 0), (1, .int r2), (0, .ref a0)]) hx hb dX4_readsStatement_183 rfl hl (by decide) rfl (fun ls hl => ?_)
                  refine lv_goto (tgt := 236) hx hb dX4_readsStatement_184 (by decide) ?_
                  refine lv_iload_n hx hb dX4_readsStatement_236 rfl (lv_at hl 0 rfl) ?_
                  refine lv_if_eq (tgt := 249) hx hb dX4_readsStatement_237 (by decide) (fun c90 => ?_) (fun c90 => ?_)
                  · refine lv_iconst (v := 0) hx hb dX4_readsStatement_249 (by decide) ?_
                    cases hf
                    exact rt_b (b := false) hx hb hr hlk hH dX4_readsStatement_250
                  · exact absurd c90 (by decide)
                · have hf := in_ c103 hf
                  refine lv_aload_n hx hb dX4_readsStatement_169 rfl (lv_at hl 1 rfl) ?_
                  refine lv_iconst (v := 2) hx hb dX4_readsStatement_170 (by decide) ?_
                  refine lv_iconst (v := 1) hx hb dX4_readsStatement_171 (by decide) ?_
                  obtain ⟨u91, eu91, hf⟩ := bs_ hf
                  obtain ⟨r92, M93, er92, hf⟩ := bws_ hf
                  refine cl_i0 hH (rn_V ⟨hx, hb, hml, hown, hts⟩ hKn hH (mX4_readsNumber l G M89 n a0 2 1 r92 M93 er92) (cwV 2 hts (lw_V q1259 q1261 qs41 q70 q1262) rfl rfl rfl ⟨rfl, kdX4_readsNumber⟩ ⟨Nat.le_of_ble_eq_true rfl, Nat.le_of_ble_eq_true rfl⟩) eu91 rfl rfl hl.1 (Nat.le_of_ble_eq_true rfl) dX4_readsStatement_172 ⟨(Nat.le_of_ble_eq_true rfl), (Nat.le_of_ble_eq_true rfl)⟩ rfl) (fun H locs hH => ?_)
                  refine lv_if_eq (tgt := 182) hx hb dX4_readsStatement_175 (by decide) (fun c102 => ?_) (fun c102 => ?_)
                  · have hf := ip_ c102 hf
                    refine lv_iconst (v := 0) hx hb dX4_readsStatement_182 (by decide) ?_
                    refine lv_istore_n (lv' := [(2, .int 0), (1, .int r2), (0, .ref a0)]) hx hb dX4_readsStatement_183 rfl hl (by decide) rfl (fun ls hl => ?_)
                    refine lv_goto (tgt := 236) hx hb dX4_readsStatement_184 (by decide) ?_
                    refine lv_iload_n hx hb dX4_readsStatement_236 rfl (lv_at hl 0 rfl) ?_
                    refine lv_if_eq (tgt := 249) hx hb dX4_readsStatement_237 (by decide) (fun c94 => ?_) (fun c94 => ?_)
                    · refine lv_iconst (v := 0) hx hb dX4_readsStatement_249 (by decide) ?_
                      cases hf
                      exact rt_b (b := false) hx hb hr hlk hH dX4_readsStatement_250
                    · exact absurd c94 (by decide)
                  · have hf := in_ c102 hf
                    refine lv_iconst (v := 1) hx hb dX4_readsStatement_178 (by decide) ?_
                    refine lv_goto (tgt := 183) hx hb dX4_readsStatement_179 (by decide) ?_
                    refine lv_istore_n (lv' := [(2, .int 1), (1, .int r2), (0, .ref a0)]) hx hb dX4_readsStatement_183 rfl hl (by decide) rfl (fun ls hl => ?_)
                    refine lv_goto (tgt := 236) hx hb dX4_readsStatement_184 (by decide) ?_
                    refine lv_iload_n hx hb dX4_readsStatement_236 rfl (lv_at hl 0 rfl) ?_
                    refine lv_if_eq (tgt := 249) hx hb dX4_readsStatement_237 (by decide) (fun c95 => ?_) (fun c95 => ?_)
                    · exact absurd c95 (by decide)
                    · refine lv_aload_n hx hb dX4_readsStatement_240 rfl (lv_at hl 2 rfl) ?_
                      obtain ⟨u96, eu96, hf⟩ := bs_ hf
                      obtain ⟨r97, er97, hf⟩ := bs_ hf
                      refine cl_i0 hH (rn_V ⟨hx, hb, hml, hown, hts⟩ hKn hH (mX4_here l G M93 n a0 r97 er97) (cwV 0 hts (lw_V q1255 q1257 qs40 q70 q1258) rfl rfl rfl ⟨rfl, kdX4_here⟩ ⟨Nat.le_of_ble_eq_true rfl, Nat.le_of_ble_eq_true rfl⟩) eu96 rfl rfl hl.1 (Nat.le_of_ble_eq_true rfl) dX4_readsStatement_241 ⟨(Nat.le_of_ble_eq_true rfl), (Nat.le_of_ble_eq_true rfl)⟩ rfl) (fun H locs hH => ?_)
                      refine lv_bipush (v := 59) hx hb dX4_readsStatement_244 (by decide) ?_
                      refine lv_icmp_eq (tgt := 251) hx hb dX4_readsStatement_246 (by decide) (fun c101 => ?_) (fun c101 => ?_)
                      · have hf := ip_ c101 hf
                        refine lv_aload_n hx hb dX4_readsStatement_251 rfl (lv_at hl 2 rfl) ?_
                        refine lv_dup hx hb dX4_readsStatement_252 rfl ?_
                        obtain ⟨v98, ev98, hf⟩ := bs_ hf
                        refine mg_gI hx hb hts hown hKn hH ev98 in_X4 rfl (by decide) (hts _ q1182) (fun _ h9 => h9) dX4_readsStatement_253 ?_
                        refine lv_iconst (v := 1) hx hb dX4_readsStatement_256 (by decide) ?_
                        refine lv_iadd hx hb dX4_readsStatement_257 ?_
                        refine lv_topi (fun v99 ev99 => ?_)
                        have hf := lu_ ev99 hf
                        obtain ⟨M100, eM100, hf⟩ := bs_ hf
                        refine mg_pF hx hb hts hown hKn hH eM100 in_X4 tyX4_ok nmX4 rfl (by decide) (hts _ q1182) (fun _ h9 => h9) rfl rfl rfl dX4_readsStatement_258 (fun H locs hH => ?_)
                        refine lv_iconst (v := 1) hx hb dX4_readsStatement_261 (by decide) ?_
                        cases hf
                        exact rt_b (b := true) hx hb hr hlk hH dX4_readsStatement_262
                      · have hf := in_ c101 hf
                        refine lv_iconst (v := 0) hx hb dX4_readsStatement_249 (by decide) ?_
                        cases hf
                        exact rt_b (b := false) hx hb hr hlk hH dX4_readsStatement_250
            · have hf := in_ c82 hf
              by_cases c105 : r2 = 116
              · have hf := ip_ c105 hf
                refine sw_I (off := 171) (tgt := 187) hx hb dX4_readsStatement_16 c105 (by decide) (by decide) (by decide) (by decide) ?_
                refine lv_aload_n hx hb dX4_readsStatement_187 rfl (lv_at hl 1 rfl) ?_
                refine lv_iconst (v := 0) hx hb dX4_readsStatement_188 (by decide) ?_
                refine lv_iconst (v := 1) hx hb dX4_readsStatement_189 (by decide) ?_
                obtain ⟨u106, eu106, hf⟩ := bs_ hf
                obtain ⟨r107, M108, er107, hf⟩ := bws_ hf
                refine cl_i0 hH (rn_V ⟨hx, hb, hml, hown, hts⟩ hKn hH (mX4_readsNumber l G M5 n a0 0 1 r107 M108 er107) (cwV 2 hts (lw_V q1259 q1261 qs41 q70 q1262) rfl rfl rfl ⟨rfl, kdX4_readsNumber⟩ ⟨Nat.le_of_ble_eq_true rfl, Nat.le_of_ble_eq_true rfl⟩) eu106 rfl rfl hl.1 (Nat.le_of_ble_eq_true rfl) dX4_readsStatement_190 ⟨(Nat.le_of_ble_eq_true rfl), (Nat.le_of_ble_eq_true rfl)⟩ rfl) (fun H locs hH => ?_)
                refine lv_if_eq (tgt := 209) hx hb dX4_readsStatement_193 (by decide) (fun c122 => ?_) (fun c122 => ?_)
                · have hf := ip_ c122 hf
                  refine lv_iconst (v := 0) hx hb dX4_readsStatement_209 (by decide) ?_
                  refine lv_istore_n (lv' := [(2, .int 0), (1, .int r2), (0, .ref a0)]) hx hb dX4_readsStatement_210 rfl hl (by decide) rfl (fun ls hl => ?_)
                  refine lv_goto (tgt := 236) hx hb dX4_readsStatement_211 (by decide) ?_
                  refine lv_iload_n hx hb dX4_readsStatement_236 rfl (lv_at hl 0 rfl) ?_
                  refine lv_if_eq (tgt := 249) hx hb dX4_readsStatement_237 (by decide) (fun c109 => ?_) (fun c109 => ?_)
                  · refine lv_iconst (v := 0) hx hb dX4_readsStatement_249 (by decide) ?_
                    cases hf
                    exact rt_b (b := false) hx hb hr hlk hH dX4_readsStatement_250
                  · exact absurd c109 (by decide)
                · have hf := in_ c122 hf
                  refine lv_aload_n hx hb dX4_readsStatement_196 rfl (lv_at hl 1 rfl) ?_
                  refine lv_iconst (v := 1) hx hb dX4_readsStatement_197 (by decide) ?_
                  refine lv_iconst (v := 2) hx hb dX4_readsStatement_198 (by decide) ?_
                  obtain ⟨u110, eu110, hf⟩ := bs_ hf
                  obtain ⟨r111, M112, er111, hf⟩ := bws_ hf
                  refine cl_i0 hH (rn_V ⟨hx, hb, hml, hown, hts⟩ hKn hH (mX4_readsNumber l G M108 n a0 1 2 r111 M112 er111) (cwV 2 hts (lw_V q1259 q1261 qs41 q70 q1262) rfl rfl rfl ⟨rfl, kdX4_readsNumber⟩ ⟨Nat.le_of_ble_eq_true rfl, Nat.le_of_ble_eq_true rfl⟩) eu110 rfl rfl hl.1 (Nat.le_of_ble_eq_true rfl) dX4_readsStatement_199 ⟨(Nat.le_of_ble_eq_true rfl), (Nat.le_of_ble_eq_true rfl)⟩ rfl) (fun H locs hH => ?_)
                  refine lv_if_eq (tgt := 209) hx hb dX4_readsStatement_202 (by decide) (fun c121 => ?_) (fun c121 => ?_)
                  · have hf := ip_ c121 hf
                    refine lv_iconst (v := 0) hx hb dX4_readsStatement_209 (by decide) ?_
                    refine lv_istore_n (lv' := [(2, .int 0), (1, .int r2), (0, .ref a0)]) hx hb dX4_readsStatement_210 rfl hl (by decide) rfl (fun ls hl => ?_)
                    refine lv_goto (tgt := 236) hx hb dX4_readsStatement_211 (by decide) ?_
                    refine lv_iload_n hx hb dX4_readsStatement_236 rfl (lv_at hl 0 rfl) ?_
                    refine lv_if_eq (tgt := 249) hx hb dX4_readsStatement_237 (by decide) (fun c113 => ?_) (fun c113 => ?_)
                    · refine lv_iconst (v := 0) hx hb dX4_readsStatement_249 (by decide) ?_
                      cases hf
                      exact rt_b (b := false) hx hb hr hlk hH dX4_readsStatement_250
                    · exact absurd c113 (by decide)
                  · have hf := in_ c121 hf
                    refine lv_iconst (v := 1) hx hb dX4_readsStatement_205 (by decide) ?_
                    refine lv_goto (tgt := 210) hx hb dX4_readsStatement_206 (by decide) ?_
                    refine lv_istore_n (lv' := [(2, .int 1), (1, .int r2), (0, .ref a0)]) hx hb dX4_readsStatement_210 rfl hl (by decide) rfl (fun ls hl => ?_)
                    refine lv_goto (tgt := 236) hx hb dX4_readsStatement_211 (by decide) ?_
                    refine lv_iload_n hx hb dX4_readsStatement_236 rfl (lv_at hl 0 rfl) ?_
                    refine lv_if_eq (tgt := 249) hx hb dX4_readsStatement_237 (by decide) (fun c114 => ?_) (fun c114 => ?_)
                    · exact absurd c114 (by decide)
                    · refine lv_aload_n hx hb dX4_readsStatement_240 rfl (lv_at hl 2 rfl) ?_
                      obtain ⟨u115, eu115, hf⟩ := bs_ hf
                      obtain ⟨r116, er116, hf⟩ := bs_ hf
                      refine cl_i0 hH (rn_V ⟨hx, hb, hml, hown, hts⟩ hKn hH (mX4_here l G M112 n a0 r116 er116) (cwV 0 hts (lw_V q1255 q1257 qs40 q70 q1258) rfl rfl rfl ⟨rfl, kdX4_here⟩ ⟨Nat.le_of_ble_eq_true rfl, Nat.le_of_ble_eq_true rfl⟩) eu115 rfl rfl hl.1 (Nat.le_of_ble_eq_true rfl) dX4_readsStatement_241 ⟨(Nat.le_of_ble_eq_true rfl), (Nat.le_of_ble_eq_true rfl)⟩ rfl) (fun H locs hH => ?_)
                      refine lv_bipush (v := 59) hx hb dX4_readsStatement_244 (by decide) ?_
                      refine lv_icmp_eq (tgt := 251) hx hb dX4_readsStatement_246 (by decide) (fun c120 => ?_) (fun c120 => ?_)
                      · have hf := ip_ c120 hf
                        refine lv_aload_n hx hb dX4_readsStatement_251 rfl (lv_at hl 2 rfl) ?_
                        refine lv_dup hx hb dX4_readsStatement_252 rfl ?_
                        obtain ⟨v117, ev117, hf⟩ := bs_ hf
                        refine mg_gI hx hb hts hown hKn hH ev117 in_X4 rfl (by decide) (hts _ q1182) (fun _ h9 => h9) dX4_readsStatement_253 ?_
                        refine lv_iconst (v := 1) hx hb dX4_readsStatement_256 (by decide) ?_
                        refine lv_iadd hx hb dX4_readsStatement_257 ?_
                        refine lv_topi (fun v118 ev118 => ?_)
                        have hf := lu_ ev118 hf
                        obtain ⟨M119, eM119, hf⟩ := bs_ hf
                        refine mg_pF hx hb hts hown hKn hH eM119 in_X4 tyX4_ok nmX4 rfl (by decide) (hts _ q1182) (fun _ h9 => h9) rfl rfl rfl dX4_readsStatement_258 (fun H locs hH => ?_)
                        refine lv_iconst (v := 1) hx hb dX4_readsStatement_261 (by decide) ?_
                        cases hf
                        exact rt_b (b := true) hx hb hr hlk hH dX4_readsStatement_262
                      · have hf := in_ c120 hf
                        refine lv_iconst (v := 0) hx hb dX4_readsStatement_249 (by decide) ?_
                        cases hf
                        exact rt_b (b := false) hx hb hr hlk hH dX4_readsStatement_250
              · have hf := in_ c105 hf
                by_cases c123 : r2 = 120
                · have hf := ip_ c123 hf
                  refine sw_I (off := 108) (tgt := 124) hx hb dX4_readsStatement_16 c123 (by decide) (by decide) (by decide) (by decide) ?_
                  refine lv_aload_n hx hb dX4_readsStatement_124 rfl (lv_at hl 1 rfl) ?_
                  refine lv_iconst (v := 0) hx hb dX4_readsStatement_125 (by decide) ?_
                  refine lv_iconst (v := 1) hx hb dX4_readsStatement_126 (by decide) ?_
                  obtain ⟨u124, eu124, hf⟩ := bs_ hf
                  obtain ⟨r125, M126, er125, hf⟩ := bws_ hf
                  refine cl_i0 hH (rn_V ⟨hx, hb, hml, hown, hts⟩ hKn hH (mX4_readsNumber l G M5 n a0 0 1 r125 M126 er125) (cwV 2 hts (lw_V q1259 q1261 qs41 q70 q1262) rfl rfl rfl ⟨rfl, kdX4_readsNumber⟩ ⟨Nat.le_of_ble_eq_true rfl, Nat.le_of_ble_eq_true rfl⟩) eu124 rfl rfl hl.1 (Nat.le_of_ble_eq_true rfl) dX4_readsStatement_127 ⟨(Nat.le_of_ble_eq_true rfl), (Nat.le_of_ble_eq_true rfl)⟩ rfl) (fun H locs hH => ?_)
                  refine lv_if_eq (tgt := 146) hx hb dX4_readsStatement_130 (by decide) (fun c140 => ?_) (fun c140 => ?_)
                  · have hf := ip_ c140 hf
                    refine lv_iconst (v := 0) hx hb dX4_readsStatement_146 (by decide) ?_
                    refine lv_istore_n (lv' := [(2, .int 0), (1, .int r2), (0, .ref a0)]) hx hb dX4_readsStatement_147 rfl hl (by decide) rfl (fun ls hl => ?_)
                    refine lv_goto (tgt := 236) hx hb dX4_readsStatement_148 (by decide) ?_
                    refine lv_iload_n hx hb dX4_readsStatement_236 rfl (lv_at hl 0 rfl) ?_
                    refine lv_if_eq (tgt := 249) hx hb dX4_readsStatement_237 (by decide) (fun c127 => ?_) (fun c127 => ?_)
                    · refine lv_iconst (v := 0) hx hb dX4_readsStatement_249 (by decide) ?_
                      cases hf
                      exact rt_b (b := false) hx hb hr hlk hH dX4_readsStatement_250
                    · exact absurd c127 (by decide)
                  · have hf := in_ c140 hf
                    refine lv_aload_n hx hb dX4_readsStatement_133 rfl (lv_at hl 1 rfl) ?_
                    refine lv_iconst (v := 1) hx hb dX4_readsStatement_134 (by decide) ?_
                    refine lv_iconst (v := 1) hx hb dX4_readsStatement_135 (by decide) ?_
                    obtain ⟨u128, eu128, hf⟩ := bs_ hf
                    obtain ⟨r129, M130, er129, hf⟩ := bws_ hf
                    refine cl_i0 hH (rn_V ⟨hx, hb, hml, hown, hts⟩ hKn hH (mX4_readsNumber l G M126 n a0 1 1 r129 M130 er129) (cwV 2 hts (lw_V q1259 q1261 qs41 q70 q1262) rfl rfl rfl ⟨rfl, kdX4_readsNumber⟩ ⟨Nat.le_of_ble_eq_true rfl, Nat.le_of_ble_eq_true rfl⟩) eu128 rfl rfl hl.1 (Nat.le_of_ble_eq_true rfl) dX4_readsStatement_136 ⟨(Nat.le_of_ble_eq_true rfl), (Nat.le_of_ble_eq_true rfl)⟩ rfl) (fun H locs hH => ?_)
                    refine lv_if_eq (tgt := 146) hx hb dX4_readsStatement_139 (by decide) (fun c139 => ?_) (fun c139 => ?_)
                    · have hf := ip_ c139 hf
                      refine lv_iconst (v := 0) hx hb dX4_readsStatement_146 (by decide) ?_
                      refine lv_istore_n (lv' := [(2, .int 0), (1, .int r2), (0, .ref a0)]) hx hb dX4_readsStatement_147 rfl hl (by decide) rfl (fun ls hl => ?_)
                      refine lv_goto (tgt := 236) hx hb dX4_readsStatement_148 (by decide) ?_
                      refine lv_iload_n hx hb dX4_readsStatement_236 rfl (lv_at hl 0 rfl) ?_
                      refine lv_if_eq (tgt := 249) hx hb dX4_readsStatement_237 (by decide) (fun c131 => ?_) (fun c131 => ?_)
                      · refine lv_iconst (v := 0) hx hb dX4_readsStatement_249 (by decide) ?_
                        cases hf
                        exact rt_b (b := false) hx hb hr hlk hH dX4_readsStatement_250
                      · exact absurd c131 (by decide)
                    · have hf := in_ c139 hf
                      refine lv_iconst (v := 1) hx hb dX4_readsStatement_142 (by decide) ?_
                      refine lv_goto (tgt := 147) hx hb dX4_readsStatement_143 (by decide) ?_
                      refine lv_istore_n (lv' := [(2, .int 1), (1, .int r2), (0, .ref a0)]) hx hb dX4_readsStatement_147 rfl hl (by decide) rfl (fun ls hl => ?_)
                      refine lv_goto (tgt := 236) hx hb dX4_readsStatement_148 (by decide) ?_
                      refine lv_iload_n hx hb dX4_readsStatement_236 rfl (lv_at hl 0 rfl) ?_
                      refine lv_if_eq (tgt := 249) hx hb dX4_readsStatement_237 (by decide) (fun c132 => ?_) (fun c132 => ?_)
                      · exact absurd c132 (by decide)
                      · refine lv_aload_n hx hb dX4_readsStatement_240 rfl (lv_at hl 2 rfl) ?_
                        obtain ⟨u133, eu133, hf⟩ := bs_ hf
                        obtain ⟨r134, er134, hf⟩ := bs_ hf
                        refine cl_i0 hH (rn_V ⟨hx, hb, hml, hown, hts⟩ hKn hH (mX4_here l G M130 n a0 r134 er134) (cwV 0 hts (lw_V q1255 q1257 qs40 q70 q1258) rfl rfl rfl ⟨rfl, kdX4_here⟩ ⟨Nat.le_of_ble_eq_true rfl, Nat.le_of_ble_eq_true rfl⟩) eu133 rfl rfl hl.1 (Nat.le_of_ble_eq_true rfl) dX4_readsStatement_241 ⟨(Nat.le_of_ble_eq_true rfl), (Nat.le_of_ble_eq_true rfl)⟩ rfl) (fun H locs hH => ?_)
                        refine lv_bipush (v := 59) hx hb dX4_readsStatement_244 (by decide) ?_
                        refine lv_icmp_eq (tgt := 251) hx hb dX4_readsStatement_246 (by decide) (fun c138 => ?_) (fun c138 => ?_)
                        · have hf := ip_ c138 hf
                          refine lv_aload_n hx hb dX4_readsStatement_251 rfl (lv_at hl 2 rfl) ?_
                          refine lv_dup hx hb dX4_readsStatement_252 rfl ?_
                          obtain ⟨v135, ev135, hf⟩ := bs_ hf
                          refine mg_gI hx hb hts hown hKn hH ev135 in_X4 rfl (by decide) (hts _ q1182) (fun _ h9 => h9) dX4_readsStatement_253 ?_
                          refine lv_iconst (v := 1) hx hb dX4_readsStatement_256 (by decide) ?_
                          refine lv_iadd hx hb dX4_readsStatement_257 ?_
                          refine lv_topi (fun v136 ev136 => ?_)
                          have hf := lu_ ev136 hf
                          obtain ⟨M137, eM137, hf⟩ := bs_ hf
                          refine mg_pF hx hb hts hown hKn hH eM137 in_X4 tyX4_ok nmX4 rfl (by decide) (hts _ q1182) (fun _ h9 => h9) rfl rfl rfl dX4_readsStatement_258 (fun H locs hH => ?_)
                          refine lv_iconst (v := 1) hx hb dX4_readsStatement_261 (by decide) ?_
                          cases hf
                          exact rt_b (b := true) hx hb hr hlk hH dX4_readsStatement_262
                        · have hf := in_ c138 hf
                          refine lv_iconst (v := 0) hx hb dX4_readsStatement_249 (by decide) ?_
                          cases hf
                          exact rt_b (b := false) hx hb hr hlk hH dX4_readsStatement_250
                · have hf := in_ c123 hf
                  refine sw_D (tgt := 224) hx hb dX4_readsStatement_16 [(98, 108), (99, 208), (100, 198), (101, 208), (102, 108), (103, 208), (104, 108), (105, 208), (106, 208), (107, 208), (108, 198), (109, 208), (110, 208), (111, 208), (112, 135), (113, 208), (114, 208), (115, 208), (116, 171), (117, 208), (118, 208), (119, 208), (120, 108)] (by decide) (by decide) (by decide) ⟨Or.inr (lv_neT c6 (by decide)), Or.inl rfl, Or.inr (lv_neT c24 (by decide)), Or.inl rfl, Or.inr (lv_neT c35 (by decide)), Or.inl rfl, Or.inr (lv_neT c53 (by decide)), Or.inl rfl, Or.inl rfl, Or.inl rfl, Or.inr (lv_neT c71 (by decide)), Or.inl rfl, Or.inl rfl, Or.inl rfl, Or.inr (lv_neT c82 (by decide)), Or.inl rfl, Or.inl rfl, Or.inl rfl, Or.inr (lv_neT c105 (by decide)), Or.inl rfl, Or.inl rfl, Or.inl rfl, Or.inr (lv_neT c123 (by decide)), trivial⟩ (by decide) ?_
                  refine lv_aload_n hx hb dX4_readsStatement_224 rfl (lv_at hl 1 rfl) ?_
                  refine lv_dup hx hb dX4_readsStatement_225 rfl ?_
                  obtain ⟨v141, ev141, hf⟩ := bs_ hf
                  refine mg_gI hx hb hts hown hKn hH ev141 in_X4 rfl (by decide) (hts _ q1182) (fun _ h9 => h9) dX4_readsStatement_226 ?_
                  refine lv_iconst (v := 1) hx hb dX4_readsStatement_229 (by decide) ?_
                  refine lv_isub hx hb dX4_readsStatement_230 ?_
                  refine lv_topi (fun v142 ev142 => ?_)
                  have hf := lu_ ev142 hf
                  obtain ⟨M143, eM143, hf⟩ := bs_ hf
                  refine mg_pF hx hb hts hown hKn hH eM143 in_X4 tyX4_ok nmX4 rfl (by decide) (hts _ q1182) (fun _ h9 => h9) rfl rfl rfl dX4_readsStatement_231 (fun H locs hH => ?_)
                  refine lv_iconst (v := 0) hx hb dX4_readsStatement_234 (by decide) ?_
                  cases hf
                  exact rt_b (b := false) hx hb hr hlk hH dX4_readsStatement_235
def fX4_copies_L2 : Nat → Mem_ → Nat → Nat → Int32 → Option Mem_
  | 0, _, _, _, _ => none
  | fuel + 1, M, x0, x1, x2 =>
    if 42 ≤ x2 then
      some M
    else
      (aI_ M x0 0 x2).bind fun v1 =>
      (sI_ M x1 0 x2 v1).bind fun M2 =>
      lt_ (x2 + 1) fun v3 =>
      fX4_copies_L2 fuel M2 x0 x1 v3
def fX4_copies (M : Mem_) (a0 : Nat) (a1 : Nat) : Option Mem_ :=
  fX4_copies_L2 1000 M a0 a1 0
theorem kdX4_copies : yX4_copies.cls ≠ "java/lang/invoke/MethodHandle" ∧ yX4_copies.cls ≠ "java/lang/invoke/VarHandle" ∧ (parseMethodDescriptor yX4_copies.desc).map (fun d => d.parameters.length) = some 2 := by decide +kernel
set_option maxHeartbeats 4000000 in
theorem mX4_copies (l : Launch) (G : GT_) (M : Mem_) (n : Nat) (a0 : Nat) (a1 : Nat) (M1 : Mem_) (hf : fX4_copies M a0 a1 = some M1) : Ct_ G l yX4_copies (ws_ yX4_copies cX4_copies 3 none) ({ frames := 0, cells := 0, slots := 0, locals := 0 }) 0 0 [.ref a0, .ref a1] M n (none) M1 n := by
  refine en_ (by decide) (Nat.le_of_ble_eq_true rfl) ?_
  intro p e s m below meth c hx hb hr hlk hml hown hts hname hKn hH ls hl
  have hown : s.vm.findClass RX4 = some m.cls := hown
  have hl : lv_has ls 3 [(0, .ref a0), (1, .ref a1)] := hl
  have w2 : ∀ (fuel : Nat), ∀ (M : Mem_) (x0 : Nat) (x1 : Nat) (x2 : Int32) (H : Heap) (locs : List Loc) (ls : Array Slot), St_ G n M s H locs → lv_has ls 3 [(0, .ref x0), (1, .ref x1), (2, .int x2)] → fX4_copies_L2 fuel M x0 x1 x2 = some M1 → W p l e ({ frames := 0, cells := 0, slots := 0, locals := 0 } : Room) s m ([.ref a0, .ref a1] : List Value).toArray below meth c H locs 0 0 (MQ below (Qc_ G (none) M1 n) ([.ref a0, .ref a1] : List Value).toArray s 0 0 (fun q => G.1 ≤ q)) (F0 m 2 ls []) := by
    intro fuel
    induction fuel with
    | zero =>
      intro M x0 x1 x2 H locs ls hH hl hf
      cases hf
    | succ fuel ih =>
      intro M x0 x1 x2 H locs ls hH hl hf
      unfold fX4_copies_L2 at hf
      refine lv_iload_n hx hb dX4_copies_2 rfl (lv_at hl 2 rfl) ?_
      refine lv_bipush (v := 42) hx hb dX4_copies_3 (by decide) ?_
      refine lv_icmp_ge (tgt := 20) hx hb dX4_copies_5 (by decide) (fun c4 => ?_) (fun c4 => ?_)
      · have hf := ip_ c4 hf
        cases hf
        exact rt_v hx hb hr hlk hH dX4_copies_20
      · have hf := in_ c4 hf
        refine lv_aload_n hx hb dX4_copies_8 rfl (lv_at hl 1 rfl) ?_
        refine lv_iload_n hx hb dX4_copies_9 rfl (lv_at hl 2 rfl) ?_
        refine lv_aload_n hx hb dX4_copies_10 rfl (lv_at hl 0 rfl) ?_
        refine lv_iload_n hx hb dX4_copies_11 rfl (lv_at hl 2 rfl) ?_
        obtain ⟨v1, ev1, hf⟩ := bs_ hf
        refine mg_iald hx hb hKn hH ev1 dX4_copies_12 ?_
        obtain ⟨M2, eM2, hf⟩ := bs_ hf
        refine mg_iast hx hb hKn hH eM2 dX4_copies_13 (fun H locs hH => ?_)
        obtain ⟨v3, ev3⟩ : ∃ z : Int32, z = x2 + 1 := ⟨_, rfl⟩
        have hf := lu_ ev3 hf
        refine lv_iinc (v := v3) (lv' := [(2, .int v3), (0, .ref x0), (1, .ref x1)]) hx hb dX4_copies_14 hl (k := 2) rfl (by rw [ev3]; rfl) (by decide) rfl (fun ls hl => ?_)
        refine lv_goto (tgt := 2) hx hb dX4_copies_17 (by decide) ?_
        exact ih M2 x0 x1 v3 _ _ ls hH (lv_sub hl [1, 2, 0] rfl) hf
  unfold fX4_copies at hf
  refine lv_iconst (v := 0) hx hb dX4_copies_0 (by decide) ?_
  refine lv_istore_n (lv' := [(2, .int 0), (0, .ref a0), (1, .ref a1)]) hx hb dX4_copies_1 rfl hl (by decide) rfl (fun ls hl => ?_)
  exact w2 1000 M a0 a1 0 _ _ ls hH (lv_sub hl [1, 2, 0] rfl) hf
def fX4_ofS (a0 : Int32) (a1 : Int32) : Int32 :=
  ((4 + (2 * a0)) + a1)
theorem kdX4_ofS : yX4_ofS.cls ≠ "java/lang/invoke/MethodHandle" ∧ yX4_ofS.cls ≠ "java/lang/invoke/VarHandle" ∧ (parseMethodDescriptor yX4_ofS.desc).map (fun d => d.parameters.length) = some 2 := by decide +kernel
set_option maxHeartbeats 4000000 in
theorem mX4_ofS (l : Launch) (G : GT_) (M : Mem_) (n : Nat) (a0 : Int32) (a1 : Int32) (r : Int32) (hf : fX4_ofS a0 a1 = r) : Ct_ G l yX4_ofS (ws_ yX4_ofS cX4_ofS 2 (some .int)) ({ frames := 0, cells := 0, slots := 0, locals := 0 }) 0 0 [.int a0, .int a1] M n (some (.int r)) M n := by
  refine en_ (by decide) (Nat.le_of_ble_eq_true rfl) ?_
  intro p e s m below meth c hx hb hr hlk hml hown hts hname hKn hH ls hl
  have hown : s.vm.findClass RX4 = some m.cls := hown
  have hl : lv_has ls 2 [(0, .int a0), (1, .int a1)] := hl
  unfold fX4_ofS at hf
  generalize s.heap = H at hH ⊢
  refine lv_iconst (v := 4) hx hb dX4_ofS_0 (by decide) ?_
  refine lv_iconst (v := 2) hx hb dX4_ofS_1 (by decide) ?_
  refine lv_iload_n hx hb dX4_ofS_2 rfl (lv_at hl 0 rfl) ?_
  refine lv_imul hx hb dX4_ofS_3 ?_
  refine lv_iadd hx hb dX4_ofS_4 ?_
  refine lv_iload_n hx hb dX4_ofS_5 rfl (lv_at hl 1 rfl) ?_
  refine lv_iadd hx hb dX4_ofS_6 ?_
  subst hf
  exact rt_i hx hb hr hlk hH dX4_ofS_7
def fX4_adds (M : Mem_) (a0 : Nat) (a1 : Int32) (a2 : Int32) : Option Mem_ :=
  (gR_ M a0 3 0).bind fun v1 =>
  (gR_ M a0 3 0).bind fun v2 =>
  (aI_ M v2 0 0).bind fun v3 =>
  lt_ (fX4_ofS v3 0) fun r4 =>
  (sI_ M v1 0 r4 a1).bind fun M5 =>
  (gR_ M5 a0 3 0).bind fun v6 =>
  (gR_ M5 a0 3 0).bind fun v7 =>
  (aI_ M5 v7 0 0).bind fun v8 =>
  lt_ (fX4_ofS v8 1) fun r9 =>
  (sI_ M5 v6 0 r9 a2).bind fun M10 =>
  (gR_ M10 a0 3 0).bind fun v11 =>
  (aI_ M10 v11 0 0).bind fun v12 =>
  (sI_ M10 v11 0 0 (v12 + 1)).bind fun M13 =>
  some M13
theorem kdX4_adds : yX4_adds.cls ≠ "java/lang/invoke/MethodHandle" ∧ yX4_adds.cls ≠ "java/lang/invoke/VarHandle" ∧ (parseMethodDescriptor yX4_adds.desc).map (fun d => d.parameters.length) = some 2 := by decide +kernel
set_option maxHeartbeats 4000000 in
theorem mX4_adds (l : Launch) (G : GT_) (M : Mem_) (n : Nat) (a0 : Nat) (a1 : Int32) (a2 : Int32) (M1 : Mem_) (hf : fX4_adds M a0 a1 a2 = some M1) : Ct_ G l yX4_adds (ws_ yX4_adds cX4_adds 3 none) ({ frames := 1, cells := 0, slots := 0, locals := 21 }) 0 0 [.ref a0, .int a1, .int a2] M n (none) M1 n := by
  refine en_ (by decide) (Nat.le_of_ble_eq_true rfl) ?_
  intro p e s m below meth c hx hb hr hlk hml hown hts hname hKn hH ls hl
  have hown : s.vm.findClass RX4 = some m.cls := hown
  have hl : lv_has ls 3 [(0, .ref a0), (1, .int a1), (2, .int a2)] := hl
  unfold fX4_adds at hf
  generalize s.heap = H at hH ⊢
  refine lv_aload_n hx hb dX4_adds_0 rfl (lv_at hl 0 rfl) ?_
  obtain ⟨v1, ev1, hf⟩ := bs_ hf
  refine mg_gR hx hb hts hown hKn hH ev1 in_X4 rfl (by decide) (hts _ q1176) (fun _ h9 => h9) dX4_adds_1 ?_
  refine lv_aload_n hx hb dX4_adds_4 rfl (lv_at hl 0 rfl) ?_
  obtain ⟨v2, ev2, hf⟩ := bs_ hf
  refine mg_gR hx hb hts hown hKn hH ev2 in_X4 rfl (by decide) (hts _ q1176) (fun _ h9 => h9) dX4_adds_5 ?_
  refine lv_iconst (v := 0) hx hb dX4_adds_8 (by decide) ?_
  obtain ⟨v3, ev3, hf⟩ := bs_ hf
  refine mg_iald hx hb hKn hH ev3 dX4_adds_9 ?_
  refine lv_iconst (v := 0) hx hb dX4_adds_10 (by decide) ?_
  obtain ⟨r4, er4⟩ : ∃ z, z = fX4_ofS v3 0 := ⟨_, rfl⟩
  have hf := lu_ er4 hf
  refine cl_i0 hH (rn_S ⟨hx, hb, hml, hown, hts⟩ hKn hH (mX4_ofS l G M n v3 0 r4 er4.symm) (va_cwS 2 hts (lw_S q1274 q1275 q70 q1276) rfl rfl rfl kdX4_ofS ⟨Nat.le_of_ble_eq_true rfl, Nat.le_of_ble_eq_true rfl⟩) rfl hl.1 (Nat.le_of_ble_eq_true rfl) dX4_adds_11 ⟨(Nat.le_of_ble_eq_true rfl), (Nat.le_of_ble_eq_true rfl)⟩ rfl) (fun H locs hH => ?_)
  refine lv_iload_n hx hb dX4_adds_14 rfl (lv_at hl 1 rfl) ?_
  obtain ⟨M5, eM5, hf⟩ := bs_ hf
  refine mg_iast hx hb hKn hH eM5 dX4_adds_15 (fun H locs hH => ?_)
  refine lv_aload_n hx hb dX4_adds_16 rfl (lv_at hl 0 rfl) ?_
  obtain ⟨v6, ev6, hf⟩ := bs_ hf
  refine mg_gR hx hb hts hown hKn hH ev6 in_X4 rfl (by decide) (hts _ q1176) (fun _ h9 => h9) dX4_adds_17 ?_
  refine lv_aload_n hx hb dX4_adds_20 rfl (lv_at hl 0 rfl) ?_
  obtain ⟨v7, ev7, hf⟩ := bs_ hf
  refine mg_gR hx hb hts hown hKn hH ev7 in_X4 rfl (by decide) (hts _ q1176) (fun _ h9 => h9) dX4_adds_21 ?_
  refine lv_iconst (v := 0) hx hb dX4_adds_24 (by decide) ?_
  obtain ⟨v8, ev8, hf⟩ := bs_ hf
  refine mg_iald hx hb hKn hH ev8 dX4_adds_25 ?_
  refine lv_iconst (v := 1) hx hb dX4_adds_26 (by decide) ?_
  obtain ⟨r9, er9⟩ : ∃ z, z = fX4_ofS v8 1 := ⟨_, rfl⟩
  have hf := lu_ er9 hf
  refine cl_i0 hH (rn_S ⟨hx, hb, hml, hown, hts⟩ hKn hH (mX4_ofS l G M5 n v8 1 r9 er9.symm) (va_cwS 2 hts (lw_S q1274 q1275 q70 q1276) rfl rfl rfl kdX4_ofS ⟨Nat.le_of_ble_eq_true rfl, Nat.le_of_ble_eq_true rfl⟩) rfl hl.1 (Nat.le_of_ble_eq_true rfl) dX4_adds_27 ⟨(Nat.le_of_ble_eq_true rfl), (Nat.le_of_ble_eq_true rfl)⟩ rfl) (fun H locs hH => ?_)
  refine lv_iload_n hx hb dX4_adds_30 rfl (lv_at hl 2 rfl) ?_
  obtain ⟨M10, eM10, hf⟩ := bs_ hf
  refine mg_iast hx hb hKn hH eM10 dX4_adds_31 (fun H locs hH => ?_)
  refine lv_aload_n hx hb dX4_adds_32 rfl (lv_at hl 0 rfl) ?_
  obtain ⟨v11, ev11, hf⟩ := bs_ hf
  refine mg_gR hx hb hts hown hKn hH ev11 in_X4 rfl (by decide) (hts _ q1176) (fun _ h9 => h9) dX4_adds_33 ?_
  refine lv_iconst (v := 0) hx hb dX4_adds_36 (by decide) ?_
  refine lv_dup2_11 hx hb dX4_adds_37 rfl rfl ?_
  obtain ⟨v12, ev12, hf⟩ := bs_ hf
  refine mg_iald hx hb hKn hH ev12 dX4_adds_38 ?_
  refine lv_iconst (v := 1) hx hb dX4_adds_39 (by decide) ?_
  refine lv_iadd hx hb dX4_adds_40 ?_
  obtain ⟨M13, eM13, hf⟩ := bs_ hf
  refine mg_iast hx hb hKn hH eM13 dX4_adds_41 (fun H locs hH => ?_)
  cases hf
  exact rt_v hx hb hr hlk hH dX4_adds_42
def fX4_isPlayer (a0 : Int32) : Bool :=
  lt_ (fX4_isIn a0 0 3) fun r1 =>
  r1
theorem kdX4_isPlayer : yX4_isPlayer.cls ≠ "java/lang/invoke/MethodHandle" ∧ yX4_isPlayer.cls ≠ "java/lang/invoke/VarHandle" ∧ (parseMethodDescriptor yX4_isPlayer.desc).map (fun d => d.parameters.length) = some 1 := by decide +kernel
set_option maxHeartbeats 4000000 in
theorem mX4_isPlayer (l : Launch) (G : GT_) (M : Mem_) (n : Nat) (a0 : Int32) (r : Bool) (hf : fX4_isPlayer a0 = r) : Ct_ G l yX4_isPlayer (ws_ yX4_isPlayer cX4_isPlayer 1 (some .boolean)) ({ frames := 1, cells := 0, slots := 0, locals := 22 }) 0 0 [.int a0] M n (some (.int (b2_ r))) M n := by
  refine en_ (by decide) (Nat.le_of_ble_eq_true rfl) ?_
  intro p e s m below meth c hx hb hr hlk hml hown hts hname hKn hH ls hl
  have hown : s.vm.findClass RX4 = some m.cls := hown
  have hl : lv_has ls 1 [(0, .int a0)] := hl
  unfold fX4_isPlayer at hf
  generalize s.heap = H at hH ⊢
  refine lv_iload_n hx hb dX4_isPlayer_0 rfl (lv_at hl 0 rfl) ?_
  refine lv_iconst (v := 0) hx hb dX4_isPlayer_1 (by decide) ?_
  refine lv_iconst (v := 3) hx hb dX4_isPlayer_2 (by decide) ?_
  obtain ⟨r1, er1⟩ : ∃ z, z = fX4_isIn a0 0 3 := ⟨_, rfl⟩
  have hf := lu_ er1 hf
  refine cl_i0 hH (rn_S ⟨hx, hb, hml, hown, hts⟩ hKn hH (mX4_isIn l G M n a0 0 3 r1 er1.symm) (va_cwS 3 hts (lw_S q1248 q1249 q70 q1250) rfl rfl rfl kdX4_isIn ⟨Nat.le_of_ble_eq_true rfl, Nat.le_of_ble_eq_true rfl⟩) rfl hl.1 (Nat.le_of_ble_eq_true rfl) dX4_isPlayer_3 ⟨(Nat.le_of_ble_eq_true rfl), (Nat.le_of_ble_eq_true rfl)⟩ rfl) (fun H locs hH => ?_)
  subst hf
  exact rt_b (b := _) hx hb hr hlk hH dX4_isPlayer_6
def fX4_isCell (a0 : Int32) : Bool :=
  lt_ (fX4_isIn a0 0 8) fun r1 =>
  r1
theorem kdX4_isCell : yX4_isCell.cls ≠ "java/lang/invoke/MethodHandle" ∧ yX4_isCell.cls ≠ "java/lang/invoke/VarHandle" ∧ (parseMethodDescriptor yX4_isCell.desc).map (fun d => d.parameters.length) = some 1 := by decide +kernel
set_option maxHeartbeats 4000000 in
theorem mX4_isCell (l : Launch) (G : GT_) (M : Mem_) (n : Nat) (a0 : Int32) (r : Bool) (hf : fX4_isCell a0 = r) : Ct_ G l yX4_isCell (ws_ yX4_isCell cX4_isCell 1 (some .boolean)) ({ frames := 1, cells := 0, slots := 0, locals := 22 }) 0 0 [.int a0] M n (some (.int (b2_ r))) M n := by
  refine en_ (by decide) (Nat.le_of_ble_eq_true rfl) ?_
  intro p e s m below meth c hx hb hr hlk hml hown hts hname hKn hH ls hl
  have hown : s.vm.findClass RX4 = some m.cls := hown
  have hl : lv_has ls 1 [(0, .int a0)] := hl
  unfold fX4_isCell at hf
  generalize s.heap = H at hH ⊢
  refine lv_iload_n hx hb dX4_isCell_0 rfl (lv_at hl 0 rfl) ?_
  refine lv_iconst (v := 0) hx hb dX4_isCell_1 (by decide) ?_
  refine lv_bipush (v := 8) hx hb dX4_isCell_2 (by decide) ?_
  obtain ⟨r1, er1⟩ : ∃ z, z = fX4_isIn a0 0 8 := ⟨_, rfl⟩
  have hf := lu_ er1 hf
  refine cl_i0 hH (rn_S ⟨hx, hb, hml, hown, hts⟩ hKn hH (mX4_isIn l G M n a0 0 8 r1 er1.symm) (va_cwS 3 hts (lw_S q1248 q1249 q70 q1250) rfl rfl rfl kdX4_isIn ⟨Nat.le_of_ble_eq_true rfl, Nat.le_of_ble_eq_true rfl⟩) rfl hl.1 (Nat.le_of_ble_eq_true rfl) dX4_isCell_4 ⟨(Nat.le_of_ble_eq_true rfl), (Nat.le_of_ble_eq_true rfl)⟩ rfl) (fun H locs hH => ?_)
  subst hf
  exact rt_b (b := _) hx hb hr hlk hH dX4_isCell_7
def fX4_isStroke (M : Mem_) (a0 : Nat) (a1 : Int32) : Option Bool :=
  (gR_ M a0 3 0).bind fun v1 =>
  (aI_ M v1 0 0).bind fun v2 =>
  lt_ (fX4_isIn a1 0 (v2 - 1)) fun r3 =>
  some r3
theorem kdX4_isStroke : yX4_isStroke.cls ≠ "java/lang/invoke/MethodHandle" ∧ yX4_isStroke.cls ≠ "java/lang/invoke/VarHandle" ∧ (parseMethodDescriptor yX4_isStroke.desc).map (fun d => d.parameters.length) = some 1 := by decide +kernel
set_option maxHeartbeats 4000000 in
theorem mX4_isStroke (l : Launch) (G : GT_) (M : Mem_) (n : Nat) (a0 : Nat) (a1 : Int32) (r : Bool) (hf : fX4_isStroke M a0 a1 = some r) : Ct_ G l yX4_isStroke (ws_ yX4_isStroke cX4_isStroke 2 (some .boolean)) ({ frames := 1, cells := 0, slots := 0, locals := 22 }) 0 0 [.ref a0, .int a1] M n (some (.int (b2_ r))) M n := by
  refine en_ (by decide) (Nat.le_of_ble_eq_true rfl) ?_
  intro p e s m below meth c hx hb hr hlk hml hown hts hname hKn hH ls hl
  have hown : s.vm.findClass RX4 = some m.cls := hown
  have hl : lv_has ls 2 [(0, .ref a0), (1, .int a1)] := hl
  unfold fX4_isStroke at hf
  generalize s.heap = H at hH ⊢
  refine lv_iload_n hx hb dX4_isStroke_0 rfl (lv_at hl 1 rfl) ?_
  refine lv_iconst (v := 0) hx hb dX4_isStroke_1 (by decide) ?_
  refine lv_aload_n hx hb dX4_isStroke_2 rfl (lv_at hl 0 rfl) ?_
  obtain ⟨v1, ev1, hf⟩ := bs_ hf
  refine mg_gR hx hb hts hown hKn hH ev1 in_X4 rfl (by decide) (hts _ q1176) (fun _ h9 => h9) dX4_isStroke_3 ?_
  refine lv_iconst (v := 0) hx hb dX4_isStroke_6 (by decide) ?_
  obtain ⟨v2, ev2, hf⟩ := bs_ hf
  refine mg_iald hx hb hKn hH ev2 dX4_isStroke_7 ?_
  refine lv_iconst (v := 1) hx hb dX4_isStroke_8 (by decide) ?_
  refine lv_isub hx hb dX4_isStroke_9 ?_
  obtain ⟨r3, er3⟩ : ∃ z, z = fX4_isIn a1 0 (v2 - 1) := ⟨_, rfl⟩
  have hf := lu_ er3 hf
  refine cl_i0 hH (rn_S ⟨hx, hb, hml, hown, hts⟩ hKn hH (mX4_isIn l G M n a1 0 (v2 - 1) r3 er3.symm) (va_cwS 3 hts (lw_S q1248 q1249 q70 q1250) rfl rfl rfl kdX4_isIn ⟨Nat.le_of_ble_eq_true rfl, Nat.le_of_ble_eq_true rfl⟩) rfl hl.1 (Nat.le_of_ble_eq_true rfl) dX4_isStroke_10 ⟨(Nat.le_of_ble_eq_true rfl), (Nat.le_of_ble_eq_true rfl)⟩ rfl) (fun H locs hH => ?_)
  cases hf
  exact rt_b (b := _) hx hb hr hlk hH dX4_isStroke_13
def fX4_isOver (M : Mem_) (a0 : Nat) : Option Bool :=
  (gR_ M a0 3 0).bind fun v1 =>
  (aI_ M v1 0 1).bind fun v2 =>
  if v2 = 999 then
    some true
  else
    (gR_ M a0 3 0).bind fun v3 =>
    lt_ (fX4_ofSide 0 2) fun r4 =>
    (aI_ M v3 0 r4).bind fun v5 =>
    if v5 = 99 then
      some true
    else
      (gR_ M a0 3 0).bind fun v6 =>
      lt_ (fX4_ofSide 1 2) fun r7 =>
      (aI_ M v6 0 r7).bind fun v8 =>
      if v8 = 99 then
        some true
      else
        some false
theorem kdX4_isOver : yX4_isOver.cls ≠ "java/lang/invoke/MethodHandle" ∧ yX4_isOver.cls ≠ "java/lang/invoke/VarHandle" ∧ (parseMethodDescriptor yX4_isOver.desc).map (fun d => d.parameters.length) = some 0 := by decide +kernel
set_option maxHeartbeats 4000000 in
theorem mX4_isOver (l : Launch) (G : GT_) (M : Mem_) (n : Nat) (a0 : Nat) (r : Bool) (hf : fX4_isOver M a0 = some r) : Ct_ G l yX4_isOver (ws_ yX4_isOver cX4_isOver 1 (some .boolean)) ({ frames := 1, cells := 0, slots := 0, locals := 21 }) 0 0 [.ref a0] M n (some (.int (b2_ r))) M n := by
  refine en_ (by decide) (Nat.le_of_ble_eq_true rfl) ?_
  intro p e s m below meth c hx hb hr hlk hml hown hts hname hKn hH ls hl
  have hown : s.vm.findClass RX4 = some m.cls := hown
  have hl : lv_has ls 1 [(0, .ref a0)] := hl
  unfold fX4_isOver at hf
  generalize s.heap = H at hH ⊢
  refine lv_aload_n hx hb dX4_isOver_0 rfl (lv_at hl 0 rfl) ?_
  obtain ⟨v1, ev1, hf⟩ := bs_ hf
  refine mg_gR hx hb hts hown hKn hH ev1 in_X4 rfl (by decide) (hts _ q1176) (fun _ h9 => h9) dX4_isOver_1 ?_
  refine lv_iconst (v := 1) hx hb dX4_isOver_4 (by decide) ?_
  obtain ⟨v2, ev2, hf⟩ := bs_ hf
  refine mg_iald hx hb hKn hH ev2 dX4_isOver_5 ?_
  refine lv_sipush (v := 999) hx hb dX4_isOver_6 (by decide) ?_
  refine lv_icmp_eq (tgt := 42) hx hb dX4_isOver_9 (by decide) (fun c11 => ?_) (fun c11 => ?_)
  · have hf := ip_ c11 hf
    refine lv_iconst (v := 1) hx hb dX4_isOver_42 (by decide) ?_
    refine lv_goto (tgt := 47) hx hb dX4_isOver_43 (by decide) ?_
    cases hf
    exact rt_b (b := true) hx hb hr hlk hH dX4_isOver_47
  · have hf := in_ c11 hf
    refine lv_aload_n hx hb dX4_isOver_12 rfl (lv_at hl 0 rfl) ?_
    obtain ⟨v3, ev3, hf⟩ := bs_ hf
    refine mg_gR hx hb hts hown hKn hH ev3 in_X4 rfl (by decide) (hts _ q1176) (fun _ h9 => h9) dX4_isOver_13 ?_
    refine lv_iconst (v := 0) hx hb dX4_isOver_16 (by decide) ?_
    refine lv_iconst (v := 2) hx hb dX4_isOver_17 (by decide) ?_
    obtain ⟨r4, er4⟩ : ∃ z, z = fX4_ofSide 0 2 := ⟨_, rfl⟩
    have hf := lu_ er4 hf
    refine cl_i0 hH (rn_S ⟨hx, hb, hml, hown, hts⟩ hKn hH (mX4_ofSide l G M n 0 2 r4 er4.symm) (va_cwS 2 hts (lw_S q1173 q1174 q70 q1175) rfl rfl rfl kdX4_ofSide ⟨Nat.le_of_ble_eq_true rfl, Nat.le_of_ble_eq_true rfl⟩) rfl hl.1 (Nat.le_of_ble_eq_true rfl) dX4_isOver_18 ⟨(Nat.le_of_ble_eq_true rfl), (Nat.le_of_ble_eq_true rfl)⟩ rfl) (fun H locs hH => ?_)
    obtain ⟨v5, ev5, hf⟩ := bs_ hf
    refine mg_iald hx hb hKn hH ev5 dX4_isOver_21 ?_
    refine lv_bipush (v := 99) hx hb dX4_isOver_22 (by decide) ?_
    refine lv_icmp_eq (tgt := 42) hx hb dX4_isOver_24 (by decide) (fun c10 => ?_) (fun c10 => ?_)
    · have hf := ip_ c10 hf
      refine lv_iconst (v := 1) hx hb dX4_isOver_42 (by decide) ?_
      refine lv_goto (tgt := 47) hx hb dX4_isOver_43 (by decide) ?_
      cases hf
      exact rt_b (b := true) hx hb hr hlk hH dX4_isOver_47
    · have hf := in_ c10 hf
      refine lv_aload_n hx hb dX4_isOver_27 rfl (lv_at hl 0 rfl) ?_
      obtain ⟨v6, ev6, hf⟩ := bs_ hf
      refine mg_gR hx hb hts hown hKn hH ev6 in_X4 rfl (by decide) (hts _ q1176) (fun _ h9 => h9) dX4_isOver_28 ?_
      refine lv_iconst (v := 1) hx hb dX4_isOver_31 (by decide) ?_
      refine lv_iconst (v := 2) hx hb dX4_isOver_32 (by decide) ?_
      obtain ⟨r7, er7⟩ : ∃ z, z = fX4_ofSide 1 2 := ⟨_, rfl⟩
      have hf := lu_ er7 hf
      refine cl_i0 hH (rn_S ⟨hx, hb, hml, hown, hts⟩ hKn hH (mX4_ofSide l G M n 1 2 r7 er7.symm) (va_cwS 2 hts (lw_S q1173 q1174 q70 q1175) rfl rfl rfl kdX4_ofSide ⟨Nat.le_of_ble_eq_true rfl, Nat.le_of_ble_eq_true rfl⟩) rfl hl.1 (Nat.le_of_ble_eq_true rfl) dX4_isOver_33 ⟨(Nat.le_of_ble_eq_true rfl), (Nat.le_of_ble_eq_true rfl)⟩ rfl) (fun H locs hH => ?_)
      obtain ⟨v8, ev8, hf⟩ := bs_ hf
      refine mg_iald hx hb hKn hH ev8 dX4_isOver_36 ?_
      refine lv_bipush (v := 99) hx hb dX4_isOver_37 (by decide) ?_
      refine lv_icmp_ne (tgt := 46) hx hb dX4_isOver_39 (by decide) (fun c9 => ?_) (fun c9 => ?_)
      · have hf := in_ c9 hf
        refine lv_iconst (v := 0) hx hb dX4_isOver_46 (by decide) ?_
        cases hf
        exact rt_b (b := false) hx hb hr hlk hH dX4_isOver_47
      · have hf := ip_ c9 hf
        refine lv_iconst (v := 1) hx hb dX4_isOver_42 (by decide) ?_
        refine lv_goto (tgt := 47) hx hb dX4_isOver_43 (by decide) ?_
        cases hf
        exact rt_b (b := true) hx hb hr hlk hH dX4_isOver_47
def fX4_sideOf (a0 : Int32) : Int32 :=
  (a0 / 2)
theorem kdX4_sideOf : yX4_sideOf.cls ≠ "java/lang/invoke/MethodHandle" ∧ yX4_sideOf.cls ≠ "java/lang/invoke/VarHandle" ∧ (parseMethodDescriptor yX4_sideOf.desc).map (fun d => d.parameters.length) = some 1 := by decide +kernel
set_option maxHeartbeats 4000000 in
theorem mX4_sideOf (l : Launch) (G : GT_) (M : Mem_) (n : Nat) (a0 : Int32) (r : Int32) (hf : fX4_sideOf a0 = r) : Ct_ G l yX4_sideOf (ws_ yX4_sideOf cX4_sideOf 1 (some .int)) ({ frames := 0, cells := 0, slots := 0, locals := 0 }) 0 0 [.int a0] M n (some (.int r)) M n := by
  refine en_ (by decide) (Nat.le_of_ble_eq_true rfl) ?_
  intro p e s m below meth c hx hb hr hlk hml hown hts hname hKn hH ls hl
  have hown : s.vm.findClass RX4 = some m.cls := hown
  have hl : lv_has ls 1 [(0, .int a0)] := hl
  unfold fX4_sideOf at hf
  generalize s.heap = H at hH ⊢
  refine lv_iload_n hx hb dX4_sideOf_0 rfl (lv_at hl 0 rfl) ?_
  refine lv_iconst (v := 2) hx hb dX4_sideOf_1 (by decide) ?_
  refine lv_idiv hx hb dX4_sideOf_2 (by decide) ?_
  subst hf
  exact rt_i hx hb hr hlk hH dX4_sideOf_3
def fX4_fallsIn (M : Mem_) (a0 : Nat) (a1 : Int32) (a2 : Int32) : Option Int32 :=
  lt_ (((a2 / 3) * 3)) fun v1 =>
  (aI_ M a0 0 3).bind fun v2 =>
  lt_ (((a2 - a2 / 3 * 3) + v2)) fun v3 =>
  lt_ (fX4_ofS a1 0) fun r4 =>
  (aI_ M a0 0 r4).bind fun v5 =>
  if v5 = 6 then
    some (v1 + 1)
  else
    if v5 = 7 then
      if 0 ≤ v3 then
        if v3 ≤ 2 then
          some (v1 + v3)
        else
          some (v1 + 2)
      else
        some (v1 + 0)
    else
      some a2
theorem kdX4_fallsIn : yX4_fallsIn.cls ≠ "java/lang/invoke/MethodHandle" ∧ yX4_fallsIn.cls ≠ "java/lang/invoke/VarHandle" ∧ (parseMethodDescriptor yX4_fallsIn.desc).map (fun d => d.parameters.length) = some 3 := by decide +kernel
set_option maxHeartbeats 4000000 in
theorem mX4_fallsIn (l : Launch) (G : GT_) (M : Mem_) (n : Nat) (a0 : Nat) (a1 : Int32) (a2 : Int32) (r : Int32) (hf : fX4_fallsIn M a0 a1 a2 = some r) : Ct_ G l yX4_fallsIn (ws_ yX4_fallsIn cX4_fallsIn 5 (some .int)) ({ frames := 1, cells := 0, slots := 0, locals := 21 }) 0 0 [.ref a0, .int a1, .int a2] M n (some (.int r)) M n := by
  refine en_ (by decide) (Nat.le_of_ble_eq_true rfl) ?_
  intro p e s m below meth c hx hb hr hlk hml hown hts hname hKn hH ls hl
  have hown : s.vm.findClass RX4 = some m.cls := hown
  have hl : lv_has ls 5 [(0, .ref a0), (1, .int a1), (2, .int a2)] := hl
  unfold fX4_fallsIn at hf
  generalize s.heap = H at hH ⊢
  refine lv_iload_n hx hb dX4_fallsIn_0 rfl (lv_at hl 2 rfl) ?_
  refine lv_iconst (v := 3) hx hb dX4_fallsIn_1 (by decide) ?_
  refine lv_idiv hx hb dX4_fallsIn_2 (by decide) ?_
  refine lv_iconst (v := 3) hx hb dX4_fallsIn_3 (by decide) ?_
  refine lv_imul hx hb dX4_fallsIn_4 ?_
  refine lv_topi (fun v1 ev1 => ?_)
  have hf := lu_ ev1 hf
  refine lv_istore_n (lv' := [(3, .int v1), (0, .ref a0), (1, .int a1), (2, .int a2)]) hx hb dX4_fallsIn_5 rfl hl (by decide) rfl (fun ls hl => ?_)
  refine lv_iload_n hx hb dX4_fallsIn_6 rfl (lv_at hl 3 rfl) ?_
  refine lv_iconst (v := 3) hx hb dX4_fallsIn_7 (by decide) ?_
  refine lv_irem hx hb dX4_fallsIn_8 (by decide) ?_
  refine lv_aload_n hx hb dX4_fallsIn_9 rfl (lv_at hl 1 rfl) ?_
  refine lv_iconst (v := 3) hx hb dX4_fallsIn_10 (by decide) ?_
  obtain ⟨v2, ev2, hf⟩ := bs_ hf
  refine mg_iald hx hb hKn hH ev2 dX4_fallsIn_11 ?_
  refine lv_iadd hx hb dX4_fallsIn_12 ?_
  refine lv_topi (fun v3 ev3 => ?_)
  have hf := lu_ ev3 hf
  refine lv_istore (lv' := [(4, .int v3), (3, .int v1), (0, .ref a0), (1, .int a1), (2, .int a2)]) hx hb dX4_fallsIn_13 hl (by decide) rfl (fun ls hl => ?_)
  refine lv_aload_n hx hb dX4_fallsIn_15 rfl (lv_at hl 2 rfl) ?_
  refine lv_iload_n hx hb dX4_fallsIn_16 rfl (lv_at hl 3 rfl) ?_
  refine lv_iconst (v := 0) hx hb dX4_fallsIn_17 (by decide) ?_
  obtain ⟨r4, er4⟩ : ∃ z, z = fX4_ofS a1 0 := ⟨_, rfl⟩
  have hf := lu_ er4 hf
  refine cl_i0 hH (rn_S ⟨hx, hb, hml, hown, hts⟩ hKn hH (mX4_ofS l G M n a1 0 r4 er4.symm) (va_cwS 2 hts (lw_S q1274 q1275 q70 q1276) rfl rfl rfl kdX4_ofS ⟨Nat.le_of_ble_eq_true rfl, Nat.le_of_ble_eq_true rfl⟩) rfl hl.1 (Nat.le_of_ble_eq_true rfl) dX4_fallsIn_18 ⟨(Nat.le_of_ble_eq_true rfl), (Nat.le_of_ble_eq_true rfl)⟩ rfl) (fun H locs hH => ?_)
  obtain ⟨v5, ev5, hf⟩ := bs_ hf
  refine mg_iald hx hb hKn hH ev5 dX4_fallsIn_21 ?_
  by_cases c6 : v5 = 6
  · have hf := ip_ c6 hf
    refine sw_L (off := 26) (tgt := 48) hx hb dX4_fallsIn_22 c6 (by decide) (by decide) (by decide) ?_
    refine lv_iload_n hx hb dX4_fallsIn_48 rfl (lv_at hl 1 rfl) ?_
    refine lv_iconst (v := 1) hx hb dX4_fallsIn_49 (by decide) ?_
    refine lv_iadd hx hb dX4_fallsIn_50 ?_
    cases hf
    exact rt_i hx hb hr hlk hH dX4_fallsIn_51
  · have hf := in_ c6 hf
    by_cases c7 : v5 = 7
    · have hf := ip_ c7 hf
      refine sw_L (off := 30) (tgt := 52) hx hb dX4_fallsIn_22 c7 (by decide) (by decide) (by decide) ?_
      refine lv_iload_n hx hb dX4_fallsIn_52 rfl (lv_at hl 1 rfl) ?_
      refine lv_iload hx hb dX4_fallsIn_53 (lv_at hl 0 rfl) ?_
      refine lv_if_ge (tgt := 62) hx hb dX4_fallsIn_55 (by decide) (fun c9 => ?_) (fun c9 => ?_)
      · have hf := ip_ c9 hf
        refine lv_iload hx hb dX4_fallsIn_62 (lv_at hl 0 rfl) ?_
        refine lv_iconst (v := 2) hx hb dX4_fallsIn_64 (by decide) ?_
        refine lv_icmp_le (tgt := 72) hx hb dX4_fallsIn_65 (by decide) (fun c8 => ?_) (fun c8 => ?_)
        · have hf := ip_ c8 hf
          refine lv_iload hx hb dX4_fallsIn_72 (lv_at hl 0 rfl) ?_
          refine lv_iadd hx hb dX4_fallsIn_74 ?_
          cases hf
          exact rt_i hx hb hr hlk hH dX4_fallsIn_75
        · have hf := in_ c8 hf
          refine lv_iconst (v := 2) hx hb dX4_fallsIn_68 (by decide) ?_
          refine lv_goto (tgt := 74) hx hb dX4_fallsIn_69 (by decide) ?_
          refine lv_iadd hx hb dX4_fallsIn_74 ?_
          cases hf
          exact rt_i hx hb hr hlk hH dX4_fallsIn_75
      · have hf := in_ c9 hf
        refine lv_iconst (v := 0) hx hb dX4_fallsIn_58 (by decide) ?_
        refine lv_goto (tgt := 74) hx hb dX4_fallsIn_59 (by decide) ?_
        refine lv_iadd hx hb dX4_fallsIn_74 ?_
        cases hf
        exact rt_i hx hb hr hlk hH dX4_fallsIn_75
    · have hf := in_ c7 hf
      refine lv_lookup (off := 54) (tgt := 76) hx hb dX4_fallsIn_22 (by decide) ((lv_osw c6 (by decide)).trans ((lv_osw c7 (by decide)).trans rfl)) (by decide) ?_
      refine lv_iload_n hx hb dX4_fallsIn_76 rfl (lv_at hl 4 rfl) ?_
      cases hf
      exact rt_i hx hb hr hlk hH dX4_fallsIn_77
