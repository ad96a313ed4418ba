set_option maxRecDepth 100000
def fX1_whatIs_L56 : Nat → Mem_ → Nat → Nat → Int32 → Int32 → Int32 → Int32 → Nat → Int32 → Int32 → Option (Int32 × Mem_ × Nat)
  | 0, _, _, _, _, _, _, _, _, _, _ => none
  | fuel + 1, M, n, x0, x1, x2, x3, x4, x5, x6, x7 =>
    if x3 = 0 then
      if 8 ≤ x7 then
        some (x6, M, n)
      else
        if x3 = 0 then
          (gR_ M x0 0 8).bind fun v53 =>
          (aR_ M v53 5 x1).bind fun v54 =>
          (gR_ M v54 2 0).bind fun v55 =>
          (gF_ M x5).bind fun v56 =>
          ba_ (fX1_strokeOf M n x7 v56) fun r57 M58 n59 =>
          (gR_ M58 x0 0 0).bind fun v60 =>
          (gI_ M58 v60 1 11).bind fun v61 =>
          (ck_ M58 x0 0).bind fun u62 =>
          (fX1_fellSo M58 x0 v55 r57 v61).bind fun r63 =>
          if (b2_ r63) = 0 then
            lt_ ((x6 ||| 0)) fun v64 =>
            lt_ (x7 + 1) fun v65 =>
            fX1_whatIs_L56 fuel M58 n59 x0 x1 x2 x3 x4 x5 v64 v65
          else
            lt_ ((x6 ||| (1 <<< (x7 &&& 31)))) fun v66 =>
            lt_ (x7 + 1) fun v67 =>
            fX1_whatIs_L56 fuel M58 n59 x0 x1 x2 x3 x4 x5 v66 v67
        else
          (gR_ M x0 0 8).bind fun v43 =>
          (aR_ M v43 5 x1).bind fun v44 =>
          (gR_ M v44 2 0).bind fun v45 =>
          (ck_ M x0 0).bind fun u46 =>
          (fX1_fellSo M x0 v45 x5 (x7 - 1)).bind fun r47 =>
          if (b2_ r47) = 0 then
            lt_ ((x6 ||| 0)) fun v48 =>
            lt_ (x7 + 1) fun v49 =>
            fX1_whatIs_L56 fuel M n x0 x1 x2 x3 x4 x5 v48 v49
          else
            lt_ ((x6 ||| (1 <<< (x7 &&& 31)))) fun v50 =>
            lt_ (x7 + 1) fun v51 =>
            fX1_whatIs_L56 fuel M n x0 x1 x2 x3 x4 x5 v50 v51
    else
      if 3 ≤ x7 then
        some (x6, M, n)
      else
        if x3 = 0 then
          (gR_ M x0 0 8).bind fun v25 =>
          (aR_ M v25 5 x1).bind fun v26 =>
          (gR_ M v26 2 0).bind fun v27 =>
          (gF_ M x5).bind fun v28 =>
          ba_ (fX1_strokeOf M n x7 v28) fun r29 M30 n31 =>
          (gR_ M30 x0 0 0).bind fun v32 =>
          (gI_ M30 v32 1 11).bind fun v33 =>
          (ck_ M30 x0 0).bind fun u34 =>
          (fX1_fellSo M30 x0 v27 r29 v33).bind fun r35 =>
          if (b2_ r35) = 0 then
            lt_ ((x6 ||| 0)) fun v36 =>
            lt_ (x7 + 1) fun v37 =>
            fX1_whatIs_L56 fuel M30 n31 x0 x1 x2 x3 x4 x5 v36 v37
          else
            lt_ ((x6 ||| (1 <<< (x7 &&& 31)))) fun v38 =>
            lt_ (x7 + 1) fun v39 =>
            fX1_whatIs_L56 fuel M30 n31 x0 x1 x2 x3 x4 x5 v38 v39
        else
          (gR_ M x0 0 8).bind fun v15 =>
          (aR_ M v15 5 x1).bind fun v16 =>
          (gR_ M v16 2 0).bind fun v17 =>
          (ck_ M x0 0).bind fun u18 =>
          (fX1_fellSo M x0 v17 x5 (x7 - 1)).bind fun r19 =>
          if (b2_ r19) = 0 then
            lt_ ((x6 ||| 0)) fun v20 =>
            lt_ (x7 + 1) fun v21 =>
            fX1_whatIs_L56 fuel M n x0 x1 x2 x3 x4 x5 v20 v21
          else
            lt_ ((x6 ||| (1 <<< (x7 &&& 31)))) fun v22 =>
            lt_ (x7 + 1) fun v23 =>
            fX1_whatIs_L56 fuel M n x0 x1 x2 x3 x4 x5 v22 v23
def fX1_whatIs (M : Mem_) (n : Nat) (a0 : Nat) (a1 : Int32) (a2 : Int32) (a3 : Int32) : Option (Int32 × Mem_ × Nat) :=
  (gR_ M a0 0 0).bind fun v1 =>
  (ck_ M v1 1).bind fun u2 =>
  (fX2_isStroke M v1 a2).bind fun r3 =>
  if (b2_ r3) = 0 then
    some ((-1), M, n)
  else
    lt_ (fX1_isIn a3 0 1) fun r5 =>
    if (b2_ r5) = 0 then
      some ((-1), M, n)
    else
      (ck_ M a0 0).bind fun u7 =>
      (fX1_notNine M a0 a1).bind fun r8 =>
      if r8 = 0 then
        (gR_ M a0 0 0).bind fun v9 =>
        (gR_ M v9 1 0).bind fun v10 =>
        (aR_ M v10 3 a2).bind fun v11 =>
        fX1_whatIs_L56 10 M n a0 a1 a2 a3 r8 v11 0 0
      else
        some (r8, M, n)
theorem kdX1_whatIs : yX1_whatIs.cls ≠ "java/lang/invoke/MethodHandle" ∧ yX1_whatIs.cls ≠ "java/lang/invoke/VarHandle" ∧ (parseMethodDescriptor yX1_whatIs.desc).map (fun d => d.parameters.length) = some 3 := by decide +kernel
set_option maxHeartbeats 4000000 in
theorem mX1_whatIs (l : Launch) (G : GT_) (M : Mem_) (n : Nat) (a0 : Nat) (a1 : Int32) (a2 : Int32) (a3 : Int32) (r : Int32) (M1 : Mem_) (n1 : Nat) (hf : fX1_whatIs M n a0 a1 a2 a3 = some (r, M1, n1)) : Ct_ G l yX1_whatIs (ws_ yX1_whatIs cX1_whatIs 9 (some .int)) ({ frames := 5, cells := 10, slots := 10, locals := 96 }) 10 10 [.ref a0, .int a1, .int a2, .int a3] M n (some (.int r)) M1 n1 := by
  refine en_ (by decide) (Nat.le_of_ble_eq_true rfl) ?_
  intro p e s m below meth c hx hb hr hlk hml hown hts hname hKn hH ls hl
  have hown : s.vm.findClass RX1 = some m.cls := hown
  have hl : lv_has ls 9 [(0, .ref a0), (1, .int a1), (2, .int a2), (3, .int a3)] := hl
  have w56 : ∀ (fuel : Nat), ∀ (M : Mem_) (n : Nat) (x0 : Nat) (x1 : Int32) (x2 : Int32) (x3 : Int32) (x4 : Int32) (x5 : Nat) (x6 : Int32) (x7 : Int32) (k1 k2 : Nat) (H : Heap) (locs : List Loc) (ls : Array Slot), k1 + 1 * fuel ≤ 10 → k2 + 1 * fuel ≤ 10 → St_ G n M s H locs → lv_has ls 9 [(0, .ref x0), (1, .int x1), (2, .int x2), (3, .int x3), (4, .int x4), (5, .ref x5), (6, .int x6), (7, .int x7)] → fX1_whatIs_L56 fuel M n x0 x1 x2 x3 x4 x5 x6 x7 = some (r, M1, n1) → W p l e ({ frames := 5, cells := 10, slots := 10, locals := 96 } : Room) s m ([.ref a0, .int a1, .int a2, .int a3] : List Value).toArray below meth c H locs k1 k2 (MQ below (Qc_ G (some (.int r)) M1 n1) ([.ref a0, .int a1, .int a2, .int a3] : List Value).toArray s 10 10 (fun q => G.1 ≤ q)) (F0 m 56 ls []) := by
    intro fuel
    induction fuel with
    | zero =>
      intro M n x0 x1 x2 x3 x4 x5 x6 x7 k1 k2 H locs ls hk1 hk2 hH hl hf
      cases hf
    | succ fuel ih =>
      intro M n x0 x1 x2 x3 x4 x5 x6 x7 k1 k2 H locs ls hk1 hk2 hH hl hf
      unfold fX1_whatIs_L56 at hf
      refine lv_iload hx hb dX1_whatIs_56 (lv_at hl 7 rfl) ?_
      refine lv_iload_n hx hb dX1_whatIs_58 rfl (lv_at hl 3 rfl) ?_
      refine lv_if_ne (tgt := 67) hx hb dX1_whatIs_59 (by decide) (fun c71 => ?_) (fun c71 => ?_)
      · have hf := in_ c71 hf
        refine lv_iconst (v := 3) hx hb dX1_whatIs_67 (by decide) ?_
        refine lv_icmp_ge (tgt := 153) hx hb dX1_whatIs_68 (by decide) (fun c42 => ?_) (fun c42 => ?_)
        · have hf := ip_ c42 hf
          refine lv_iload hx hb dX1_whatIs_153 (lv_at hl 6 rfl) ?_
          cases hf
          refine W.widen (k := 10) (n := 10) (by omega) (by omega) ?_
          exact rt_i hx hb hr hlk hH dX1_whatIs_155
        · have hf := in_ c42 hf
          refine lv_iload_n hx hb dX1_whatIs_71 rfl (lv_at hl 3 rfl) ?_
          refine lv_if_ne (tgt := 108) hx hb dX1_whatIs_72 (by decide) (fun c41 => ?_) (fun c41 => ?_)
          · have hf := in_ c41 hf
            refine lv_aload_n hx hb dX1_whatIs_108 rfl (lv_at hl 0 rfl) ?_
            refine lv_aload_n hx hb dX1_whatIs_109 rfl (lv_at hl 0 rfl) ?_
            obtain ⟨v15, ev15, hf⟩ := bs_ hf
            refine mg_gR hx hb hts hown hKn hH ev15 in_X1 rfl (by decide) (hts _ q945) (fun _ h9 => h9) dX1_whatIs_110 ?_
            refine lv_iload_n hx hb dX1_whatIs_113 rfl (lv_at hl 1 rfl) ?_
            obtain ⟨v16, ev16, hf⟩ := bs_ hf
            refine mg_aald5 hx hb hKn hH ev16 dX1_whatIs_114 ?_
            obtain ⟨v17, ev17, hf⟩ := bs_ hf
            refine mg_gR hx hb hts hown hKn hH ev17 in_X3 rfl (by decide) (hts _ q933) (fun _ h9 => h9) dX1_whatIs_115 ?_
            refine lv_aload hx hb dX1_whatIs_118 (lv_at hl 5 rfl) ?_
            refine lv_iload hx hb dX1_whatIs_120 (lv_at hl 7 rfl) ?_
            refine lv_iconst (v := 1) hx hb dX1_whatIs_122 (by decide) ?_
            refine lv_isub hx hb dX1_whatIs_123 ?_
            obtain ⟨u18, eu18, hf⟩ := bs_ hf
            obtain ⟨r19, er19, hf⟩ := bs_ hf
            refine cl_i0 hH (rn_V ⟨hx, hb, hml, hown, hts⟩ hKn hH (mX1_fellSo l G M n x0 v17 x5 (x7 - 1) r19 er19) (cwV 3 hts (lw_V q771 q773 qs33 q67 q774) rfl rfl rfl ⟨rfl, kdX1_fellSo⟩ ⟨Nat.le_of_ble_eq_true rfl, Nat.le_of_ble_eq_true rfl⟩) eu18 rfl rfl hl.1 (Nat.le_of_ble_eq_true rfl) dX1_whatIs_124 ⟨(show k1 + 0 ≤ 10 by omega), (show k2 + 0 ≤ 10 by omega)⟩ rfl) (fun H locs hH => ?_)
            refine lv_istore (lv' := [(8, .int (b2_ r19)), (0, .ref x0), (1, .int x1), (2, .int x2), (3, .int x3), (4, .int x4), (5, .ref x5), (6, .int x6), (7, .int x7)]) hx hb dX1_whatIs_127 hl (by decide) rfl (fun ls hl => ?_)
            refine lv_iload hx hb dX1_whatIs_129 (lv_at hl 7 rfl) ?_
            refine lv_iload hx hb dX1_whatIs_131 (lv_at hl 0 rfl) ?_
            refine lv_if_eq (tgt := 143) hx hb dX1_whatIs_133 (by decide) (fun c24 => ?_) (fun c24 => ?_)
            · have hf := ip_ c24 hf
              refine lv_iconst (v := 0) hx hb dX1_whatIs_143 (by decide) ?_
              refine lv_ior hx hb dX1_whatIs_144 ?_
              refine lv_topi (fun v20 ev20 => ?_)
              have hf := lu_ ev20 hf
              refine lv_istore (lv' := [(6, .int v20), (8, .int (b2_ r19)), (0, .ref x0), (1, .int x1), (2, .int x2), (3, .int x3), (4, .int x4), (5, .ref x5), (7, .int x7)]) hx hb dX1_whatIs_145 hl (by decide) rfl (fun ls hl => ?_)
              obtain ⟨v21, ev21⟩ : ∃ z : Int32, z = x7 + 1 := ⟨_, rfl⟩
              have hf := lu_ ev21 hf
              refine lv_iinc (v := v21) (lv' := [(7, .int v21), (6, .int v20), (8, .int (b2_ r19)), (0, .ref x0), (1, .int x1), (2, .int x2), (3, .int x3), (4, .int x4), (5, .ref x5)]) hx hb dX1_whatIs_147 hl (k := 8) rfl (by rw [ev21]; rfl) (by decide) rfl (fun ls hl => ?_)
              refine lv_goto (tgt := 56) hx hb dX1_whatIs_150 (by decide) ?_
              exact ih M n x0 x1 x2 x3 x4 x5 v20 v21 (k1) (k2) _ _ ls (by omega) (by omega) hH (lv_sub hl [3, 4, 5, 6, 7, 8, 1, 0] rfl) hf
            · have hf := in_ c24 hf
              refine lv_iconst (v := 1) hx hb dX1_whatIs_136 (by decide) ?_
              refine lv_iload hx hb dX1_whatIs_137 (lv_at hl 8 rfl) ?_
              refine lv_ishl hx hb dX1_whatIs_139 ?_
              refine lv_goto (tgt := 144) hx hb dX1_whatIs_140 (by decide) ?_
              refine lv_ior hx hb dX1_whatIs_144 ?_
              refine lv_topi (fun v22 ev22 => ?_)
              have hf := lu_ ev22 hf
              refine lv_istore (lv' := [(6, .int v22), (8, .int (b2_ r19)), (0, .ref x0), (1, .int x1), (2, .int x2), (3, .int x3), (4, .int x4), (5, .ref x5), (7, .int x7)]) hx hb dX1_whatIs_145 hl (by decide) rfl (fun ls hl => ?_)
              obtain ⟨v23, ev23⟩ : ∃ z : Int32, z = x7 + 1 := ⟨_, rfl⟩
              have hf := lu_ ev23 hf
              refine lv_iinc (v := v23) (lv' := [(7, .int v23), (6, .int v22), (8, .int (b2_ r19)), (0, .ref x0), (1, .int x1), (2, .int x2), (3, .int x3), (4, .int x4), (5, .ref x5)]) hx hb dX1_whatIs_147 hl (k := 8) rfl (by rw [ev23]; rfl) (by decide) rfl (fun ls hl => ?_)
              refine lv_goto (tgt := 56) hx hb dX1_whatIs_150 (by decide) ?_
              exact ih M n x0 x1 x2 x3 x4 x5 v22 v23 (k1) (k2) _ _ ls (by omega) (by omega) hH (lv_sub hl [3, 4, 5, 6, 7, 8, 1, 0] rfl) hf
          · have hf := ip_ c41 hf
            refine lv_aload_n hx hb dX1_whatIs_75 rfl (lv_at hl 0 rfl) ?_
            refine lv_aload_n hx hb dX1_whatIs_76 rfl (lv_at hl 0 rfl) ?_
            obtain ⟨v25, ev25, hf⟩ := bs_ hf
            refine mg_gR hx hb hts hown hKn hH ev25 in_X1 rfl (by decide) (hts _ q945) (fun _ h9 => h9) dX1_whatIs_77 ?_
            refine lv_iload_n hx hb dX1_whatIs_80 rfl (lv_at hl 1 rfl) ?_
            obtain ⟨v26, ev26, hf⟩ := bs_ hf
            refine mg_aald5 hx hb hKn hH ev26 dX1_whatIs_81 ?_
            obtain ⟨v27, ev27, hf⟩ := bs_ hf
            refine mg_gR hx hb hts hown hKn hH ev27 in_X3 rfl (by decide) (hts _ q933) (fun _ h9 => h9) dX1_whatIs_82 ?_
            refine lv_iload hx hb dX1_whatIs_85 (lv_at hl 7 rfl) ?_
            refine lv_aload hx hb dX1_whatIs_87 (lv_at hl 5 rfl) ?_
            obtain ⟨v28, ev28, hf⟩ := bs_ hf
            refine mg_gF hx hb hts hown hKn hH ev28 (hts _ q332) (fun _ h9 => h9) dX1_whatIs_89 ?_
            obtain ⟨r29, M30, n31, er29, hf⟩ := bas_ hf
            refine cl_r hH (rn_S ⟨hx, hb, hml, hown, hts⟩ hKn hH (mX1_strokeOf l G M n x7 v28 r29 M30 n31 er29) (va_cwS 2 hts (lw_S q316 q317 q67 q318) rfl rfl rfl kdX1_strokeOf ⟨Nat.le_of_ble_eq_true rfl, Nat.le_of_ble_eq_true rfl⟩) rfl hl.1 (Nat.le_of_ble_eq_true rfl) dX1_whatIs_92 ⟨(show k1 + 1 ≤ 10 by omega), (show k2 + 1 ≤ 10 by omega)⟩ rfl) (fun H locs hH => ?_)
            refine W.widen (k := k1 + 1) (n := k2 + 1) (by omega) (by omega) ?_
            refine lv_aload_n hx hb dX1_whatIs_95 rfl (lv_at hl 0 rfl) ?_
            obtain ⟨v32, ev32, hf⟩ := bs_ hf
            refine mg_gR hx hb hts hown hKn hH ev32 in_X1 rfl (by decide) (hts _ q937) (fun _ h9 => h9) dX1_whatIs_96 ?_
            obtain ⟨v33, ev33, hf⟩ := bs_ hf
            refine mg_gI hx hb hts hown hKn hH ev33 in_X2 rfl (by decide) (hts _ q894) (fun _ h9 => h9) dX1_whatIs_99 ?_
            obtain ⟨u34, eu34, hf⟩ := bs_ hf
            obtain ⟨r35, er35, hf⟩ := bs_ hf
            refine cl_i0 hH (rn_V ⟨hx, hb, hml, hown, hts⟩ hKn hH (mX1_fellSo l G M30 n31 x0 v27 r29 v33 r35 er35) (cwV 3 hts (lw_V q771 q773 qs33 q67 q774) rfl rfl rfl ⟨rfl, kdX1_fellSo⟩ ⟨Nat.le_of_ble_eq_true rfl, Nat.le_of_ble_eq_true rfl⟩) eu34 rfl rfl hl.1 (Nat.le_of_ble_eq_true rfl) dX1_whatIs_102 ⟨(show k1 + 1 + 0 ≤ 10 by omega), (show k2 + 1 + 0 ≤ 10 by omega)⟩ rfl) (fun H locs hH => ?_)
            refine lv_goto (tgt := 127) hx hb dX1_whatIs_105 (by decide) ?_
            refine lv_istore (lv' := [(8, .int (b2_ r35)), (0, .ref x0), (1, .int x1), (2, .int x2), (3, .int x3), (4, .int x4), (5, .ref x5), (6, .int x6), (7, .int x7)]) hx hb dX1_whatIs_127 hl (by decide) rfl (fun ls hl => ?_)
            refine lv_iload hx hb dX1_whatIs_129 (lv_at hl 7 rfl) ?_
            refine lv_iload hx hb dX1_whatIs_131 (lv_at hl 0 rfl) ?_
            refine lv_if_eq (tgt := 143) hx hb dX1_whatIs_133 (by decide) (fun c40 => ?_) (fun c40 => ?_)
            · have hf := ip_ c40 hf
              refine lv_iconst (v := 0) hx hb dX1_whatIs_143 (by decide) ?_
              refine lv_ior hx hb dX1_whatIs_144 ?_
              refine lv_topi (fun v36 ev36 => ?_)
              have hf := lu_ ev36 hf
              refine lv_istore (lv' := [(6, .int v36), (8, .int (b2_ r35)), (0, .ref x0), (1, .int x1), (2, .int x2), (3, .int x3), (4, .int x4), (5, .ref x5), (7, .int x7)]) hx hb dX1_whatIs_145 hl (by decide) rfl (fun ls hl => ?_)
              obtain ⟨v37, ev37⟩ : ∃ z : Int32, z = x7 + 1 := ⟨_, rfl⟩
              have hf := lu_ ev37 hf
              refine lv_iinc (v := v37) (lv' := [(7, .int v37), (6, .int v36), (8, .int (b2_ r35)), (0, .ref x0), (1, .int x1), (2, .int x2), (3, .int x3), (4, .int x4), (5, .ref x5)]) hx hb dX1_whatIs_147 hl (k := 8) rfl (by rw [ev37]; rfl) (by decide) rfl (fun ls hl => ?_)
              refine lv_goto (tgt := 56) hx hb dX1_whatIs_150 (by decide) ?_
              exact ih M30 n31 x0 x1 x2 x3 x4 x5 v36 v37 (k1 + 1) (k2 + 1) _ _ ls (by omega) (by omega) hH (lv_sub hl [3, 4, 5, 6, 7, 8, 1, 0] rfl) hf
            · have hf := in_ c40 hf
              refine lv_iconst (v := 1) hx hb dX1_whatIs_136 (by decide) ?_
              refine lv_iload hx hb dX1_whatIs_137 (lv_at hl 8 rfl) ?_
              refine lv_ishl hx hb dX1_whatIs_139 ?_
              refine lv_goto (tgt := 144) hx hb dX1_whatIs_140 (by decide) ?_
              refine lv_ior hx hb dX1_whatIs_144 ?_
              refine lv_topi (fun v38 ev38 => ?_)
              have hf := lu_ ev38 hf
              refine lv_istore (lv' := [(6, .int v38), (8, .int (b2_ r35)), (0, .ref x0), (1, .int x1), (2, .int x2), (3, .int x3), (4, .int x4), (5, .ref x5), (7, .int x7)]) hx hb dX1_whatIs_145 hl (by decide) rfl (fun ls hl => ?_)
              obtain ⟨v39, ev39⟩ : ∃ z : Int32, z = x7 + 1 := ⟨_, rfl⟩
              have hf := lu_ ev39 hf
              refine lv_iinc (v := v39) (lv' := [(7, .int v39), (6, .int v38), (8, .int (b2_ r35)), (0, .ref x0), (1, .int x1), (2, .int x2), (3, .int x3), (4, .int x4), (5, .ref x5)]) hx hb dX1_whatIs_147 hl (k := 8) rfl (by rw [ev39]; rfl) (by decide) rfl (fun ls hl => ?_)
              refine lv_goto (tgt := 56) hx hb dX1_whatIs_150 (by decide) ?_
              exact ih M30 n31 x0 x1 x2 x3 x4 x5 v38 v39 (k1 + 1) (k2 + 1) _ _ ls (by omega) (by omega) hH (lv_sub hl [3, 4, 5, 6, 7, 8, 1, 0] rfl) hf
      · have hf := ip_ c71 hf
        refine lv_bipush (v := 8) hx hb dX1_whatIs_62 (by decide) ?_
        refine lv_goto (tgt := 68) hx hb dX1_whatIs_64 (by decide) ?_
        refine lv_icmp_ge (tgt := 153) hx hb dX1_whatIs_68 (by decide) (fun c70 => ?_) (fun c70 => ?_)
        · have hf := ip_ c70 hf
          refine lv_iload hx hb dX1_whatIs_153 (lv_at hl 6 rfl) ?_
          cases hf
          refine W.widen (k := 10) (n := 10) (by omega) (by omega) ?_
          exact rt_i hx hb hr hlk hH dX1_whatIs_155
        · have hf := in_ c70 hf
          refine lv_iload_n hx hb dX1_whatIs_71 rfl (lv_at hl 3 rfl) ?_
          refine lv_if_ne (tgt := 108) hx hb dX1_whatIs_72 (by decide) (fun c69 => ?_) (fun c69 => ?_)
          · have hf := in_ c69 hf
            refine lv_aload_n hx hb dX1_whatIs_108 rfl (lv_at hl 0 rfl) ?_
            refine lv_aload_n hx hb dX1_whatIs_109 rfl (lv_at hl 0 rfl) ?_
            obtain ⟨v43, ev43, hf⟩ := bs_ hf
            refine mg_gR hx hb hts hown hKn hH ev43 in_X1 rfl (by decide) (hts _ q945) (fun _ h9 => h9) dX1_whatIs_110 ?_
            refine lv_iload_n hx hb dX1_whatIs_113 rfl (lv_at hl 1 rfl) ?_
            obtain ⟨v44, ev44, hf⟩ := bs_ hf
            refine mg_aald5 hx hb hKn hH ev44 dX1_whatIs_114 ?_
            obtain ⟨v45, ev45, hf⟩ := bs_ hf
            refine mg_gR hx hb hts hown hKn hH ev45 in_X3 rfl (by decide) (hts _ q933) (fun _ h9 => h9) dX1_whatIs_115 ?_
            refine lv_aload hx hb dX1_whatIs_118 (lv_at hl 5 rfl) ?_
            refine lv_iload hx hb dX1_whatIs_120 (lv_at hl 7 rfl) ?_
            refine lv_iconst (v := 1) hx hb dX1_whatIs_122 (by decide) ?_
            refine lv_isub hx hb dX1_whatIs_123 ?_
            obtain ⟨u46, eu46, hf⟩ := bs_ hf
            obtain ⟨r47, er47, hf⟩ := bs_ hf
            refine cl_i0 hH (rn_V ⟨hx, hb, hml, hown, hts⟩ hKn hH (mX1_fellSo l G M n x0 v45 x5 (x7 - 1) r47 er47) (cwV 3 hts (lw_V q771 q773 qs33 q67 q774) rfl rfl rfl ⟨rfl, kdX1_fellSo⟩ ⟨Nat.le_of_ble_eq_true rfl, Nat.le_of_ble_eq_true rfl⟩) eu46 rfl rfl hl.1 (Nat.le_of_ble_eq_true rfl) dX1_whatIs_124 ⟨(show k1 + 0 ≤ 10 by omega), (show k2 + 0 ≤ 10 by omega)⟩ rfl) (fun H locs hH => ?_)
            refine lv_istore (lv' := [(8, .int (b2_ r47)), (0, .ref x0), (1, .int x1), (2, .int x2), (3, .int x3), (4, .int x4), (5, .ref x5), (6, .int x6), (7, .int x7)]) hx hb dX1_whatIs_127 hl (by decide) rfl (fun ls hl => ?_)
            refine lv_iload hx hb dX1_whatIs_129 (lv_at hl 7 rfl) ?_
            refine lv_iload hx hb dX1_whatIs_131 (lv_at hl 0 rfl) ?_
            refine lv_if_eq (tgt := 143) hx hb dX1_whatIs_133 (by decide) (fun c52 => ?_) (fun c52 => ?_)
            · have hf := ip_ c52 hf
              refine lv_iconst (v := 0) hx hb dX1_whatIs_143 (by decide) ?_
              refine lv_ior hx hb dX1_whatIs_144 ?_
              refine lv_topi (fun v48 ev48 => ?_)
              have hf := lu_ ev48 hf
              refine lv_istore (lv' := [(6, .int v48), (8, .int (b2_ r47)), (0, .ref x0), (1, .int x1), (2, .int x2), (3, .int x3), (4, .int x4), (5, .ref x5), (7, .int x7)]) hx hb dX1_whatIs_145 hl (by decide) rfl (fun ls hl => ?_)
              obtain ⟨v49, ev49⟩ : ∃ z : Int32, z = x7 + 1 := ⟨_, rfl⟩
              have hf := lu_ ev49 hf
              refine lv_iinc (v := v49) (lv' := [(7, .int v49), (6, .int v48), (8, .int (b2_ r47)), (0, .ref x0), (1, .int x1), (2, .int x2), (3, .int x3), (4, .int x4), (5, .ref x5)]) hx hb dX1_whatIs_147 hl (k := 8) rfl (by rw [ev49]; rfl) (by decide) rfl (fun ls hl => ?_)
              refine lv_goto (tgt := 56) hx hb dX1_whatIs_150 (by decide) ?_
              exact ih M n x0 x1 x2 x3 x4 x5 v48 v49 (k1) (k2) _ _ ls (by omega) (by omega) hH (lv_sub hl [3, 4, 5, 6, 7, 8, 1, 0] rfl) hf
            · have hf := in_ c52 hf
              refine lv_iconst (v := 1) hx hb dX1_whatIs_136 (by decide) ?_
              refine lv_iload hx hb dX1_whatIs_137 (lv_at hl 8 rfl) ?_
              refine lv_ishl hx hb dX1_whatIs_139 ?_
              refine lv_goto (tgt := 144) hx hb dX1_whatIs_140 (by decide) ?_
              refine lv_ior hx hb dX1_whatIs_144 ?_
              refine lv_topi (fun v50 ev50 => ?_)
              have hf := lu_ ev50 hf
              refine lv_istore (lv' := [(6, .int v50), (8, .int (b2_ r47)), (0, .ref x0), (1, .int x1), (2, .int x2), (3, .int x3), (4, .int x4), (5, .ref x5), (7, .int x7)]) hx hb dX1_whatIs_145 hl (by decide) rfl (fun ls hl => ?_)
              obtain ⟨v51, ev51⟩ : ∃ z : Int32, z = x7 + 1 := ⟨_, rfl⟩
              have hf := lu_ ev51 hf
              refine lv_iinc (v := v51) (lv' := [(7, .int v51), (6, .int v50), (8, .int (b2_ r47)), (0, .ref x0), (1, .int x1), (2, .int x2), (3, .int x3), (4, .int x4), (5, .ref x5)]) hx hb dX1_whatIs_147 hl (k := 8) rfl (by rw [ev51]; rfl) (by decide) rfl (fun ls hl => ?_)
              refine lv_goto (tgt := 56) hx hb dX1_whatIs_150 (by decide) ?_
              exact ih M n x0 x1 x2 x3 x4 x5 v50 v51 (k1) (k2) _ _ ls (by omega) (by omega) hH (lv_sub hl [3, 4, 5, 6, 7, 8, 1, 0] rfl) hf
          · have hf := ip_ c69 hf
            refine lv_aload_n hx hb dX1_whatIs_75 rfl (lv_at hl 0 rfl) ?_
            refine lv_aload_n hx hb dX1_whatIs_76 rfl (lv_at hl 0 rfl) ?_
            obtain ⟨v53, ev53, hf⟩ := bs_ hf
            refine mg_gR hx hb hts hown hKn hH ev53 in_X1 rfl (by decide) (hts _ q945) (fun _ h9 => h9) dX1_whatIs_77 ?_
            refine lv_iload_n hx hb dX1_whatIs_80 rfl (lv_at hl 1 rfl) ?_
            obtain ⟨v54, ev54, hf⟩ := bs_ hf
            refine mg_aald5 hx hb hKn hH ev54 dX1_whatIs_81 ?_
            obtain ⟨v55, ev55, hf⟩ := bs_ hf
            refine mg_gR hx hb hts hown hKn hH ev55 in_X3 rfl (by decide) (hts _ q933) (fun _ h9 => h9) dX1_whatIs_82 ?_
            refine lv_iload hx hb dX1_whatIs_85 (lv_at hl 7 rfl) ?_
            refine lv_aload hx hb dX1_whatIs_87 (lv_at hl 5 rfl) ?_
            obtain ⟨v56, ev56, hf⟩ := bs_ hf
            refine mg_gF hx hb hts hown hKn hH ev56 (hts _ q332) (fun _ h9 => h9) dX1_whatIs_89 ?_
            obtain ⟨r57, M58, n59, er57, hf⟩ := bas_ hf
            refine cl_r hH (rn_S ⟨hx, hb, hml, hown, hts⟩ hKn hH (mX1_strokeOf l G M n x7 v56 r57 M58 n59 er57) (va_cwS 2 hts (lw_S q316 q317 q67 q318) rfl rfl rfl kdX1_strokeOf ⟨Nat.le_of_ble_eq_true rfl, Nat.le_of_ble_eq_true rfl⟩) rfl hl.1 (Nat.le_of_ble_eq_true rfl) dX1_whatIs_92 ⟨(show k1 + 1 ≤ 10 by omega), (show k2 + 1 ≤ 10 by omega)⟩ rfl) (fun H locs hH => ?_)
            refine W.widen (k := k1 + 1) (n := k2 + 1) (by omega) (by omega) ?_
            refine lv_aload_n hx hb dX1_whatIs_95 rfl (lv_at hl 0 rfl) ?_
            obtain ⟨v60, ev60, hf⟩ := bs_ hf
            refine mg_gR hx hb hts hown hKn hH ev60 in_X1 rfl (by decide) (hts _ q937) (fun _ h9 => h9) dX1_whatIs_96 ?_
            obtain ⟨v61, ev61, hf⟩ := bs_ hf
            refine mg_gI hx hb hts hown hKn hH ev61 in_X2 rfl (by decide) (hts _ q894) (fun _ h9 => h9) dX1_whatIs_99 ?_
            obtain ⟨u62, eu62, hf⟩ := bs_ hf
            obtain ⟨r63, er63, hf⟩ := bs_ hf
            refine cl_i0 hH (rn_V ⟨hx, hb, hml, hown, hts⟩ hKn hH (mX1_fellSo l G M58 n59 x0 v55 r57 v61 r63 er63) (cwV 3 hts (lw_V q771 q773 qs33 q67 q774) rfl rfl rfl ⟨rfl, kdX1_fellSo⟩ ⟨Nat.le_of_ble_eq_true rfl, Nat.le_of_ble_eq_true rfl⟩) eu62 rfl rfl hl.1 (Nat.le_of_ble_eq_true rfl) dX1_whatIs_102 ⟨(show k1 + 1 + 0 ≤ 10 by omega), (show k2 + 1 + 0 ≤ 10 by omega)⟩ rfl) (fun H locs hH => ?_)
            refine lv_goto (tgt := 127) hx hb dX1_whatIs_105 (by decide) ?_
            refine lv_istore (lv' := [(8, .int (b2_ r63)), (0, .ref x0), (1, .int x1), (2, .int x2), (3, .int x3), (4, .int x4), (5, .ref x5), (6, .int x6), (7, .int x7)]) hx hb dX1_whatIs_127 hl (by decide) rfl (fun ls hl => ?_)
            refine lv_iload hx hb dX1_whatIs_129 (lv_at hl 7 rfl) ?_
            refine lv_iload hx hb dX1_whatIs_131 (lv_at hl 0 rfl) ?_
            refine lv_if_eq (tgt := 143) hx hb dX1_whatIs_133 (by decide) (fun c68 => ?_) (fun c68 => ?_)
            · have hf := ip_ c68 hf
              refine lv_iconst (v := 0) hx hb dX1_whatIs_143 (by decide) ?_
              refine lv_ior hx hb dX1_whatIs_144 ?_
              refine lv_topi (fun v64 ev64 => ?_)
              have hf := lu_ ev64 hf
              refine lv_istore (lv' := [(6, .int v64), (8, .int (b2_ r63)), (0, .ref x0), (1, .int x1), (2, .int x2), (3, .int x3), (4, .int x4), (5, .ref x5), (7, .int x7)]) hx hb dX1_whatIs_145 hl (by decide) rfl (fun ls hl => ?_)
              obtain ⟨v65, ev65⟩ : ∃ z : Int32, z = x7 + 1 := ⟨_, rfl⟩
              have hf := lu_ ev65 hf
              refine lv_iinc (v := v65) (lv' := [(7, .int v65), (6, .int v64), (8, .int (b2_ r63)), (0, .ref x0), (1, .int x1), (2, .int x2), (3, .int x3), (4, .int x4), (5, .ref x5)]) hx hb dX1_whatIs_147 hl (k := 8) rfl (by rw [ev65]; rfl) (by decide) rfl (fun ls hl => ?_)
              refine lv_goto (tgt := 56) hx hb dX1_whatIs_150 (by decide) ?_
              exact ih M58 n59 x0 x1 x2 x3 x4 x5 v64 v65 (k1 + 1) (k2 + 1) _ _ ls (by omega) (by omega) hH (lv_sub hl [3, 4, 5, 6, 7, 8, 1, 0] rfl) hf
            · have hf := in_ c68 hf
              refine lv_iconst (v := 1) hx hb dX1_whatIs_136 (by decide) ?_
              refine lv_iload hx hb dX1_whatIs_137 (lv_at hl 8 rfl) ?_
              refine lv_ishl hx hb dX1_whatIs_139 ?_
              refine lv_goto (tgt := 144) hx hb dX1_whatIs_140 (by decide) ?_
              refine lv_ior hx hb dX1_whatIs_144 ?_
              refine lv_topi (fun v66 ev66 => ?_)
              have hf := lu_ ev66 hf
              refine lv_istore (lv' := [(6, .int v66), (8, .int (b2_ r63)), (0, .ref x0), (1, .int x1), (2, .int x2), (3, .int x3), (4, .int x4), (5, .ref x5), (7, .int x7)]) hx hb dX1_whatIs_145 hl (by decide) rfl (fun ls hl => ?_)
              obtain ⟨v67, ev67⟩ : ∃ z : Int32, z = x7 + 1 := ⟨_, rfl⟩
              have hf := lu_ ev67 hf
              refine lv_iinc (v := v67) (lv' := [(7, .int v67), (6, .int v66), (8, .int (b2_ r63)), (0, .ref x0), (1, .int x1), (2, .int x2), (3, .int x3), (4, .int x4), (5, .ref x5)]) hx hb dX1_whatIs_147 hl (k := 8) rfl (by rw [ev67]; rfl) (by decide) rfl (fun ls hl => ?_)
              refine lv_goto (tgt := 56) hx hb dX1_whatIs_150 (by decide) ?_
              exact ih M58 n59 x0 x1 x2 x3 x4 x5 v66 v67 (k1 + 1) (k2 + 1) _ _ ls (by omega) (by omega) hH (lv_sub hl [3, 4, 5, 6, 7, 8, 1, 0] rfl) hf
  unfold fX1_whatIs at hf
  refine lv_aload_n hx hb dX1_whatIs_0 rfl (lv_at hl 0 rfl) ?_
  obtain ⟨v1, ev1, hf⟩ := bs_ hf
  refine mg_gR hx hb hts hown hKn hH ev1 in_X1 rfl (by decide) (hts _ q937) (fun _ h9 => h9) dX1_whatIs_1 ?_
  refine lv_iload_n hx hb dX1_whatIs_4 rfl (lv_at hl 2 rfl) ?_
  obtain ⟨u2, eu2, hf⟩ := bs_ hf
  obtain ⟨r3, er3, hf⟩ := bs_ hf
  refine cl_i0 hH (rn_V ⟨hx, hb, hml, hown, hts⟩ hKn hH (mX2_isStroke l G M n v1 a2 r3 er3) (cwV 1 hts (lw_V q400 q401 q402 q68 q403) rfl rfl rfl ⟨rfl, kdX2_isStroke⟩ ⟨Nat.le_of_ble_eq_true rfl, Nat.le_of_ble_eq_true rfl⟩) eu2 rfl rfl hl.1 (Nat.le_of_ble_eq_true rfl) dX1_whatIs_5 ⟨(Nat.le_of_ble_eq_true rfl), (Nat.le_of_ble_eq_true rfl)⟩ rfl) (fun H locs hH => ?_)
  refine lv_if_eq (tgt := 28) hx hb dX1_whatIs_8 (by decide) (fun c14 => ?_) (fun c14 => ?_)
  · have hf := ip_ c14 hf
    refine lv_iconst (v := (-1)) hx hb dX1_whatIs_28 (by decide) ?_
    refine lv_istore (lv' := [(4, .int (-1)), (0, .ref a0), (1, .int a1), (2, .int a2), (3, .int a3)]) hx hb dX1_whatIs_29 hl (by decide) rfl (fun ls hl => ?_)
    refine lv_iload hx hb dX1_whatIs_31 (lv_at hl 0 rfl) ?_
    refine lv_if_eq (tgt := 39) hx hb dX1_whatIs_33 (by decide) (fun c4 => ?_) (fun c4 => ?_)
    · exact absurd c4 (by decide)
    · refine lv_iload hx hb dX1_whatIs_36 (lv_at hl 0 rfl) ?_
      cases hf
      refine W.widen (k := 10) (n := 10) (Nat.le_of_ble_eq_true rfl) (Nat.le_of_ble_eq_true rfl) ?_
      exact rt_i hx hb hr hlk hH dX1_whatIs_38
  · have hf := in_ c14 hf
    refine lv_iload_n hx hb dX1_whatIs_11 rfl (lv_at hl 3 rfl) ?_
    refine lv_iconst (v := 0) hx hb dX1_whatIs_12 (by decide) ?_
    refine lv_iconst (v := 1) hx hb dX1_whatIs_13 (by decide) ?_
    obtain ⟨r5, er5⟩ : ∃ z, z = fX1_isIn a3 0 1 := ⟨_, rfl⟩
    have hf := lu_ er5 hf
    refine cl_i0 hH (rn_S ⟨hx, hb, hml, hown, hts⟩ hKn hH (mX1_isIn l G M n a3 0 1 r5 er5.symm) (va_cwS 3 hts (lw_S q199 q200 q67 q201) rfl rfl rfl kdX1_isIn ⟨Nat.le_of_ble_eq_true rfl, Nat.le_of_ble_eq_true rfl⟩) rfl hl.1 (Nat.le_of_ble_eq_true rfl) dX1_whatIs_14 ⟨(Nat.le_of_ble_eq_true rfl), (Nat.le_of_ble_eq_true rfl)⟩ rfl) (fun H locs hH => ?_)
    refine lv_if_eq (tgt := 28) hx hb dX1_whatIs_17 (by decide) (fun c13 => ?_) (fun c13 => ?_)
    · have hf := ip_ c13 hf
      refine lv_iconst (v := (-1)) hx hb dX1_whatIs_28 (by decide) ?_
      refine lv_istore (lv' := [(4, .int (-1)), (0, .ref a0), (1, .int a1), (2, .int a2), (3, .int a3)]) hx hb dX1_whatIs_29 hl (by decide) rfl (fun ls hl => ?_)
      refine lv_iload hx hb dX1_whatIs_31 (lv_at hl 0 rfl) ?_
      refine lv_if_eq (tgt := 39) hx hb dX1_whatIs_33 (by decide) (fun c6 => ?_) (fun c6 => ?_)
      · exact absurd c6 (by decide)
      · refine lv_iload hx hb dX1_whatIs_36 (lv_at hl 0 rfl) ?_
        cases hf
        refine W.widen (k := 10) (n := 10) (Nat.le_of_ble_eq_true rfl) (Nat.le_of_ble_eq_true rfl) ?_
        exact rt_i hx hb hr hlk hH dX1_whatIs_38
    · have hf := in_ c13 hf
      refine lv_aload_n hx hb dX1_whatIs_20 rfl (lv_at hl 0 rfl) ?_
      refine lv_iload_n hx hb dX1_whatIs_21 rfl (lv_at hl 1 rfl) ?_
      obtain ⟨u7, eu7, hf⟩ := bs_ hf
      obtain ⟨r8, er8, hf⟩ := bs_ hf
      refine cl_i0 hH (rn_V ⟨hx, hb, hml, hown, hts⟩ hKn hH (mX1_notNine l G M n a0 a1 r8 er8) (cwV 1 hts (lw_V q767 q769 qs32 q67 q770) rfl rfl rfl ⟨rfl, kdX1_notNine⟩ ⟨Nat.le_of_ble_eq_true rfl, Nat.le_of_ble_eq_true rfl⟩) eu7 rfl rfl hl.1 (Nat.le_of_ble_eq_true rfl) dX1_whatIs_22 ⟨(Nat.le_of_ble_eq_true rfl), (Nat.le_of_ble_eq_true rfl)⟩ rfl) (fun H locs hH => ?_)
      refine lv_goto (tgt := 29) hx hb dX1_whatIs_25 (by decide) ?_
      refine lv_istore (lv' := [(4, .int r8), (0, .ref a0), (1, .int a1), (2, .int a2), (3, .int a3)]) hx hb dX1_whatIs_29 hl (by decide) rfl (fun ls hl => ?_)
      refine lv_iload hx hb dX1_whatIs_31 (lv_at hl 0 rfl) ?_
      refine lv_if_eq (tgt := 39) hx hb dX1_whatIs_33 (by decide) (fun c12 => ?_) (fun c12 => ?_)
      · have hf := ip_ c12 hf
        refine lv_aload_n hx hb dX1_whatIs_39 rfl (lv_at hl 1 rfl) ?_
        obtain ⟨v9, ev9, hf⟩ := bs_ hf
        refine mg_gR hx hb hts hown hKn hH ev9 in_X1 rfl (by decide) (hts _ q937) (fun _ h9 => h9) dX1_whatIs_40 ?_
        obtain ⟨v10, ev10, hf⟩ := bs_ hf
        refine mg_gR hx hb hts hown hKn hH ev10 in_X2 rfl (by decide) (hts _ q872) (fun _ h9 => h9) dX1_whatIs_43 ?_
        refine lv_iload_n hx hb dX1_whatIs_46 rfl (lv_at hl 3 rfl) ?_
        obtain ⟨v11, ev11, hf⟩ := bs_ hf
        refine mg_aald3 hx hb hKn hH ev11 dX1_whatIs_47 ?_
        refine lv_astore (lv' := [(5, .ref v11), (4, .int r8), (0, .ref a0), (1, .int a1), (2, .int a2), (3, .int a3)]) hx hb dX1_whatIs_48 hl (by decide) rfl (fun ls hl => ?_)
        refine lv_iconst (v := 0) hx hb dX1_whatIs_50 (by decide) ?_
        refine lv_istore (lv' := [(6, .int 0), (5, .ref v11), (4, .int r8), (0, .ref a0), (1, .int a1), (2, .int a2), (3, .int a3)]) hx hb dX1_whatIs_51 hl (by decide) rfl (fun ls hl => ?_)
        refine lv_iconst (v := 0) hx hb dX1_whatIs_53 (by decide) ?_
        refine lv_istore (lv' := [(7, .int 0), (6, .int 0), (5, .ref v11), (4, .int r8), (0, .ref a0), (1, .int a1), (2, .int a2), (3, .int a3)]) hx hb dX1_whatIs_54 hl (by decide) rfl (fun ls hl => ?_)
        exact w56 10 M n a0 a1 a2 a3 r8 v11 0 0 0 0 _ _ ls (Nat.le_of_ble_eq_true rfl) (Nat.le_of_ble_eq_true rfl) hH (lv_sub hl [4, 5, 6, 7, 3, 2, 1, 0] rfl) hf
      · have hf := in_ c12 hf
        refine lv_iload hx hb dX1_whatIs_36 (lv_at hl 0 rfl) ?_
        cases hf
        refine W.widen (k := 10) (n := 10) (Nat.le_of_ble_eq_true rfl) (Nat.le_of_ble_eq_true rfl) ?_
        exact rt_i hx hb hr hlk hH dX1_whatIs_38
def fX1_wereSo_L2 : Nat → Mem_ → Nat → Nat → Int32 → Option Bool
  | 0, _, _, _, _ => none
  | fuel + 1, M, x0, x1, x2 =>
    (fX1_sizeOf M x1).bind fun r1 =>
    if r1 ≤ x2 then
      some true
    else
      (fX1_isSkipped M x1 x2).bind fun r2 =>
      if (b2_ r2) = 0 then
        (fX1_elementOf M x1 x2).bind fun r4 =>
        (gR_ M x0 0 2).bind fun v5 =>
        (gR_ M x0 0 2).bind fun v6 =>
        (ck_ M v6 1).bind fun u7 =>
        (fX2_falls M v6 0 x2).bind fun r8 =>
        (ck_ M v5 1).bind fun u9 =>
        (fX2_whose M v5 r8).bind fun r10 =>
        if r4 = r10 then
          lt_ (x2 + 1) fun v11 =>
          fX1_wereSo_L2 fuel M x0 x1 v11
        else
          some false
      else
        lt_ (x2 + 1) fun v3 =>
        fX1_wereSo_L2 fuel M x0 x1 v3
def fX1_wereSo (M : Mem_) (a0 : Nat) (a1 : Nat) : Option Bool :=
  fX1_wereSo_L2 1000 M a0 a1 0
theorem kdX1_wereSo : yX1_wereSo.cls ≠ "java/lang/invoke/MethodHandle" ∧ yX1_wereSo.cls ≠ "java/lang/invoke/VarHandle" ∧ (parseMethodDescriptor yX1_wereSo.desc).map (fun d => d.parameters.length) = some 1 := by decide +kernel
set_option maxHeartbeats 4000000 in
theorem mX1_wereSo (l : Launch) (G : GT_) (M : Mem_) (n : Nat) (a0 : Nat) (a1 : Nat) (r : Bool) (hf : fX1_wereSo M a0 a1 = some r) : Ct_ G l yX1_wereSo (ws_ yX1_wereSo cX1_wereSo 3 (some .boolean)) ({ frames := 3, cells := 0, slots := 0, locals := 68 }) 0 0 [.ref a0, .ref a1] M n (some (.int (b2_ r))) M n := by
  refine en_ (by decide) (Nat.le_of_ble_eq_true rfl) ?_
  intro p e s m below meth c hx hb hr hlk hml hown hts hname hKn hH ls hl
  have hown : s.vm.findClass RX1 = some m.cls := hown
  have hl : lv_has ls 3 [(0, .ref a0), (1, .ref a1)] := hl
  have w2 : ∀ (fuel : Nat), ∀ (M : Mem_) (x0 : Nat) (x1 : Nat) (x2 : Int32) (H : Heap) (locs : List Loc) (ls : Array Slot), St_ G n M s H locs → lv_has ls 3 [(0, .ref x0), (1, .ref x1), (2, .int x2)] → fX1_wereSo_L2 fuel M x0 x1 x2 = some r → W p l e ({ frames := 3, cells := 0, slots := 0, locals := 68 } : Room) s m ([.ref a0, .ref a1] : List Value).toArray below meth c H locs 0 0 (MQ below (Qc_ G (some (.int (b2_ r))) M n) ([.ref a0, .ref a1] : List Value).toArray s 0 0 (fun q => G.1 ≤ q)) (F0 m 2 ls []) := by
    intro fuel
    induction fuel with
    | zero =>
      intro M x0 x1 x2 H locs ls hH hl hf
      cases hf
    | succ fuel ih =>
      intro M x0 x1 x2 H locs ls hH hl hf
      unfold fX1_wereSo_L2 at hf
      refine lv_iload_n hx hb dX1_wereSo_2 rfl (lv_at hl 2 rfl) ?_
      refine lv_aload_n hx hb dX1_wereSo_3 rfl (lv_at hl 1 rfl) ?_
      obtain ⟨r1, er1, hf⟩ := bs_ hf
      refine cl_i0 hH (rn_S ⟨hx, hb, hml, hown, hts⟩ hKn hH (mX1_sizeOf l G M n x1 r1 er1) (va_cwS 1 hts (lw_S q745 q746 q67 q747) rfl rfl rfl kdX1_sizeOf ⟨Nat.le_of_ble_eq_true rfl, Nat.le_of_ble_eq_true rfl⟩) rfl hl.1 (Nat.le_of_ble_eq_true rfl) dX1_wereSo_4 ⟨(Nat.le_of_ble_eq_true rfl), (Nat.le_of_ble_eq_true rfl)⟩ rfl) (fun H locs hH => ?_)
      refine lv_icmp_ge (tgt := 50) hx hb dX1_wereSo_7 (by decide) (fun c14 => ?_) (fun c14 => ?_)
      · have hf := ip_ c14 hf
        refine lv_iconst (v := 1) hx hb dX1_wereSo_50 (by decide) ?_
        cases hf
        exact rt_b (b := true) hx hb hr hlk hH dX1_wereSo_51
      · have hf := in_ c14 hf
        refine lv_aload_n hx hb dX1_wereSo_10 rfl (lv_at hl 1 rfl) ?_
        refine lv_iload_n hx hb dX1_wereSo_11 rfl (lv_at hl 2 rfl) ?_
        obtain ⟨r2, er2, hf⟩ := bs_ hf
        refine cl_i0 hH (rn_S ⟨hx, hb, hml, hown, hts⟩ hKn hH (mX1_isSkipped l G M n x1 x2 r2 er2) (va_cwS 2 hts (lw_S q775 q776 q67 q777) rfl rfl rfl kdX1_isSkipped ⟨Nat.le_of_ble_eq_true rfl, Nat.le_of_ble_eq_true rfl⟩) rfl hl.1 (Nat.le_of_ble_eq_true rfl) dX1_wereSo_12 ⟨(Nat.le_of_ble_eq_true rfl), (Nat.le_of_ble_eq_true rfl)⟩ rfl) (fun H locs hH => ?_)
        refine lv_if_ne (tgt := 44) hx hb dX1_wereSo_15 (by decide) (fun c13 => ?_) (fun c13 => ?_)
        · have hf := in_ c13 hf
          obtain ⟨v3, ev3⟩ : ∃ z : Int32, z = x2 + 1 := ⟨_, rfl⟩
          have hf := lu_ ev3 hf
          refine lv_iinc (v := v3) (lv' := [(2, .int v3), (0, .ref x0), (1, .ref x1)]) hx hb dX1_wereSo_44 hl (k := 2) rfl (by rw [ev3]; rfl) (by decide) rfl (fun ls hl => ?_)
          refine lv_goto (tgt := 2) hx hb dX1_wereSo_47 (by decide) ?_
          exact ih M x0 x1 v3 _ _ ls hH (lv_sub hl [1, 2, 0] rfl) hf
        · have hf := ip_ c13 hf
          refine lv_aload_n hx hb dX1_wereSo_18 rfl (lv_at hl 1 rfl) ?_
          refine lv_iload_n hx hb dX1_wereSo_19 rfl (lv_at hl 2 rfl) ?_
          obtain ⟨r4, er4, hf⟩ := bs_ hf
          refine cl_i0 hH (rn_S ⟨hx, hb, hml, hown, hts⟩ hKn hH (mX1_elementOf l G M n x1 x2 r4 er4) (va_cwS 2 hts (lw_S q748 q749 q67 q750) rfl rfl rfl kdX1_elementOf ⟨Nat.le_of_ble_eq_true rfl, Nat.le_of_ble_eq_true rfl⟩) rfl hl.1 (Nat.le_of_ble_eq_true rfl) dX1_wereSo_20 ⟨(Nat.le_of_ble_eq_true rfl), (Nat.le_of_ble_eq_true rfl)⟩ rfl) (fun H locs hH => ?_)
          refine lv_aload_n hx hb dX1_wereSo_23 rfl (lv_at hl 0 rfl) ?_
          obtain ⟨v5, ev5, hf⟩ := bs_ hf
          refine mg_gR hx hb hts hown hKn hH ev5 in_X1 rfl (by decide) (hts _ q939) (fun _ h9 => h9) dX1_wereSo_24 ?_
          refine lv_aload_n hx hb dX1_wereSo_27 rfl (lv_at hl 0 rfl) ?_
          obtain ⟨v6, ev6, hf⟩ := bs_ hf
          refine mg_gR hx hb hts hown hKn hH ev6 in_X1 rfl (by decide) (hts _ q939) (fun _ h9 => h9) dX1_wereSo_28 ?_
          refine lv_iconst (v := 0) hx hb dX1_wereSo_31 (by decide) ?_
          refine lv_iload_n hx hb dX1_wereSo_32 rfl (lv_at hl 2 rfl) ?_
          obtain ⟨u7, eu7, hf⟩ := bs_ hf
          obtain ⟨r8, er8, hf⟩ := bs_ hf
          refine cl_i0 hH (rn_V ⟨hx, hb, hml, hown, hts⟩ hKn hH (mX2_falls l G M n v6 0 x2 r8 er8) (cwV 2 hts (lw_V q652 q420 q421 q68 q422) rfl rfl rfl ⟨rfl, kdX2_falls⟩ ⟨Nat.le_of_ble_eq_true rfl, Nat.le_of_ble_eq_true rfl⟩) eu7 rfl rfl hl.1 (Nat.le_of_ble_eq_true rfl) dX1_wereSo_33 ⟨(Nat.le_of_ble_eq_true rfl), (Nat.le_of_ble_eq_true rfl)⟩ rfl) (fun H locs hH => ?_)
          obtain ⟨u9, eu9, hf⟩ := bs_ hf
          obtain ⟨r10, er10, hf⟩ := bs_ hf
          refine cl_i0 hH (rn_V ⟨hx, hb, hml, hown, hts⟩ hKn hH (mX2_whose l G M n v5 r8 r10 er10) (cwV 1 hts (lw_V q653 q509 q510 q68 q511) rfl rfl rfl ⟨rfl, kdX2_whose⟩ ⟨Nat.le_of_ble_eq_true rfl, Nat.le_of_ble_eq_true rfl⟩) eu9 rfl rfl hl.1 (Nat.le_of_ble_eq_true rfl) dX1_wereSo_36 ⟨(Nat.le_of_ble_eq_true rfl), (Nat.le_of_ble_eq_true rfl)⟩ rfl) (fun H locs hH => ?_)
          refine lv_icmp_eq (tgt := 44) hx hb dX1_wereSo_39 (by decide) (fun c12 => ?_) (fun c12 => ?_)
          · have hf := ip_ c12 hf
            obtain ⟨v11, ev11⟩ : ∃ z : Int32, z = x2 + 1 := ⟨_, rfl⟩
            have hf := lu_ ev11 hf
            refine lv_iinc (v := v11) (lv' := [(2, .int v11), (0, .ref x0), (1, .ref x1)]) hx hb dX1_wereSo_44 hl (k := 2) rfl (by rw [ev11]; rfl) (by decide) rfl (fun ls hl => ?_)
            refine lv_goto (tgt := 2) hx hb dX1_wereSo_47 (by decide) ?_
            exact ih M x0 x1 v11 _ _ ls hH (lv_sub hl [1, 2, 0] rfl) hf
          · have hf := in_ c12 hf
            refine lv_iconst (v := 0) hx hb dX1_wereSo_42 (by decide) ?_
            cases hf
            exact rt_b (b := false) hx hb hr hlk hH dX1_wereSo_43
  unfold fX1_wereSo at hf
  refine lv_iconst (v := 0) hx hb dX1_wereSo_0 (by decide) ?_
  refine lv_istore_n (lv' := [(2, .int 0), (0, .ref a0), (1, .ref a1)]) hx hb dX1_wereSo_1 rfl hl (by decide) rfl (fun ls hl => ?_)
  exact w2 1000 M a0 a1 0 _ _ ls hH (lv_sub hl [1, 2, 0] rfl) hf
def fX1_habits_L30 : Nat → Mem_ → Nat → Int32 → Int32 → Int32 → Int32 → Option (Int32 × Mem_)
  | 0, _, _, _, _, _, _ => none
  | fuel + 1, M, x0, x1, x2, x3, x4 =>
    if 4 ≤ x4 then
      some (x3, M)
    else
      (ck_ M x0 0).bind fun u7 =>
      (fX1_minds M x0).bind fun M9 =>
      (gR_ M9 x0 0 2).bind fun v10 =>
      (gR_ M9 v10 1 5).bind fun v11 =>
      (gR_ M9 x0 0 2).bind fun v12 =>
      (ck_ M9 v12 1).bind fun u13 =>
      (fX2_turn M9 v12).bind fun r14 =>
      (sI_ M9 v11 0 (1 - r14) x4).bind fun M15 =>
      (gR_ M15 x0 0 8).bind fun v16 =>
      (aR_ M15 v16 5 x1).bind fun v17 =>
      (gR_ M15 v17 2 0).bind fun v18 =>
      (ck_ M15 x0 0).bind fun u19 =>
      (fX1_wereSo M15 x0 v18).bind fun r20 =>
      if (b2_ r20) = 0 then
        lt_ ((x3 ||| 0)) fun v21 =>
        lt_ (x4 + 1) fun v22 =>
        fX1_habits_L30 fuel M15 x0 x1 x2 v21 v22
      else
        lt_ ((x3 ||| (1 <<< (x4 &&& 31)))) fun v23 =>
        lt_ (x4 + 1) fun v24 =>
        fX1_habits_L30 fuel M15 x0 x1 x2 v23 v24
def fX1_habits (M : Mem_) (a0 : Nat) (a1 : Int32) : Option (Int32 × Mem_) :=
  (ck_ M a0 0).bind fun u1 =>
  (fX1_notNine M a0 a1).bind fun r2 =>
  if r2 = 0 then
    (gR_ M a0 0 0).bind fun v3 =>
    (gI_ M v3 1 9).bind fun v4 =>
    if v4 = 0 then
      some ((-3), M)
    else
      fX1_habits_L30 1000 M a0 a1 r2 0 0
  else
    some (r2, M)
theorem kdX1_habits : yX1_habits.cls ≠ "java/lang/invoke/MethodHandle" ∧ yX1_habits.cls ≠ "java/lang/invoke/VarHandle" ∧ (parseMethodDescriptor yX1_habits.desc).map (fun d => d.parameters.length) = some 1 := by decide +kernel
set_option maxHeartbeats 4000000 in
theorem mX1_habits (l : Launch) (G : GT_) (M : Mem_) (n : Nat) (a0 : Nat) (a1 : Int32) (r : Int32) (M1 : Mem_) (hf : fX1_habits M a0 a1 = some (r, M1)) : Ct_ G l yX1_habits (ws_ yX1_habits cX1_habits 5 (some .int)) ({ frames := 4, cells := 0, slots := 0, locals := 90 }) 0 0 [.ref a0, .int a1] M n (some (.int r)) M1 n := by
  refine en_ (by decide) (Nat.le_of_ble_eq_true rfl) ?_
  intro p e s m below meth c hx hb hr hlk hml hown hts hname hKn hH ls hl
  have hown : s.vm.findClass RX1 = some m.cls := hown
  have hl : lv_has ls 5 [(0, .ref a0), (1, .int a1)] := hl
  have w30 : ∀ (fuel : Nat), ∀ (M : Mem_) (x0 : Nat) (x1 : Int32) (x2 : Int32) (x3 : Int32) (x4 : Int32) (H : Heap) (locs : List Loc) (ls : Array Slot), St_ G n M s H locs → lv_has ls 5 [(0, .ref x0), (1, .int x1), (2, .int x2), (3, .int x3), (4, .int x4)] → fX1_habits_L30 fuel M x0 x1 x2 x3 x4 = some (r, M1) → W p l e ({ frames := 4, cells := 0, slots := 0, locals := 90 } : Room) s m ([.ref a0, .int a1] : List Value).toArray below meth c H locs 0 0 (MQ below (Qc_ G (some (.int r)) M1 n) ([.ref a0, .int a1] : List Value).toArray s 0 0 (fun q => G.1 ≤ q)) (F0 m 30 ls []) := by
    intro fuel
    induction fuel with
    | zero =>
      intro M x0 x1 x2 x3 x4 H locs ls hH hl hf
      cases hf
    | succ fuel ih =>
      intro M x0 x1 x2 x3 x4 H locs ls hH hl hf
      unfold fX1_habits_L30 at hf
      refine lv_iload hx hb dX1_habits_30 (lv_at hl 4 rfl) ?_
      refine lv_iconst (v := 4) hx hb dX1_habits_32 (by decide) ?_
      refine lv_icmp_ge (tgt := 92) hx hb dX1_habits_33 (by decide) (fun c26 => ?_) (fun c26 => ?_)
      · have hf := ip_ c26 hf
        refine lv_iload_n hx hb dX1_habits_92 rfl (lv_at hl 3 rfl) ?_
        cases hf
        exact rt_i hx hb hr hlk hH dX1_habits_93
      · have hf := in_ c26 hf
        refine lv_aload_n hx hb dX1_habits_36 rfl (lv_at hl 0 rfl) ?_
        obtain ⟨u7, eu7, hf⟩ := bs_ hf
        obtain ⟨M9, er8, hf⟩ := bs_ hf
        refine cl_v0 hH (rn_V ⟨hx, hb, hml, hown, hts⟩ hKn hH (mX1_minds l G M n x0 M9 er8) (cwV 0 hts (lw_V q662 q664 qs22 q67 q665) rfl rfl rfl ⟨rfl, kdX1_minds⟩ ⟨Nat.le_of_ble_eq_true rfl, Nat.le_of_ble_eq_true rfl⟩) eu7 rfl rfl hl.1 (Nat.le_of_ble_eq_true rfl) dX1_habits_37 ⟨(Nat.le_of_ble_eq_true rfl), (Nat.le_of_ble_eq_true rfl)⟩ rfl) (fun H locs hH => ?_)
        refine lv_aload_n hx hb dX1_habits_40 rfl (lv_at hl 0 rfl) ?_
        obtain ⟨v10, ev10, hf⟩ := bs_ hf
        refine mg_gR hx hb hts hown hKn hH ev10 in_X1 rfl (by decide) (hts _ q939) (fun _ h9 => h9) dX1_habits_41 ?_
        obtain ⟨v11, ev11, hf⟩ := bs_ hf
        refine mg_gR hx hb hts hown hKn hH ev11 in_X2 rfl (by decide) (hts _ q882) (fun _ h9 => h9) dX1_habits_44 ?_
        refine lv_iconst (v := 1) hx hb dX1_habits_47 (by decide) ?_
        refine lv_aload_n hx hb dX1_habits_48 rfl (lv_at hl 0 rfl) ?_
        obtain ⟨v12, ev12, hf⟩ := bs_ hf
        refine mg_gR hx hb hts hown hKn hH ev12 in_X1 rfl (by decide) (hts _ q939) (fun _ h9 => h9) dX1_habits_49 ?_
        obtain ⟨u13, eu13, hf⟩ := bs_ hf
        obtain ⟨r14, er14, hf⟩ := bs_ hf
        refine cl_i0 hH (rn_V ⟨hx, hb, hml, hown, hts⟩ hKn hH (mX2_turn l G M9 n v12 r14 er14) (cwV 0 hts (lw_V q611 q416 q417 q68 q418) rfl rfl rfl ⟨rfl, kdX2_turn⟩ ⟨Nat.le_of_ble_eq_true rfl, Nat.le_of_ble_eq_true rfl⟩) eu13 rfl rfl hl.1 (Nat.le_of_ble_eq_true rfl) dX1_habits_52 ⟨(Nat.le_of_ble_eq_true rfl), (Nat.le_of_ble_eq_true rfl)⟩ rfl) (fun H locs hH => ?_)
        refine lv_isub hx hb dX1_habits_55 ?_
        refine lv_iload hx hb dX1_habits_56 (lv_at hl 4 rfl) ?_
        obtain ⟨M15, eM15, hf⟩ := bs_ hf
        refine mg_iast hx hb hKn hH eM15 dX1_habits_58 (fun H locs hH => ?_)
        refine lv_iload_n hx hb dX1_habits_59 rfl (lv_at hl 3 rfl) ?_
        refine lv_aload_n hx hb dX1_habits_60 rfl (lv_at hl 0 rfl) ?_
        refine lv_aload_n hx hb dX1_habits_61 rfl (lv_at hl 0 rfl) ?_
        obtain ⟨v16, ev16, hf⟩ := bs_ hf
        refine mg_gR hx hb hts hown hKn hH ev16 in_X1 rfl (by decide) (hts _ q945) (fun _ h9 => h9) dX1_habits_62 ?_
        refine lv_iload_n hx hb dX1_habits_65 rfl (lv_at hl 1 rfl) ?_
        obtain ⟨v17, ev17, hf⟩ := bs_ hf
        refine mg_aald5 hx hb hKn hH ev17 dX1_habits_66 ?_
        obtain ⟨v18, ev18, hf⟩ := bs_ hf
        refine mg_gR hx hb hts hown hKn hH ev18 in_X3 rfl (by decide) (hts _ q933) (fun _ h9 => h9) dX1_habits_67 ?_
        obtain ⟨u19, eu19, hf⟩ := bs_ hf
        obtain ⟨r20, er20, hf⟩ := bs_ hf
        refine cl_i0 hH (rn_V ⟨hx, hb, hml, hown, hts⟩ hKn hH (mX1_wereSo l G M15 n x0 v18 r20 er20) (cwV 1 hts (lw_V q786 q788 qs34 q67 q789) rfl rfl rfl ⟨rfl, kdX1_wereSo⟩ ⟨Nat.le_of_ble_eq_true rfl, Nat.le_of_ble_eq_true rfl⟩) eu19 rfl rfl hl.1 (Nat.le_of_ble_eq_true rfl) dX1_habits_70 ⟨(Nat.le_of_ble_eq_true rfl), (Nat.le_of_ble_eq_true rfl)⟩ rfl) (fun H locs hH => ?_)
        refine lv_if_eq (tgt := 83) hx hb dX1_habits_73 (by decide) (fun c25 => ?_) (fun c25 => ?_)
        · have hf := ip_ c25 hf
          refine lv_iconst (v := 0) hx hb dX1_habits_83 (by decide) ?_
          refine lv_ior hx hb dX1_habits_84 ?_
          refine lv_topi (fun v21 ev21 => ?_)
          have hf := lu_ ev21 hf
          refine lv_istore_n (lv' := [(3, .int v21), (0, .ref x0), (1, .int x1), (2, .int x2), (4, .int x4)]) hx hb dX1_habits_85 rfl hl (by decide) rfl (fun ls hl => ?_)
          obtain ⟨v22, ev22⟩ : ∃ z : Int32, z = x4 + 1 := ⟨_, rfl⟩
          have hf := lu_ ev22 hf
          refine lv_iinc (v := v22) (lv' := [(4, .int v22), (3, .int v21), (0, .ref x0), (1, .int x1), (2, .int x2)]) hx hb dX1_habits_86 hl (k := 4) rfl (by rw [ev22]; rfl) (by decide) rfl (fun ls hl => ?_)
          refine lv_goto (tgt := 30) hx hb dX1_habits_89 (by decide) ?_
          exact ih M15 x0 x1 x2 v21 v22 _ _ ls hH (lv_sub hl [2, 3, 4, 1, 0] rfl) hf
        · have hf := in_ c25 hf
          refine lv_iconst (v := 1) hx hb dX1_habits_76 (by decide) ?_
          refine lv_iload hx hb dX1_habits_77 (lv_at hl 4 rfl) ?_
          refine lv_ishl hx hb dX1_habits_79 ?_
          refine lv_goto (tgt := 84) hx hb dX1_habits_80 (by decide) ?_
          refine lv_ior hx hb dX1_habits_84 ?_
          refine lv_topi (fun v23 ev23 => ?_)
          have hf := lu_ ev23 hf
          refine lv_istore_n (lv' := [(3, .int v23), (0, .ref x0), (1, .int x1), (2, .int x2), (4, .int x4)]) hx hb dX1_habits_85 rfl hl (by decide) rfl (fun ls hl => ?_)
          obtain ⟨v24, ev24⟩ : ∃ z : Int32, z = x4 + 1 := ⟨_, rfl⟩
          have hf := lu_ ev24 hf
          refine lv_iinc (v := v24) (lv' := [(4, .int v24), (3, .int v23), (0, .ref x0), (1, .int x1), (2, .int x2)]) hx hb dX1_habits_86 hl (k := 4) rfl (by rw [ev24]; rfl) (by decide) rfl (fun ls hl => ?_)
          refine lv_goto (tgt := 30) hx hb dX1_habits_89 (by decide) ?_
          exact ih M15 x0 x1 x2 v23 v24 _ _ ls hH (lv_sub hl [2, 3, 4, 1, 0] rfl) hf
  unfold fX1_habits at hf
  refine lv_aload_n hx hb dX1_habits_0 rfl (lv_at hl 0 rfl) ?_
  refine lv_iload_n hx hb dX1_habits_1 rfl (lv_at hl 1 rfl) ?_
  obtain ⟨u1, eu1, hf⟩ := bs_ hf
  obtain ⟨r2, er2, hf⟩ := bs_ hf
  refine cl_i0 hH (rn_V ⟨hx, hb, hml, hown, hts⟩ hKn hH (mX1_notNine l G M n a0 a1 r2 er2) (cwV 1 hts (lw_V q767 q769 qs32 q67 q770) rfl rfl rfl ⟨rfl, kdX1_notNine⟩ ⟨Nat.le_of_ble_eq_true rfl, Nat.le_of_ble_eq_true rfl⟩) eu1 rfl rfl hl.1 (Nat.le_of_ble_eq_true rfl) dX1_habits_2 ⟨(Nat.le_of_ble_eq_true rfl), (Nat.le_of_ble_eq_true rfl)⟩ rfl) (fun H locs hH => ?_)
  refine lv_istore_n (lv' := [(2, .int r2), (0, .ref a0), (1, .int a1)]) hx hb dX1_habits_5 rfl hl (by decide) rfl (fun ls hl => ?_)
  refine lv_iload_n hx hb dX1_habits_6 rfl (lv_at hl 0 rfl) ?_
  refine lv_if_eq (tgt := 12) hx hb dX1_habits_7 (by decide) (fun c6 => ?_) (fun c6 => ?_)
  · have hf := ip_ c6 hf
    refine lv_aload_n hx hb dX1_habits_12 rfl (lv_at hl 1 rfl) ?_
    obtain ⟨v3, ev3, hf⟩ := bs_ hf
    refine mg_gR hx hb hts hown hKn hH ev3 in_X1 rfl (by decide) (hts _ q937) (fun _ h9 => h9) dX1_habits_13 ?_
    obtain ⟨v4, ev4, hf⟩ := bs_ hf
    refine mg_gI hx hb hts hown hKn hH ev4 in_X2 rfl (by decide) (hts _ q890) (fun _ h9 => h9) dX1_habits_16 ?_
    refine lv_if_ne (tgt := 25) hx hb dX1_habits_19 (by decide) (fun c5 => ?_) (fun c5 => ?_)
    · have hf := in_ c5 hf
      refine lv_iconst (v := 0) hx hb dX1_habits_25 (by decide) ?_
      refine lv_istore_n (lv' := [(3, .int 0), (2, .int r2), (0, .ref a0), (1, .int a1)]) hx hb dX1_habits_26 rfl hl (by decide) rfl (fun ls hl => ?_)
      refine lv_iconst (v := 0) hx hb dX1_habits_27 (by decide) ?_
      refine lv_istore (lv' := [(4, .int 0), (3, .int 0), (2, .int r2), (0, .ref a0), (1, .int a1)]) hx hb dX1_habits_28 hl (by decide) rfl (fun ls hl => ?_)
      exact w30 1000 M a0 a1 r2 0 0 _ _ ls hH (lv_sub hl [3, 4, 2, 1, 0] rfl) hf
    · have hf := ip_ c5 hf
      refine lv_bipush (v := (-3)) hx hb dX1_habits_22 (by decide) ?_
      cases hf
      exact rt_i hx hb hr hlk hH dX1_habits_24
  · have hf := in_ c6 hf
    refine lv_iload_n hx hb dX1_habits_10 rfl (lv_at hl 0 rfl) ?_
    cases hf
    exact rt_i hx hb hr hlk hH dX1_habits_11
def fX2_tiredOf (M : Mem_) (a0 : Nat) (a1 : Int32) : Option Int32 :=
  (gR_ M a0 1 3).bind fun v1 =>
  (aI_ M v1 0 (2 * a1)).bind fun v2 =>
  (gR_ M a0 1 3).bind fun v3 =>
  (aI_ M v3 0 ((2 * a1) + 1)).bind fun v4 =>
  some (v2 + v4)
theorem kdX2_tiredOf : yX2_tiredOf.cls ≠ "java/lang/invoke/MethodHandle" ∧ yX2_tiredOf.cls ≠ "java/lang/invoke/VarHandle" ∧ (parseMethodDescriptor yX2_tiredOf.desc).map (fun d => d.parameters.length) = some 1 := by decide +kernel
set_option maxHeartbeats 4000000 in
theorem mX2_tiredOf (l : Launch) (G : GT_) (M : Mem_) (n : Nat) (a0 : Nat) (a1 : Int32) (r : Int32) (hf : fX2_tiredOf M a0 a1 = some r) : Ct_ G l yX2_tiredOf (ws_ yX2_tiredOf cX2_tiredOf 2 (some .int)) ({ frames := 0, cells := 0, slots := 0, locals := 0 }) 0 0 [.ref a0, .int a1] M n (some (.int r)) M n := by
  refine en_ (by decide) (Nat.le_of_ble_eq_true rfl) ?_
  intro p e s m below meth c hx hb hr hlk hml hown hts hname hKn hH ls hl
  have hown : s.vm.findClass RX2 = some m.cls := hown
  have hl : lv_has ls 2 [(0, .ref a0), (1, .int a1)] := hl
  unfold fX2_tiredOf at hf
  generalize s.heap = H at hH ⊢
  refine lv_aload_n hx hb dX2_tiredOf_0 rfl (lv_at hl 0 rfl) ?_
  obtain ⟨v1, ev1, hf⟩ := bs_ hf
  refine mg_gR hx hb hts hown hKn hH ev1 in_X2 rfl (by decide) (hts _ q877) (fun _ h9 => h9) dX2_tiredOf_1 ?_
  refine lv_iconst (v := 2) hx hb dX2_tiredOf_4 (by decide) ?_
  refine lv_iload_n hx hb dX2_tiredOf_5 rfl (lv_at hl 1 rfl) ?_
  refine lv_imul hx hb dX2_tiredOf_6 ?_
  obtain ⟨v2, ev2, hf⟩ := bs_ hf
  refine mg_iald hx hb hKn hH ev2 dX2_tiredOf_7 ?_
  refine lv_aload_n hx hb dX2_tiredOf_8 rfl (lv_at hl 0 rfl) ?_
  obtain ⟨v3, ev3, hf⟩ := bs_ hf
  refine mg_gR hx hb hts hown hKn hH ev3 in_X2 rfl (by decide) (hts _ q877) (fun _ h9 => h9) dX2_tiredOf_9 ?_
  refine lv_iconst (v := 2) hx hb dX2_tiredOf_12 (by decide) ?_
  refine lv_iload_n hx hb dX2_tiredOf_13 rfl (lv_at hl 1 rfl) ?_
  refine lv_imul hx hb dX2_tiredOf_14 ?_
  refine lv_iconst (v := 1) hx hb dX2_tiredOf_15 (by decide) ?_
  refine lv_iadd hx hb dX2_tiredOf_16 ?_
  obtain ⟨v4, ev4, hf⟩ := bs_ hf
  refine mg_iald hx hb hKn hH ev4 dX2_tiredOf_17 ?_
  refine lv_iadd hx hb dX2_tiredOf_18 ?_
  cases hf
  exact rt_i hx hb hr hlk hH dX2_tiredOf_19
def fX1_costs_L41 : Nat → Mem_ → Nat → Int32 → Int32 → Int32 → Int32 → Int32 → Int32 → Option (Int32 × Mem_)
  | 0, _, _, _, _, _, _, _, _ => none
  | fuel + 1, M, x0, x1, x2, x3, x4, x5, x6 =>
    if 6 ≤ x6 then
      (gR_ M x0 0 2).bind fun v13 =>
      (ck_ M v13 1).bind fun u14 =>
      (fX2_tiredOf M v13 x3).bind fun r15 =>
      (gR_ M x0 0 2).bind fun v16 =>
      (gR_ M v16 1 6).bind fun v17 =>
      (aI_ M v17 0 x3).bind fun v18 =>
      if v18 ≤ x4 then
        some ((r15 - 0), M)
      else
        some ((r15 - 9), M)
    else
      if x5 = 0 then
        (gR_ M x0 0 2).bind fun v27 =>
        if (x6 - x6 / 2 * 2) = 0 then
          (ck_ M v27 1).bind fun u32 =>
          bw_ (fX2_hits M v27 0 0) fun r33 M34 =>
          lt_ (x6 + 1) fun v35 =>
          fX1_costs_L41 fuel M34 x0 x1 x2 x3 x4 (b2_ r33) v35
        else
          (ck_ M v27 1).bind fun u28 =>
          bw_ (fX2_hits M v27 0 8) fun r29 M30 =>
          lt_ (x6 + 1) fun v31 =>
          fX1_costs_L41 fuel M30 x0 x1 x2 x3 x4 (b2_ r29) v31
      else
        (gR_ M x0 0 2).bind fun v20 =>
        (ck_ M v20 1).bind fun u21 =>
        (fX2_tiredOf M v20 x3).bind fun r22 =>
        (gR_ M x0 0 2).bind fun v23 =>
        (gR_ M v23 1 6).bind fun v24 =>
        (aI_ M v24 0 x3).bind fun v25 =>
        if v25 ≤ x4 then
          some ((r22 - 0), M)
        else
          some ((r22 - 9), M)
def fX1_costs (M : Mem_) (a0 : Nat) (a1 : Int32) (a2 : Int32) (a3 : Int32) : Option (Int32 × Mem_) :=
  (ck_ M a0 0).bind fun u1 =>
  (fX1_minds M a0).bind fun M3 =>
  (gR_ M3 a0 0 2).bind fun v4 =>
  (gR_ M3 v4 1 4).bind fun v5 =>
  (sI_ M3 v5 0 0 a1).bind fun M6 =>
  (gR_ M6 a0 0 2).bind fun v7 =>
  (gR_ M6 v7 1 4).bind fun v8 =>
  (sI_ M6 v8 0 1 a2).bind fun M9 =>
  (gR_ M9 a0 0 2).bind fun v10 =>
  (gR_ M9 v10 1 6).bind fun v11 =>
  (aI_ M9 v11 0 a3).bind fun v12 =>
  fX1_costs_L41 1000 M9 a0 a1 a2 a3 v12 0 0
theorem kdX1_costs : yX1_costs.cls ≠ "java/lang/invoke/MethodHandle" ∧ yX1_costs.cls ≠ "java/lang/invoke/VarHandle" ∧ (parseMethodDescriptor yX1_costs.desc).map (fun d => d.parameters.length) = some 3 := by decide +kernel
set_option maxHeartbeats 4000000 in
theorem mX1_costs (l : Launch) (G : GT_) (M : Mem_) (n : Nat) (a0 : Nat) (a1 : Int32) (a2 : Int32) (a3 : Int32) (r : Int32) (M1 : Mem_) (hf : fX1_costs M a0 a1 a2 a3 = some (r, M1)) : Ct_ G l yX1_costs (ws_ yX1_costs cX1_costs 7 (some .int)) ({ frames := 4, cells := 0, slots := 0, locals := 100 }) 0 0 [.ref a0, .int a1, .int a2, .int a3] M n (some (.int r)) M1 n := by
  refine en_ (by decide) (Nat.le_of_ble_eq_true rfl) ?_
  intro p e s m below meth c hx hb hr hlk hml hown hts hname hKn hH ls hl
  have hown : s.vm.findClass RX1 = some m.cls := hown
  have hl : lv_has ls 7 [(0, .ref a0), (1, .int a1), (2, .int a2), (3, .int a3)] := hl
  have w41 : ∀ (fuel : Nat), ∀ (M : Mem_) (x0 : Nat) (x1 : Int32) (x2 : Int32) (x3 : Int32) (x4 : Int32) (x5 : Int32) (x6 : Int32) (H : Heap) (locs : List Loc) (ls : Array Slot), St_ G n M s H locs → lv_has ls 7 [(0, .ref x0), (1, .int x1), (2, .int x2), (3, .int x3), (4, .int x4), (5, .int x5), (6, .int x6)] → fX1_costs_L41 fuel M x0 x1 x2 x3 x4 x5 x6 = some (r, M1) → W p l e ({ frames := 4, cells := 0, slots := 0, locals := 100 } : Room) s m ([.ref a0, .int a1, .int a2, .int a3] : List Value).toArray below meth c H locs 0 0 (MQ below (Qc_ G (some (.int r)) M1 n) ([.ref a0, .int a1, .int a2, .int a3] : List Value).toArray s 0 0 (fun q => G.1 ≤ q)) (F0 m 41 ls []) := by
    intro fuel
    induction fuel with
    | zero =>
      intro M x0 x1 x2 x3 x4 x5 x6 H locs ls hH hl hf
      cases hf
    | succ fuel ih =>
      intro M x0 x1 x2 x3 x4 x5 x6 H locs ls hH hl hf
      unfold fX1_costs_L41 at hf
      refine lv_iload hx hb dX1_costs_41 (lv_at hl 6 rfl) ?_
      refine lv_bipush (v := 6) hx hb dX1_costs_43 (by decide) ?_
      refine lv_icmp_ge (tgt := 82) hx hb dX1_costs_45 (by decide) (fun c38 => ?_) (fun c38 => ?_)
      · have hf := ip_ c38 hf
        refine lv_aload_n hx hb dX1_costs_82 rfl (lv_at hl 0 rfl) ?_
        obtain ⟨v13, ev13, hf⟩ := bs_ hf
        refine mg_gR hx hb hts hown hKn hH ev13 in_X1 rfl (by decide) (hts _ q939) (fun _ h9 => h9) dX1_costs_83 ?_
        refine lv_iload_n hx hb dX1_costs_86 rfl (lv_at hl 3 rfl) ?_
        obtain ⟨u14, eu14, hf⟩ := bs_ hf
        obtain ⟨r15, er15, hf⟩ := bs_ hf
        refine cl_i0 hH (rn_V ⟨hx, hb, hml, hown, hts⟩ hKn hH (mX2_tiredOf l G M n v13 x3 r15 er15) (cwV 1 hts (lw_V q798 q799 q800 q68 q801) rfl rfl rfl ⟨rfl, kdX2_tiredOf⟩ ⟨Nat.le_of_ble_eq_true rfl, Nat.le_of_ble_eq_true rfl⟩) eu14 rfl rfl hl.1 (Nat.le_of_ble_eq_true rfl) dX1_costs_87 ⟨(Nat.le_of_ble_eq_true rfl), (Nat.le_of_ble_eq_true rfl)⟩ rfl) (fun H locs hH => ?_)
        refine lv_aload_n hx hb dX1_costs_90 rfl (lv_at hl 0 rfl) ?_
        obtain ⟨v16, ev16, hf⟩ := bs_ hf
        refine mg_gR hx hb hts hown hKn hH ev16 in_X1 rfl (by decide) (hts _ q939) (fun _ h9 => h9) dX1_costs_91 ?_
        obtain ⟨v17, ev17, hf⟩ := bs_ hf
        refine mg_gR hx hb hts hown hKn hH ev17 in_X2 rfl (by decide) (hts _ q884) (fun _ h9 => h9) dX1_costs_94 ?_
        refine lv_iload_n hx hb dX1_costs_97 rfl (lv_at hl 3 rfl) ?_
        obtain ⟨v18, ev18, hf⟩ := bs_ hf
        refine mg_iald hx hb hKn hH ev18 dX1_costs_98 ?_
        refine lv_iload hx hb dX1_costs_99 (lv_at hl 4 rfl) ?_
        refine lv_icmp_le (tgt := 109) hx hb dX1_costs_101 (by decide) (fun c19 => ?_) (fun c19 => ?_)
        · have hf := ip_ c19 hf
          refine lv_iconst (v := 0) hx hb dX1_costs_109 (by decide) ?_
          refine lv_isub hx hb dX1_costs_110 ?_
          cases hf
          exact rt_i hx hb hr hlk hH dX1_costs_111
        · have hf := in_ c19 hf
          refine lv_bipush (v := 9) hx hb dX1_costs_104 (by decide) ?_
          refine lv_goto (tgt := 110) hx hb dX1_costs_106 (by decide) ?_
          refine lv_isub hx hb dX1_costs_110 ?_
          cases hf
          exact rt_i hx hb hr hlk hH dX1_costs_111
      · have hf := in_ c38 hf
        refine lv_iload hx hb dX1_costs_48 (lv_at hl 5 rfl) ?_
        refine lv_if_ne (tgt := 82) hx hb dX1_costs_50 (by decide) (fun c37 => ?_) (fun c37 => ?_)
        · have hf := in_ c37 hf
          refine lv_aload_n hx hb dX1_costs_82 rfl (lv_at hl 0 rfl) ?_
          obtain ⟨v20, ev20, hf⟩ := bs_ hf
          refine mg_gR hx hb hts hown hKn hH ev20 in_X1 rfl (by decide) (hts _ q939) (fun _ h9 => h9) dX1_costs_83 ?_
          refine lv_iload_n hx hb dX1_costs_86 rfl (lv_at hl 3 rfl) ?_
          obtain ⟨u21, eu21, hf⟩ := bs_ hf
          obtain ⟨r22, er22, hf⟩ := bs_ hf
          refine cl_i0 hH (rn_V ⟨hx, hb, hml, hown, hts⟩ hKn hH (mX2_tiredOf l G M n v20 x3 r22 er22) (cwV 1 hts (lw_V q798 q799 q800 q68 q801) rfl rfl rfl ⟨rfl, kdX2_tiredOf⟩ ⟨Nat.le_of_ble_eq_true rfl, Nat.le_of_ble_eq_true rfl⟩) eu21 rfl rfl hl.1 (Nat.le_of_ble_eq_true rfl) dX1_costs_87 ⟨(Nat.le_of_ble_eq_true rfl), (Nat.le_of_ble_eq_true rfl)⟩ rfl) (fun H locs hH => ?_)
          refine lv_aload_n hx hb dX1_costs_90 rfl (lv_at hl 0 rfl) ?_
          obtain ⟨v23, ev23, hf⟩ := bs_ hf
          refine mg_gR hx hb hts hown hKn hH ev23 in_X1 rfl (by decide) (hts _ q939) (fun _ h9 => h9) dX1_costs_91 ?_
          obtain ⟨v24, ev24, hf⟩ := bs_ hf
          refine mg_gR hx hb hts hown hKn hH ev24 in_X2 rfl (by decide) (hts _ q884) (fun _ h9 => h9) dX1_costs_94 ?_
          refine lv_iload_n hx hb dX1_costs_97 rfl (lv_at hl 3 rfl) ?_
          obtain ⟨v25, ev25, hf⟩ := bs_ hf
          refine mg_iald hx hb hKn hH ev25 dX1_costs_98 ?_
          refine lv_iload hx hb dX1_costs_99 (lv_at hl 4 rfl) ?_
          refine lv_icmp_le (tgt := 109) hx hb dX1_costs_101 (by decide) (fun c26 => ?_) (fun c26 => ?_)
          · have hf := ip_ c26 hf
            refine lv_iconst (v := 0) hx hb dX1_costs_109 (by decide) ?_
            refine lv_isub hx hb dX1_costs_110 ?_
            cases hf
            exact rt_i hx hb hr hlk hH dX1_costs_111
          · have hf := in_ c26 hf
            refine lv_bipush (v := 9) hx hb dX1_costs_104 (by decide) ?_
            refine lv_goto (tgt := 110) hx hb dX1_costs_106 (by decide) ?_
            refine lv_isub hx hb dX1_costs_110 ?_
            cases hf
            exact rt_i hx hb hr hlk hH dX1_costs_111
        · have hf := ip_ c37 hf
          refine lv_aload_n hx hb dX1_costs_53 rfl (lv_at hl 0 rfl) ?_
          obtain ⟨v27, ev27, hf⟩ := bs_ hf
          refine mg_gR hx hb hts hown hKn hH ev27 in_X1 rfl (by decide) (hts _ q939) (fun _ h9 => h9) dX1_costs_54 ?_
          refine lv_iconst (v := 0) hx hb dX1_costs_57 (by decide) ?_
          refine lv_iload hx hb dX1_costs_58 (lv_at hl 6 rfl) ?_
          refine lv_iconst (v := 2) hx hb dX1_costs_60 (by decide) ?_
          refine lv_irem hx hb dX1_costs_61 (by decide) ?_
          refine lv_if_ne (tgt := 69) hx hb dX1_costs_62 (by decide) (fun c36 => ?_) (fun c36 => ?_)
          · have hf := in_ c36 hf
            refine lv_bipush (v := 8) hx hb dX1_costs_69 (by decide) ?_
            obtain ⟨u28, eu28, hf⟩ := bs_ hf
            obtain ⟨r29, M30, er29, hf⟩ := bws_ hf
            refine cl_i0 hH (rn_V ⟨hx, hb, hml, hown, hts⟩ hKn hH (mX2_hits l G M n v27 0 8 r29 M30 er29) (cwV 2 hts (lw_V q411 q412 q413 q68 q414) rfl rfl rfl ⟨rfl, kdX2_hits⟩ ⟨Nat.le_of_ble_eq_true rfl, Nat.le_of_ble_eq_true rfl⟩) eu28 rfl rfl hl.1 (Nat.le_of_ble_eq_true rfl) dX1_costs_71 ⟨(Nat.le_of_ble_eq_true rfl), (Nat.le_of_ble_eq_true rfl)⟩ rfl) (fun H locs hH => ?_)
            refine lv_istore (lv' := [(5, .int (b2_ r29)), (0, .ref x0), (1, .int x1), (2, .int x2), (3, .int x3), (4, .int x4), (6, .int x6)]) hx hb dX1_costs_74 hl (by decide) rfl (fun ls hl => ?_)
            obtain ⟨v31, ev31⟩ : ∃ z : Int32, z = x6 + 1 := ⟨_, rfl⟩
            have hf := lu_ ev31 hf
            refine lv_iinc (v := v31) (lv' := [(6, .int v31), (5, .int (b2_ r29)), (0, .ref x0), (1, .int x1), (2, .int x2), (3, .int x3), (4, .int x4)]) hx hb dX1_costs_76 hl (k := 6) rfl (by rw [ev31]; rfl) (by decide) rfl (fun ls hl => ?_)
            refine lv_goto (tgt := 41) hx hb dX1_costs_79 (by decide) ?_
            exact ih M30 x0 x1 x2 x3 x4 (b2_ r29) v31 _ _ ls hH (lv_sub hl [2, 3, 4, 5, 6, 1, 0] rfl) hf
          · have hf := ip_ c36 hf
            refine lv_iconst (v := 0) hx hb dX1_costs_65 (by decide) ?_
            refine lv_goto (tgt := 71) hx hb dX1_costs_66 (by decide) ?_
            obtain ⟨u32, eu32, hf⟩ := bs_ hf
            obtain ⟨r33, M34, er33, hf⟩ := bws_ hf
            refine cl_i0 hH (rn_V ⟨hx, hb, hml, hown, hts⟩ hKn hH (mX2_hits l G M n v27 0 0 r33 M34 er33) (cwV 2 hts (lw_V q411 q412 q413 q68 q414) rfl rfl rfl ⟨rfl, kdX2_hits⟩ ⟨Nat.le_of_ble_eq_true rfl, Nat.le_of_ble_eq_true rfl⟩) eu32 rfl rfl hl.1 (Nat.le_of_ble_eq_true rfl) dX1_costs_71 ⟨(Nat.le_of_ble_eq_true rfl), (Nat.le_of_ble_eq_true rfl)⟩ rfl) (fun H locs hH => ?_)
            refine lv_istore (lv' := [(5, .int (b2_ r33)), (0, .ref x0), (1, .int x1), (2, .int x2), (3, .int x3), (4, .int x4), (6, .int x6)]) hx hb dX1_costs_74 hl (by decide) rfl (fun ls hl => ?_)
            obtain ⟨v35, ev35⟩ : ∃ z : Int32, z = x6 + 1 := ⟨_, rfl⟩
            have hf := lu_ ev35 hf
            refine lv_iinc (v := v35) (lv' := [(6, .int v35), (5, .int (b2_ r33)), (0, .ref x0), (1, .int x1), (2, .int x2), (3, .int x3), (4, .int x4)]) hx hb dX1_costs_76 hl (k := 6) rfl (by rw [ev35]; rfl) (by decide) rfl (fun ls hl => ?_)
            refine lv_goto (tgt := 41) hx hb dX1_costs_79 (by decide) ?_
            exact ih M34 x0 x1 x2 x3 x4 (b2_ r33) v35 _ _ ls hH (lv_sub hl [2, 3, 4, 5, 6, 1, 0] rfl) hf
  unfold fX1_costs at hf
  refine lv_aload_n hx hb dX1_costs_0 rfl (lv_at hl 0 rfl) ?_
  obtain ⟨u1, eu1, hf⟩ := bs_ hf
  obtain ⟨M3, er2, hf⟩ := bs_ hf
  refine cl_v0 hH (rn_V ⟨hx, hb, hml, hown, hts⟩ hKn hH (mX1_minds l G M n a0 M3 er2) (cwV 0 hts (lw_V q662 q664 qs22 q67 q665) rfl rfl rfl ⟨rfl, kdX1_minds⟩ ⟨Nat.le_of_ble_eq_true rfl, Nat.le_of_ble_eq_true rfl⟩) eu1 rfl rfl hl.1 (Nat.le_of_ble_eq_true rfl) dX1_costs_1 ⟨(Nat.le_of_ble_eq_true rfl), (Nat.le_of_ble_eq_true rfl)⟩ rfl) (fun H locs hH => ?_)
  refine lv_aload_n hx hb dX1_costs_4 rfl (lv_at hl 0 rfl) ?_
  obtain ⟨v4, ev4, hf⟩ := bs_ hf
  refine mg_gR hx hb hts hown hKn hH ev4 in_X1 rfl (by decide) (hts _ q939) (fun _ h9 => h9) dX1_costs_5 ?_
  obtain ⟨v5, ev5, hf⟩ := bs_ hf
  refine mg_gR hx hb hts hown hKn hH ev5 in_X2 rfl (by decide) (hts _ q880) (fun _ h9 => h9) dX1_costs_8 ?_
  refine lv_iconst (v := 0) hx hb dX1_costs_11 (by decide) ?_
  refine lv_iload_n hx hb dX1_costs_12 rfl (lv_at hl 1 rfl) ?_
  obtain ⟨M6, eM6, hf⟩ := bs_ hf
  refine mg_iast hx hb hKn hH eM6 dX1_costs_13 (fun H locs hH => ?_)
  refine lv_aload_n hx hb dX1_costs_14 rfl (lv_at hl 0 rfl) ?_
  obtain ⟨v7, ev7, hf⟩ := bs_ hf
  refine mg_gR hx hb hts hown hKn hH ev7 in_X1 rfl (by decide) (hts _ q939) (fun _ h9 => h9) dX1_costs_15 ?_
  obtain ⟨v8, ev8, hf⟩ := bs_ hf
  refine mg_gR hx hb hts hown hKn hH ev8 in_X2 rfl (by decide) (hts _ q880) (fun _ h9 => h9) dX1_costs_18 ?_
  refine lv_iconst (v := 1) hx hb dX1_costs_21 (by decide) ?_
  refine lv_iload_n hx hb dX1_costs_22 rfl (lv_at hl 2 rfl) ?_
  obtain ⟨M9, eM9, hf⟩ := bs_ hf
  refine mg_iast hx hb hKn hH eM9 dX1_costs_23 (fun H locs hH => ?_)
  refine lv_aload_n hx hb dX1_costs_24 rfl (lv_at hl 0 rfl) ?_
  obtain ⟨v10, ev10, hf⟩ := bs_ hf
  refine mg_gR hx hb hts hown hKn hH ev10 in_X1 rfl (by decide) (hts _ q939) (fun _ h9 => h9) dX1_costs_25 ?_
  obtain ⟨v11, ev11, hf⟩ := bs_ hf
  refine mg_gR hx hb hts hown hKn hH ev11 in_X2 rfl (by decide) (hts _ q884) (fun _ h9 => h9) dX1_costs_28 ?_
  refine lv_iload_n hx hb dX1_costs_31 rfl (lv_at hl 3 rfl) ?_
  obtain ⟨v12, ev12, hf⟩ := bs_ hf
  refine mg_iald hx hb hKn hH ev12 dX1_costs_32 ?_
  refine lv_istore (lv' := [(4, .int v12), (0, .ref a0), (1, .int a1), (2, .int a2), (3, .int a3)]) hx hb dX1_costs_33 hl (by decide) rfl (fun ls hl => ?_)
  refine lv_iconst (v := 0) hx hb dX1_costs_35 (by decide) ?_
  refine lv_istore (lv' := [(5, .int 0), (4, .int v12), (0, .ref a0), (1, .int a1), (2, .int a2), (3, .int a3)]) hx hb dX1_costs_36 hl (by decide) rfl (fun ls hl => ?_)
  refine lv_iconst (v := 0) hx hb dX1_costs_38 (by decide) ?_
  refine lv_istore (lv' := [(6, .int 0), (5, .int 0), (4, .int v12), (0, .ref a0), (1, .int a1), (2, .int a2), (3, .int a3)]) hx hb dX1_costs_39 hl (by decide) rfl (fun ls hl => ?_)
  exact w41 1000 M9 a0 a1 a2 a3 v12 0 0 _ _ ls hH (lv_sub hl [3, 4, 5, 6, 2, 1, 0] rfl) hf
def fX1_two_L15 : Nat → Mem_ → Nat → Int32 → Option (Int32 × Mem_)
  | 0, _, _, _ => none
  | fuel + 1, M, x0, x1 =>
    if 4 ≤ x1 then
      some ((-4), M)
    else
      lt_ ((x1 / 2)) fun v4 =>
      lt_ ((x1 - x1 / 2 * 2)) fun v5 =>
      (ck_ M x0 0).bind fun u6 =>
      bw_ (fX1_costs M x0 (1 - v4) v5 0) fun r7 M8 =>
      (ck_ M8 x0 0).bind fun u9 =>
      bw_ (fX1_costs M8 x0 v4 v5 0) fun r10 M11 =>
      if r7 < r10 then
        lt_ (x1 + 1) fun v12 =>
        fX1_two_L15 fuel M11 x0 v12
      else
        (ck_ M11 x0 0).bind fun u13 =>
        bw_ (fX1_costs M11 x0 v4 (1 - v5) 1) fun r14 M15 =>
        (ck_ M15 x0 0).bind fun u16 =>
        bw_ (fX1_costs M15 x0 v4 v5 1) fun r17 M18 =>
        if r14 < r17 then
          lt_ (x1 + 1) fun v19 =>
          fX1_two_L15 fuel M18 x0 v19
        else
          some (((10 * v4) + v5), M18)
def fX1_two (M : Mem_) (a0 : Nat) : Option (Int32 × Mem_) :=
  (gR_ M a0 0 0).bind fun v1 =>
  (gI_ M v1 1 9).bind fun v2 =>
  if v2 = 0 then
    some ((-3), M)
  else
    fX1_two_L15 1000 M a0 0
theorem kdX1_two : yX1_two.cls ≠ "java/lang/invoke/MethodHandle" ∧ yX1_two.cls ≠ "java/lang/invoke/VarHandle" ∧ (parseMethodDescriptor yX1_two.desc).map (fun d => d.parameters.length) = some 0 := by decide +kernel
set_option maxHeartbeats 4000000 in
theorem mX1_two (l : Launch) (G : GT_) (M : Mem_) (n : Nat) (a0 : Nat) (r : Int32) (M1 : Mem_) (hf : fX1_two M a0 = some (r, M1)) : Ct_ G l yX1_two (ws_ yX1_two cX1_two 4 (some .int)) ({ frames := 5, cells := 0, slots := 0, locals := 126 }) 0 0 [.ref a0] M n (some (.int r)) M1 n := by
  refine en_ (by decide) (Nat.le_of_ble_eq_true rfl) ?_
  intro p e s m below meth c hx hb hr hlk hml hown hts hname hKn hH ls hl
  have hown : s.vm.findClass RX1 = some m.cls := hown
  have hl : lv_has ls 4 [(0, .ref a0)] := hl
  have w15 : ∀ (fuel : Nat), ∀ (M : Mem_) (x0 : Nat) (x1 : Int32) (H : Heap) (locs : List Loc) (ls : Array Slot), St_ G n M s H locs → lv_has ls 4 [(0, .ref x0), (1, .int x1)] → fX1_two_L15 fuel M x0 x1 = some (r, M1) → W p l e ({ frames := 5, cells := 0, slots := 0, locals := 126 } : Room) s m ([.ref a0] : List Value).toArray below meth c H locs 0 0 (MQ below (Qc_ G (some (.int r)) M1 n) ([.ref a0] : List Value).toArray s 0 0 (fun q => G.1 ≤ q)) (F0 m 15 ls []) := by
    intro fuel
    induction fuel with
    | zero =>
      intro M x0 x1 H locs ls hH hl hf
      cases hf
    | succ fuel ih =>
      intro M x0 x1 H locs ls hH hl hf
      unfold fX1_two_L15 at hf
      refine lv_iload_n hx hb dX1_two_15 rfl (lv_at hl 1 rfl) ?_
      refine lv_iconst (v := 4) hx hb dX1_two_16 (by decide) ?_
      refine lv_icmp_ge (tgt := 79) hx hb dX1_two_17 (by decide) (fun c22 => ?_) (fun c22 => ?_)
      · have hf := ip_ c22 hf
        refine lv_bipush (v := (-4)) hx hb dX1_two_79 (by decide) ?_
        cases hf
        exact rt_i hx hb hr hlk hH dX1_two_81
      · have hf := in_ c22 hf
        refine lv_iload_n hx hb dX1_two_20 rfl (lv_at hl 1 rfl) ?_
        refine lv_iconst (v := 2) hx hb dX1_two_21 (by decide) ?_
        refine lv_idiv hx hb dX1_two_22 (by decide) ?_
        refine lv_topi (fun v4 ev4 => ?_)
        have hf := lu_ ev4 hf
        refine lv_istore_n (lv' := [(2, .int v4), (0, .ref x0), (1, .int x1)]) hx hb dX1_two_23 rfl hl (by decide) rfl (fun ls hl => ?_)
        refine lv_iload_n hx hb dX1_two_24 rfl (lv_at hl 2 rfl) ?_
        refine lv_iconst (v := 2) hx hb dX1_two_25 (by decide) ?_
        refine lv_irem hx hb dX1_two_26 (by decide) ?_
        refine lv_topi (fun v5 ev5 => ?_)
        have hf := lu_ ev5 hf
        refine lv_istore_n (lv' := [(3, .int v5), (2, .int v4), (0, .ref x0), (1, .int x1)]) hx hb dX1_two_27 rfl hl (by decide) rfl (fun ls hl => ?_)
        refine lv_aload_n hx hb dX1_two_28 rfl (lv_at hl 2 rfl) ?_
        refine lv_iconst (v := 1) hx hb dX1_two_29 (by decide) ?_
        refine lv_iload_n hx hb dX1_two_30 rfl (lv_at hl 1 rfl) ?_
        refine lv_isub hx hb dX1_two_31 ?_
        refine lv_iload_n hx hb dX1_two_32 rfl (lv_at hl 0 rfl) ?_
        refine lv_iconst (v := 0) hx hb dX1_two_33 (by decide) ?_
        obtain ⟨u6, eu6, hf⟩ := bs_ hf
        obtain ⟨r7, M8, er7, hf⟩ := bws_ hf
        refine cl_i0 hH (rn_V ⟨hx, hb, hml, hown, hts⟩ hKn hH (mX1_costs l G M n x0 (1 - v4) v5 0 r7 M8 er7) (cwV 3 hts (lw_V q794 q796 qs35 q67 q797) rfl rfl rfl ⟨rfl, kdX1_costs⟩ ⟨Nat.le_of_ble_eq_true rfl, Nat.le_of_ble_eq_true rfl⟩) eu6 rfl rfl hl.1 (Nat.le_of_ble_eq_true rfl) dX1_two_34 ⟨(Nat.le_of_ble_eq_true rfl), (Nat.le_of_ble_eq_true rfl)⟩ rfl) (fun H locs hH => ?_)
        refine lv_aload_n hx hb dX1_two_37 rfl (lv_at hl 2 rfl) ?_
        refine lv_iload_n hx hb dX1_two_38 rfl (lv_at hl 1 rfl) ?_
        refine lv_iload_n hx hb dX1_two_39 rfl (lv_at hl 0 rfl) ?_
        refine lv_iconst (v := 0) hx hb dX1_two_40 (by decide) ?_
        obtain ⟨u9, eu9, hf⟩ := bs_ hf
        obtain ⟨r10, M11, er10, hf⟩ := bws_ hf
        refine cl_i0 hH (rn_V ⟨hx, hb, hml, hown, hts⟩ hKn hH (mX1_costs l G M8 n x0 v4 v5 0 r10 M11 er10) (cwV 3 hts (lw_V q794 q796 qs35 q67 q797) rfl rfl rfl ⟨rfl, kdX1_costs⟩ ⟨Nat.le_of_ble_eq_true rfl, Nat.le_of_ble_eq_true rfl⟩) eu9 rfl rfl hl.1 (Nat.le_of_ble_eq_true rfl) dX1_two_41 ⟨(Nat.le_of_ble_eq_true rfl), (Nat.le_of_ble_eq_true rfl)⟩ rfl) (fun H locs hH => ?_)
        refine lv_icmp_lt (tgt := 73) hx hb dX1_two_44 (by decide) (fun c21 => ?_) (fun c21 => ?_)
        · have hf := ip_ c21 hf
          obtain ⟨v12, ev12⟩ : ∃ z : Int32, z = x1 + 1 := ⟨_, rfl⟩
          have hf := lu_ ev12 hf
          refine lv_iinc (v := v12) (lv' := [(1, .int v12), (3, .int v5), (2, .int v4), (0, .ref x0)]) hx hb dX1_two_73 hl (k := 3) rfl (by rw [ev12]; rfl) (by decide) rfl (fun ls hl => ?_)
          refine lv_goto (tgt := 15) hx hb dX1_two_76 (by decide) ?_
          exact ih M11 x0 v12 _ _ ls hH (lv_sub hl [3, 0] rfl) hf
        · have hf := in_ c21 hf
          refine lv_aload_n hx hb dX1_two_47 rfl (lv_at hl 2 rfl) ?_
          refine lv_iload_n hx hb dX1_two_48 rfl (lv_at hl 1 rfl) ?_
          refine lv_iconst (v := 1) hx hb dX1_two_49 (by decide) ?_
          refine lv_iload_n hx hb dX1_two_50 rfl (lv_at hl 0 rfl) ?_
          refine lv_isub hx hb dX1_two_51 ?_
          refine lv_iconst (v := 1) hx hb dX1_two_52 (by decide) ?_
          obtain ⟨u13, eu13, hf⟩ := bs_ hf
          obtain ⟨r14, M15, er14, hf⟩ := bws_ hf
          refine cl_i0 hH (rn_V ⟨hx, hb, hml, hown, hts⟩ hKn hH (mX1_costs l G M11 n x0 v4 (1 - v5) 1 r14 M15 er14) (cwV 3 hts (lw_V q794 q796 qs35 q67 q797) rfl rfl rfl ⟨rfl, kdX1_costs⟩ ⟨Nat.le_of_ble_eq_true rfl, Nat.le_of_ble_eq_true rfl⟩) eu13 rfl rfl hl.1 (Nat.le_of_ble_eq_true rfl) dX1_two_53 ⟨(Nat.le_of_ble_eq_true rfl), (Nat.le_of_ble_eq_true rfl)⟩ rfl) (fun H locs hH => ?_)
          refine lv_aload_n hx hb dX1_two_56 rfl (lv_at hl 2 rfl) ?_
          refine lv_iload_n hx hb dX1_two_57 rfl (lv_at hl 1 rfl) ?_
          refine lv_iload_n hx hb dX1_two_58 rfl (lv_at hl 0 rfl) ?_
          refine lv_iconst (v := 1) hx hb dX1_two_59 (by decide) ?_
          obtain ⟨u16, eu16, hf⟩ := bs_ hf
          obtain ⟨r17, M18, er17, hf⟩ := bws_ hf
          refine cl_i0 hH (rn_V ⟨hx, hb, hml, hown, hts⟩ hKn hH (mX1_costs l G M15 n x0 v4 v5 1 r17 M18 er17) (cwV 3 hts (lw_V q794 q796 qs35 q67 q797) rfl rfl rfl ⟨rfl, kdX1_costs⟩ ⟨Nat.le_of_ble_eq_true rfl, Nat.le_of_ble_eq_true rfl⟩) eu16 rfl rfl hl.1 (Nat.le_of_ble_eq_true rfl) dX1_two_60 ⟨(Nat.le_of_ble_eq_true rfl), (Nat.le_of_ble_eq_true rfl)⟩ rfl) (fun H locs hH => ?_)
          refine lv_icmp_lt (tgt := 73) hx hb dX1_two_63 (by decide) (fun c20 => ?_) (fun c20 => ?_)
          · have hf := ip_ c20 hf
            obtain ⟨v19, ev19⟩ : ∃ z : Int32, z = x1 + 1 := ⟨_, rfl⟩
            have hf := lu_ ev19 hf
            refine lv_iinc (v := v19) (lv' := [(1, .int v19), (3, .int v5), (2, .int v4), (0, .ref x0)]) hx hb dX1_two_73 hl (k := 3) rfl (by rw [ev19]; rfl) (by decide) rfl (fun ls hl => ?_)
            refine lv_goto (tgt := 15) hx hb dX1_two_76 (by decide) ?_
            exact ih M18 x0 v19 _ _ ls hH (lv_sub hl [3, 0] rfl) hf
          · have hf := in_ c20 hf
            refine lv_bipush (v := 10) hx hb dX1_two_66 (by decide) ?_
            refine lv_iload_n hx hb dX1_two_68 rfl (lv_at hl 1 rfl) ?_
            refine lv_imul hx hb dX1_two_69 ?_
            refine lv_iload_n hx hb dX1_two_70 rfl (lv_at hl 0 rfl) ?_
            refine lv_iadd hx hb dX1_two_71 ?_
            cases hf
            exact rt_i hx hb hr hlk hH dX1_two_72
  unfold fX1_two at hf
  refine lv_aload_n hx hb dX1_two_0 rfl (lv_at hl 0 rfl) ?_
  obtain ⟨v1, ev1, hf⟩ := bs_ hf
  refine mg_gR hx hb hts hown hKn hH ev1 in_X1 rfl (by decide) (hts _ q937) (fun _ h9 => h9) dX1_two_1 ?_
  obtain ⟨v2, ev2, hf⟩ := bs_ hf
  refine mg_gI hx hb hts hown hKn hH ev2 in_X2 rfl (by decide) (hts _ q890) (fun _ h9 => h9) dX1_two_4 ?_
  refine lv_if_ne (tgt := 13) hx hb dX1_two_7 (by decide) (fun c3 => ?_) (fun c3 => ?_)
  · have hf := in_ c3 hf
    refine lv_iconst (v := 0) hx hb dX1_two_13 (by decide) ?_
    refine lv_istore_n (lv' := [(1, .int 0), (0, .ref a0)]) hx hb dX1_two_14 rfl hl (by decide) rfl (fun ls hl => ?_)
    exact w15 1000 M a0 0 _ _ ls hH (lv_sub hl [1, 0] rfl) hf
  · have hf := ip_ c3 hf
    refine lv_bipush (v := (-3)) hx hb dX1_two_10 (by decide) ?_
    cases hf
    exact rt_i hx hb hr hlk hH dX1_two_12
def fX1_goesOn_L9 : Nat → Mem_ → Nat → Int32 → Int32 → Int32 → Int32 → Option (Bool × Mem_)
  | 0, _, _, _, _, _, _ => none
  | fuel + 1, M, x0, x1, x2, x3, x4 =>
    if x2 ≤ x4 then
      if x3 = 0 then
        some (true, M)
      else
        some (false, M)
    else
      if x3 = 0 then
        (gR_ M x0 0 2).bind fun v6 =>
        lt_ (fX1_has x1 x4) fun r7 =>
        if (b2_ r7) = 0 then
          (gR_ M x0 0 0).bind fun v8 =>
          (gI_ M v8 1 11).bind fun v9 =>
          (pF_ M v6 1 11 (.int v9)).bind fun M10 =>
          (gR_ M10 x0 0 2).bind fun v11 =>
          (ck_ M10 v11 1).bind fun u12 =>
          bw_ (fX2_hits M10 v11 x4 2) fun r13 M14 =>
          lt_ (x4 + 1) fun v15 =>
          fX1_goesOn_L9 fuel M14 x0 x1 x2 (b2_ r13) v15
        else
          (pF_ M v6 1 11 (.int 1)).bind fun M16 =>
          (gR_ M16 x0 0 2).bind fun v17 =>
          (ck_ M16 v17 1).bind fun u18 =>
          bw_ (fX2_hits M16 v17 x4 2) fun r19 M20 =>
          lt_ (x4 + 1) fun v21 =>
          fX1_goesOn_L9 fuel M20 x0 x1 x2 (b2_ r19) v21
      else
        if x3 = 0 then
          some (true, M)
        else
          some (false, M)
def fX1_goesOn (M : Mem_) (a0 : Nat) (a1 : Int32) (a2 : Int32) : Option (Bool × Mem_) :=
  (ck_ M a0 0).bind fun u1 =>
  (fX1_minds M a0).bind fun M3 =>
  fX1_goesOn_L9 1000 M3 a0 a1 a2 0 0
theorem kdX1_goesOn : yX1_goesOn.cls ≠ "java/lang/invoke/MethodHandle" ∧ yX1_goesOn.cls ≠ "java/lang/invoke/VarHandle" ∧ (parseMethodDescriptor yX1_goesOn.desc).map (fun d => d.parameters.length) = some 2 := by decide +kernel
set_option maxHeartbeats 4000000 in
theorem mX1_goesOn (l : Launch) (G : GT_) (M : Mem_) (n : Nat) (a0 : Nat) (a1 : Int32) (a2 : Int32) (r : Bool) (M1 : Mem_) (hf : fX1_goesOn M a0 a1 a2 = some (r, M1)) : Ct_ G l yX1_goesOn (ws_ yX1_goesOn cX1_goesOn 5 (some .boolean)) ({ frames := 4, cells := 0, slots := 0, locals := 100 }) 0 0 [.ref a0, .int a1, .int a2] M n (some (.int (b2_ r))) M1 n := by
  refine en_ (by decide) (Nat.le_of_ble_eq_true rfl) ?_
  intro p e s m below meth c hx hb hr hlk hml hown hts hname hKn hH ls hl
  have hown : s.vm.findClass RX1 = some m.cls := hown
  have hl : lv_has ls 5 [(0, .ref a0), (1, .int a1), (2, .int a2)] := hl
  have w9 : ∀ (fuel : Nat), ∀ (M : Mem_) (x0 : Nat) (x1 : Int32) (x2 : Int32) (x3 : Int32) (x4 : Int32) (H : Heap) (locs : List Loc) (ls : Array Slot), St_ G n M s H locs → lv_has ls 5 [(0, .ref x0), (1, .int x1), (2, .int x2), (3, .int x3), (4, .int x4)] → fX1_goesOn_L9 fuel M x0 x1 x2 x3 x4 = some (r, M1) → W p l e ({ frames := 4, cells := 0, slots := 0, locals := 100 } : Room) s m ([.ref a0, .int a1, .int a2] : List Value).toArray below meth c H locs 0 0 (MQ below (Qc_ G (some (.int (b2_ r))) M1 n) ([.ref a0, .int a1, .int a2] : List Value).toArray s 0 0 (fun q => G.1 ≤ q)) (F0 m 9 ls []) := by
    intro fuel
    induction fuel with
    | zero =>
      intro M x0 x1 x2 x3 x4 H locs ls hH hl hf
      cases hf
    | succ fuel ih =>
      intro M x0 x1 x2 x3 x4 H locs ls hH hl hf
      unfold fX1_goesOn_L9 at hf
      refine lv_iload hx hb dX1_goesOn_9 (lv_at hl 4 rfl) ?_
      refine lv_iload_n hx hb dX1_goesOn_11 rfl (lv_at hl 2 rfl) ?_
      refine lv_icmp_ge (tgt := 63) hx hb dX1_goesOn_12 (by decide) (fun c24 => ?_) (fun c24 => ?_)
      · have hf := ip_ c24 hf
        refine lv_iload_n hx hb dX1_goesOn_63 rfl (lv_at hl 3 rfl) ?_
        refine lv_if_ne (tgt := 71) hx hb dX1_goesOn_64 (by decide) (fun c4 => ?_) (fun c4 => ?_)
        · have hf := in_ c4 hf
          refine lv_iconst (v := 0) hx hb dX1_goesOn_71 (by decide) ?_
          cases hf
          exact rt_b (b := false) hx hb hr hlk hH dX1_goesOn_72
        · have hf := ip_ c4 hf
          refine lv_iconst (v := 1) hx hb dX1_goesOn_67 (by decide) ?_
          refine lv_goto (tgt := 72) hx hb dX1_goesOn_68 (by decide) ?_
          cases hf
          exact rt_b (b := true) hx hb hr hlk hH dX1_goesOn_72
      · have hf := in_ c24 hf
        refine lv_iload_n hx hb dX1_goesOn_15 rfl (lv_at hl 3 rfl) ?_
        refine lv_if_ne (tgt := 63) hx hb dX1_goesOn_16 (by decide) (fun c23 => ?_) (fun c23 => ?_)
        · have hf := in_ c23 hf
          refine lv_iload_n hx hb dX1_goesOn_63 rfl (lv_at hl 3 rfl) ?_
          refine lv_if_ne (tgt := 71) hx hb dX1_goesOn_64 (by decide) (fun c5 => ?_) (fun c5 => ?_)
          · have hf := in_ c5 hf
            refine lv_iconst (v := 0) hx hb dX1_goesOn_71 (by decide) ?_
            cases hf
            exact rt_b (b := false) hx hb hr hlk hH dX1_goesOn_72
          · have hf := ip_ c5 hf
            refine lv_iconst (v := 1) hx hb dX1_goesOn_67 (by decide) ?_
            refine lv_goto (tgt := 72) hx hb dX1_goesOn_68 (by decide) ?_
            cases hf
            exact rt_b (b := true) hx hb hr hlk hH dX1_goesOn_72
        · have hf := ip_ c23 hf
          refine lv_aload_n hx hb dX1_goesOn_19 rfl (lv_at hl 0 rfl) ?_
          obtain ⟨v6, ev6, hf⟩ := bs_ hf
          refine mg_gR hx hb hts hown hKn hH ev6 in_X1 rfl (by decide) (hts _ q939) (fun _ h9 => h9) dX1_goesOn_20 ?_
          refine lv_iload_n hx hb dX1_goesOn_23 rfl (lv_at hl 1 rfl) ?_
          refine lv_iload hx hb dX1_goesOn_24 (lv_at hl 4 rfl) ?_
          obtain ⟨r7, er7⟩ : ∃ z, z = fX1_has x1 x4 := ⟨_, rfl⟩
          have hf := lu_ er7 hf
          refine cl_i0 hH (rn_S ⟨hx, hb, hml, hown, hts⟩ hKn hH (mX1_has l G M n x1 x4 r7 er7.symm) (va_cwS 2 hts (lw_S q808 q526 q67 q527) rfl rfl rfl kdX1_has ⟨Nat.le_of_ble_eq_true rfl, Nat.le_of_ble_eq_true rfl⟩) rfl hl.1 (Nat.le_of_ble_eq_true rfl) dX1_goesOn_26 ⟨(Nat.le_of_ble_eq_true rfl), (Nat.le_of_ble_eq_true rfl)⟩ rfl) (fun H locs hH => ?_)
          refine lv_if_eq (tgt := 36) hx hb dX1_goesOn_29 (by decide) (fun c22 => ?_) (fun c22 => ?_)
          · have hf := ip_ c22 hf
            refine lv_aload_n hx hb dX1_goesOn_36 rfl (lv_at hl 0 rfl) ?_
            obtain ⟨v8, ev8, hf⟩ := bs_ hf
            refine mg_gR hx hb hts hown hKn hH ev8 in_X1 rfl (by decide) (hts _ q937) (fun _ h9 => h9) dX1_goesOn_37 ?_
            obtain ⟨v9, ev9, hf⟩ := bs_ hf
            refine mg_gI hx hb hts hown hKn hH ev9 in_X2 rfl (by decide) (hts _ q894) (fun _ h9 => h9) dX1_goesOn_40 ?_
            obtain ⟨M10, eM10, hf⟩ := bs_ hf
            refine mg_pF hx hb hts hown hKn hH eM10 in_X2 tyX2_ok nmX2 rfl (by decide) (hts _ q894) (fun _ h9 => h9) rfl rfl rfl dX1_goesOn_43 (fun H locs hH => ?_)
            refine lv_aload_n hx hb dX1_goesOn_46 rfl (lv_at hl 0 rfl) ?_
            obtain ⟨v11, ev11, hf⟩ := bs_ hf
            refine mg_gR hx hb hts hown hKn hH ev11 in_X1 rfl (by decide) (hts _ q939) (fun _ h9 => h9) dX1_goesOn_47 ?_
            refine lv_iload hx hb dX1_goesOn_50 (lv_at hl 4 rfl) ?_
            refine lv_iconst (v := 2) hx hb dX1_goesOn_52 (by decide) ?_
            obtain ⟨u12, eu12, hf⟩ := bs_ hf
            obtain ⟨r13, M14, er13, hf⟩ := bws_ hf
            refine cl_i0 hH (rn_V ⟨hx, hb, hml, hown, hts⟩ hKn hH (mX2_hits l G M10 n v11 x4 2 r13 M14 er13) (cwV 2 hts (lw_V q411 q412 q413 q68 q414) rfl rfl rfl ⟨rfl, kdX2_hits⟩ ⟨Nat.le_of_ble_eq_true rfl, Nat.le_of_ble_eq_true rfl⟩) eu12 rfl rfl hl.1 (Nat.le_of_ble_eq_true rfl) dX1_goesOn_53 ⟨(Nat.le_of_ble_eq_true rfl), (Nat.le_of_ble_eq_true rfl)⟩ rfl) (fun H locs hH => ?_)
            refine lv_istore_n (lv' := [(3, .int (b2_ r13)), (0, .ref x0), (1, .int x1), (2, .int x2), (4, .int x4)]) hx hb dX1_goesOn_56 rfl hl (by decide) rfl (fun ls hl => ?_)
            obtain ⟨v15, ev15⟩ : ∃ z : Int32, z = x4 + 1 := ⟨_, rfl⟩
            have hf := lu_ ev15 hf
            refine lv_iinc (v := v15) (lv' := [(4, .int v15), (3, .int (b2_ r13)), (0, .ref x0), (1, .int x1), (2, .int x2)]) hx hb dX1_goesOn_57 hl (k := 4) rfl (by rw [ev15]; rfl) (by decide) rfl (fun ls hl => ?_)
            refine lv_goto (tgt := 9) hx hb dX1_goesOn_60 (by decide) ?_
            exact ih M14 x0 x1 x2 (b2_ r13) v15 _ _ ls hH (lv_sub hl [2, 3, 4, 1, 0] rfl) hf
          · have hf := in_ c22 hf
            refine lv_iconst (v := 1) hx hb dX1_goesOn_32 (by decide) ?_
            refine lv_goto (tgt := 43) hx hb dX1_goesOn_33 (by decide) ?_
            obtain ⟨M16, eM16, hf⟩ := bs_ hf
            refine mg_pF hx hb hts hown hKn hH eM16 in_X2 tyX2_ok nmX2 rfl (by decide) (hts _ q894) (fun _ h9 => h9) rfl rfl rfl dX1_goesOn_43 (fun H locs hH => ?_)
            refine lv_aload_n hx hb dX1_goesOn_46 rfl (lv_at hl 0 rfl) ?_
            obtain ⟨v17, ev17, hf⟩ := bs_ hf
            refine mg_gR hx hb hts hown hKn hH ev17 in_X1 rfl (by decide) (hts _ q939) (fun _ h9 => h9) dX1_goesOn_47 ?_
            refine lv_iload hx hb dX1_goesOn_50 (lv_at hl 4 rfl) ?_
            refine lv_iconst (v := 2) hx hb dX1_goesOn_52 (by decide) ?_
            obtain ⟨u18, eu18, hf⟩ := bs_ hf
            obtain ⟨r19, M20, er19, hf⟩ := bws_ hf
            refine cl_i0 hH (rn_V ⟨hx, hb, hml, hown, hts⟩ hKn hH (mX2_hits l G M16 n v17 x4 2 r19 M20 er19) (cwV 2 hts (lw_V q411 q412 q413 q68 q414) rfl rfl rfl ⟨rfl, kdX2_hits⟩ ⟨Nat.le_of_ble_eq_true rfl, Nat.le_of_ble_eq_true rfl⟩) eu18 rfl rfl hl.1 (Nat.le_of_ble_eq_true rfl) dX1_goesOn_53 ⟨(Nat.le_of_ble_eq_true rfl), (Nat.le_of_ble_eq_true rfl)⟩ rfl) (fun H locs hH => ?_)
            refine lv_istore_n (lv' := [(3, .int (b2_ r19)), (0, .ref x0), (1, .int x1), (2, .int x2), (4, .int x4)]) hx hb dX1_goesOn_56 rfl hl (by decide) rfl (fun ls hl => ?_)
            obtain ⟨v21, ev21⟩ : ∃ z : Int32, z = x4 + 1 := ⟨_, rfl⟩
            have hf := lu_ ev21 hf
            refine lv_iinc (v := v21) (lv' := [(4, .int v21), (3, .int (b2_ r19)), (0, .ref x0), (1, .int x1), (2, .int x2)]) hx hb dX1_goesOn_57 hl (k := 4) rfl (by rw [ev21]; rfl) (by decide) rfl (fun ls hl => ?_)
            refine lv_goto (tgt := 9) hx hb dX1_goesOn_60 (by decide) ?_
            exact ih M20 x0 x1 x2 (b2_ r19) v21 _ _ ls hH (lv_sub hl [2, 3, 4, 1, 0] rfl) hf
  unfold fX1_goesOn at hf
  refine lv_aload_n hx hb dX1_goesOn_0 rfl (lv_at hl 0 rfl) ?_
  obtain ⟨u1, eu1, hf⟩ := bs_ hf
  obtain ⟨M3, er2, hf⟩ := bs_ hf
  refine cl_v0 hH (rn_V ⟨hx, hb, hml, hown, hts⟩ hKn hH (mX1_minds l G M n a0 M3 er2) (cwV 0 hts (lw_V q662 q664 qs22 q67 q665) rfl rfl rfl ⟨rfl, kdX1_minds⟩ ⟨Nat.le_of_ble_eq_true rfl, Nat.le_of_ble_eq_true rfl⟩) eu1 rfl rfl hl.1 (Nat.le_of_ble_eq_true rfl) dX1_goesOn_1 ⟨(Nat.le_of_ble_eq_true rfl), (Nat.le_of_ble_eq_true rfl)⟩ rfl) (fun H locs hH => ?_)
  refine lv_iconst (v := 0) hx hb dX1_goesOn_4 (by decide) ?_
  refine lv_istore_n (lv' := [(3, .int 0), (0, .ref a0), (1, .int a1), (2, .int a2)]) hx hb dX1_goesOn_5 rfl hl (by decide) rfl (fun ls hl => ?_)
  refine lv_iconst (v := 0) hx hb dX1_goesOn_6 (by decide) ?_
  refine lv_istore (lv' := [(4, .int 0), (3, .int 0), (0, .ref a0), (1, .int a1), (2, .int a2)]) hx hb dX1_goesOn_7 hl (by decide) rfl (fun ls hl => ?_)
  exact w9 1000 M3 a0 a1 a2 0 0 _ _ ls hH (lv_sub hl [2, 3, 4, 1, 0] rfl) hf
def fX1_divisor_R : Nat → Int64 → Int64 → Option Int64
  | 0, _, _ => none
  | fuel + 1, a0, a2 =>
    if (lg_cmp a2 0) = 0 then
      some a0
    else
      (rl_ a0 a2).bind fun v1 =>
      (fX1_divisor_R fuel a2 v1).bind fun r2 =>
      some r2
def fX1_divisor (a0 : Int64) (a2 : Int64) : Option Int64 := fX1_divisor_R 60 a0 a2
theorem kdX1_divisor : yX1_divisor.cls ≠ "java/lang/invoke/MethodHandle" ∧ yX1_divisor.cls ≠ "java/lang/invoke/VarHandle" ∧ (parseMethodDescriptor yX1_divisor.desc).map (fun d => d.parameters.length) = some 2 := by decide +kernel
set_option maxHeartbeats 4000000 in
theorem mX1_divisor_R (l : Launch) (G : GT_) (M : Mem_) (n : Nat) : ∀ (fuel : Nat) (a0 : Int64) (a2 : Int64) (r : Int64), fX1_divisor_R fuel a0 a2 = some r → Ct_ G l yX1_divisor (ws_ yX1_divisor cX1_divisor 4 (some .long)) ({ frames := fuel, cells := 0, slots := 0, locals := 23 * fuel }) 0 0 [.long a0, .long a2] M n (some (.long r)) M n := by
  intro fuel
  induction fuel with
  | zero =>
    intro a0 a2 r hf
    cases hf
  | succ fuel ih =>
    intro a0 a2 r hf
    refine en_ (by decide) (Nat.le_of_ble_eq_true rfl) ?_
    intro p e s m below meth c hx hb hr hlk hml hown hts hname hKn hH ls hl
    have hown : s.vm.findClass RX1 = some m.cls := hown
    have hl : lv_has ls 4 [(0, .long a0), (2, .long a2)] := hl
    unfold fX1_divisor_R at hf
    refine lv_lload_n hx hb dX1_divisor_0 rfl (lv_at hl 1 rfl) ?_
    refine lv_lconst (v := 0) hx hb dX1_divisor_1 (by decide) ?_
    refine W.lcmp hx hb dX1_divisor_2 ?_
    refine lv_if_ne (tgt := 10) hx hb dX1_divisor_3 (by decide) (fun c3 => ?_) (fun c3 => ?_)
    · have hf := in_ c3 hf
      refine lv_lload_n hx hb dX1_divisor_10 rfl (lv_at hl 1 rfl) ?_
      refine lv_lload_n hx hb dX1_divisor_11 rfl (lv_at hl 0 rfl) ?_
      refine lv_lload_n hx hb dX1_divisor_12 rfl (lv_at hl 1 rfl) ?_
      obtain ⟨v1, ev1, hf⟩ := bs_ hf
      refine lv_lrem hx hb dX1_divisor_13 (rl_spec ev1).1 ?_
      rw [← (rl_spec ev1).2]
      obtain ⟨r2, er2, hf⟩ := bs_ hf
      refine cl_l0 hH (rn_S ⟨hx, hb, hml, hown, hts⟩ hKn hH (ih a2 v1 r2 er2) (va_cwS 2 hts (lw_S q816 q817 q67 q818) rfl rfl rfl kdX1_divisor ⟨Nat.le_refl _, show 8 + (4 + 11) + 23 * fuel ≤ 23 * (fuel + 1) by omega⟩) rfl hl.1 (Nat.le_of_ble_eq_true rfl) dX1_divisor_14 ⟨(Nat.le_of_ble_eq_true rfl), (Nat.le_of_ble_eq_true rfl)⟩ rfl) (fun H locs hH => ?_)
      cases hf
      exact rt_l hx hb hr hlk hH dX1_divisor_17
    · have hf := ip_ c3 hf
      refine lv_lload_n hx hb dX1_divisor_6 rfl (lv_at hl 0 rfl) ?_
      refine lv_goto (tgt := 17) hx hb dX1_divisor_7 (by decide) ?_
      cases hf
      exact rt_l hx hb hr hlk hH dX1_divisor_17
theorem mX1_divisor (l : Launch) (G : GT_) (M : Mem_) (n : Nat) (a0 : Int64) (a2 : Int64) (r : Int64) (hf : fX1_divisor a0 a2 = some r) : Ct_ G l yX1_divisor (ws_ yX1_divisor cX1_divisor 4 (some .long)) ({ frames := 60, cells := 0, slots := 0, locals := 1380 }) 0 0 [.long a0, .long a2] M n (some (.long r)) M n := mX1_divisor_R l G M n 60 a0 a2 r hf
def fX1_partOf (a0 : Int64) (a2 : Int64) (a4 : Int32) : Option Int64 :=
  if a4 = 0 then
    (fX1_divisor a0 a2).bind fun r3 =>
    (dl_ a0 r3).bind fun v4 =>
    some v4
  else
    (fX1_divisor a0 a2).bind fun r1 =>
    (dl_ a2 r1).bind fun v2 =>
    some v2
theorem kdX1_partOf : yX1_partOf.cls ≠ "java/lang/invoke/MethodHandle" ∧ yX1_partOf.cls ≠ "java/lang/invoke/VarHandle" ∧ (parseMethodDescriptor yX1_partOf.desc).map (fun d => d.parameters.length) = some 3 := by decide +kernel
set_option maxHeartbeats 4000000 in
theorem mX1_partOf (l : Launch) (G : GT_) (M : Mem_) (n : Nat) (a0 : Int64) (a2 : Int64) (a4 : Int32) (r : Int64) (hf : fX1_partOf a0 a2 a4 = some r) : Ct_ G l yX1_partOf (ws_ yX1_partOf cX1_partOf 5 (some .long)) ({ frames := 61, cells := 0, slots := 0, locals := 1403 }) 0 0 [.long a0, .long a2, .int a4] M n (some (.long r)) M n := by
  refine en_ (by decide) (Nat.le_of_ble_eq_true rfl) ?_
  intro p e s m below meth c hx hb hr hlk hml hown hts hname hKn hH ls hl
  have hown : s.vm.findClass RX1 = some m.cls := hown
  have hl : lv_has ls 5 [(0, .long a0), (2, .long a2), (4, .int a4)] := hl
  unfold fX1_partOf at hf
  generalize s.heap = H at hH ⊢
  refine lv_iload hx hb dX1_partOf_0 (lv_at hl 2 rfl) ?_
  refine lv_if_ne (tgt := 9) hx hb dX1_partOf_2 (by decide) (fun c5 => ?_) (fun c5 => ?_)
  · have hf := in_ c5 hf
    refine lv_lload_n hx hb dX1_partOf_9 rfl (lv_at hl 1 rfl) ?_
    refine lv_lload_n hx hb dX1_partOf_10 rfl (lv_at hl 0 rfl) ?_
    refine lv_lload_n hx hb dX1_partOf_11 rfl (lv_at hl 1 rfl) ?_
    obtain ⟨r1, er1, hf⟩ := bs_ hf
    refine cl_l0 hH (rn_S ⟨hx, hb, hml, hown, hts⟩ hKn hH (mX1_divisor l G M n a0 a2 r1 er1) (va_cwS 2 hts (lw_S q816 q817 q67 q818) rfl rfl rfl kdX1_divisor ⟨Nat.le_of_ble_eq_true rfl, Nat.le_of_ble_eq_true rfl⟩) rfl hl.1 (Nat.le_of_ble_eq_true rfl) dX1_partOf_12 ⟨(Nat.le_of_ble_eq_true rfl), (Nat.le_of_ble_eq_true rfl)⟩ rfl) (fun H locs hH => ?_)
    obtain ⟨v2, ev2, hf⟩ := bs_ hf
    refine lv_ldiv hx hb dX1_partOf_15 (dl_spec ev2).1 ?_
    rw [← (dl_spec ev2).2]
    cases hf
    exact rt_l hx hb hr hlk hH dX1_partOf_16
  · have hf := ip_ c5 hf
    refine lv_lload_n hx hb dX1_partOf_5 rfl (lv_at hl 0 rfl) ?_
    refine lv_goto (tgt := 10) hx hb dX1_partOf_6 (by decide) ?_
    refine lv_lload_n hx hb dX1_partOf_10 rfl (lv_at hl 0 rfl) ?_
    refine lv_lload_n hx hb dX1_partOf_11 rfl (lv_at hl 1 rfl) ?_
    obtain ⟨r3, er3, hf⟩ := bs_ hf
    refine cl_l0 hH (rn_S ⟨hx, hb, hml, hown, hts⟩ hKn hH (mX1_divisor l G M n a0 a2 r3 er3) (va_cwS 2 hts (lw_S q816 q817 q67 q818) rfl rfl rfl kdX1_divisor ⟨Nat.le_of_ble_eq_true rfl, Nat.le_of_ble_eq_true rfl⟩) rfl hl.1 (Nat.le_of_ble_eq_true rfl) dX1_partOf_12 ⟨(Nat.le_of_ble_eq_true rfl), (Nat.le_of_ble_eq_true rfl)⟩ rfl) (fun H locs hH => ?_)
    obtain ⟨v4, ev4, hf⟩ := bs_ hf
    refine lv_ldiv hx hb dX1_partOf_15 (dl_spec ev4).1 ?_
    rw [← (dl_spec ev4).2]
    cases hf
    exact rt_l hx hb hr hlk hH dX1_partOf_16
