set_option maxRecDepth 100000
def fX4_court_L93 : Nat → Mem_ → Nat → Int32 → Int32 → Int32 → Int32 → Option (Int32 × Mem_)
  | 0, _, _, _, _, _, _ => none
  | fuel + 1, M, x0, x1, x2, x3, x4 =>
    if x4 = 0 then
      (gI_ M x0 3 6).bind fun v47 =>
      (gI_ M x0 3 8).bind fun v48 =>
      if v48 ≤ v47 then
        if x4 = 0 then
          some (x3, M)
        else
          some (x4, M)
      else
        (gI_ M x0 3 6).bind fun v50 =>
        (ck_ M x0 3).bind fun u51 =>
        (fX4_here M x0).bind fun r52 =>
        (ck_ M x0 3).bind fun u53 =>
        bw_ (fX4_readsStatement M x0) fun r54 M55 =>
        (ck_ M55 x0 3).bind fun u56 =>
        bw_ (fX4_isDone M55 x0 r52) fun r57 M58 =>
        if (b2_ r57) = 0 then
          lt_ (((-2000) - v50)) fun v59 =>
          (gR_ M58 x0 3 3).bind fun v60 =>
          (gR_ M58 x0 3 0).bind fun v61 =>
          (fX4_copies M58 v60 v61).bind fun M63 =>
          fX4_court_L93 fuel M63 x0 x1 x2 x3 v59
        else
          fX4_court_L93 fuel M58 x0 x1 x2 x3 x4
    else
      if x4 = 0 then
        some (x3, M)
      else
        some (x4, M)
def fX4_court_L41 : Nat → Mem_ → Nat → Int32 → Int32 → Int32 → Int32 → Option (Int32 × Mem_)
  | 0, _, _, _, _, _, _ => none
  | fuel + 1, M, x0, x1, x2, x3, x4 =>
    (ck_ M x0 3).bind fun u10 =>
    bw_ (fX4_readsStatement M x0) fun r11 M12 =>
    if (b2_ r11) = 0 then
      (gI_ M12 x0 3 6).bind fun v28 =>
      lt_ (((-1000) - v28)) fun v29 =>
      lt_ (x3 + 1) fun v30 =>
      if v29 = 0 then
        (gI_ M12 x0 3 6).bind fun v36 =>
        (gI_ M12 x0 3 8).bind fun v37 =>
        if v36 < v37 then
          fX4_court_L41 fuel M12 x0 x1 x2 v30 v29
        else
          (gR_ M12 x0 3 0).bind fun v38 =>
          (gR_ M12 x0 3 3).bind fun v39 =>
          (fX4_copies M12 v38 v39).bind fun M41 =>
          (pF_ M41 x0 3 6 (.int 0)).bind fun M42 =>
          fX4_court_L93 1000 M42 x0 x1 x2 v30 v29
      else
        (gR_ M12 x0 3 0).bind fun v31 =>
        (gR_ M12 x0 3 3).bind fun v32 =>
        (fX4_copies M12 v31 v32).bind fun M34 =>
        (pF_ M34 x0 3 6 (.int 0)).bind fun M35 =>
        fX4_court_L93 1000 M35 x0 x1 x2 v30 v29
    else
      lt_ (x3 + 1) fun v13 =>
      if x4 = 0 then
        (gI_ M12 x0 3 6).bind fun v19 =>
        (gI_ M12 x0 3 8).bind fun v20 =>
        if v19 < v20 then
          fX4_court_L41 fuel M12 x0 x1 x2 v13 x4
        else
          (gR_ M12 x0 3 0).bind fun v21 =>
          (gR_ M12 x0 3 3).bind fun v22 =>
          (fX4_copies M12 v21 v22).bind fun M24 =>
          (pF_ M24 x0 3 6 (.int 0)).bind fun M25 =>
          fX4_court_L93 1000 M25 x0 x1 x2 v13 x4
      else
        (gR_ M12 x0 3 0).bind fun v14 =>
        (gR_ M12 x0 3 3).bind fun v15 =>
        (fX4_copies M12 v14 v15).bind fun M17 =>
        (pF_ M17 x0 3 6 (.int 0)).bind fun M18 =>
        fX4_court_L93 1000 M18 x0 x1 x2 v13 x4
def fX4_court (M : Mem_) (a0 : Nat) (a1 : Int32) : Option (Int32 × Mem_) :=
  (ck_ M a0 3).bind fun u1 =>
  (fX4_wrongRow M a0 a1 0).bind fun r2 =>
  if r2 = 0 then
    lt_ ((100 * a1)) fun v3 =>
    (pF_ M a0 3 7 (.int v3)).bind fun M4 =>
    (gR_ M4 a0 3 17).bind fun v5 =>
    (aI_ M4 v5 0 a1).bind fun v6 =>
    (pF_ M4 a0 3 8 (.int v6)).bind fun M7 =>
    (pF_ M7 a0 3 6 (.int 0)).bind fun M8 =>
    fX4_court_L41 1000 M8 a0 a1 r2 0 0
  else
    some (r2, M)
theorem kdX4_court : yX4_court.cls ≠ "java/lang/invoke/MethodHandle" ∧ yX4_court.cls ≠ "java/lang/invoke/VarHandle" ∧ (parseMethodDescriptor yX4_court.desc).map (fun d => d.parameters.length) = some 1 := by decide +kernel
set_option maxHeartbeats 4000000 in
theorem mX4_court (l : Launch) (G : GT_) (M : Mem_) (n : Nat) (a0 : Nat) (a1 : Int32) (r : Int32) (M1 : Mem_) (hf : fX4_court M a0 a1 = some (r, M1)) : Ct_ G l yX4_court (ws_ yX4_court cX4_court 8 (some .int)) ({ frames := 5, cells := 0, slots := 0, locals := 123 }) 0 0 [.ref a0, .int a1] M n (some (.int r)) M1 n := by
  refine en_ (by decide) (Nat.le_of_ble_eq_true rfl) ?_
  intro p e s m below meth c hx hb hr hlk hml hown hts hname hKn hH ls hl
  have hown : s.vm.findClass RX4 = some m.cls := hown
  have hl : lv_has ls 8 [(0, .ref a0), (1, .int a1)] := hl
  have w93 : ∀ (fuel : Nat), ∀ (M : Mem_) (x0 : Nat) (x1 : Int32) (x2 : Int32) (x3 : Int32) (x4 : Int32) (H : Heap) (locs : List Loc) (ls : Array Slot), St_ G n M s H locs → lv_has ls 8 [(0, .ref x0), (1, .int x1), (2, .int x2), (3, .int x3), (4, .int x4)] → fX4_court_L93 fuel M x0 x1 x2 x3 x4 = some (r, M1) → W p l e ({ frames := 5, cells := 0, slots := 0, locals := 123 } : Room) s m ([.ref a0, .int a1] : List Value).toArray below meth c H locs 0 0 (MQ below (Qc_ G (some (.int r)) M1 n) ([.ref a0, .int a1] : List Value).toArray s 0 0 (fun q => G.1 ≤ q)) (F0 m 93 ls []) := by
    intro fuel
    induction fuel with
    | zero =>
      intro M x0 x1 x2 x3 x4 H locs ls hH hl hf
      cases hf
    | succ fuel ih =>
      intro M x0 x1 x2 x3 x4 H locs ls hH hl hf
      unfold fX4_court_L93 at hf
      refine lv_iload hx hb dX4_court_93 (lv_at hl 4 rfl) ?_
      refine lv_if_ne (tgt := 161) hx hb dX4_court_95 (by decide) (fun c66 => ?_) (fun c66 => ?_)
      · have hf := in_ c66 hf
        refine lv_iload hx hb dX4_court_161 (lv_at hl 4 rfl) ?_
        refine lv_if_ne (tgt := 170) hx hb dX4_court_163 (by decide) (fun c46 => ?_) (fun c46 => ?_)
        · have hf := in_ c46 hf
          refine lv_iload hx hb dX4_court_170 (lv_at hl 4 rfl) ?_
          cases hf
          exact rt_i hx hb hr hlk hH dX4_court_172
        · have hf := ip_ c46 hf
          refine lv_iload_n hx hb dX4_court_166 rfl (lv_at hl 3 rfl) ?_
          refine lv_goto (tgt := 172) hx hb dX4_court_167 (by decide) ?_
          cases hf
          exact rt_i hx hb hr hlk hH dX4_court_172
      · have hf := ip_ c66 hf
        refine lv_aload_n hx hb dX4_court_98 rfl (lv_at hl 0 rfl) ?_
        obtain ⟨v47, ev47, hf⟩ := bs_ hf
        refine mg_gI hx hb hts hown hKn hH ev47 in_X4 rfl (by decide) (hts _ q1182) (fun _ h9 => h9) dX4_court_99 ?_
        refine lv_aload_n hx hb dX4_court_102 rfl (lv_at hl 0 rfl) ?_
        obtain ⟨v48, ev48, hf⟩ := bs_ hf
        refine mg_gI hx hb hts hown hKn hH ev48 in_X4 rfl (by decide) (hts _ q1184) (fun _ h9 => h9) dX4_court_103 ?_
        refine lv_icmp_ge (tgt := 161) hx hb dX4_court_106 (by decide) (fun c65 => ?_) (fun c65 => ?_)
        · have hf := ip_ c65 hf
          refine lv_iload hx hb dX4_court_161 (lv_at hl 4 rfl) ?_
          refine lv_if_ne (tgt := 170) hx hb dX4_court_163 (by decide) (fun c49 => ?_) (fun c49 => ?_)
          · have hf := in_ c49 hf
            refine lv_iload hx hb dX4_court_170 (lv_at hl 4 rfl) ?_
            cases hf
            exact rt_i hx hb hr hlk hH dX4_court_172
          · have hf := ip_ c49 hf
            refine lv_iload_n hx hb dX4_court_166 rfl (lv_at hl 3 rfl) ?_
            refine lv_goto (tgt := 172) hx hb dX4_court_167 (by decide) ?_
            cases hf
            exact rt_i hx hb hr hlk hH dX4_court_172
        · have hf := in_ c65 hf
          refine lv_aload_n hx hb dX4_court_109 rfl (lv_at hl 0 rfl) ?_
          obtain ⟨v50, ev50, hf⟩ := bs_ hf
          refine mg_gI hx hb hts hown hKn hH ev50 in_X4 rfl (by decide) (hts _ q1182) (fun _ h9 => h9) dX4_court_110 ?_
          refine lv_istore (lv' := [(5, .int v50), (0, .ref x0), (1, .int x1), (2, .int x2), (3, .int x3), (4, .int x4)]) hx hb dX4_court_113 hl (by decide) rfl (fun ls hl => ?_)
          refine lv_aload_n hx hb dX4_court_115 rfl (lv_at hl 1 rfl) ?_
          obtain ⟨u51, eu51, hf⟩ := bs_ hf
          obtain ⟨r52, er52, hf⟩ := bs_ hf
          refine cl_i0 hH (rn_V ⟨hx, hb, hml, hown, hts⟩ hKn hH (mX4_here l G M n x0 r52 er52) (cwV 0 hts (lw_V q1255 q1257 qs40 q70 q1258) rfl rfl rfl ⟨rfl, kdX4_here⟩ ⟨Nat.le_of_ble_eq_true rfl, Nat.le_of_ble_eq_true rfl⟩) eu51 rfl rfl hl.1 (Nat.le_of_ble_eq_true rfl) dX4_court_116 ⟨(Nat.le_of_ble_eq_true rfl), (Nat.le_of_ble_eq_true rfl)⟩ rfl) (fun H locs hH => ?_)
          refine lv_istore (lv' := [(6, .int r52), (5, .int v50), (0, .ref x0), (1, .int x1), (2, .int x2), (3, .int x3), (4, .int x4)]) hx hb dX4_court_119 hl (by decide) rfl (fun ls hl => ?_)
          refine lv_aload_n hx hb dX4_court_121 rfl (lv_at hl 2 rfl) ?_
          obtain ⟨u53, eu53, hf⟩ := bs_ hf
          obtain ⟨r54, M55, er54, hf⟩ := bws_ hf
          refine cl_i0 hH (rn_V ⟨hx, hb, hml, hown, hts⟩ hKn hH (mX4_readsStatement l G M n x0 r54 M55 er54) (cwV 0 hts (lw_V q1251 q1253 qs39 q70 q1254) rfl rfl rfl ⟨rfl, kdX4_readsStatement⟩ ⟨Nat.le_of_ble_eq_true rfl, Nat.le_of_ble_eq_true rfl⟩) eu53 rfl rfl hl.1 (Nat.le_of_ble_eq_true rfl) dX4_court_122 ⟨(Nat.le_of_ble_eq_true rfl), (Nat.le_of_ble_eq_true rfl)⟩ rfl) (fun H locs hH => ?_)
          refine lv_istore (lv' := [(7, .int (b2_ r54)), (6, .int r52), (5, .int v50), (0, .ref x0), (1, .int x1), (2, .int x2), (3, .int x3), (4, .int x4)]) hx hb dX4_court_125 hl (by decide) rfl (fun ls hl => ?_)
          refine lv_aload_n hx hb dX4_court_127 rfl (lv_at hl 3 rfl) ?_
          refine lv_iload hx hb dX4_court_128 (lv_at hl 1 rfl) ?_
          obtain ⟨u56, eu56, hf⟩ := bs_ hf
          obtain ⟨r57, M58, er57, hf⟩ := bws_ hf
          refine cl_i0 hH (rn_V ⟨hx, hb, hml, hown, hts⟩ hKn hH (mX4_isDone l G M55 n x0 r52 r57 M58 er57) (cwV 1 hts (lw_V q1266 q1268 qs42 q70 q1269) rfl rfl rfl ⟨rfl, kdX4_isDone⟩ ⟨Nat.le_of_ble_eq_true rfl, Nat.le_of_ble_eq_true rfl⟩) eu56 rfl rfl hl.1 (Nat.le_of_ble_eq_true rfl) dX4_court_130 ⟨(Nat.le_of_ble_eq_true rfl), (Nat.le_of_ble_eq_true rfl)⟩ rfl) (fun H locs hH => ?_)
          refine lv_if_eq (tgt := 139) hx hb dX4_court_133 (by decide) (fun c64 => ?_) (fun c64 => ?_)
          · have hf := ip_ c64 hf
            refine lv_sipush (v := (-2000)) hx hb dX4_court_139 (by decide) ?_
            refine lv_iload hx hb dX4_court_142 (lv_at hl 2 rfl) ?_
            refine lv_isub hx hb dX4_court_144 ?_
            refine lv_topi (fun v59 ev59 => ?_)
            have hf := lu_ ev59 hf
            refine lv_istore (lv' := [(4, .int v59), (7, .int (b2_ r54)), (6, .int r52), (5, .int v50), (0, .ref x0), (1, .int x1), (2, .int x2), (3, .int x3)]) hx hb dX4_court_145 hl (by decide) rfl (fun ls hl => ?_)
            refine lv_aload_n hx hb dX4_court_147 rfl (lv_at hl 4 rfl) ?_
            obtain ⟨v60, ev60, hf⟩ := bs_ hf
            refine mg_gR hx hb hts hown hKn hH ev60 in_X4 rfl (by decide) (hts _ q1179) (fun _ h9 => h9) dX4_court_148 ?_
            refine lv_aload_n hx hb dX4_court_151 rfl (lv_at hl 4 rfl) ?_
            obtain ⟨v61, ev61, hf⟩ := bs_ hf
            refine mg_gR hx hb hts hown hKn hH ev61 in_X4 rfl (by decide) (hts _ q1176) (fun _ h9 => h9) dX4_court_152 ?_
            obtain ⟨M63, er62, hf⟩ := bs_ hf
            refine cl_v0 hH (rn_S ⟨hx, hb, hml, hown, hts⟩ hKn hH (mX4_copies l G M58 n v60 v61 M63 er62) (va_cwS 2 hts (lw_S q1263 q1264 q70 q1265) rfl rfl rfl kdX4_copies ⟨Nat.le_of_ble_eq_true rfl, Nat.le_of_ble_eq_true rfl⟩) rfl hl.1 (Nat.le_of_ble_eq_true rfl) dX4_court_155 ⟨(Nat.le_of_ble_eq_true rfl), (Nat.le_of_ble_eq_true rfl)⟩ rfl) (fun H locs hH => ?_)
            refine lv_goto (tgt := 93) hx hb dX4_court_158 (by decide) ?_
            exact ih M63 x0 x1 x2 x3 v59 _ _ ls hH (lv_sub hl [4, 5, 6, 7, 0] rfl) hf
          · have hf := in_ c64 hf
            refine lv_goto (tgt := 93) hx hb dX4_court_136 (by decide) ?_
            exact ih M58 x0 x1 x2 x3 x4 _ _ ls hH (lv_sub hl [3, 4, 5, 6, 7] rfl) hf
  have w41 : ∀ (fuel : Nat), ∀ (M : Mem_) (x0 : Nat) (x1 : Int32) (x2 : Int32) (x3 : Int32) (x4 : Int32) (H : Heap) (locs : List Loc) (ls : Array Slot), St_ G n M s H locs → lv_has ls 8 [(0, .ref x0), (1, .int x1), (2, .int x2), (3, .int x3), (4, .int x4)] → fX4_court_L41 fuel M x0 x1 x2 x3 x4 = some (r, M1) → W p l e ({ frames := 5, cells := 0, slots := 0, locals := 123 } : Room) s m ([.ref a0, .int a1] : List Value).toArray below meth c H locs 0 0 (MQ below (Qc_ G (some (.int r)) M1 n) ([.ref a0, .int a1] : List Value).toArray s 0 0 (fun q => G.1 ≤ q)) (F0 m 41 ls []) := by
    intro fuel
    induction fuel with
    | zero =>
      intro M x0 x1 x2 x3 x4 H locs ls hH hl hf
      cases hf
    | succ fuel ih =>
      intro M x0 x1 x2 x3 x4 H locs ls hH hl hf
      unfold fX4_court_L41 at hf
      refine lv_aload_n hx hb dX4_court_41 rfl (lv_at hl 0 rfl) ?_
      obtain ⟨u10, eu10, hf⟩ := bs_ hf
      obtain ⟨r11, M12, er11, hf⟩ := bws_ hf
      refine cl_i0 hH (rn_V ⟨hx, hb, hml, hown, hts⟩ hKn hH (mX4_readsStatement l G M n x0 r11 M12 er11) (cwV 0 hts (lw_V q1251 q1253 qs39 q70 q1254) rfl rfl rfl ⟨rfl, kdX4_readsStatement⟩ ⟨Nat.le_of_ble_eq_true rfl, Nat.le_of_ble_eq_true rfl⟩) eu10 rfl rfl hl.1 (Nat.le_of_ble_eq_true rfl) dX4_court_42 ⟨(Nat.le_of_ble_eq_true rfl), (Nat.le_of_ble_eq_true rfl)⟩ rfl) (fun H locs hH => ?_)
      refine lv_if_ne (tgt := 58) hx hb dX4_court_45 (by decide) (fun c45 => ?_) (fun c45 => ?_)
      · have hf := in_ c45 hf
        obtain ⟨v13, ev13⟩ : ∃ z : Int32, z = x3 + 1 := ⟨_, rfl⟩
        have hf := lu_ ev13 hf
        refine lv_iinc (v := v13) (lv' := [(3, .int v13), (0, .ref x0), (1, .int x1), (2, .int x2), (4, .int x4)]) hx hb dX4_court_58 hl (k := 3) rfl (by rw [ev13]; rfl) (by decide) rfl (fun ls hl => ?_)
        refine lv_iload hx hb dX4_court_61 (lv_at hl 4 rfl) ?_
        refine lv_if_ne (tgt := 77) hx hb dX4_court_63 (by decide) (fun c27 => ?_) (fun c27 => ?_)
        · have hf := in_ c27 hf
          refine lv_aload_n hx hb dX4_court_77 rfl (lv_at hl 1 rfl) ?_
          obtain ⟨v14, ev14, hf⟩ := bs_ hf
          refine mg_gR hx hb hts hown hKn hH ev14 in_X4 rfl (by decide) (hts _ q1176) (fun _ h9 => h9) dX4_court_78 ?_
          refine lv_aload_n hx hb dX4_court_81 rfl (lv_at hl 1 rfl) ?_
          obtain ⟨v15, ev15, hf⟩ := bs_ hf
          refine mg_gR hx hb hts hown hKn hH ev15 in_X4 rfl (by decide) (hts _ q1179) (fun _ h9 => h9) dX4_court_82 ?_
          obtain ⟨M17, er16, hf⟩ := bs_ hf
          refine cl_v0 hH (rn_S ⟨hx, hb, hml, hown, hts⟩ hKn hH (mX4_copies l G M12 n v14 v15 M17 er16) (va_cwS 2 hts (lw_S q1263 q1264 q70 q1265) rfl rfl rfl kdX4_copies ⟨Nat.le_of_ble_eq_true rfl, Nat.le_of_ble_eq_true rfl⟩) rfl hl.1 (Nat.le_of_ble_eq_true rfl) dX4_court_85 ⟨(Nat.le_of_ble_eq_true rfl), (Nat.le_of_ble_eq_true rfl)⟩ rfl) (fun H locs hH => ?_)
          refine lv_aload_n hx hb dX4_court_88 rfl (lv_at hl 1 rfl) ?_
          refine lv_iconst (v := 0) hx hb dX4_court_89 (by decide) ?_
          obtain ⟨M18, eM18, hf⟩ := bs_ hf
          refine mg_pF hx hb hts hown hKn hH eM18 in_X4 tyX4_ok nmX4 rfl (by decide) (hts _ q1182) (fun _ h9 => h9) rfl rfl rfl dX4_court_90 (fun H locs hH => ?_)
          exact w93 1000 M18 x0 x1 x2 v13 x4 _ _ ls hH (lv_sub hl [1, 2, 3, 0, 4] rfl) hf
        · have hf := ip_ c27 hf
          refine lv_aload_n hx hb dX4_court_66 rfl (lv_at hl 1 rfl) ?_
          obtain ⟨v19, ev19, hf⟩ := bs_ hf
          refine mg_gI hx hb hts hown hKn hH ev19 in_X4 rfl (by decide) (hts _ q1182) (fun _ h9 => h9) dX4_court_67 ?_
          refine lv_aload_n hx hb dX4_court_70 rfl (lv_at hl 1 rfl) ?_
          obtain ⟨v20, ev20, hf⟩ := bs_ hf
          refine mg_gI hx hb hts hown hKn hH ev20 in_X4 rfl (by decide) (hts _ q1184) (fun _ h9 => h9) dX4_court_71 ?_
          refine lv_icmp_lt (tgt := 41) hx hb dX4_court_74 (by decide) (fun c26 => ?_) (fun c26 => ?_)
          · have hf := ip_ c26 hf
            exact ih M12 x0 x1 x2 v13 x4 _ _ ls hH (lv_sub hl [1, 2, 3, 0, 4] rfl) hf
          · have hf := in_ c26 hf
            refine lv_aload_n hx hb dX4_court_77 rfl (lv_at hl 1 rfl) ?_
            obtain ⟨v21, ev21, hf⟩ := bs_ hf
            refine mg_gR hx hb hts hown hKn hH ev21 in_X4 rfl (by decide) (hts _ q1176) (fun _ h9 => h9) dX4_court_78 ?_
            refine lv_aload_n hx hb dX4_court_81 rfl (lv_at hl 1 rfl) ?_
            obtain ⟨v22, ev22, hf⟩ := bs_ hf
            refine mg_gR hx hb hts hown hKn hH ev22 in_X4 rfl (by decide) (hts _ q1179) (fun _ h9 => h9) dX4_court_82 ?_
            obtain ⟨M24, er23, hf⟩ := bs_ hf
            refine cl_v0 hH (rn_S ⟨hx, hb, hml, hown, hts⟩ hKn hH (mX4_copies l G M12 n v21 v22 M24 er23) (va_cwS 2 hts (lw_S q1263 q1264 q70 q1265) rfl rfl rfl kdX4_copies ⟨Nat.le_of_ble_eq_true rfl, Nat.le_of_ble_eq_true rfl⟩) rfl hl.1 (Nat.le_of_ble_eq_true rfl) dX4_court_85 ⟨(Nat.le_of_ble_eq_true rfl), (Nat.le_of_ble_eq_true rfl)⟩ rfl) (fun H locs hH => ?_)
            refine lv_aload_n hx hb dX4_court_88 rfl (lv_at hl 1 rfl) ?_
            refine lv_iconst (v := 0) hx hb dX4_court_89 (by decide) ?_
            obtain ⟨M25, eM25, hf⟩ := bs_ hf
            refine mg_pF hx hb hts hown hKn hH eM25 in_X4 tyX4_ok nmX4 rfl (by decide) (hts _ q1182) (fun _ h9 => h9) rfl rfl rfl dX4_court_90 (fun H locs hH => ?_)
            exact w93 1000 M25 x0 x1 x2 v13 x4 _ _ ls hH (lv_sub hl [1, 2, 3, 0, 4] rfl) hf
      · have hf := ip_ c45 hf
        refine lv_sipush (v := (-1000)) hx hb dX4_court_48 (by decide) ?_
        refine lv_aload_n hx hb dX4_court_51 rfl (lv_at hl 0 rfl) ?_
        obtain ⟨v28, ev28, hf⟩ := bs_ hf
        refine mg_gI hx hb hts hown hKn hH ev28 in_X4 rfl (by decide) (hts _ q1182) (fun _ h9 => h9) dX4_court_52 ?_
        refine lv_isub hx hb dX4_court_55 ?_
        refine lv_topi (fun v29 ev29 => ?_)
        have hf := lu_ ev29 hf
        refine lv_istore (lv' := [(4, .int v29), (0, .ref x0), (1, .int x1), (2, .int x2), (3, .int x3)]) hx hb dX4_court_56 hl (by decide) rfl (fun ls hl => ?_)
        obtain ⟨v30, ev30⟩ : ∃ z : Int32, z = x3 + 1 := ⟨_, rfl⟩
        have hf := lu_ ev30 hf
        refine lv_iinc (v := v30) (lv' := [(3, .int v30), (4, .int v29), (0, .ref x0), (1, .int x1), (2, .int x2)]) hx hb dX4_court_58 hl (k := 4) rfl (by rw [ev30]; rfl) (by decide) rfl (fun ls hl => ?_)
        refine lv_iload hx hb dX4_court_61 (lv_at hl 1 rfl) ?_
        refine lv_if_ne (tgt := 77) hx hb dX4_court_63 (by decide) (fun c44 => ?_) (fun c44 => ?_)
        · have hf := in_ c44 hf
          refine lv_aload_n hx hb dX4_court_77 rfl (lv_at hl 2 rfl) ?_
          obtain ⟨v31, ev31, hf⟩ := bs_ hf
          refine mg_gR hx hb hts hown hKn hH ev31 in_X4 rfl (by decide) (hts _ q1176) (fun _ h9 => h9) dX4_court_78 ?_
          refine lv_aload_n hx hb dX4_court_81 rfl (lv_at hl 2 rfl) ?_
          obtain ⟨v32, ev32, hf⟩ := bs_ hf
          refine mg_gR hx hb hts hown hKn hH ev32 in_X4 rfl (by decide) (hts _ q1179) (fun _ h9 => h9) dX4_court_82 ?_
          obtain ⟨M34, er33, hf⟩ := bs_ hf
          refine cl_v0 hH (rn_S ⟨hx, hb, hml, hown, hts⟩ hKn hH (mX4_copies l G M12 n v31 v32 M34 er33) (va_cwS 2 hts (lw_S q1263 q1264 q70 q1265) rfl rfl rfl kdX4_copies ⟨Nat.le_of_ble_eq_true rfl, Nat.le_of_ble_eq_true rfl⟩) rfl hl.1 (Nat.le_of_ble_eq_true rfl) dX4_court_85 ⟨(Nat.le_of_ble_eq_true rfl), (Nat.le_of_ble_eq_true rfl)⟩ rfl) (fun H locs hH => ?_)
          refine lv_aload_n hx hb dX4_court_88 rfl (lv_at hl 2 rfl) ?_
          refine lv_iconst (v := 0) hx hb dX4_court_89 (by decide) ?_
          obtain ⟨M35, eM35, hf⟩ := bs_ hf
          refine mg_pF hx hb hts hown hKn hH eM35 in_X4 tyX4_ok nmX4 rfl (by decide) (hts _ q1182) (fun _ h9 => h9) rfl rfl rfl dX4_court_90 (fun H locs hH => ?_)
          exact w93 1000 M35 x0 x1 x2 v30 v29 _ _ ls hH (lv_sub hl [2, 3, 4, 0, 1] rfl) hf
        · have hf := ip_ c44 hf
          refine lv_aload_n hx hb dX4_court_66 rfl (lv_at hl 2 rfl) ?_
          obtain ⟨v36, ev36, hf⟩ := bs_ hf
          refine mg_gI hx hb hts hown hKn hH ev36 in_X4 rfl (by decide) (hts _ q1182) (fun _ h9 => h9) dX4_court_67 ?_
          refine lv_aload_n hx hb dX4_court_70 rfl (lv_at hl 2 rfl) ?_
          obtain ⟨v37, ev37, hf⟩ := bs_ hf
          refine mg_gI hx hb hts hown hKn hH ev37 in_X4 rfl (by decide) (hts _ q1184) (fun _ h9 => h9) dX4_court_71 ?_
          refine lv_icmp_lt (tgt := 41) hx hb dX4_court_74 (by decide) (fun c43 => ?_) (fun c43 => ?_)
          · have hf := ip_ c43 hf
            exact ih M12 x0 x1 x2 v30 v29 _ _ ls hH (lv_sub hl [2, 3, 4, 0, 1] rfl) hf
          · have hf := in_ c43 hf
            refine lv_aload_n hx hb dX4_court_77 rfl (lv_at hl 2 rfl) ?_
            obtain ⟨v38, ev38, hf⟩ := bs_ hf
            refine mg_gR hx hb hts hown hKn hH ev38 in_X4 rfl (by decide) (hts _ q1176) (fun _ h9 => h9) dX4_court_78 ?_
            refine lv_aload_n hx hb dX4_court_81 rfl (lv_at hl 2 rfl) ?_
            obtain ⟨v39, ev39, hf⟩ := bs_ hf
            refine mg_gR hx hb hts hown hKn hH ev39 in_X4 rfl (by decide) (hts _ q1179) (fun _ h9 => h9) dX4_court_82 ?_
            obtain ⟨M41, er40, hf⟩ := bs_ hf
            refine cl_v0 hH (rn_S ⟨hx, hb, hml, hown, hts⟩ hKn hH (mX4_copies l G M12 n v38 v39 M41 er40) (va_cwS 2 hts (lw_S q1263 q1264 q70 q1265) rfl rfl rfl kdX4_copies ⟨Nat.le_of_ble_eq_true rfl, Nat.le_of_ble_eq_true rfl⟩) rfl hl.1 (Nat.le_of_ble_eq_true rfl) dX4_court_85 ⟨(Nat.le_of_ble_eq_true rfl), (Nat.le_of_ble_eq_true rfl)⟩ rfl) (fun H locs hH => ?_)
            refine lv_aload_n hx hb dX4_court_88 rfl (lv_at hl 2 rfl) ?_
            refine lv_iconst (v := 0) hx hb dX4_court_89 (by decide) ?_
            obtain ⟨M42, eM42, hf⟩ := bs_ hf
            refine mg_pF hx hb hts hown hKn hH eM42 in_X4 tyX4_ok nmX4 rfl (by decide) (hts _ q1182) (fun _ h9 => h9) rfl rfl rfl dX4_court_90 (fun H locs hH => ?_)
            exact w93 1000 M42 x0 x1 x2 v30 v29 _ _ ls hH (lv_sub hl [2, 3, 4, 0, 1] rfl) hf
  unfold fX4_court at hf
  refine lv_aload_n hx hb dX4_court_0 rfl (lv_at hl 0 rfl) ?_
  refine lv_iload_n hx hb dX4_court_1 rfl (lv_at hl 1 rfl) ?_
  refine lv_iconst (v := 0) hx hb dX4_court_2 (by decide) ?_
  obtain ⟨u1, eu1, hf⟩ := bs_ hf
  obtain ⟨r2, er2, hf⟩ := bs_ hf
  refine cl_i0 hH (rn_V ⟨hx, hb, hml, hown, hts⟩ hKn hH (mX4_wrongRow l G M n a0 a1 0 r2 er2) (cwV 2 hts (lw_V q1241 q1243 qs38 q70 q1244) rfl rfl rfl ⟨rfl, kdX4_wrongRow⟩ ⟨Nat.le_of_ble_eq_true rfl, Nat.le_of_ble_eq_true rfl⟩) eu1 rfl rfl hl.1 (Nat.le_of_ble_eq_true rfl) dX4_court_3 ⟨(Nat.le_of_ble_eq_true rfl), (Nat.le_of_ble_eq_true rfl)⟩ rfl) (fun H locs hH => ?_)
  refine lv_istore_n (lv' := [(2, .int r2), (0, .ref a0), (1, .int a1)]) hx hb dX4_court_6 rfl hl (by decide) rfl (fun ls hl => ?_)
  refine lv_iload_n hx hb dX4_court_7 rfl (lv_at hl 0 rfl) ?_
  refine lv_if_eq (tgt := 13) hx hb dX4_court_8 (by decide) (fun c9 => ?_) (fun c9 => ?_)
  · have hf := ip_ c9 hf
    refine lv_aload_n hx hb dX4_court_13 rfl (lv_at hl 1 rfl) ?_
    refine lv_bipush (v := 100) hx hb dX4_court_14 (by decide) ?_
    refine lv_iload_n hx hb dX4_court_16 rfl (lv_at hl 2 rfl) ?_
    refine lv_imul hx hb dX4_court_17 ?_
    refine lv_topi (fun v3 ev3 => ?_)
    have hf := lu_ ev3 hf
    obtain ⟨M4, eM4, hf⟩ := bs_ hf
    refine mg_pF hx hb hts hown hKn hH eM4 in_X4 tyX4_ok nmX4 rfl (by decide) (hts _ q1183) (fun _ h9 => h9) rfl rfl rfl dX4_court_18 (fun H locs hH => ?_)
    refine lv_aload_n hx hb dX4_court_21 rfl (lv_at hl 1 rfl) ?_
    refine lv_aload_n hx hb dX4_court_22 rfl (lv_at hl 1 rfl) ?_
    obtain ⟨v5, ev5, hf⟩ := bs_ hf
    refine mg_gR hx hb hts hown hKn hH ev5 in_X4 rfl (by decide) (hts _ q1193) (fun _ h9 => h9) dX4_court_23 ?_
    refine lv_iload_n hx hb dX4_court_26 rfl (lv_at hl 2 rfl) ?_
    obtain ⟨v6, ev6, hf⟩ := bs_ hf
    refine mg_iald hx hb hKn hH ev6 dX4_court_27 ?_
    obtain ⟨M7, eM7, hf⟩ := bs_ hf
    refine mg_pF hx hb hts hown hKn hH eM7 in_X4 tyX4_ok nmX4 rfl (by decide) (hts _ q1184) (fun _ h9 => h9) rfl rfl rfl dX4_court_28 (fun H locs hH => ?_)
    refine lv_aload_n hx hb dX4_court_31 rfl (lv_at hl 1 rfl) ?_
    refine lv_iconst (v := 0) hx hb dX4_court_32 (by decide) ?_
    obtain ⟨M8, eM8, hf⟩ := bs_ hf
    refine mg_pF hx hb hts hown hKn hH eM8 in_X4 tyX4_ok nmX4 rfl (by decide) (hts _ q1182) (fun _ h9 => h9) rfl rfl rfl dX4_court_33 (fun H locs hH => ?_)
    refine lv_iconst (v := 0) hx hb dX4_court_36 (by decide) ?_
    refine lv_istore_n (lv' := [(3, .int 0), (2, .int r2), (0, .ref a0), (1, .int a1)]) hx hb dX4_court_37 rfl hl (by decide) rfl (fun ls hl => ?_)
    refine lv_iconst (v := 0) hx hb dX4_court_38 (by decide) ?_
    refine lv_istore (lv' := [(4, .int 0), (3, .int 0), (2, .int r2), (0, .ref a0), (1, .int a1)]) hx hb dX4_court_39 hl (by decide) rfl (fun ls hl => ?_)
    exact w41 1000 M8 a0 a1 r2 0 0 _ _ ls hH (lv_sub hl [3, 4, 2, 1, 0] rfl) hf
  · have hf := in_ c9 hf
    refine lv_iload_n hx hb dX4_court_11 rfl (lv_at hl 0 rfl) ?_
    cases hf
    exact rt_i hx hb hr hlk hH dX4_court_12
def fX4_stroke (M : Mem_) (a0 : Nat) (a1 : Int32) (a2 : Int32) : Option Int32 :=
  (ck_ M a0 3).bind fun u1 =>
  (fX4_isStroke M a0 a1).bind fun r2 =>
  if (b2_ r2) = 0 then
    some (-1)
  else
    lt_ (fX4_isIn a2 0 4) fun r3 =>
    if (b2_ r3) = 0 then
      some (-1)
    else
      (gR_ M a0 3 0).bind fun v4 =>
      lt_ (fX4_ofS a1 0) fun r5 =>
      (aI_ M v4 0 r5).bind fun v6 =>
      (gR_ M a0 3 0).bind fun v7 =>
      lt_ (fX4_ofS a1 1) fun r8 =>
      (aI_ M v7 0 r8).bind fun v9 =>
      if a2 = 0 then
        some v6
      else
        if a2 = 1 then
          some v9
        else
          if a2 = 2 then
            lt_ (fX4_tiresBy v6 v9) fun r13 =>
            some r13
          else
            if a2 = 3 then
              lt_ (fX4_timeBy v6 v9 0) fun r11 =>
              some r11
            else
              lt_ (fX4_timeBy v6 v9 8) fun r10 =>
              some r10
theorem kdX4_stroke : yX4_stroke.cls ≠ "java/lang/invoke/MethodHandle" ∧ yX4_stroke.cls ≠ "java/lang/invoke/VarHandle" ∧ (parseMethodDescriptor yX4_stroke.desc).map (fun d => d.parameters.length) = some 2 := by decide +kernel
set_option maxHeartbeats 4000000 in
theorem mX4_stroke (l : Launch) (G : GT_) (M : Mem_) (n : Nat) (a0 : Nat) (a1 : Int32) (a2 : Int32) (r : Int32) (hf : fX4_stroke M a0 a1 a2 = some r) : Ct_ G l yX4_stroke (ws_ yX4_stroke cX4_stroke 5 (some .int)) ({ frames := 2, cells := 0, slots := 0, locals := 43 }) 0 0 [.ref a0, .int a1, .int a2] M n (some (.int r)) M n := by
  refine en_ (by decide) (Nat.le_of_ble_eq_true rfl) ?_
  intro p e s m below meth c hx hb hr hlk hml hown hts hname hKn hH ls hl
  have hown : s.vm.findClass RX4 = some m.cls := hown
  have hl : lv_has ls 5 [(0, .ref a0), (1, .int a1), (2, .int a2)] := hl
  unfold fX4_stroke at hf
  generalize s.heap = H at hH ⊢
  refine lv_aload_n hx hb dX4_stroke_0 rfl (lv_at hl 0 rfl) ?_
  refine lv_iload_n hx hb dX4_stroke_1 rfl (lv_at hl 1 rfl) ?_
  obtain ⟨u1, eu1, hf⟩ := bs_ hf
  obtain ⟨r2, er2, hf⟩ := bs_ hf
  refine cl_i0 hH (rn_V ⟨hx, hb, hml, hown, hts⟩ hKn hH (mX4_isStroke l G M n a0 a1 r2 er2) (cwV 1 hts (lw_V q1283 q1285 qs44 q70 q1286) rfl rfl rfl ⟨rfl, kdX4_isStroke⟩ ⟨Nat.le_of_ble_eq_true rfl, Nat.le_of_ble_eq_true rfl⟩) eu1 rfl rfl hl.1 (Nat.le_of_ble_eq_true rfl) dX4_stroke_2 ⟨(Nat.le_of_ble_eq_true rfl), (Nat.le_of_ble_eq_true rfl)⟩ rfl) (fun H locs hH => ?_)
  refine lv_if_eq (tgt := 17) hx hb dX4_stroke_5 (by decide) (fun c18 => ?_) (fun c18 => ?_)
  · have hf := ip_ c18 hf
    refine lv_iconst (v := (-1)) hx hb dX4_stroke_17 (by decide) ?_
    cases hf
    exact rt_i hx hb hr hlk hH dX4_stroke_18
  · have hf := in_ c18 hf
    refine lv_iload_n hx hb dX4_stroke_8 rfl (lv_at hl 2 rfl) ?_
    refine lv_iconst (v := 0) hx hb dX4_stroke_9 (by decide) ?_
    refine lv_iconst (v := 4) hx hb dX4_stroke_10 (by decide) ?_
    obtain ⟨r3, er3⟩ : ∃ z, z = fX4_isIn a2 0 4 := ⟨_, rfl⟩
    have hf := lu_ er3 hf
    refine cl_i0 hH (rn_S ⟨hx, hb, hml, hown, hts⟩ hKn hH (mX4_isIn l G M n a2 0 4 r3 er3.symm) (va_cwS 3 hts (lw_S q1248 q1249 q70 q1250) rfl rfl rfl kdX4_isIn ⟨Nat.le_of_ble_eq_true rfl, Nat.le_of_ble_eq_true rfl⟩) rfl hl.1 (Nat.le_of_ble_eq_true rfl) dX4_stroke_11 ⟨(Nat.le_of_ble_eq_true rfl), (Nat.le_of_ble_eq_true rfl)⟩ rfl) (fun H locs hH => ?_)
    refine lv_if_ne (tgt := 19) hx hb dX4_stroke_14 (by decide) (fun c17 => ?_) (fun c17 => ?_)
    · have hf := in_ c17 hf
      refine lv_aload_n hx hb dX4_stroke_19 rfl (lv_at hl 0 rfl) ?_
      obtain ⟨v4, ev4, hf⟩ := bs_ hf
      refine mg_gR hx hb hts hown hKn hH ev4 in_X4 rfl (by decide) (hts _ q1176) (fun _ h9 => h9) dX4_stroke_20 ?_
      refine lv_iload_n hx hb dX4_stroke_23 rfl (lv_at hl 1 rfl) ?_
      refine lv_iconst (v := 0) hx hb dX4_stroke_24 (by decide) ?_
      obtain ⟨r5, er5⟩ : ∃ z, z = fX4_ofS a1 0 := ⟨_, rfl⟩
      have hf := lu_ er5 hf
      refine cl_i0 hH (rn_S ⟨hx, hb, hml, hown, hts⟩ hKn hH (mX4_ofS l G M n a1 0 r5 er5.symm) (va_cwS 2 hts (lw_S q1274 q1275 q70 q1276) rfl rfl rfl kdX4_ofS ⟨Nat.le_of_ble_eq_true rfl, Nat.le_of_ble_eq_true rfl⟩) rfl hl.1 (Nat.le_of_ble_eq_true rfl) dX4_stroke_25 ⟨(Nat.le_of_ble_eq_true rfl), (Nat.le_of_ble_eq_true rfl)⟩ rfl) (fun H locs hH => ?_)
      obtain ⟨v6, ev6, hf⟩ := bs_ hf
      refine mg_iald hx hb hKn hH ev6 dX4_stroke_28 ?_
      refine lv_istore_n (lv' := [(3, .int v6), (0, .ref a0), (1, .int a1), (2, .int a2)]) hx hb dX4_stroke_29 rfl hl (by decide) rfl (fun ls hl => ?_)
      refine lv_aload_n hx hb dX4_stroke_30 rfl (lv_at hl 1 rfl) ?_
      obtain ⟨v7, ev7, hf⟩ := bs_ hf
      refine mg_gR hx hb hts hown hKn hH ev7 in_X4 rfl (by decide) (hts _ q1176) (fun _ h9 => h9) dX4_stroke_31 ?_
      refine lv_iload_n hx hb dX4_stroke_34 rfl (lv_at hl 2 rfl) ?_
      refine lv_iconst (v := 1) hx hb dX4_stroke_35 (by decide) ?_
      obtain ⟨r8, er8⟩ : ∃ z, z = fX4_ofS a1 1 := ⟨_, rfl⟩
      have hf := lu_ er8 hf
      refine cl_i0 hH (rn_S ⟨hx, hb, hml, hown, hts⟩ hKn hH (mX4_ofS l G M n a1 1 r8 er8.symm) (va_cwS 2 hts (lw_S q1274 q1275 q70 q1276) rfl rfl rfl kdX4_ofS ⟨Nat.le_of_ble_eq_true rfl, Nat.le_of_ble_eq_true rfl⟩) rfl hl.1 (Nat.le_of_ble_eq_true rfl) dX4_stroke_36 ⟨(Nat.le_of_ble_eq_true rfl), (Nat.le_of_ble_eq_true rfl)⟩ rfl) (fun H locs hH => ?_)
      obtain ⟨v9, ev9, hf⟩ := bs_ hf
      refine mg_iald hx hb hKn hH ev9 dX4_stroke_39 ?_
      refine lv_istore (lv' := [(4, .int v9), (3, .int v6), (0, .ref a0), (1, .int a1), (2, .int a2)]) hx hb dX4_stroke_40 hl (by decide) rfl (fun ls hl => ?_)
      refine lv_iload_n hx hb dX4_stroke_42 rfl (lv_at hl 4 rfl) ?_
      refine lv_if_ne (tgt := 50) hx hb dX4_stroke_43 (by decide) (fun c16 => ?_) (fun c16 => ?_)
      · have hf := in_ c16 hf
        refine lv_iload_n hx hb dX4_stroke_50 rfl (lv_at hl 4 rfl) ?_
        refine lv_iconst (v := 1) hx hb dX4_stroke_51 (by decide) ?_
        refine lv_icmp_ne (tgt := 60) hx hb dX4_stroke_52 (by decide) (fun c15 => ?_) (fun c15 => ?_)
        · have hf := in_ c15 hf
          refine lv_iload_n hx hb dX4_stroke_60 rfl (lv_at hl 4 rfl) ?_
          refine lv_iconst (v := 2) hx hb dX4_stroke_61 (by decide) ?_
          refine lv_icmp_ne (tgt := 74) hx hb dX4_stroke_62 (by decide) (fun c14 => ?_) (fun c14 => ?_)
          · have hf := in_ c14 hf
            refine lv_iload_n hx hb dX4_stroke_74 rfl (lv_at hl 1 rfl) ?_
            refine lv_iload hx hb dX4_stroke_75 (lv_at hl 0 rfl) ?_
            refine lv_iload_n hx hb dX4_stroke_77 rfl (lv_at hl 4 rfl) ?_
            refine lv_iconst (v := 3) hx hb dX4_stroke_78 (by decide) ?_
            refine lv_icmp_ne (tgt := 86) hx hb dX4_stroke_79 (by decide) (fun c12 => ?_) (fun c12 => ?_)
            · have hf := in_ c12 hf
              refine lv_bipush (v := 8) hx hb dX4_stroke_86 (by decide) ?_
              obtain ⟨r10, er10⟩ : ∃ z, z = fX4_timeBy v6 v9 8 := ⟨_, rfl⟩
              have hf := lu_ er10 hf
              refine cl_i0 hH (rn_S ⟨hx, hb, hml, hown, hts⟩ hKn hH (mX4_timeBy l G M n v6 v9 8 r10 er10.symm) (va_cwS 3 hts (lw_S q1304 q1305 q70 q1306) rfl rfl rfl kdX4_timeBy ⟨Nat.le_of_ble_eq_true rfl, Nat.le_of_ble_eq_true rfl⟩) rfl hl.1 (Nat.le_of_ble_eq_true rfl) dX4_stroke_88 ⟨(Nat.le_of_ble_eq_true rfl), (Nat.le_of_ble_eq_true rfl)⟩ rfl) (fun H locs hH => ?_)
              cases hf
              exact rt_i hx hb hr hlk hH dX4_stroke_91
            · have hf := ip_ c12 hf
              refine lv_iconst (v := 0) hx hb dX4_stroke_82 (by decide) ?_
              refine lv_goto (tgt := 88) hx hb dX4_stroke_83 (by decide) ?_
              obtain ⟨r11, er11⟩ : ∃ z, z = fX4_timeBy v6 v9 0 := ⟨_, rfl⟩
              have hf := lu_ er11 hf
              refine cl_i0 hH (rn_S ⟨hx, hb, hml, hown, hts⟩ hKn hH (mX4_timeBy l G M n v6 v9 0 r11 er11.symm) (va_cwS 3 hts (lw_S q1304 q1305 q70 q1306) rfl rfl rfl kdX4_timeBy ⟨Nat.le_of_ble_eq_true rfl, Nat.le_of_ble_eq_true rfl⟩) rfl hl.1 (Nat.le_of_ble_eq_true rfl) dX4_stroke_88 ⟨(Nat.le_of_ble_eq_true rfl), (Nat.le_of_ble_eq_true rfl)⟩ rfl) (fun H locs hH => ?_)
              cases hf
              exact rt_i hx hb hr hlk hH dX4_stroke_91
          · have hf := ip_ c14 hf
            refine lv_iload_n hx hb dX4_stroke_65 rfl (lv_at hl 1 rfl) ?_
            refine lv_iload hx hb dX4_stroke_66 (lv_at hl 0 rfl) ?_
            obtain ⟨r13, er13⟩ : ∃ z, z = fX4_tiresBy v6 v9 := ⟨_, rfl⟩
            have hf := lu_ er13 hf
            refine cl_i0 hH (rn_S ⟨hx, hb, hml, hown, hts⟩ hKn hH (mX4_tiresBy l G M n v6 v9 r13 er13.symm) (va_cwS 2 hts (lw_S q1316 q1317 q70 q1318) rfl rfl rfl kdX4_tiresBy ⟨Nat.le_of_ble_eq_true rfl, Nat.le_of_ble_eq_true rfl⟩) rfl hl.1 (Nat.le_of_ble_eq_true rfl) dX4_stroke_68 ⟨(Nat.le_of_ble_eq_true rfl), (Nat.le_of_ble_eq_true rfl)⟩ rfl) (fun H locs hH => ?_)
            refine lv_goto (tgt := 91) hx hb dX4_stroke_71 (by decide) ?_
            cases hf
            exact rt_i hx hb hr hlk hH dX4_stroke_91
        · have hf := ip_ c15 hf
          refine lv_iload hx hb dX4_stroke_55 (lv_at hl 0 rfl) ?_
          refine lv_goto (tgt := 91) hx hb dX4_stroke_57 (by decide) ?_
          cases hf
          exact rt_i hx hb hr hlk hH dX4_stroke_91
      · have hf := ip_ c16 hf
        refine lv_iload_n hx hb dX4_stroke_46 rfl (lv_at hl 1 rfl) ?_
        refine lv_goto (tgt := 91) hx hb dX4_stroke_47 (by decide) ?_
        cases hf
        exact rt_i hx hb hr hlk hH dX4_stroke_91
    · have hf := ip_ c17 hf
      refine lv_iconst (v := (-1)) hx hb dX4_stroke_17 (by decide) ?_
      cases hf
      exact rt_i hx hb hr hlk hH dX4_stroke_18
def fX4_player (M : Mem_) (a0 : Nat) (a1 : Int32) (a2 : Int32) : Option Int32 :=
  lt_ (fX4_isPlayer a1) fun r1 =>
  if (b2_ r1) = 0 then
    some (-1)
  else
    lt_ (fX4_isIn a2 0 4) fun r2 =>
    if (b2_ r2) = 0 then
      some (-1)
    else
      if a2 = 4 then
        (gR_ M a0 3 0).bind fun v6 =>
        (fX4_stepsIn M v6 a1 1).bind fun r7 =>
        some r7
      else
        (gR_ M a0 3 0).bind fun v3 =>
        lt_ (fX4_ofP a1 a2) fun r4 =>
        (aI_ M v3 0 r4).bind fun v5 =>
        some v5
theorem kdX4_player : yX4_player.cls ≠ "java/lang/invoke/MethodHandle" ∧ yX4_player.cls ≠ "java/lang/invoke/VarHandle" ∧ (parseMethodDescriptor yX4_player.desc).map (fun d => d.parameters.length) = some 2 := by decide +kernel
set_option maxHeartbeats 4000000 in
theorem mX4_player (l : Launch) (G : GT_) (M : Mem_) (n : Nat) (a0 : Nat) (a1 : Int32) (a2 : Int32) (r : Int32) (hf : fX4_player M a0 a1 a2 = some r) : Ct_ G l yX4_player (ws_ yX4_player cX4_player 3 (some .int)) ({ frames := 2, cells := 0, slots := 0, locals := 44 }) 0 0 [.ref a0, .int a1, .int a2] M n (some (.int r)) M n := by
  refine en_ (by decide) (Nat.le_of_ble_eq_true rfl) ?_
  intro p e s m below meth c hx hb hr hlk hml hown hts hname hKn hH ls hl
  have hown : s.vm.findClass RX4 = some m.cls := hown
  have hl : lv_has ls 3 [(0, .ref a0), (1, .int a1), (2, .int a2)] := hl
  unfold fX4_player at hf
  generalize s.heap = H at hH ⊢
  refine lv_iload_n hx hb dX4_player_0 rfl (lv_at hl 1 rfl) ?_
  obtain ⟨r1, er1⟩ : ∃ z, z = fX4_isPlayer a1 := ⟨_, rfl⟩
  have hf := lu_ er1 hf
  refine cl_i0 hH (rn_S ⟨hx, hb, hml, hown, hts⟩ hKn hH (mX4_isPlayer l G M n a1 r1 er1.symm) (va_cwS 1 hts (lw_S q1277 q1278 q70 q1279) rfl rfl rfl kdX4_isPlayer ⟨Nat.le_of_ble_eq_true rfl, Nat.le_of_ble_eq_true rfl⟩) rfl hl.1 (Nat.le_of_ble_eq_true rfl) dX4_player_1 ⟨(Nat.le_of_ble_eq_true rfl), (Nat.le_of_ble_eq_true rfl)⟩ rfl) (fun H locs hH => ?_)
  refine lv_if_eq (tgt := 16) hx hb dX4_player_4 (by decide) (fun c10 => ?_) (fun c10 => ?_)
  · have hf := ip_ c10 hf
    refine lv_iconst (v := (-1)) hx hb dX4_player_16 (by decide) ?_
    cases hf
    exact rt_i hx hb hr hlk hH dX4_player_17
  · have hf := in_ c10 hf
    refine lv_iload_n hx hb dX4_player_7 rfl (lv_at hl 2 rfl) ?_
    refine lv_iconst (v := 0) hx hb dX4_player_8 (by decide) ?_
    refine lv_iconst (v := 4) hx hb dX4_player_9 (by decide) ?_
    obtain ⟨r2, er2⟩ : ∃ z, z = fX4_isIn a2 0 4 := ⟨_, rfl⟩
    have hf := lu_ er2 hf
    refine cl_i0 hH (rn_S ⟨hx, hb, hml, hown, hts⟩ hKn hH (mX4_isIn l G M n a2 0 4 r2 er2.symm) (va_cwS 3 hts (lw_S q1248 q1249 q70 q1250) rfl rfl rfl kdX4_isIn ⟨Nat.le_of_ble_eq_true rfl, Nat.le_of_ble_eq_true rfl⟩) rfl hl.1 (Nat.le_of_ble_eq_true rfl) dX4_player_10 ⟨(Nat.le_of_ble_eq_true rfl), (Nat.le_of_ble_eq_true rfl)⟩ rfl) (fun H locs hH => ?_)
    refine lv_if_ne (tgt := 18) hx hb dX4_player_13 (by decide) (fun c9 => ?_) (fun c9 => ?_)
    · have hf := in_ c9 hf
      refine lv_iload_n hx hb dX4_player_18 rfl (lv_at hl 2 rfl) ?_
      refine lv_iconst (v := 4) hx hb dX4_player_19 (by decide) ?_
      refine lv_icmp_ne (tgt := 35) hx hb dX4_player_20 (by decide) (fun c8 => ?_) (fun c8 => ?_)
      · have hf := in_ c8 hf
        refine lv_aload_n hx hb dX4_player_35 rfl (lv_at hl 0 rfl) ?_
        obtain ⟨v3, ev3, hf⟩ := bs_ hf
        refine mg_gR hx hb hts hown hKn hH ev3 in_X4 rfl (by decide) (hts _ q1176) (fun _ h9 => h9) dX4_player_36 ?_
        refine lv_iload_n hx hb dX4_player_39 rfl (lv_at hl 1 rfl) ?_
        refine lv_iload_n hx hb dX4_player_40 rfl (lv_at hl 2 rfl) ?_
        obtain ⟨r4, er4⟩ : ∃ z, z = fX4_ofP a1 a2 := ⟨_, rfl⟩
        have hf := lu_ er4 hf
        refine cl_i0 hH (rn_S ⟨hx, hb, hml, hown, hts⟩ hKn hH (mX4_ofP l G M n a1 a2 r4 er4.symm) (va_cwS 2 hts (lw_S q1170 q1171 q70 q1172) rfl rfl rfl kdX4_ofP ⟨Nat.le_of_ble_eq_true rfl, Nat.le_of_ble_eq_true rfl⟩) rfl hl.1 (Nat.le_of_ble_eq_true rfl) dX4_player_41 ⟨(Nat.le_of_ble_eq_true rfl), (Nat.le_of_ble_eq_true rfl)⟩ rfl) (fun H locs hH => ?_)
        obtain ⟨v5, ev5, hf⟩ := bs_ hf
        refine mg_iald hx hb hKn hH ev5 dX4_player_44 ?_
        cases hf
        exact rt_i hx hb hr hlk hH dX4_player_45
      · have hf := ip_ c8 hf
        refine lv_aload_n hx hb dX4_player_23 rfl (lv_at hl 0 rfl) ?_
        obtain ⟨v6, ev6, hf⟩ := bs_ hf
        refine mg_gR hx hb hts hown hKn hH ev6 in_X4 rfl (by decide) (hts _ q1176) (fun _ h9 => h9) dX4_player_24 ?_
        refine lv_iload_n hx hb dX4_player_27 rfl (lv_at hl 1 rfl) ?_
        refine lv_iconst (v := 1) hx hb dX4_player_28 (by decide) ?_
        obtain ⟨r7, er7, hf⟩ := bs_ hf
        refine cl_i0 hH (rn_S ⟨hx, hb, hml, hown, hts⟩ hKn hH (mX4_stepsIn l G M n v6 a1 1 r7 er7) (va_cwS 3 hts (lw_S q1328 q1329 q70 q1330) rfl rfl rfl kdX4_stepsIn ⟨Nat.le_of_ble_eq_true rfl, Nat.le_of_ble_eq_true rfl⟩) rfl hl.1 (Nat.le_of_ble_eq_true rfl) dX4_player_29 ⟨(Nat.le_of_ble_eq_true rfl), (Nat.le_of_ble_eq_true rfl)⟩ rfl) (fun H locs hH => ?_)
        refine lv_goto (tgt := 45) hx hb dX4_player_32 (by decide) ?_
        cases hf
        exact rt_i hx hb hr hlk hH dX4_player_45
    · have hf := ip_ c9 hf
      refine lv_iconst (v := (-1)) hx hb dX4_player_16 (by decide) ?_
      cases hf
      exact rt_i hx hb hr hlk hH dX4_player_17
def fX4_outOfPlace (M : Mem_) (a0 : Nat) (a1 : Int32) : Option Int32 :=
  (gR_ M a0 3 0).bind fun v1 =>
  (aI_ M v1 0 2).bind fun v2 =>
  lt_ (fX4_sideOf v2) fun r3 =>
  if r3 = a1 then
    (gR_ M a0 3 0).bind fun v17 =>
    (aI_ M v17 0 2).bind fun v18 =>
    (gR_ M a0 3 0).bind fun v19 =>
    lt_ (fX4_partner v18) fun r20 =>
    lt_ (fX4_ofP r20 0) fun r21 =>
    (aI_ M v19 0 r21).bind fun v22 =>
    (gR_ M a0 3 0).bind fun v23 =>
    lt_ (fX4_ofSide a1 0) fun r24 =>
    (aI_ M v23 0 r24).bind fun v25 =>
    (gR_ M a0 3 0).bind fun v26 =>
    lt_ (fX4_ofP v18 0) fun r27 =>
    (aI_ M v26 0 r27).bind fun v28 =>
    lt_ (fX4_placeFor v25 v28) fun r29 =>
    lt_ (fX4_wayOf v22 r29) fun r30 =>
    some r30
  else
    lt_ ((2 * a1)) fun v4 =>
    (gR_ M a0 3 0).bind fun v5 =>
    lt_ (fX4_partner v4) fun r6 =>
    lt_ (fX4_ofP r6 0) fun r7 =>
    (aI_ M v5 0 r7).bind fun v8 =>
    (gR_ M a0 3 0).bind fun v9 =>
    lt_ (fX4_ofSide a1 0) fun r10 =>
    (aI_ M v9 0 r10).bind fun v11 =>
    (gR_ M a0 3 0).bind fun v12 =>
    lt_ (fX4_ofP v4 0) fun r13 =>
    (aI_ M v12 0 r13).bind fun v14 =>
    lt_ (fX4_placeFor v11 v14) fun r15 =>
    lt_ (fX4_wayOf v8 r15) fun r16 =>
    some r16
theorem kdX4_outOfPlace : yX4_outOfPlace.cls ≠ "java/lang/invoke/MethodHandle" ∧ yX4_outOfPlace.cls ≠ "java/lang/invoke/VarHandle" ∧ (parseMethodDescriptor yX4_outOfPlace.desc).map (fun d => d.parameters.length) = some 1 := by decide +kernel
set_option maxHeartbeats 4000000 in
theorem mX4_outOfPlace (l : Launch) (G : GT_) (M : Mem_) (n : Nat) (a0 : Nat) (a1 : Int32) (r : Int32) (hf : fX4_outOfPlace M a0 a1 = some r) : Ct_ G l yX4_outOfPlace (ws_ yX4_outOfPlace cX4_outOfPlace 3 (some .int)) ({ frames := 2, cells := 0, slots := 0, locals := 42 }) 0 0 [.ref a0, .int a1] M n (some (.int r)) M n := by
  refine en_ (by decide) (Nat.le_of_ble_eq_true rfl) ?_
  intro p e s m below meth c hx hb hr hlk hml hown hts hname hKn hH ls hl
  have hown : s.vm.findClass RX4 = some m.cls := hown
  have hl : lv_has ls 3 [(0, .ref a0), (1, .int a1)] := hl
  unfold fX4_outOfPlace at hf
  generalize s.heap = H at hH ⊢
  refine lv_aload_n hx hb dX4_outOfPlace_0 rfl (lv_at hl 0 rfl) ?_
  obtain ⟨v1, ev1, hf⟩ := bs_ hf
  refine mg_gR hx hb hts hown hKn hH ev1 in_X4 rfl (by decide) (hts _ q1176) (fun _ h9 => h9) dX4_outOfPlace_1 ?_
  refine lv_iconst (v := 2) hx hb dX4_outOfPlace_4 (by decide) ?_
  obtain ⟨v2, ev2, hf⟩ := bs_ hf
  refine mg_iald hx hb hKn hH ev2 dX4_outOfPlace_5 ?_
  obtain ⟨r3, er3⟩ : ∃ z, z = fX4_sideOf v2 := ⟨_, rfl⟩
  have hf := lu_ er3 hf
  refine cl_i0 hH (rn_S ⟨hx, hb, hml, hown, hts⟩ hKn hH (mX4_sideOf l G M n v2 r3 er3.symm) (va_cwS 1 hts (lw_S q1295 q1296 q70 q1297) rfl rfl rfl kdX4_sideOf ⟨Nat.le_of_ble_eq_true rfl, Nat.le_of_ble_eq_true rfl⟩) rfl hl.1 (Nat.le_of_ble_eq_true rfl) dX4_outOfPlace_6 ⟨(Nat.le_of_ble_eq_true rfl), (Nat.le_of_ble_eq_true rfl)⟩ rfl) (fun H locs hH => ?_)
  refine lv_iload_n hx hb dX4_outOfPlace_9 rfl (lv_at hl 1 rfl) ?_
  refine lv_icmp_ne (tgt := 22) hx hb dX4_outOfPlace_10 (by decide) (fun c31 => ?_) (fun c31 => ?_)
  · have hf := in_ c31 hf
    refine lv_iconst (v := 2) hx hb dX4_outOfPlace_22 (by decide) ?_
    refine lv_iload_n hx hb dX4_outOfPlace_23 rfl (lv_at hl 1 rfl) ?_
    refine lv_imul hx hb dX4_outOfPlace_24 ?_
    refine lv_topi (fun v4 ev4 => ?_)
    have hf := lu_ ev4 hf
    refine lv_istore_n (lv' := [(2, .int v4), (0, .ref a0), (1, .int a1)]) hx hb dX4_outOfPlace_25 rfl hl (by decide) rfl (fun ls hl => ?_)
    refine lv_aload_n hx hb dX4_outOfPlace_26 rfl (lv_at hl 1 rfl) ?_
    obtain ⟨v5, ev5, hf⟩ := bs_ hf
    refine mg_gR hx hb hts hown hKn hH ev5 in_X4 rfl (by decide) (hts _ q1176) (fun _ h9 => h9) dX4_outOfPlace_27 ?_
    refine lv_iload_n hx hb dX4_outOfPlace_30 rfl (lv_at hl 0 rfl) ?_
    obtain ⟨r6, er6⟩ : ∃ z, z = fX4_partner v4 := ⟨_, rfl⟩
    have hf := lu_ er6 hf
    refine cl_i0 hH (rn_S ⟨hx, hb, hml, hown, hts⟩ hKn hH (mX4_partner l G M n v4 r6 er6.symm) (va_cwS 1 hts (lw_S q1335 q1336 q70 q1337) rfl rfl rfl kdX4_partner ⟨Nat.le_of_ble_eq_true rfl, Nat.le_of_ble_eq_true rfl⟩) rfl hl.1 (Nat.le_of_ble_eq_true rfl) dX4_outOfPlace_31 ⟨(Nat.le_of_ble_eq_true rfl), (Nat.le_of_ble_eq_true rfl)⟩ rfl) (fun H locs hH => ?_)
    refine lv_iconst (v := 0) hx hb dX4_outOfPlace_34 (by decide) ?_
    obtain ⟨r7, er7⟩ : ∃ z, z = fX4_ofP r6 0 := ⟨_, rfl⟩
    have hf := lu_ er7 hf
    refine cl_i0 hH (rn_S ⟨hx, hb, hml, hown, hts⟩ hKn hH (mX4_ofP l G M n r6 0 r7 er7.symm) (va_cwS 2 hts (lw_S q1170 q1171 q70 q1172) rfl rfl rfl kdX4_ofP ⟨Nat.le_of_ble_eq_true rfl, Nat.le_of_ble_eq_true rfl⟩) rfl hl.1 (Nat.le_of_ble_eq_true rfl) dX4_outOfPlace_35 ⟨(Nat.le_of_ble_eq_true rfl), (Nat.le_of_ble_eq_true rfl)⟩ rfl) (fun H locs hH => ?_)
    obtain ⟨v8, ev8, hf⟩ := bs_ hf
    refine mg_iald hx hb hKn hH ev8 dX4_outOfPlace_38 ?_
    refine lv_aload_n hx hb dX4_outOfPlace_39 rfl (lv_at hl 1 rfl) ?_
    obtain ⟨v9, ev9, hf⟩ := bs_ hf
    refine mg_gR hx hb hts hown hKn hH ev9 in_X4 rfl (by decide) (hts _ q1176) (fun _ h9 => h9) dX4_outOfPlace_40 ?_
    refine lv_iload_n hx hb dX4_outOfPlace_43 rfl (lv_at hl 2 rfl) ?_
    refine lv_iconst (v := 0) hx hb dX4_outOfPlace_44 (by decide) ?_
    obtain ⟨r10, er10⟩ : ∃ z, z = fX4_ofSide a1 0 := ⟨_, rfl⟩
    have hf := lu_ er10 hf
    refine cl_i0 hH (rn_S ⟨hx, hb, hml, hown, hts⟩ hKn hH (mX4_ofSide l G M n a1 0 r10 er10.symm) (va_cwS 2 hts (lw_S q1173 q1174 q70 q1175) rfl rfl rfl kdX4_ofSide ⟨Nat.le_of_ble_eq_true rfl, Nat.le_of_ble_eq_true rfl⟩) rfl hl.1 (Nat.le_of_ble_eq_true rfl) dX4_outOfPlace_45 ⟨(Nat.le_of_ble_eq_true rfl), (Nat.le_of_ble_eq_true rfl)⟩ rfl) (fun H locs hH => ?_)
    obtain ⟨v11, ev11, hf⟩ := bs_ hf
    refine mg_iald hx hb hKn hH ev11 dX4_outOfPlace_48 ?_
    refine lv_aload_n hx hb dX4_outOfPlace_49 rfl (lv_at hl 1 rfl) ?_
    obtain ⟨v12, ev12, hf⟩ := bs_ hf
    refine mg_gR hx hb hts hown hKn hH ev12 in_X4 rfl (by decide) (hts _ q1176) (fun _ h9 => h9) dX4_outOfPlace_50 ?_
    refine lv_iload_n hx hb dX4_outOfPlace_53 rfl (lv_at hl 0 rfl) ?_
    refine lv_iconst (v := 0) hx hb dX4_outOfPlace_54 (by decide) ?_
    obtain ⟨r13, er13⟩ : ∃ z, z = fX4_ofP v4 0 := ⟨_, rfl⟩
    have hf := lu_ er13 hf
    refine cl_i0 hH (rn_S ⟨hx, hb, hml, hown, hts⟩ hKn hH (mX4_ofP l G M n v4 0 r13 er13.symm) (va_cwS 2 hts (lw_S q1170 q1171 q70 q1172) rfl rfl rfl kdX4_ofP ⟨Nat.le_of_ble_eq_true rfl, Nat.le_of_ble_eq_true rfl⟩) rfl hl.1 (Nat.le_of_ble_eq_true rfl) dX4_outOfPlace_55 ⟨(Nat.le_of_ble_eq_true rfl), (Nat.le_of_ble_eq_true rfl)⟩ rfl) (fun H locs hH => ?_)
    obtain ⟨v14, ev14, hf⟩ := bs_ hf
    refine mg_iald hx hb hKn hH ev14 dX4_outOfPlace_58 ?_
    obtain ⟨r15, er15⟩ : ∃ z, z = fX4_placeFor v11 v14 := ⟨_, rfl⟩
    have hf := lu_ er15 hf
    refine cl_i0 hH (rn_S ⟨hx, hb, hml, hown, hts⟩ hKn hH (mX4_placeFor l G M n v11 v14 r15 er15.symm) (va_cwS 2 hts (lw_S q1338 q1339 q70 q1340) rfl rfl rfl kdX4_placeFor ⟨Nat.le_of_ble_eq_true rfl, Nat.le_of_ble_eq_true rfl⟩) rfl hl.1 (Nat.le_of_ble_eq_true rfl) dX4_outOfPlace_59 ⟨(Nat.le_of_ble_eq_true rfl), (Nat.le_of_ble_eq_true rfl)⟩ rfl) (fun H locs hH => ?_)
    obtain ⟨r16, er16⟩ : ∃ z, z = fX4_wayOf v8 r15 := ⟨_, rfl⟩
    have hf := lu_ er16 hf
    refine cl_i0 hH (rn_S ⟨hx, hb, hml, hown, hts⟩ hKn hH (mX4_wayOf l G M n v8 r15 r16 er16.symm) (va_cwS 2 hts (lw_S q1310 q1311 q70 q1312) rfl rfl rfl kdX4_wayOf ⟨Nat.le_of_ble_eq_true rfl, Nat.le_of_ble_eq_true rfl⟩) rfl hl.1 (Nat.le_of_ble_eq_true rfl) dX4_outOfPlace_62 ⟨(Nat.le_of_ble_eq_true rfl), (Nat.le_of_ble_eq_true rfl)⟩ rfl) (fun H locs hH => ?_)
    cases hf
    exact rt_i hx hb hr hlk hH dX4_outOfPlace_65
  · have hf := ip_ c31 hf
    refine lv_aload_n hx hb dX4_outOfPlace_13 rfl (lv_at hl 0 rfl) ?_
    obtain ⟨v17, ev17, hf⟩ := bs_ hf
    refine mg_gR hx hb hts hown hKn hH ev17 in_X4 rfl (by decide) (hts _ q1176) (fun _ h9 => h9) dX4_outOfPlace_14 ?_
    refine lv_iconst (v := 2) hx hb dX4_outOfPlace_17 (by decide) ?_
    obtain ⟨v18, ev18, hf⟩ := bs_ hf
    refine mg_iald hx hb hKn hH ev18 dX4_outOfPlace_18 ?_
    refine lv_goto (tgt := 25) hx hb dX4_outOfPlace_19 (by decide) ?_
    refine lv_istore_n (lv' := [(2, .int v18), (0, .ref a0), (1, .int a1)]) hx hb dX4_outOfPlace_25 rfl hl (by decide) rfl (fun ls hl => ?_)
    refine lv_aload_n hx hb dX4_outOfPlace_26 rfl (lv_at hl 1 rfl) ?_
    obtain ⟨v19, ev19, hf⟩ := bs_ hf
    refine mg_gR hx hb hts hown hKn hH ev19 in_X4 rfl (by decide) (hts _ q1176) (fun _ h9 => h9) dX4_outOfPlace_27 ?_
    refine lv_iload_n hx hb dX4_outOfPlace_30 rfl (lv_at hl 0 rfl) ?_
    obtain ⟨r20, er20⟩ : ∃ z, z = fX4_partner v18 := ⟨_, rfl⟩
    have hf := lu_ er20 hf
    refine cl_i0 hH (rn_S ⟨hx, hb, hml, hown, hts⟩ hKn hH (mX4_partner l G M n v18 r20 er20.symm) (va_cwS 1 hts (lw_S q1335 q1336 q70 q1337) rfl rfl rfl kdX4_partner ⟨Nat.le_of_ble_eq_true rfl, Nat.le_of_ble_eq_true rfl⟩) rfl hl.1 (Nat.le_of_ble_eq_true rfl) dX4_outOfPlace_31 ⟨(Nat.le_of_ble_eq_true rfl), (Nat.le_of_ble_eq_true rfl)⟩ rfl) (fun H locs hH => ?_)
    refine lv_iconst (v := 0) hx hb dX4_outOfPlace_34 (by decide) ?_
    obtain ⟨r21, er21⟩ : ∃ z, z = fX4_ofP r20 0 := ⟨_, rfl⟩
    have hf := lu_ er21 hf
    refine cl_i0 hH (rn_S ⟨hx, hb, hml, hown, hts⟩ hKn hH (mX4_ofP l G M n r20 0 r21 er21.symm) (va_cwS 2 hts (lw_S q1170 q1171 q70 q1172) rfl rfl rfl kdX4_ofP ⟨Nat.le_of_ble_eq_true rfl, Nat.le_of_ble_eq_true rfl⟩) rfl hl.1 (Nat.le_of_ble_eq_true rfl) dX4_outOfPlace_35 ⟨(Nat.le_of_ble_eq_true rfl), (Nat.le_of_ble_eq_true rfl)⟩ rfl) (fun H locs hH => ?_)
    obtain ⟨v22, ev22, hf⟩ := bs_ hf
    refine mg_iald hx hb hKn hH ev22 dX4_outOfPlace_38 ?_
    refine lv_aload_n hx hb dX4_outOfPlace_39 rfl (lv_at hl 1 rfl) ?_
    obtain ⟨v23, ev23, hf⟩ := bs_ hf
    refine mg_gR hx hb hts hown hKn hH ev23 in_X4 rfl (by decide) (hts _ q1176) (fun _ h9 => h9) dX4_outOfPlace_40 ?_
    refine lv_iload_n hx hb dX4_outOfPlace_43 rfl (lv_at hl 2 rfl) ?_
    refine lv_iconst (v := 0) hx hb dX4_outOfPlace_44 (by decide) ?_
    obtain ⟨r24, er24⟩ : ∃ z, z = fX4_ofSide a1 0 := ⟨_, rfl⟩
    have hf := lu_ er24 hf
    refine cl_i0 hH (rn_S ⟨hx, hb, hml, hown, hts⟩ hKn hH (mX4_ofSide l G M n a1 0 r24 er24.symm) (va_cwS 2 hts (lw_S q1173 q1174 q70 q1175) rfl rfl rfl kdX4_ofSide ⟨Nat.le_of_ble_eq_true rfl, Nat.le_of_ble_eq_true rfl⟩) rfl hl.1 (Nat.le_of_ble_eq_true rfl) dX4_outOfPlace_45 ⟨(Nat.le_of_ble_eq_true rfl), (Nat.le_of_ble_eq_true rfl)⟩ rfl) (fun H locs hH => ?_)
    obtain ⟨v25, ev25, hf⟩ := bs_ hf
    refine mg_iald hx hb hKn hH ev25 dX4_outOfPlace_48 ?_
    refine lv_aload_n hx hb dX4_outOfPlace_49 rfl (lv_at hl 1 rfl) ?_
    obtain ⟨v26, ev26, hf⟩ := bs_ hf
    refine mg_gR hx hb hts hown hKn hH ev26 in_X4 rfl (by decide) (hts _ q1176) (fun _ h9 => h9) dX4_outOfPlace_50 ?_
    refine lv_iload_n hx hb dX4_outOfPlace_53 rfl (lv_at hl 0 rfl) ?_
    refine lv_iconst (v := 0) hx hb dX4_outOfPlace_54 (by decide) ?_
    obtain ⟨r27, er27⟩ : ∃ z, z = fX4_ofP v18 0 := ⟨_, rfl⟩
    have hf := lu_ er27 hf
    refine cl_i0 hH (rn_S ⟨hx, hb, hml, hown, hts⟩ hKn hH (mX4_ofP l G M n v18 0 r27 er27.symm) (va_cwS 2 hts (lw_S q1170 q1171 q70 q1172) rfl rfl rfl kdX4_ofP ⟨Nat.le_of_ble_eq_true rfl, Nat.le_of_ble_eq_true rfl⟩) rfl hl.1 (Nat.le_of_ble_eq_true rfl) dX4_outOfPlace_55 ⟨(Nat.le_of_ble_eq_true rfl), (Nat.le_of_ble_eq_true rfl)⟩ rfl) (fun H locs hH => ?_)
    obtain ⟨v28, ev28, hf⟩ := bs_ hf
    refine mg_iald hx hb hKn hH ev28 dX4_outOfPlace_58 ?_
    obtain ⟨r29, er29⟩ : ∃ z, z = fX4_placeFor v25 v28 := ⟨_, rfl⟩
    have hf := lu_ er29 hf
    refine cl_i0 hH (rn_S ⟨hx, hb, hml, hown, hts⟩ hKn hH (mX4_placeFor l G M n v25 v28 r29 er29.symm) (va_cwS 2 hts (lw_S q1338 q1339 q70 q1340) rfl rfl rfl kdX4_placeFor ⟨Nat.le_of_ble_eq_true rfl, Nat.le_of_ble_eq_true rfl⟩) rfl hl.1 (Nat.le_of_ble_eq_true rfl) dX4_outOfPlace_59 ⟨(Nat.le_of_ble_eq_true rfl), (Nat.le_of_ble_eq_true rfl)⟩ rfl) (fun H locs hH => ?_)
    obtain ⟨r30, er30⟩ : ∃ z, z = fX4_wayOf v22 r29 := ⟨_, rfl⟩
    have hf := lu_ er30 hf
    refine cl_i0 hH (rn_S ⟨hx, hb, hml, hown, hts⟩ hKn hH (mX4_wayOf l G M n v22 r29 r30 er30.symm) (va_cwS 2 hts (lw_S q1310 q1311 q70 q1312) rfl rfl rfl kdX4_wayOf ⟨Nat.le_of_ble_eq_true rfl, Nat.le_of_ble_eq_true rfl⟩) rfl hl.1 (Nat.le_of_ble_eq_true rfl) dX4_outOfPlace_62 ⟨(Nat.le_of_ble_eq_true rfl), (Nat.le_of_ble_eq_true rfl)⟩ rfl) (fun H locs hH => ?_)
    cases hf
    exact rt_i hx hb hr hlk hH dX4_outOfPlace_65
def fX4_side (M : Mem_) (a0 : Nat) (a1 : Int32) (a2 : Int32) : Option Int32 :=
  lt_ (fX4_isIn a1 0 1) fun r1 =>
  if (b2_ r1) = 0 then
    some (-1)
  else
    lt_ (fX4_isIn a2 0 3) fun r2 =>
    if (b2_ r2) = 0 then
      some (-1)
    else
      if a2 = 3 then
        (ck_ M a0 3).bind fun u6 =>
        (fX4_outOfPlace M a0 a1).bind fun r7 =>
        some r7
      else
        (gR_ M a0 3 0).bind fun v3 =>
        lt_ (fX4_ofSide a1 a2) fun r4 =>
        (aI_ M v3 0 r4).bind fun v5 =>
        some v5
theorem kdX4_side : yX4_side.cls ≠ "java/lang/invoke/MethodHandle" ∧ yX4_side.cls ≠ "java/lang/invoke/VarHandle" ∧ (parseMethodDescriptor yX4_side.desc).map (fun d => d.parameters.length) = some 2 := by decide +kernel
set_option maxHeartbeats 4000000 in
theorem mX4_side (l : Launch) (G : GT_) (M : Mem_) (n : Nat) (a0 : Nat) (a1 : Int32) (a2 : Int32) (r : Int32) (hf : fX4_side M a0 a1 a2 = some r) : Ct_ G l yX4_side (ws_ yX4_side cX4_side 3 (some .int)) ({ frames := 3, cells := 0, slots := 0, locals := 64 }) 0 0 [.ref a0, .int a1, .int a2] M n (some (.int r)) M n := by
  refine en_ (by decide) (Nat.le_of_ble_eq_true rfl) ?_
  intro p e s m below meth c hx hb hr hlk hml hown hts hname hKn hH ls hl
  have hown : s.vm.findClass RX4 = some m.cls := hown
  have hl : lv_has ls 3 [(0, .ref a0), (1, .int a1), (2, .int a2)] := hl
  unfold fX4_side at hf
  generalize s.heap = H at hH ⊢
  refine lv_iload_n hx hb dX4_side_0 rfl (lv_at hl 1 rfl) ?_
  refine lv_iconst (v := 0) hx hb dX4_side_1 (by decide) ?_
  refine lv_iconst (v := 1) hx hb dX4_side_2 (by decide) ?_
  obtain ⟨r1, er1⟩ : ∃ z, z = fX4_isIn a1 0 1 := ⟨_, rfl⟩
  have hf := lu_ er1 hf
  refine cl_i0 hH (rn_S ⟨hx, hb, hml, hown, hts⟩ hKn hH (mX4_isIn l G M n a1 0 1 r1 er1.symm) (va_cwS 3 hts (lw_S q1248 q1249 q70 q1250) rfl rfl rfl kdX4_isIn ⟨Nat.le_of_ble_eq_true rfl, Nat.le_of_ble_eq_true rfl⟩) rfl hl.1 (Nat.le_of_ble_eq_true rfl) dX4_side_3 ⟨(Nat.le_of_ble_eq_true rfl), (Nat.le_of_ble_eq_true rfl)⟩ rfl) (fun H locs hH => ?_)
  refine lv_if_eq (tgt := 18) hx hb dX4_side_6 (by decide) (fun c10 => ?_) (fun c10 => ?_)
  · have hf := ip_ c10 hf
    refine lv_iconst (v := (-1)) hx hb dX4_side_18 (by decide) ?_
    cases hf
    exact rt_i hx hb hr hlk hH dX4_side_19
  · have hf := in_ c10 hf
    refine lv_iload_n hx hb dX4_side_9 rfl (lv_at hl 2 rfl) ?_
    refine lv_iconst (v := 0) hx hb dX4_side_10 (by decide) ?_
    refine lv_iconst (v := 3) hx hb dX4_side_11 (by decide) ?_
    obtain ⟨r2, er2⟩ : ∃ z, z = fX4_isIn a2 0 3 := ⟨_, rfl⟩
    have hf := lu_ er2 hf
    refine cl_i0 hH (rn_S ⟨hx, hb, hml, hown, hts⟩ hKn hH (mX4_isIn l G M n a2 0 3 r2 er2.symm) (va_cwS 3 hts (lw_S q1248 q1249 q70 q1250) rfl rfl rfl kdX4_isIn ⟨Nat.le_of_ble_eq_true rfl, Nat.le_of_ble_eq_true rfl⟩) rfl hl.1 (Nat.le_of_ble_eq_true rfl) dX4_side_12 ⟨(Nat.le_of_ble_eq_true rfl), (Nat.le_of_ble_eq_true rfl)⟩ rfl) (fun H locs hH => ?_)
    refine lv_if_ne (tgt := 20) hx hb dX4_side_15 (by decide) (fun c9 => ?_) (fun c9 => ?_)
    · have hf := in_ c9 hf
      refine lv_iload_n hx hb dX4_side_20 rfl (lv_at hl 2 rfl) ?_
      refine lv_iconst (v := 3) hx hb dX4_side_21 (by decide) ?_
      refine lv_icmp_ne (tgt := 33) hx hb dX4_side_22 (by decide) (fun c8 => ?_) (fun c8 => ?_)
      · have hf := in_ c8 hf
        refine lv_aload_n hx hb dX4_side_33 rfl (lv_at hl 0 rfl) ?_
        obtain ⟨v3, ev3, hf⟩ := bs_ hf
        refine mg_gR hx hb hts hown hKn hH ev3 in_X4 rfl (by decide) (hts _ q1176) (fun _ h9 => h9) dX4_side_34 ?_
        refine lv_iload_n hx hb dX4_side_37 rfl (lv_at hl 1 rfl) ?_
        refine lv_iload_n hx hb dX4_side_38 rfl (lv_at hl 2 rfl) ?_
        obtain ⟨r4, er4⟩ : ∃ z, z = fX4_ofSide a1 a2 := ⟨_, rfl⟩
        have hf := lu_ er4 hf
        refine cl_i0 hH (rn_S ⟨hx, hb, hml, hown, hts⟩ hKn hH (mX4_ofSide l G M n a1 a2 r4 er4.symm) (va_cwS 2 hts (lw_S q1173 q1174 q70 q1175) rfl rfl rfl kdX4_ofSide ⟨Nat.le_of_ble_eq_true rfl, Nat.le_of_ble_eq_true rfl⟩) rfl hl.1 (Nat.le_of_ble_eq_true rfl) dX4_side_39 ⟨(Nat.le_of_ble_eq_true rfl), (Nat.le_of_ble_eq_true rfl)⟩ rfl) (fun H locs hH => ?_)
        obtain ⟨v5, ev5, hf⟩ := bs_ hf
        refine mg_iald hx hb hKn hH ev5 dX4_side_42 ?_
        cases hf
        exact rt_i hx hb hr hlk hH dX4_side_43
      · have hf := ip_ c8 hf
        refine lv_aload_n hx hb dX4_side_25 rfl (lv_at hl 0 rfl) ?_
        refine lv_iload_n hx hb dX4_side_26 rfl (lv_at hl 1 rfl) ?_
        obtain ⟨u6, eu6, hf⟩ := bs_ hf
        obtain ⟨r7, er7, hf⟩ := bs_ hf
        refine cl_i0 hH (rn_V ⟨hx, hb, hml, hown, hts⟩ hKn hH (mX4_outOfPlace l G M n a0 a1 r7 er7) (cwV 1 hts (lw_V q1356 q1358 qs48 q70 q1359) rfl rfl rfl ⟨rfl, kdX4_outOfPlace⟩ ⟨Nat.le_of_ble_eq_true rfl, Nat.le_of_ble_eq_true rfl⟩) eu6 rfl rfl hl.1 (Nat.le_of_ble_eq_true rfl) dX4_side_27 ⟨(Nat.le_of_ble_eq_true rfl), (Nat.le_of_ble_eq_true rfl)⟩ rfl) (fun H locs hH => ?_)
        refine lv_goto (tgt := 43) hx hb dX4_side_30 (by decide) ?_
        cases hf
        exact rt_i hx hb hr hlk hH dX4_side_43
    · have hf := ip_ c9 hf
      refine lv_iconst (v := (-1)) hx hb dX4_side_18 (by decide) ?_
      cases hf
      exact rt_i hx hb hr hlk hH dX4_side_19
def fX4_wrongKept (M : Mem_) (a0 : Nat) (a1 : Int32) : Option Int32 :=
  lt_ (fX4_isShelf a1) fun r1 =>
  if (b2_ r1) = 0 then
    some (-1)
  else
    (gR_ M a0 3 13).bind fun v2 =>
    (aI_ M v2 0 a1).bind fun v3 =>
    if v3 = 0 then
      some (-11)
    else
      (gR_ M a0 3 13).bind fun v4 =>
      (aI_ M v4 0 a1).bind fun v5 =>
      if v5 = 2 then
        some (-12)
      else
        some 0
theorem kdX4_wrongKept : yX4_wrongKept.cls ≠ "java/lang/invoke/MethodHandle" ∧ yX4_wrongKept.cls ≠ "java/lang/invoke/VarHandle" ∧ (parseMethodDescriptor yX4_wrongKept.desc).map (fun d => d.parameters.length) = some 1 := by decide +kernel
set_option maxHeartbeats 4000000 in
theorem mX4_wrongKept (l : Launch) (G : GT_) (M : Mem_) (n : Nat) (a0 : Nat) (a1 : Int32) (r : Int32) (hf : fX4_wrongKept M a0 a1 = some r) : Ct_ G l yX4_wrongKept (ws_ yX4_wrongKept cX4_wrongKept 2 (some .int)) ({ frames := 2, cells := 0, slots := 0, locals := 42 }) 0 0 [.ref a0, .int a1] M n (some (.int r)) M n := by
  refine en_ (by decide) (Nat.le_of_ble_eq_true rfl) ?_
  intro p e s m below meth c hx hb hr hlk hml hown hts hname hKn hH ls hl
  have hown : s.vm.findClass RX4 = some m.cls := hown
  have hl : lv_has ls 2 [(0, .ref a0), (1, .int a1)] := hl
  unfold fX4_wrongKept at hf
  generalize s.heap = H at hH ⊢
  refine lv_iload_n hx hb dX4_wrongKept_0 rfl (lv_at hl 1 rfl) ?_
  obtain ⟨r1, er1⟩ : ∃ z, z = fX4_isShelf a1 := ⟨_, rfl⟩
  have hf := lu_ er1 hf
  refine cl_i0 hH (rn_S ⟨hx, hb, hml, hown, hts⟩ hKn hH (mX4_isShelf l G M n a1 r1 er1.symm) (va_cwS 1 hts (lw_S q1245 q1246 q70 q1247) rfl rfl rfl kdX4_isShelf ⟨Nat.le_of_ble_eq_true rfl, Nat.le_of_ble_eq_true rfl⟩) rfl hl.1 (Nat.le_of_ble_eq_true rfl) dX4_wrongKept_1 ⟨(Nat.le_of_ble_eq_true rfl), (Nat.le_of_ble_eq_true rfl)⟩ rfl) (fun H locs hH => ?_)
  refine lv_if_ne (tgt := 11) hx hb dX4_wrongKept_4 (by decide) (fun c8 => ?_) (fun c8 => ?_)
  · have hf := in_ c8 hf
    refine lv_aload_n hx hb dX4_wrongKept_11 rfl (lv_at hl 0 rfl) ?_
    obtain ⟨v2, ev2, hf⟩ := bs_ hf
    refine mg_gR hx hb hts hown hKn hH ev2 in_X4 rfl (by decide) (hts _ q1189) (fun _ h9 => h9) dX4_wrongKept_12 ?_
    refine lv_iload_n hx hb dX4_wrongKept_15 rfl (lv_at hl 1 rfl) ?_
    obtain ⟨v3, ev3, hf⟩ := bs_ hf
    refine mg_iald hx hb hKn hH ev3 dX4_wrongKept_16 ?_
    refine lv_if_ne (tgt := 25) hx hb dX4_wrongKept_17 (by decide) (fun c7 => ?_) (fun c7 => ?_)
    · have hf := in_ c7 hf
      refine lv_aload_n hx hb dX4_wrongKept_25 rfl (lv_at hl 0 rfl) ?_
      obtain ⟨v4, ev4, hf⟩ := bs_ hf
      refine mg_gR hx hb hts hown hKn hH ev4 in_X4 rfl (by decide) (hts _ q1189) (fun _ h9 => h9) dX4_wrongKept_26 ?_
      refine lv_iload_n hx hb dX4_wrongKept_29 rfl (lv_at hl 1 rfl) ?_
      obtain ⟨v5, ev5, hf⟩ := bs_ hf
      refine mg_iald hx hb hKn hH ev5 dX4_wrongKept_30 ?_
      refine lv_iconst (v := 2) hx hb dX4_wrongKept_31 (by decide) ?_
      refine lv_icmp_ne (tgt := 40) hx hb dX4_wrongKept_32 (by decide) (fun c6 => ?_) (fun c6 => ?_)
      · have hf := in_ c6 hf
        refine lv_iconst (v := 0) hx hb dX4_wrongKept_40 (by decide) ?_
        cases hf
        exact rt_i hx hb hr hlk hH dX4_wrongKept_41
      · have hf := ip_ c6 hf
        refine lv_bipush (v := (-12)) hx hb dX4_wrongKept_35 (by decide) ?_
        refine lv_goto (tgt := 41) hx hb dX4_wrongKept_37 (by decide) ?_
        cases hf
        exact rt_i hx hb hr hlk hH dX4_wrongKept_41
    · have hf := ip_ c7 hf
      refine lv_bipush (v := (-11)) hx hb dX4_wrongKept_20 (by decide) ?_
      refine lv_goto (tgt := 41) hx hb dX4_wrongKept_22 (by decide) ?_
      cases hf
      exact rt_i hx hb hr hlk hH dX4_wrongKept_41
  · have hf := ip_ c8 hf
    refine lv_iconst (v := (-1)) hx hb dX4_wrongKept_7 (by decide) ?_
    refine lv_goto (tgt := 41) hx hb dX4_wrongKept_8 (by decide) ?_
    cases hf
    exact rt_i hx hb hr hlk hH dX4_wrongKept_41
def fX4_learns (M : Mem_) (a0 : Nat) (a1 : Int32) : Option (Int32 × Mem_) :=
  (ck_ M a0 3).bind fun u1 =>
  (fX4_wrongKept M a0 a1).bind fun r2 =>
  if r2 = 0 then
    (gR_ M a0 3 0).bind fun v3 =>
    (aI_ M v3 0 0).bind fun v4 =>
    if v4 = 8 then
      some ((-2), M)
    else
      (gR_ M a0 3 14).bind fun v5 =>
      (aI_ M v5 0 a1).bind fun v6 =>
      (gR_ M a0 3 15).bind fun v7 =>
      (aI_ M v7 0 a1).bind fun v8 =>
      (ck_ M a0 3).bind fun u9 =>
      (fX4_adds M a0 v6 v8).bind fun M11 =>
      (gR_ M11 a0 3 0).bind fun v12 =>
      (aI_ M11 v12 0 0).bind fun v13 =>
      some ((v13 - 1), M11)
  else
    some (r2, M)
theorem kdX4_learns : yX4_learns.cls ≠ "java/lang/invoke/MethodHandle" ∧ yX4_learns.cls ≠ "java/lang/invoke/VarHandle" ∧ (parseMethodDescriptor yX4_learns.desc).map (fun d => d.parameters.length) = some 1 := by decide +kernel
set_option maxHeartbeats 4000000 in
theorem mX4_learns (l : Launch) (G : GT_) (M : Mem_) (n : Nat) (a0 : Nat) (a1 : Int32) (r : Int32) (M1 : Mem_) (hf : fX4_learns M a0 a1 = some (r, M1)) : Ct_ G l yX4_learns (ws_ yX4_learns cX4_learns 3 (some .int)) ({ frames := 3, cells := 0, slots := 0, locals := 63 }) 0 0 [.ref a0, .int a1] M n (some (.int r)) M1 n := by
  refine en_ (by decide) (Nat.le_of_ble_eq_true rfl) ?_
  intro p e s m below meth c hx hb hr hlk hml hown hts hname hKn hH ls hl
  have hown : s.vm.findClass RX4 = some m.cls := hown
  have hl : lv_has ls 3 [(0, .ref a0), (1, .int a1)] := hl
  unfold fX4_learns at hf
  generalize s.heap = H at hH ⊢
  refine lv_aload_n hx hb dX4_learns_0 rfl (lv_at hl 0 rfl) ?_
  refine lv_iload_n hx hb dX4_learns_1 rfl (lv_at hl 1 rfl) ?_
  obtain ⟨u1, eu1, hf⟩ := bs_ hf
  obtain ⟨r2, er2, hf⟩ := bs_ hf
  refine cl_i0 hH (rn_V ⟨hx, hb, hml, hown, hts⟩ hKn hH (mX4_wrongKept l G M n a0 a1 r2 er2) (cwV 1 hts (lw_V q1364 q1366 qs49 q70 q1367) rfl rfl rfl ⟨rfl, kdX4_wrongKept⟩ ⟨Nat.le_of_ble_eq_true rfl, Nat.le_of_ble_eq_true rfl⟩) eu1 rfl rfl hl.1 (Nat.le_of_ble_eq_true rfl) dX4_learns_2 ⟨(Nat.le_of_ble_eq_true rfl), (Nat.le_of_ble_eq_true rfl)⟩ rfl) (fun H locs hH => ?_)
  refine lv_istore_n (lv' := [(2, .int r2), (0, .ref a0), (1, .int a1)]) hx hb dX4_learns_5 rfl hl (by decide) rfl (fun ls hl => ?_)
  refine lv_iload_n hx hb dX4_learns_6 rfl (lv_at hl 0 rfl) ?_
  refine lv_if_eq (tgt := 12) hx hb dX4_learns_7 (by decide) (fun c15 => ?_) (fun c15 => ?_)
  · have hf := ip_ c15 hf
    refine lv_aload_n hx hb dX4_learns_12 rfl (lv_at hl 1 rfl) ?_
    obtain ⟨v3, ev3, hf⟩ := bs_ hf
    refine mg_gR hx hb hts hown hKn hH ev3 in_X4 rfl (by decide) (hts _ q1176) (fun _ h9 => h9) dX4_learns_13 ?_
    refine lv_iconst (v := 0) hx hb dX4_learns_16 (by decide) ?_
    obtain ⟨v4, ev4, hf⟩ := bs_ hf
    refine mg_iald hx hb hKn hH ev4 dX4_learns_17 ?_
    refine lv_bipush (v := 8) hx hb dX4_learns_18 (by decide) ?_
    refine lv_icmp_ne (tgt := 26) hx hb dX4_learns_20 (by decide) (fun c14 => ?_) (fun c14 => ?_)
    · have hf := in_ c14 hf
      refine lv_aload_n hx hb dX4_learns_26 rfl (lv_at hl 1 rfl) ?_
      refine lv_aload_n hx hb dX4_learns_27 rfl (lv_at hl 1 rfl) ?_
      obtain ⟨v5, ev5, hf⟩ := bs_ hf
      refine mg_gR hx hb hts hown hKn hH ev5 in_X4 rfl (by decide) (hts _ q1190) (fun _ h9 => h9) dX4_learns_28 ?_
      refine lv_iload_n hx hb dX4_learns_31 rfl (lv_at hl 2 rfl) ?_
      obtain ⟨v6, ev6, hf⟩ := bs_ hf
      refine mg_iald hx hb hKn hH ev6 dX4_learns_32 ?_
      refine lv_aload_n hx hb dX4_learns_33 rfl (lv_at hl 1 rfl) ?_
      obtain ⟨v7, ev7, hf⟩ := bs_ hf
      refine mg_gR hx hb hts hown hKn hH ev7 in_X4 rfl (by decide) (hts _ q1191) (fun _ h9 => h9) dX4_learns_34 ?_
      refine lv_iload_n hx hb dX4_learns_37 rfl (lv_at hl 2 rfl) ?_
      obtain ⟨v8, ev8, hf⟩ := bs_ hf
      refine mg_iald hx hb hKn hH ev8 dX4_learns_38 ?_
      obtain ⟨u9, eu9, hf⟩ := bs_ hf
      obtain ⟨M11, er10, hf⟩ := bs_ hf
      refine cl_v0 hH (rn_V ⟨hx, hb, hml, hown, hts⟩ hKn hH (mX4_adds l G M n a0 v6 v8 M11 er10) (cwV 2 hts (lw_V q1270 q1272 qs43 q70 q1273) rfl rfl rfl ⟨rfl, kdX4_adds⟩ ⟨Nat.le_of_ble_eq_true rfl, Nat.le_of_ble_eq_true rfl⟩) eu9 rfl rfl hl.1 (Nat.le_of_ble_eq_true rfl) dX4_learns_39 ⟨(Nat.le_of_ble_eq_true rfl), (Nat.le_of_ble_eq_true rfl)⟩ rfl) (fun H locs hH => ?_)
      refine lv_aload_n hx hb dX4_learns_42 rfl (lv_at hl 1 rfl) ?_
      obtain ⟨v12, ev12, hf⟩ := bs_ hf
      refine mg_gR hx hb hts hown hKn hH ev12 in_X4 rfl (by decide) (hts _ q1176) (fun _ h9 => h9) dX4_learns_43 ?_
      refine lv_iconst (v := 0) hx hb dX4_learns_46 (by decide) ?_
      obtain ⟨v13, ev13, hf⟩ := bs_ hf
      refine mg_iald hx hb hKn hH ev13 dX4_learns_47 ?_
      refine lv_iconst (v := 1) hx hb dX4_learns_48 (by decide) ?_
      refine lv_isub hx hb dX4_learns_49 ?_
      cases hf
      exact rt_i hx hb hr hlk hH dX4_learns_50
    · have hf := ip_ c14 hf
      refine lv_bipush (v := (-2)) hx hb dX4_learns_23 (by decide) ?_
      cases hf
      exact rt_i hx hb hr hlk hH dX4_learns_25
  · have hf := in_ c15 hf
    refine lv_iload_n hx hb dX4_learns_10 rfl (lv_at hl 0 rfl) ?_
    cases hf
    exact rt_i hx hb hr hlk hH dX4_learns_11
def fX4_stands (M : Mem_) (a0 : Nat) (a1 : Int32) (a2 : Int32) (a3 : Int32) : Option (Int32 × Mem_) :=
  lt_ (fX4_isPlayer a1) fun r1 =>
  if (b2_ r1) = 0 then
    some ((-1), M)
  else
    lt_ (fX4_isCell a2) fun r2 =>
    if (b2_ r2) = 0 then
      some ((-1), M)
    else
      lt_ (fX4_isIn a3 1 4) fun r3 =>
      if (b2_ r3) = 0 then
        some ((-1), M)
      else
        (gR_ M a0 3 0).bind fun v4 =>
        lt_ (fX4_ofP a1 0) fun r5 =>
        (aI_ M v4 0 r5).bind fun v6 =>
        (gR_ M a0 3 0).bind fun v7 =>
        lt_ (fX4_ofP a1 0) fun r8 =>
        (sI_ M v7 0 r8 a2).bind fun M9 =>
        (gR_ M9 a0 3 0).bind fun v10 =>
        lt_ (fX4_ofP a1 1) fun r11 =>
        (sI_ M9 v10 0 r11 a3).bind fun M12 =>
        some (v6, M12)
theorem kdX4_stands : yX4_stands.cls ≠ "java/lang/invoke/MethodHandle" ∧ yX4_stands.cls ≠ "java/lang/invoke/VarHandle" ∧ (parseMethodDescriptor yX4_stands.desc).map (fun d => d.parameters.length) = some 3 := by decide +kernel
set_option maxHeartbeats 4000000 in
theorem mX4_stands (l : Launch) (G : GT_) (M : Mem_) (n : Nat) (a0 : Nat) (a1 : Int32) (a2 : Int32) (a3 : Int32) (r : Int32) (M1 : Mem_) (hf : fX4_stands M a0 a1 a2 a3 = some (r, M1)) : Ct_ G l yX4_stands (ws_ yX4_stands cX4_stands 5 (some .int)) ({ frames := 2, cells := 0, slots := 0, locals := 42 }) 0 0 [.ref a0, .int a1, .int a2, .int a3] M n (some (.int r)) M1 n := by
  refine en_ (by decide) (Nat.le_of_ble_eq_true rfl) ?_
  intro p e s m below meth c hx hb hr hlk hml hown hts hname hKn hH ls hl
  have hown : s.vm.findClass RX4 = some m.cls := hown
  have hl : lv_has ls 5 [(0, .ref a0), (1, .int a1), (2, .int a2), (3, .int a3)] := hl
  unfold fX4_stands at hf
  generalize s.heap = H at hH ⊢
  refine lv_iload_n hx hb dX4_stands_0 rfl (lv_at hl 1 rfl) ?_
  obtain ⟨r1, er1⟩ : ∃ z, z = fX4_isPlayer a1 := ⟨_, rfl⟩
  have hf := lu_ er1 hf
  refine cl_i0 hH (rn_S ⟨hx, hb, hml, hown, hts⟩ hKn hH (mX4_isPlayer l G M n a1 r1 er1.symm) (va_cwS 1 hts (lw_S q1277 q1278 q70 q1279) rfl rfl rfl kdX4_isPlayer ⟨Nat.le_of_ble_eq_true rfl, Nat.le_of_ble_eq_true rfl⟩) rfl hl.1 (Nat.le_of_ble_eq_true rfl) dX4_stands_1 ⟨(Nat.le_of_ble_eq_true rfl), (Nat.le_of_ble_eq_true rfl)⟩ rfl) (fun H locs hH => ?_)
  refine lv_if_eq (tgt := 23) hx hb dX4_stands_4 (by decide) (fun c15 => ?_) (fun c15 => ?_)
  · have hf := ip_ c15 hf
    refine lv_iconst (v := (-1)) hx hb dX4_stands_23 (by decide) ?_
    cases hf
    exact rt_i hx hb hr hlk hH dX4_stands_24
  · have hf := in_ c15 hf
    refine lv_iload_n hx hb dX4_stands_7 rfl (lv_at hl 2 rfl) ?_
    obtain ⟨r2, er2⟩ : ∃ z, z = fX4_isCell a2 := ⟨_, rfl⟩
    have hf := lu_ er2 hf
    refine cl_i0 hH (rn_S ⟨hx, hb, hml, hown, hts⟩ hKn hH (mX4_isCell l G M n a2 r2 er2.symm) (va_cwS 1 hts (lw_S q1280 q1281 q70 q1282) rfl rfl rfl kdX4_isCell ⟨Nat.le_of_ble_eq_true rfl, Nat.le_of_ble_eq_true rfl⟩) rfl hl.1 (Nat.le_of_ble_eq_true rfl) dX4_stands_8 ⟨(Nat.le_of_ble_eq_true rfl), (Nat.le_of_ble_eq_true rfl)⟩ rfl) (fun H locs hH => ?_)
    refine lv_if_eq (tgt := 23) hx hb dX4_stands_11 (by decide) (fun c14 => ?_) (fun c14 => ?_)
    · have hf := ip_ c14 hf
      refine lv_iconst (v := (-1)) hx hb dX4_stands_23 (by decide) ?_
      cases hf
      exact rt_i hx hb hr hlk hH dX4_stands_24
    · have hf := in_ c14 hf
      refine lv_iload_n hx hb dX4_stands_14 rfl (lv_at hl 3 rfl) ?_
      refine lv_iconst (v := 1) hx hb dX4_stands_15 (by decide) ?_
      refine lv_iconst (v := 4) hx hb dX4_stands_16 (by decide) ?_
      obtain ⟨r3, er3⟩ : ∃ z, z = fX4_isIn a3 1 4 := ⟨_, rfl⟩
      have hf := lu_ er3 hf
      refine cl_i0 hH (rn_S ⟨hx, hb, hml, hown, hts⟩ hKn hH (mX4_isIn l G M n a3 1 4 r3 er3.symm) (va_cwS 3 hts (lw_S q1248 q1249 q70 q1250) rfl rfl rfl kdX4_isIn ⟨Nat.le_of_ble_eq_true rfl, Nat.le_of_ble_eq_true rfl⟩) rfl hl.1 (Nat.le_of_ble_eq_true rfl) dX4_stands_17 ⟨(Nat.le_of_ble_eq_true rfl), (Nat.le_of_ble_eq_true rfl)⟩ rfl) (fun H locs hH => ?_)
      refine lv_if_ne (tgt := 25) hx hb dX4_stands_20 (by decide) (fun c13 => ?_) (fun c13 => ?_)
      · have hf := in_ c13 hf
        refine lv_aload_n hx hb dX4_stands_25 rfl (lv_at hl 0 rfl) ?_
        obtain ⟨v4, ev4, hf⟩ := bs_ hf
        refine mg_gR hx hb hts hown hKn hH ev4 in_X4 rfl (by decide) (hts _ q1176) (fun _ h9 => h9) dX4_stands_26 ?_
        refine lv_iload_n hx hb dX4_stands_29 rfl (lv_at hl 1 rfl) ?_
        refine lv_iconst (v := 0) hx hb dX4_stands_30 (by decide) ?_
        obtain ⟨r5, er5⟩ : ∃ z, z = fX4_ofP a1 0 := ⟨_, rfl⟩
        have hf := lu_ er5 hf
        refine cl_i0 hH (rn_S ⟨hx, hb, hml, hown, hts⟩ hKn hH (mX4_ofP l G M n a1 0 r5 er5.symm) (va_cwS 2 hts (lw_S q1170 q1171 q70 q1172) rfl rfl rfl kdX4_ofP ⟨Nat.le_of_ble_eq_true rfl, Nat.le_of_ble_eq_true rfl⟩) rfl hl.1 (Nat.le_of_ble_eq_true rfl) dX4_stands_31 ⟨(Nat.le_of_ble_eq_true rfl), (Nat.le_of_ble_eq_true rfl)⟩ rfl) (fun H locs hH => ?_)
        obtain ⟨v6, ev6, hf⟩ := bs_ hf
        refine mg_iald hx hb hKn hH ev6 dX4_stands_34 ?_
        refine lv_istore (lv' := [(4, .int v6), (0, .ref a0), (1, .int a1), (2, .int a2), (3, .int a3)]) hx hb dX4_stands_35 hl (by decide) rfl (fun ls hl => ?_)
        refine lv_aload_n hx hb dX4_stands_37 rfl (lv_at hl 1 rfl) ?_
        obtain ⟨v7, ev7, hf⟩ := bs_ hf
        refine mg_gR hx hb hts hown hKn hH ev7 in_X4 rfl (by decide) (hts _ q1176) (fun _ h9 => h9) dX4_stands_38 ?_
        refine lv_iload_n hx hb dX4_stands_41 rfl (lv_at hl 2 rfl) ?_
        refine lv_iconst (v := 0) hx hb dX4_stands_42 (by decide) ?_
        obtain ⟨r8, er8⟩ : ∃ z, z = fX4_ofP a1 0 := ⟨_, rfl⟩
        have hf := lu_ er8 hf
        refine cl_i0 hH (rn_S ⟨hx, hb, hml, hown, hts⟩ hKn hH (mX4_ofP l G M n a1 0 r8 er8.symm) (va_cwS 2 hts (lw_S q1170 q1171 q70 q1172) rfl rfl rfl kdX4_ofP ⟨Nat.le_of_ble_eq_true rfl, Nat.le_of_ble_eq_true rfl⟩) rfl hl.1 (Nat.le_of_ble_eq_true rfl) dX4_stands_43 ⟨(Nat.le_of_ble_eq_true rfl), (Nat.le_of_ble_eq_true rfl)⟩ rfl) (fun H locs hH => ?_)
        refine lv_iload_n hx hb dX4_stands_46 rfl (lv_at hl 3 rfl) ?_
        obtain ⟨M9, eM9, hf⟩ := bs_ hf
        refine mg_iast hx hb hKn hH eM9 dX4_stands_47 (fun H locs hH => ?_)
        refine lv_aload_n hx hb dX4_stands_48 rfl (lv_at hl 1 rfl) ?_
        obtain ⟨v10, ev10, hf⟩ := bs_ hf
        refine mg_gR hx hb hts hown hKn hH ev10 in_X4 rfl (by decide) (hts _ q1176) (fun _ h9 => h9) dX4_stands_49 ?_
        refine lv_iload_n hx hb dX4_stands_52 rfl (lv_at hl 2 rfl) ?_
        refine lv_iconst (v := 1) hx hb dX4_stands_53 (by decide) ?_
        obtain ⟨r11, er11⟩ : ∃ z, z = fX4_ofP a1 1 := ⟨_, rfl⟩
        have hf := lu_ er11 hf
        refine cl_i0 hH (rn_S ⟨hx, hb, hml, hown, hts⟩ hKn hH (mX4_ofP l G M9 n a1 1 r11 er11.symm) (va_cwS 2 hts (lw_S q1170 q1171 q70 q1172) rfl rfl rfl kdX4_ofP ⟨Nat.le_of_ble_eq_true rfl, Nat.le_of_ble_eq_true rfl⟩) rfl hl.1 (Nat.le_of_ble_eq_true rfl) dX4_stands_54 ⟨(Nat.le_of_ble_eq_true rfl), (Nat.le_of_ble_eq_true rfl)⟩ rfl) (fun H locs hH => ?_)
        refine lv_iload_n hx hb dX4_stands_57 rfl (lv_at hl 4 rfl) ?_
        obtain ⟨M12, eM12, hf⟩ := bs_ hf
        refine mg_iast hx hb hKn hH eM12 dX4_stands_58 (fun H locs hH => ?_)
        refine lv_iload hx hb dX4_stands_59 (lv_at hl 0 rfl) ?_
        cases hf
        exact rt_i hx hb hr hlk hH dX4_stands_61
      · have hf := ip_ c13 hf
        refine lv_iconst (v := (-1)) hx hb dX4_stands_23 (by decide) ?_
        cases hf
        exact rt_i hx hb hr hlk hH dX4_stands_24
def fX4_tires (M : Mem_) (a0 : Nat) (a1 : Int32) (a2 : Int32) : Option (Int32 × Mem_) :=
  lt_ (fX4_isPlayer a1) fun r1 =>
  if (b2_ r1) = 0 then
    some ((-1), M)
  else
    lt_ (fX4_isIn a2 0 99) fun r2 =>
    if (b2_ r2) = 0 then
      some ((-1), M)
    else
      (gR_ M a0 3 0).bind fun v3 =>
      lt_ (fX4_ofP a1 2) fun r4 =>
      (aI_ M v3 0 r4).bind fun v5 =>
      (gR_ M a0 3 0).bind fun v6 =>
      lt_ (fX4_ofP a1 2) fun r7 =>
      (sI_ M v6 0 r7 a2).bind fun M8 =>
      some (v5, M8)
theorem kdX4_tires : yX4_tires.cls ≠ "java/lang/invoke/MethodHandle" ∧ yX4_tires.cls ≠ "java/lang/invoke/VarHandle" ∧ (parseMethodDescriptor yX4_tires.desc).map (fun d => d.parameters.length) = some 2 := by decide +kernel
set_option maxHeartbeats 4000000 in
theorem mX4_tires (l : Launch) (G : GT_) (M : Mem_) (n : Nat) (a0 : Nat) (a1 : Int32) (a2 : Int32) (r : Int32) (M1 : Mem_) (hf : fX4_tires M a0 a1 a2 = some (r, M1)) : Ct_ G l yX4_tires (ws_ yX4_tires cX4_tires 4 (some .int)) ({ frames := 2, cells := 0, slots := 0, locals := 42 }) 0 0 [.ref a0, .int a1, .int a2] M n (some (.int r)) M1 n := by
  refine en_ (by decide) (Nat.le_of_ble_eq_true rfl) ?_
  intro p e s m below meth c hx hb hr hlk hml hown hts hname hKn hH ls hl
  have hown : s.vm.findClass RX4 = some m.cls := hown
  have hl : lv_has ls 4 [(0, .ref a0), (1, .int a1), (2, .int a2)] := hl
  unfold fX4_tires at hf
  generalize s.heap = H at hH ⊢
  refine lv_iload_n hx hb dX4_tires_0 rfl (lv_at hl 1 rfl) ?_
  obtain ⟨r1, er1⟩ : ∃ z, z = fX4_isPlayer a1 := ⟨_, rfl⟩
  have hf := lu_ er1 hf
  refine cl_i0 hH (rn_S ⟨hx, hb, hml, hown, hts⟩ hKn hH (mX4_isPlayer l G M n a1 r1 er1.symm) (va_cwS 1 hts (lw_S q1277 q1278 q70 q1279) rfl rfl rfl kdX4_isPlayer ⟨Nat.le_of_ble_eq_true rfl, Nat.le_of_ble_eq_true rfl⟩) rfl hl.1 (Nat.le_of_ble_eq_true rfl) dX4_tires_1 ⟨(Nat.le_of_ble_eq_true rfl), (Nat.le_of_ble_eq_true rfl)⟩ rfl) (fun H locs hH => ?_)
  refine lv_if_eq (tgt := 17) hx hb dX4_tires_4 (by decide) (fun c10 => ?_) (fun c10 => ?_)
  · have hf := ip_ c10 hf
    refine lv_iconst (v := (-1)) hx hb dX4_tires_17 (by decide) ?_
    cases hf
    exact rt_i hx hb hr hlk hH dX4_tires_18
  · have hf := in_ c10 hf
    refine lv_iload_n hx hb dX4_tires_7 rfl (lv_at hl 2 rfl) ?_
    refine lv_iconst (v := 0) hx hb dX4_tires_8 (by decide) ?_
    refine lv_bipush (v := 99) hx hb dX4_tires_9 (by decide) ?_
    obtain ⟨r2, er2⟩ : ∃ z, z = fX4_isIn a2 0 99 := ⟨_, rfl⟩
    have hf := lu_ er2 hf
    refine cl_i0 hH (rn_S ⟨hx, hb, hml, hown, hts⟩ hKn hH (mX4_isIn l G M n a2 0 99 r2 er2.symm) (va_cwS 3 hts (lw_S q1248 q1249 q70 q1250) rfl rfl rfl kdX4_isIn ⟨Nat.le_of_ble_eq_true rfl, Nat.le_of_ble_eq_true rfl⟩) rfl hl.1 (Nat.le_of_ble_eq_true rfl) dX4_tires_11 ⟨(Nat.le_of_ble_eq_true rfl), (Nat.le_of_ble_eq_true rfl)⟩ rfl) (fun H locs hH => ?_)
    refine lv_if_ne (tgt := 19) hx hb dX4_tires_14 (by decide) (fun c9 => ?_) (fun c9 => ?_)
    · have hf := in_ c9 hf
      refine lv_aload_n hx hb dX4_tires_19 rfl (lv_at hl 0 rfl) ?_
      obtain ⟨v3, ev3, hf⟩ := bs_ hf
      refine mg_gR hx hb hts hown hKn hH ev3 in_X4 rfl (by decide) (hts _ q1176) (fun _ h9 => h9) dX4_tires_20 ?_
      refine lv_iload_n hx hb dX4_tires_23 rfl (lv_at hl 1 rfl) ?_
      refine lv_iconst (v := 2) hx hb dX4_tires_24 (by decide) ?_
      obtain ⟨r4, er4⟩ : ∃ z, z = fX4_ofP a1 2 := ⟨_, rfl⟩
      have hf := lu_ er4 hf
      refine cl_i0 hH (rn_S ⟨hx, hb, hml, hown, hts⟩ hKn hH (mX4_ofP l G M n a1 2 r4 er4.symm) (va_cwS 2 hts (lw_S q1170 q1171 q70 q1172) rfl rfl rfl kdX4_ofP ⟨Nat.le_of_ble_eq_true rfl, Nat.le_of_ble_eq_true rfl⟩) rfl hl.1 (Nat.le_of_ble_eq_true rfl) dX4_tires_25 ⟨(Nat.le_of_ble_eq_true rfl), (Nat.le_of_ble_eq_true rfl)⟩ rfl) (fun H locs hH => ?_)
      obtain ⟨v5, ev5, hf⟩ := bs_ hf
      refine mg_iald hx hb hKn hH ev5 dX4_tires_28 ?_
      refine lv_istore_n (lv' := [(3, .int v5), (0, .ref a0), (1, .int a1), (2, .int a2)]) hx hb dX4_tires_29 rfl hl (by decide) rfl (fun ls hl => ?_)
      refine lv_aload_n hx hb dX4_tires_30 rfl (lv_at hl 1 rfl) ?_
      obtain ⟨v6, ev6, hf⟩ := bs_ hf
      refine mg_gR hx hb hts hown hKn hH ev6 in_X4 rfl (by decide) (hts _ q1176) (fun _ h9 => h9) dX4_tires_31 ?_
      refine lv_iload_n hx hb dX4_tires_34 rfl (lv_at hl 2 rfl) ?_
      refine lv_iconst (v := 2) hx hb dX4_tires_35 (by decide) ?_
      obtain ⟨r7, er7⟩ : ∃ z, z = fX4_ofP a1 2 := ⟨_, rfl⟩
      have hf := lu_ er7 hf
      refine cl_i0 hH (rn_S ⟨hx, hb, hml, hown, hts⟩ hKn hH (mX4_ofP l G M n a1 2 r7 er7.symm) (va_cwS 2 hts (lw_S q1170 q1171 q70 q1172) rfl rfl rfl kdX4_ofP ⟨Nat.le_of_ble_eq_true rfl, Nat.le_of_ble_eq_true rfl⟩) rfl hl.1 (Nat.le_of_ble_eq_true rfl) dX4_tires_36 ⟨(Nat.le_of_ble_eq_true rfl), (Nat.le_of_ble_eq_true rfl)⟩ rfl) (fun H locs hH => ?_)
      refine lv_iload_n hx hb dX4_tires_39 rfl (lv_at hl 3 rfl) ?_
      obtain ⟨M8, eM8, hf⟩ := bs_ hf
      refine mg_iast hx hb hKn hH eM8 dX4_tires_40 (fun H locs hH => ?_)
      refine lv_iload_n hx hb dX4_tires_41 rfl (lv_at hl 0 rfl) ?_
      cases hf
      exact rt_i hx hb hr hlk hH dX4_tires_42
    · have hf := ip_ c9 hf
      refine lv_iconst (v := (-1)) hx hb dX4_tires_17 (by decide) ?_
      cases hf
      exact rt_i hx hb hr hlk hH dX4_tires_18
def fX4_hands (M : Mem_) (a0 : Nat) (a1 : Int32) : Option (Int32 × Mem_) :=
  lt_ (fX4_isPlayer a1) fun r1 =>
  if (b2_ r1) = 0 then
    some ((-1), M)
  else
    (gR_ M a0 3 0).bind fun v2 =>
    lt_ (fX4_ofP a1 3) fun r3 =>
    (aI_ M v2 0 r3).bind fun v4 =>
    (sI_ M v2 0 r3 (v4 ^^^ 1)).bind fun M5 =>
    (gR_ M5 a0 3 0).bind fun v6 =>
    lt_ (fX4_ofP a1 3) fun r7 =>
    (aI_ M5 v6 0 r7).bind fun v8 =>
    some (v8, M5)
theorem kdX4_hands : yX4_hands.cls ≠ "java/lang/invoke/MethodHandle" ∧ yX4_hands.cls ≠ "java/lang/invoke/VarHandle" ∧ (parseMethodDescriptor yX4_hands.desc).map (fun d => d.parameters.length) = some 1 := by decide +kernel
set_option maxHeartbeats 4000000 in
theorem mX4_hands (l : Launch) (G : GT_) (M : Mem_) (n : Nat) (a0 : Nat) (a1 : Int32) (r : Int32) (M1 : Mem_) (hf : fX4_hands M a0 a1 = some (r, M1)) : Ct_ G l yX4_hands (ws_ yX4_hands cX4_hands 2 (some .int)) ({ frames := 2, cells := 0, slots := 0, locals := 42 }) 0 0 [.ref a0, .int a1] M n (some (.int r)) M1 n := by
  refine en_ (by decide) (Nat.le_of_ble_eq_true rfl) ?_
  intro p e s m below meth c hx hb hr hlk hml hown hts hname hKn hH ls hl
  have hown : s.vm.findClass RX4 = some m.cls := hown
  have hl : lv_has ls 2 [(0, .ref a0), (1, .int a1)] := hl
  unfold fX4_hands at hf
  generalize s.heap = H at hH ⊢
  refine lv_iload_n hx hb dX4_hands_0 rfl (lv_at hl 1 rfl) ?_
  obtain ⟨r1, er1⟩ : ∃ z, z = fX4_isPlayer a1 := ⟨_, rfl⟩
  have hf := lu_ er1 hf
  refine cl_i0 hH (rn_S ⟨hx, hb, hml, hown, hts⟩ hKn hH (mX4_isPlayer l G M n a1 r1 er1.symm) (va_cwS 1 hts (lw_S q1277 q1278 q70 q1279) rfl rfl rfl kdX4_isPlayer ⟨Nat.le_of_ble_eq_true rfl, Nat.le_of_ble_eq_true rfl⟩) rfl hl.1 (Nat.le_of_ble_eq_true rfl) dX4_hands_1 ⟨(Nat.le_of_ble_eq_true rfl), (Nat.le_of_ble_eq_true rfl)⟩ rfl) (fun H locs hH => ?_)
  refine lv_if_ne (tgt := 9) hx hb dX4_hands_4 (by decide) (fun c9 => ?_) (fun c9 => ?_)
  · have hf := in_ c9 hf
    refine lv_aload_n hx hb dX4_hands_9 rfl (lv_at hl 0 rfl) ?_
    obtain ⟨v2, ev2, hf⟩ := bs_ hf
    refine mg_gR hx hb hts hown hKn hH ev2 in_X4 rfl (by decide) (hts _ q1176) (fun _ h9 => h9) dX4_hands_10 ?_
    refine lv_iload_n hx hb dX4_hands_13 rfl (lv_at hl 1 rfl) ?_
    refine lv_iconst (v := 3) hx hb dX4_hands_14 (by decide) ?_
    obtain ⟨r3, er3⟩ : ∃ z, z = fX4_ofP a1 3 := ⟨_, rfl⟩
    have hf := lu_ er3 hf
    refine cl_i0 hH (rn_S ⟨hx, hb, hml, hown, hts⟩ hKn hH (mX4_ofP l G M n a1 3 r3 er3.symm) (va_cwS 2 hts (lw_S q1170 q1171 q70 q1172) rfl rfl rfl kdX4_ofP ⟨Nat.le_of_ble_eq_true rfl, Nat.le_of_ble_eq_true rfl⟩) rfl hl.1 (Nat.le_of_ble_eq_true rfl) dX4_hands_15 ⟨(Nat.le_of_ble_eq_true rfl), (Nat.le_of_ble_eq_true rfl)⟩ rfl) (fun H locs hH => ?_)
    refine lv_dup2_11 hx hb dX4_hands_18 rfl rfl ?_
    obtain ⟨v4, ev4, hf⟩ := bs_ hf
    refine mg_iald hx hb hKn hH ev4 dX4_hands_19 ?_
    refine lv_iconst (v := 1) hx hb dX4_hands_20 (by decide) ?_
    refine lv_ixor hx hb dX4_hands_21 ?_
    obtain ⟨M5, eM5, hf⟩ := bs_ hf
    refine mg_iast hx hb hKn hH eM5 dX4_hands_22 (fun H locs hH => ?_)
    refine lv_aload_n hx hb dX4_hands_23 rfl (lv_at hl 0 rfl) ?_
    obtain ⟨v6, ev6, hf⟩ := bs_ hf
    refine mg_gR hx hb hts hown hKn hH ev6 in_X4 rfl (by decide) (hts _ q1176) (fun _ h9 => h9) dX4_hands_24 ?_
    refine lv_iload_n hx hb dX4_hands_27 rfl (lv_at hl 1 rfl) ?_
    refine lv_iconst (v := 3) hx hb dX4_hands_28 (by decide) ?_
    obtain ⟨r7, er7⟩ : ∃ z, z = fX4_ofP a1 3 := ⟨_, rfl⟩
    have hf := lu_ er7 hf
    refine cl_i0 hH (rn_S ⟨hx, hb, hml, hown, hts⟩ hKn hH (mX4_ofP l G M5 n a1 3 r7 er7.symm) (va_cwS 2 hts (lw_S q1170 q1171 q70 q1172) rfl rfl rfl kdX4_ofP ⟨Nat.le_of_ble_eq_true rfl, Nat.le_of_ble_eq_true rfl⟩) rfl hl.1 (Nat.le_of_ble_eq_true rfl) dX4_hands_29 ⟨(Nat.le_of_ble_eq_true rfl), (Nat.le_of_ble_eq_true rfl)⟩ rfl) (fun H locs hH => ?_)
    obtain ⟨v8, ev8, hf⟩ := bs_ hf
    refine mg_iald hx hb hKn hH ev8 dX4_hands_32 ?_
    cases hf
    exact rt_i hx hb hr hlk hH dX4_hands_33
  · have hf := ip_ c9 hf
    refine lv_iconst (v := (-1)) hx hb dX4_hands_7 (by decide) ?_
    cases hf
    exact rt_i hx hb hr hlk hH dX4_hands_8
def fX4_forms (M : Mem_) (a0 : Nat) (a1 : Int32) (a2 : Int32) (a3 : Int32) : Option (Int32 × Mem_) :=
  lt_ (fX4_isIn a1 0 1) fun r1 =>
  if (b2_ r1) = 0 then
    some ((-1), M)
  else
    lt_ (fX4_isIn a2 0 1) fun r2 =>
    if (b2_ r2) = 0 then
      some ((-1), M)
    else
      if a2 = 0 then
        lt_ (fX4_isIn a3 0 1) fun r11 =>
        if (b2_ r11) = 0 then
          some ((-1), M)
        else
          (gR_ M a0 3 0).bind fun v12 =>
          lt_ (fX4_ofSide a1 a2) fun r13 =>
          (aI_ M v12 0 r13).bind fun v14 =>
          (gR_ M a0 3 0).bind fun v15 =>
          lt_ (fX4_ofSide a1 a2) fun r16 =>
          (sI_ M v15 0 r16 a3).bind fun M17 =>
          some (v14, M17)
      else
        lt_ (fX4_isIn a3 0 3) fun r3 =>
        if (b2_ r3) = 0 then
          some ((-1), M)
        else
          (gR_ M a0 3 0).bind fun v4 =>
          lt_ (fX4_ofSide a1 a2) fun r5 =>
          (aI_ M v4 0 r5).bind fun v6 =>
          (gR_ M a0 3 0).bind fun v7 =>
          lt_ (fX4_ofSide a1 a2) fun r8 =>
          (sI_ M v7 0 r8 a3).bind fun M9 =>
          some (v6, M9)
theorem kdX4_forms : yX4_forms.cls ≠ "java/lang/invoke/MethodHandle" ∧ yX4_forms.cls ≠ "java/lang/invoke/VarHandle" ∧ (parseMethodDescriptor yX4_forms.desc).map (fun d => d.parameters.length) = some 3 := by decide +kernel
set_option maxHeartbeats 4000000 in
theorem mX4_forms (l : Launch) (G : GT_) (M : Mem_) (n : Nat) (a0 : Nat) (a1 : Int32) (a2 : Int32) (a3 : Int32) (r : Int32) (M1 : Mem_) (hf : fX4_forms M a0 a1 a2 a3 = some (r, M1)) : Ct_ G l yX4_forms (ws_ yX4_forms cX4_forms 5 (some .int)) ({ frames := 1, cells := 0, slots := 0, locals := 22 }) 0 0 [.ref a0, .int a1, .int a2, .int a3] M n (some (.int r)) M1 n := by
  refine en_ (by decide) (Nat.le_of_ble_eq_true rfl) ?_
  intro p e s m below meth c hx hb hr hlk hml hown hts hname hKn hH ls hl
  have hown : s.vm.findClass RX4 = some m.cls := hown
  have hl : lv_has ls 5 [(0, .ref a0), (1, .int a1), (2, .int a2), (3, .int a3)] := hl
  unfold fX4_forms at hf
  generalize s.heap = H at hH ⊢
  refine lv_iload_n hx hb dX4_forms_0 rfl (lv_at hl 1 rfl) ?_
  refine lv_iconst (v := 0) hx hb dX4_forms_1 (by decide) ?_
  refine lv_iconst (v := 1) hx hb dX4_forms_2 (by decide) ?_
  obtain ⟨r1, er1⟩ : ∃ z, z = fX4_isIn a1 0 1 := ⟨_, rfl⟩
  have hf := lu_ er1 hf
  refine cl_i0 hH (rn_S ⟨hx, hb, hml, hown, hts⟩ hKn hH (mX4_isIn l G M n a1 0 1 r1 er1.symm) (va_cwS 3 hts (lw_S q1248 q1249 q70 q1250) rfl rfl rfl kdX4_isIn ⟨Nat.le_of_ble_eq_true rfl, Nat.le_of_ble_eq_true rfl⟩) rfl hl.1 (Nat.le_of_ble_eq_true rfl) dX4_forms_3 ⟨(Nat.le_of_ble_eq_true rfl), (Nat.le_of_ble_eq_true rfl)⟩ rfl) (fun H locs hH => ?_)
  refine lv_if_eq (tgt := 35) hx hb dX4_forms_6 (by decide) (fun c21 => ?_) (fun c21 => ?_)
  · have hf := ip_ c21 hf
    refine lv_iconst (v := (-1)) hx hb dX4_forms_35 (by decide) ?_
    cases hf
    exact rt_i hx hb hr hlk hH dX4_forms_36
  · have hf := in_ c21 hf
    refine lv_iload_n hx hb dX4_forms_9 rfl (lv_at hl 2 rfl) ?_
    refine lv_iconst (v := 0) hx hb dX4_forms_10 (by decide) ?_
    refine lv_iconst (v := 1) hx hb dX4_forms_11 (by decide) ?_
    obtain ⟨r2, er2⟩ : ∃ z, z = fX4_isIn a2 0 1 := ⟨_, rfl⟩
    have hf := lu_ er2 hf
    refine cl_i0 hH (rn_S ⟨hx, hb, hml, hown, hts⟩ hKn hH (mX4_isIn l G M n a2 0 1 r2 er2.symm) (va_cwS 3 hts (lw_S q1248 q1249 q70 q1250) rfl rfl rfl kdX4_isIn ⟨Nat.le_of_ble_eq_true rfl, Nat.le_of_ble_eq_true rfl⟩) rfl hl.1 (Nat.le_of_ble_eq_true rfl) dX4_forms_12 ⟨(Nat.le_of_ble_eq_true rfl), (Nat.le_of_ble_eq_true rfl)⟩ rfl) (fun H locs hH => ?_)
    refine lv_if_eq (tgt := 35) hx hb dX4_forms_15 (by decide) (fun c20 => ?_) (fun c20 => ?_)
    · have hf := ip_ c20 hf
      refine lv_iconst (v := (-1)) hx hb dX4_forms_35 (by decide) ?_
      cases hf
      exact rt_i hx hb hr hlk hH dX4_forms_36
    · have hf := in_ c20 hf
      refine lv_iload_n hx hb dX4_forms_18 rfl (lv_at hl 3 rfl) ?_
      refine lv_iconst (v := 0) hx hb dX4_forms_19 (by decide) ?_
      refine lv_iload_n hx hb dX4_forms_20 rfl (lv_at hl 2 rfl) ?_
      refine lv_if_ne (tgt := 28) hx hb dX4_forms_21 (by decide) (fun c19 => ?_) (fun c19 => ?_)
      · have hf := in_ c19 hf
        refine lv_iconst (v := 3) hx hb dX4_forms_28 (by decide) ?_
        obtain ⟨r3, er3⟩ : ∃ z, z = fX4_isIn a3 0 3 := ⟨_, rfl⟩
        have hf := lu_ er3 hf
        refine cl_i0 hH (rn_S ⟨hx, hb, hml, hown, hts⟩ hKn hH (mX4_isIn l G M n a3 0 3 r3 er3.symm) (va_cwS 3 hts (lw_S q1248 q1249 q70 q1250) rfl rfl rfl kdX4_isIn ⟨Nat.le_of_ble_eq_true rfl, Nat.le_of_ble_eq_true rfl⟩) rfl hl.1 (Nat.le_of_ble_eq_true rfl) dX4_forms_29 ⟨(Nat.le_of_ble_eq_true rfl), (Nat.le_of_ble_eq_true rfl)⟩ rfl) (fun H locs hH => ?_)
        refine lv_if_ne (tgt := 37) hx hb dX4_forms_32 (by decide) (fun c10 => ?_) (fun c10 => ?_)
        · have hf := in_ c10 hf
          refine lv_aload_n hx hb dX4_forms_37 rfl (lv_at hl 0 rfl) ?_
          obtain ⟨v4, ev4, hf⟩ := bs_ hf
          refine mg_gR hx hb hts hown hKn hH ev4 in_X4 rfl (by decide) (hts _ q1176) (fun _ h9 => h9) dX4_forms_38 ?_
          refine lv_iload_n hx hb dX4_forms_41 rfl (lv_at hl 1 rfl) ?_
          refine lv_iload_n hx hb dX4_forms_42 rfl (lv_at hl 2 rfl) ?_
          obtain ⟨r5, er5⟩ : ∃ z, z = fX4_ofSide a1 a2 := ⟨_, rfl⟩
          have hf := lu_ er5 hf
          refine cl_i0 hH (rn_S ⟨hx, hb, hml, hown, hts⟩ hKn hH (mX4_ofSide l G M n a1 a2 r5 er5.symm) (va_cwS 2 hts (lw_S q1173 q1174 q70 q1175) rfl rfl rfl kdX4_ofSide ⟨Nat.le_of_ble_eq_true rfl, Nat.le_of_ble_eq_true rfl⟩) rfl hl.1 (Nat.le_of_ble_eq_true rfl) dX4_forms_43 ⟨(Nat.le_of_ble_eq_true rfl), (Nat.le_of_ble_eq_true rfl)⟩ rfl) (fun H locs hH => ?_)
          obtain ⟨v6, ev6, hf⟩ := bs_ hf
          refine mg_iald hx hb hKn hH ev6 dX4_forms_46 ?_
          refine lv_istore (lv' := [(4, .int v6), (0, .ref a0), (1, .int a1), (2, .int a2), (3, .int a3)]) hx hb dX4_forms_47 hl (by decide) rfl (fun ls hl => ?_)
          refine lv_aload_n hx hb dX4_forms_49 rfl (lv_at hl 1 rfl) ?_
          obtain ⟨v7, ev7, hf⟩ := bs_ hf
          refine mg_gR hx hb hts hown hKn hH ev7 in_X4 rfl (by decide) (hts _ q1176) (fun _ h9 => h9) dX4_forms_50 ?_
          refine lv_iload_n hx hb dX4_forms_53 rfl (lv_at hl 2 rfl) ?_
          refine lv_iload_n hx hb dX4_forms_54 rfl (lv_at hl 3 rfl) ?_
          obtain ⟨r8, er8⟩ : ∃ z, z = fX4_ofSide a1 a2 := ⟨_, rfl⟩
          have hf := lu_ er8 hf
          refine cl_i0 hH (rn_S ⟨hx, hb, hml, hown, hts⟩ hKn hH (mX4_ofSide l G M n a1 a2 r8 er8.symm) (va_cwS 2 hts (lw_S q1173 q1174 q70 q1175) rfl rfl rfl kdX4_ofSide ⟨Nat.le_of_ble_eq_true rfl, Nat.le_of_ble_eq_true rfl⟩) rfl hl.1 (Nat.le_of_ble_eq_true rfl) dX4_forms_55 ⟨(Nat.le_of_ble_eq_true rfl), (Nat.le_of_ble_eq_true rfl)⟩ rfl) (fun H locs hH => ?_)
          refine lv_iload_n hx hb dX4_forms_58 rfl (lv_at hl 4 rfl) ?_
          obtain ⟨M9, eM9, hf⟩ := bs_ hf
          refine mg_iast hx hb hKn hH eM9 dX4_forms_59 (fun H locs hH => ?_)
          refine lv_iload hx hb dX4_forms_60 (lv_at hl 0 rfl) ?_
          cases hf
          exact rt_i hx hb hr hlk hH dX4_forms_62
        · have hf := ip_ c10 hf
          refine lv_iconst (v := (-1)) hx hb dX4_forms_35 (by decide) ?_
          cases hf
          exact rt_i hx hb hr hlk hH dX4_forms_36
      · have hf := ip_ c19 hf
        refine lv_iconst (v := 1) hx hb dX4_forms_24 (by decide) ?_
        refine lv_goto (tgt := 29) hx hb dX4_forms_25 (by decide) ?_
        obtain ⟨r11, er11⟩ : ∃ z, z = fX4_isIn a3 0 1 := ⟨_, rfl⟩
        have hf := lu_ er11 hf
        refine cl_i0 hH (rn_S ⟨hx, hb, hml, hown, hts⟩ hKn hH (mX4_isIn l G M n a3 0 1 r11 er11.symm) (va_cwS 3 hts (lw_S q1248 q1249 q70 q1250) rfl rfl rfl kdX4_isIn ⟨Nat.le_of_ble_eq_true rfl, Nat.le_of_ble_eq_true rfl⟩) rfl hl.1 (Nat.le_of_ble_eq_true rfl) dX4_forms_29 ⟨(Nat.le_of_ble_eq_true rfl), (Nat.le_of_ble_eq_true rfl)⟩ rfl) (fun H locs hH => ?_)
        refine lv_if_ne (tgt := 37) hx hb dX4_forms_32 (by decide) (fun c18 => ?_) (fun c18 => ?_)
        · have hf := in_ c18 hf
          refine lv_aload_n hx hb dX4_forms_37 rfl (lv_at hl 0 rfl) ?_
          obtain ⟨v12, ev12, hf⟩ := bs_ hf
          refine mg_gR hx hb hts hown hKn hH ev12 in_X4 rfl (by decide) (hts _ q1176) (fun _ h9 => h9) dX4_forms_38 ?_
          refine lv_iload_n hx hb dX4_forms_41 rfl (lv_at hl 1 rfl) ?_
          refine lv_iload_n hx hb dX4_forms_42 rfl (lv_at hl 2 rfl) ?_
          obtain ⟨r13, er13⟩ : ∃ z, z = fX4_ofSide a1 a2 := ⟨_, rfl⟩
          have hf := lu_ er13 hf
          refine cl_i0 hH (rn_S ⟨hx, hb, hml, hown, hts⟩ hKn hH (mX4_ofSide l G M n a1 a2 r13 er13.symm) (va_cwS 2 hts (lw_S q1173 q1174 q70 q1175) rfl rfl rfl kdX4_ofSide ⟨Nat.le_of_ble_eq_true rfl, Nat.le_of_ble_eq_true rfl⟩) rfl hl.1 (Nat.le_of_ble_eq_true rfl) dX4_forms_43 ⟨(Nat.le_of_ble_eq_true rfl), (Nat.le_of_ble_eq_true rfl)⟩ rfl) (fun H locs hH => ?_)
          obtain ⟨v14, ev14, hf⟩ := bs_ hf
          refine mg_iald hx hb hKn hH ev14 dX4_forms_46 ?_
          refine lv_istore (lv' := [(4, .int v14), (0, .ref a0), (1, .int a1), (2, .int a2), (3, .int a3)]) hx hb dX4_forms_47 hl (by decide) rfl (fun ls hl => ?_)
          refine lv_aload_n hx hb dX4_forms_49 rfl (lv_at hl 1 rfl) ?_
          obtain ⟨v15, ev15, hf⟩ := bs_ hf
          refine mg_gR hx hb hts hown hKn hH ev15 in_X4 rfl (by decide) (hts _ q1176) (fun _ h9 => h9) dX4_forms_50 ?_
          refine lv_iload_n hx hb dX4_forms_53 rfl (lv_at hl 2 rfl) ?_
          refine lv_iload_n hx hb dX4_forms_54 rfl (lv_at hl 3 rfl) ?_
          obtain ⟨r16, er16⟩ : ∃ z, z = fX4_ofSide a1 a2 := ⟨_, rfl⟩
          have hf := lu_ er16 hf
          refine cl_i0 hH (rn_S ⟨hx, hb, hml, hown, hts⟩ hKn hH (mX4_ofSide l G M n a1 a2 r16 er16.symm) (va_cwS 2 hts (lw_S q1173 q1174 q70 q1175) rfl rfl rfl kdX4_ofSide ⟨Nat.le_of_ble_eq_true rfl, Nat.le_of_ble_eq_true rfl⟩) rfl hl.1 (Nat.le_of_ble_eq_true rfl) dX4_forms_55 ⟨(Nat.le_of_ble_eq_true rfl), (Nat.le_of_ble_eq_true rfl)⟩ rfl) (fun H locs hH => ?_)
          refine lv_iload_n hx hb dX4_forms_58 rfl (lv_at hl 4 rfl) ?_
          obtain ⟨M17, eM17, hf⟩ := bs_ hf
          refine mg_iast hx hb hKn hH eM17 dX4_forms_59 (fun H locs hH => ?_)
          refine lv_iload hx hb dX4_forms_60 (lv_at hl 0 rfl) ?_
          cases hf
          exact rt_i hx hb hr hlk hH dX4_forms_62
        · have hf := ip_ c18 hf
          refine lv_iconst (v := (-1)) hx hb dX4_forms_35 (by decide) ?_
          cases hf
          exact rt_i hx hb hr hlk hH dX4_forms_36
