set_option maxRecDepth 100000
def fX4_ofP (a0 : Int32) (a1 : Int32) : Int32 :=
  ((20 + (4 * a0)) + a1)
theorem kdX4_ofP : yX4_ofP.cls ≠ "java/lang/invoke/MethodHandle" ∧ yX4_ofP.cls ≠ "java/lang/invoke/VarHandle" ∧ (parseMethodDescriptor yX4_ofP.desc).map (fun d => d.parameters.length) = some 2 := by decide +kernel
set_option maxHeartbeats 4000000 in
theorem mX4_ofP (l : Launch) (G : GT_) (M : Mem_) (n : Nat) (a0 : Int32) (a1 : Int32) (r : Int32) (hf : fX4_ofP a0 a1 = r) : Ct_ G l yX4_ofP (ws_ yX4_ofP cX4_ofP 2 (some .int)) ({ frames := 0, cells := 0, slots := 0, locals := 0 }) 0 0 [.int a0, .int a1] M n (some (.int r)) M n := by
  refine en_ (by decide) (Nat.le_of_ble_eq_true rfl) ?_
  intro p e s m below meth c hx hb hr hlk hml hown hts hname hKn hH ls hl
  have hown : s.vm.findClass RX4 = some m.cls := hown
  have hl : lv_has ls 2 [(0, .int a0), (1, .int a1)] := hl
  unfold fX4_ofP at hf
  generalize s.heap = H at hH ⊢
  refine lv_bipush (v := 20) hx hb dX4_ofP_0 (by decide) ?_
  refine lv_iconst (v := 4) hx hb dX4_ofP_2 (by decide) ?_
  refine lv_iload_n hx hb dX4_ofP_3 rfl (lv_at hl 0 rfl) ?_
  refine lv_imul hx hb dX4_ofP_4 ?_
  refine lv_iadd hx hb dX4_ofP_5 ?_
  refine lv_iload_n hx hb dX4_ofP_6 rfl (lv_at hl 1 rfl) ?_
  refine lv_iadd hx hb dX4_ofP_7 ?_
  subst hf
  exact rt_i hx hb hr hlk hH dX4_ofP_8
def fX4_ofSide (a0 : Int32) (a1 : Int32) : Int32 :=
  ((36 + (3 * a0)) + a1)
theorem kdX4_ofSide : yX4_ofSide.cls ≠ "java/lang/invoke/MethodHandle" ∧ yX4_ofSide.cls ≠ "java/lang/invoke/VarHandle" ∧ (parseMethodDescriptor yX4_ofSide.desc).map (fun d => d.parameters.length) = some 2 := by decide +kernel
set_option maxHeartbeats 4000000 in
theorem mX4_ofSide (l : Launch) (G : GT_) (M : Mem_) (n : Nat) (a0 : Int32) (a1 : Int32) (r : Int32) (hf : fX4_ofSide a0 a1 = r) : Ct_ G l yX4_ofSide (ws_ yX4_ofSide cX4_ofSide 2 (some .int)) ({ frames := 0, cells := 0, slots := 0, locals := 0 }) 0 0 [.int a0, .int a1] M n (some (.int r)) M n := by
  refine en_ (by decide) (Nat.le_of_ble_eq_true rfl) ?_
  intro p e s m below meth c hx hb hr hlk hml hown hts hname hKn hH ls hl
  have hown : s.vm.findClass RX4 = some m.cls := hown
  have hl : lv_has ls 2 [(0, .int a0), (1, .int a1)] := hl
  unfold fX4_ofSide at hf
  generalize s.heap = H at hH ⊢
  refine lv_bipush (v := 36) hx hb dX4_ofSide_0 (by decide) ?_
  refine lv_iconst (v := 3) hx hb dX4_ofSide_2 (by decide) ?_
  refine lv_iload_n hx hb dX4_ofSide_3 rfl (lv_at hl 0 rfl) ?_
  refine lv_imul hx hb dX4_ofSide_4 ?_
  refine lv_iadd hx hb dX4_ofSide_5 ?_
  refine lv_iload_n hx hb dX4_ofSide_6 rfl (lv_at hl 1 rfl) ?_
  refine lv_iadd hx hb dX4_ofSide_7 ?_
  subst hf
  exact rt_i hx hb hr hlk hH dX4_ofSide_8
def fX4_init_L101 : Nat → Mem_ → Nat → Nat → Int32 → Option (Mem_ × Nat)
  | 0, _, _, _, _ => none
  | fuel + 1, M, n, x0, x1 =>
    if 4 ≤ x1 then
      (gR_ M x0 3 0).bind fun v25 =>
      lt_ (fX4_ofSide 0 1) fun r26 =>
      (sI_ M v25 0 r26 1).bind fun M27 =>
      (gR_ M27 x0 3 0).bind fun v28 =>
      lt_ (fX4_ofSide 1 1) fun r29 =>
      (sI_ M27 v28 0 r29 1).bind fun M30 =>
      some (M30, n)
    else
      (gR_ M x0 3 0).bind fun v31 =>
      lt_ (fX4_ofP x1 0) fun r32 =>
      if (x1 - x1 / 2 * 2) = 0 then
        (sI_ M v31 0 r32 1).bind fun M38 =>
        (gR_ M38 x0 3 0).bind fun v39 =>
        lt_ (fX4_ofP x1 1) fun r40 =>
        (sI_ M38 v39 0 r40 1).bind fun M41 =>
        lt_ (x1 + 1) fun v42 =>
        fX4_init_L101 fuel M41 n x0 v42
      else
        (sI_ M v31 0 r32 7).bind fun M33 =>
        (gR_ M33 x0 3 0).bind fun v34 =>
        lt_ (fX4_ofP x1 1) fun r35 =>
        (sI_ M33 v34 0 r35 1).bind fun M36 =>
        lt_ (x1 + 1) fun v37 =>
        fX4_init_L101 fuel M36 n x0 v37
def fX4_init (M : Mem_) (n : Nat) (a0 : Nat) : Option (Mem_ × Nat) :=
  lt_ (ms_ M n (eI_ 0 42 (fun _ => 0))) fun M1 =>
  (pF_ M1 a0 3 0 (.ref n)).bind fun M2 =>
  lt_ (ms_ M2 (n + 1) (eI_ 0 42 (fun _ => 0))) fun M3 =>
  (pF_ M3 a0 3 1 (.ref (n + 1))).bind fun M4 =>
  lt_ (ms_ M4 (n + 2) (eI_ 0 42 (fun _ => 0))) fun M5 =>
  (pF_ M5 a0 3 2 (.ref (n + 2))).bind fun M6 =>
  lt_ (ms_ M6 (n + 3) (eI_ 0 42 (fun _ => 0))) fun M7 =>
  (pF_ M7 a0 3 3 (.ref (n + 3))).bind fun M8 =>
  lt_ (ms_ M8 (n + 4) (eI_ 0 4 (fun _ => 0))) fun M9 =>
  (pF_ M9 a0 3 4 (.ref (n + 4))).bind fun M10 =>
  lt_ (ms_ M10 (n + 5) (eI_ 0 3 (fun _ => 0))) fun M11 =>
  (pF_ M11 a0 3 9 (.ref (n + 5))).bind fun M12 =>
  lt_ (ms_ M12 (n + 6) (eI_ 0 8 (fun _ => 0))) fun M13 =>
  (pF_ M13 a0 3 13 (.ref (n + 6))).bind fun M14 =>
  lt_ (ms_ M14 (n + 7) (eI_ 0 8 (fun _ => 0))) fun M15 =>
  (pF_ M15 a0 3 14 (.ref (n + 7))).bind fun M16 =>
  lt_ (ms_ M16 (n + 8) (eI_ 0 8 (fun _ => 0))) fun M17 =>
  (pF_ M17 a0 3 15 (.ref (n + 8))).bind fun M18 =>
  lt_ (ms_ M18 (n + 9) (eI_ 0 8 (fun _ => 0))) fun M19 =>
  (pF_ M19 a0 3 16 (.ref (n + 9))).bind fun M20 =>
  lt_ (ms_ M20 (n + 10) (eI_ 0 8 (fun _ => 0))) fun M21 =>
  (pF_ M21 a0 3 17 (.ref (n + 10))).bind fun M22 =>
  lt_ (ms_ M22 (n + 11) (eI_ 0 800 (fun _ => 0))) fun M23 =>
  (pF_ M23 a0 3 18 (.ref (n + 11))).bind fun M24 =>
  fX4_init_L101 1000 M24 (n + 12) a0 0
theorem kdX4_init : yX4_init.cls ≠ "java/lang/invoke/MethodHandle" ∧ yX4_init.cls ≠ "java/lang/invoke/VarHandle" ∧ (parseMethodDescriptor yX4_init.desc).map (fun d => d.parameters.length) = some 0 := by decide +kernel
set_option maxHeartbeats 4000000 in
theorem mX4_init (l : Launch) (G : GT_) (M : Mem_) (n : Nat) (a0 : Nat) (M1 : Mem_) (n1 : Nat) (hf : fX4_init M n a0 = some (M1, n1)) : Ct_ G l yX4_init (ws_ yX4_init cX4_init 2 none) ({ frames := 1, cells := 12, slots := 1015, locals := 21 }) 12 1015 [.ref a0] M n (none) M1 n1 := by
  refine en_ (by decide) (Nat.le_of_ble_eq_true rfl) ?_
  intro p e s m below meth c hx hb hr hlk hml hown hts hname hKn hH ls hl
  have hown : s.vm.findClass RX4 = some m.cls := hown
  have hl : lv_has ls 2 [(0, .ref a0)] := hl
  have w101 : ∀ (fuel : Nat), ∀ (M : Mem_) (n : Nat) (x0 : Nat) (x1 : Int32) (H : Heap) (locs : List Loc) (ls : Array Slot), St_ G n M s H locs → lv_has ls 2 [(0, .ref x0), (1, .int x1)] → fX4_init_L101 fuel M n x0 x1 = some (M1, n1) → W p l e ({ frames := 1, cells := 12, slots := 1015, locals := 21 } : Room) s m ([.ref a0] : List Value).toArray below meth c H locs 12 1015 (MQ below (Qc_ G (none) M1 n1) ([.ref a0] : List Value).toArray s 12 1015 (fun q => G.1 ≤ q)) (F0 m 101 ls []) := by
    intro fuel
    induction fuel with
    | zero =>
      intro M n x0 x1 H locs ls hH hl hf
      cases hf
    | succ fuel ih =>
      intro M n x0 x1 H locs ls hH hl hf
      unfold fX4_init_L101 at hf
      refine lv_iload_n hx hb dX4_init_101 rfl (lv_at hl 1 rfl) ?_
      refine lv_iconst (v := 4) hx hb dX4_init_102 (by decide) ?_
      refine lv_icmp_ge (tgt := 145) hx hb dX4_init_103 (by decide) (fun c44 => ?_) (fun c44 => ?_)
      · have hf := ip_ c44 hf
        refine lv_aload_n hx hb dX4_init_145 rfl (lv_at hl 0 rfl) ?_
        obtain ⟨v25, ev25, hf⟩ := bs_ hf
        refine mg_gR hx hb hts hown hKn hH ev25 in_X4 rfl (by decide) (hts _ q1176) (fun _ h9 => h9) dX4_init_146 ?_
        refine lv_iconst (v := 0) hx hb dX4_init_149 (by decide) ?_
        refine lv_iconst (v := 1) hx hb dX4_init_150 (by decide) ?_
        obtain ⟨r26, er26⟩ : ∃ z, z = fX4_ofSide 0 1 := ⟨_, rfl⟩
        have hf := lu_ er26 hf
        refine cl_i0 hH (rn_S ⟨hx, hb, hml, hown, hts⟩ hKn hH (mX4_ofSide l G M n 0 1 r26 er26.symm) (va_cwS 2 hts (lw_S q1173 q1174 q70 q1175) rfl rfl rfl kdX4_ofSide ⟨Nat.le_of_ble_eq_true rfl, Nat.le_of_ble_eq_true rfl⟩) rfl hl.1 (Nat.le_of_ble_eq_true rfl) dX4_init_151 ⟨(Nat.le_of_ble_eq_true rfl), (Nat.le_of_ble_eq_true rfl)⟩ rfl) (fun H locs hH => ?_)
        refine lv_iconst (v := 1) hx hb dX4_init_154 (by decide) ?_
        obtain ⟨M27, eM27, hf⟩ := bs_ hf
        refine mg_iast hx hb hKn hH eM27 dX4_init_155 (fun H locs hH => ?_)
        refine lv_aload_n hx hb dX4_init_156 rfl (lv_at hl 0 rfl) ?_
        obtain ⟨v28, ev28, hf⟩ := bs_ hf
        refine mg_gR hx hb hts hown hKn hH ev28 in_X4 rfl (by decide) (hts _ q1176) (fun _ h9 => h9) dX4_init_157 ?_
        refine lv_iconst (v := 1) hx hb dX4_init_160 (by decide) ?_
        refine lv_iconst (v := 1) hx hb dX4_init_161 (by decide) ?_
        obtain ⟨r29, er29⟩ : ∃ z, z = fX4_ofSide 1 1 := ⟨_, rfl⟩
        have hf := lu_ er29 hf
        refine cl_i0 hH (rn_S ⟨hx, hb, hml, hown, hts⟩ hKn hH (mX4_ofSide l G M27 n 1 1 r29 er29.symm) (va_cwS 2 hts (lw_S q1173 q1174 q70 q1175) rfl rfl rfl kdX4_ofSide ⟨Nat.le_of_ble_eq_true rfl, Nat.le_of_ble_eq_true rfl⟩) rfl hl.1 (Nat.le_of_ble_eq_true rfl) dX4_init_162 ⟨(Nat.le_of_ble_eq_true rfl), (Nat.le_of_ble_eq_true rfl)⟩ rfl) (fun H locs hH => ?_)
        refine lv_iconst (v := 1) hx hb dX4_init_165 (by decide) ?_
        obtain ⟨M30, eM30, hf⟩ := bs_ hf
        refine mg_iast hx hb hKn hH eM30 dX4_init_166 (fun H locs hH => ?_)
        cases hf
        refine W.widen (k := 12) (n := 1015) (Nat.le_of_ble_eq_true rfl) (Nat.le_of_ble_eq_true rfl) ?_
        exact rt_v hx hb hr hlk hH dX4_init_167
      · have hf := in_ c44 hf
        refine lv_aload_n hx hb dX4_init_106 rfl (lv_at hl 0 rfl) ?_
        obtain ⟨v31, ev31, hf⟩ := bs_ hf
        refine mg_gR hx hb hts hown hKn hH ev31 in_X4 rfl (by decide) (hts _ q1176) (fun _ h9 => h9) dX4_init_107 ?_
        refine lv_iload_n hx hb dX4_init_110 rfl (lv_at hl 1 rfl) ?_
        refine lv_iconst (v := 0) hx hb dX4_init_111 (by decide) ?_
        obtain ⟨r32, er32⟩ : ∃ z, z = fX4_ofP x1 0 := ⟨_, rfl⟩
        have hf := lu_ er32 hf
        refine cl_i0 hH (rn_S ⟨hx, hb, hml, hown, hts⟩ hKn hH (mX4_ofP l G M n x1 0 r32 er32.symm) (va_cwS 2 hts (lw_S q1170 q1171 q70 q1172) rfl rfl rfl kdX4_ofP ⟨Nat.le_of_ble_eq_true rfl, Nat.le_of_ble_eq_true rfl⟩) rfl hl.1 (Nat.le_of_ble_eq_true rfl) dX4_init_112 ⟨(Nat.le_of_ble_eq_true rfl), (Nat.le_of_ble_eq_true rfl)⟩ rfl) (fun H locs hH => ?_)
        refine lv_iload_n hx hb dX4_init_115 rfl (lv_at hl 1 rfl) ?_
        refine lv_iconst (v := 2) hx hb dX4_init_116 (by decide) ?_
        refine lv_irem hx hb dX4_init_117 (by decide) ?_
        refine lv_if_ne (tgt := 125) hx hb dX4_init_118 (by decide) (fun c43 => ?_) (fun c43 => ?_)
        · have hf := in_ c43 hf
          refine lv_bipush (v := 7) hx hb dX4_init_125 (by decide) ?_
          obtain ⟨M33, eM33, hf⟩ := bs_ hf
          refine mg_iast hx hb hKn hH eM33 dX4_init_127 (fun H locs hH => ?_)
          refine lv_aload_n hx hb dX4_init_128 rfl (lv_at hl 0 rfl) ?_
          obtain ⟨v34, ev34, hf⟩ := bs_ hf
          refine mg_gR hx hb hts hown hKn hH ev34 in_X4 rfl (by decide) (hts _ q1176) (fun _ h9 => h9) dX4_init_129 ?_
          refine lv_iload_n hx hb dX4_init_132 rfl (lv_at hl 1 rfl) ?_
          refine lv_iconst (v := 1) hx hb dX4_init_133 (by decide) ?_
          obtain ⟨r35, er35⟩ : ∃ z, z = fX4_ofP x1 1 := ⟨_, rfl⟩
          have hf := lu_ er35 hf
          refine cl_i0 hH (rn_S ⟨hx, hb, hml, hown, hts⟩ hKn hH (mX4_ofP l G M33 n x1 1 r35 er35.symm) (va_cwS 2 hts (lw_S q1170 q1171 q70 q1172) rfl rfl rfl kdX4_ofP ⟨Nat.le_of_ble_eq_true rfl, Nat.le_of_ble_eq_true rfl⟩) rfl hl.1 (Nat.le_of_ble_eq_true rfl) dX4_init_134 ⟨(Nat.le_of_ble_eq_true rfl), (Nat.le_of_ble_eq_true rfl)⟩ rfl) (fun H locs hH => ?_)
          refine lv_iconst (v := 1) hx hb dX4_init_137 (by decide) ?_
          obtain ⟨M36, eM36, hf⟩ := bs_ hf
          refine mg_iast hx hb hKn hH eM36 dX4_init_138 (fun H locs hH => ?_)
          obtain ⟨v37, ev37⟩ : ∃ z : Int32, z = x1 + 1 := ⟨_, rfl⟩
          have hf := lu_ ev37 hf
          refine lv_iinc (v := v37) (lv' := [(1, .int v37), (0, .ref x0)]) hx hb dX4_init_139 hl (k := 1) rfl (by rw [ev37]; rfl) (by decide) rfl (fun ls hl => ?_)
          refine lv_goto (tgt := 101) hx hb dX4_init_142 (by decide) ?_
          exact ih M36 n x0 v37 _ _ ls hH (lv_sub hl [1, 0] rfl) hf
        · have hf := ip_ c43 hf
          refine lv_iconst (v := 1) hx hb dX4_init_121 (by decide) ?_
          refine lv_goto (tgt := 127) hx hb dX4_init_122 (by decide) ?_
          obtain ⟨M38, eM38, hf⟩ := bs_ hf
          refine mg_iast hx hb hKn hH eM38 dX4_init_127 (fun H locs hH => ?_)
          refine lv_aload_n hx hb dX4_init_128 rfl (lv_at hl 0 rfl) ?_
          obtain ⟨v39, ev39, hf⟩ := bs_ hf
          refine mg_gR hx hb hts hown hKn hH ev39 in_X4 rfl (by decide) (hts _ q1176) (fun _ h9 => h9) dX4_init_129 ?_
          refine lv_iload_n hx hb dX4_init_132 rfl (lv_at hl 1 rfl) ?_
          refine lv_iconst (v := 1) hx hb dX4_init_133 (by decide) ?_
          obtain ⟨r40, er40⟩ : ∃ z, z = fX4_ofP x1 1 := ⟨_, rfl⟩
          have hf := lu_ er40 hf
          refine cl_i0 hH (rn_S ⟨hx, hb, hml, hown, hts⟩ hKn hH (mX4_ofP l G M38 n x1 1 r40 er40.symm) (va_cwS 2 hts (lw_S q1170 q1171 q70 q1172) rfl rfl rfl kdX4_ofP ⟨Nat.le_of_ble_eq_true rfl, Nat.le_of_ble_eq_true rfl⟩) rfl hl.1 (Nat.le_of_ble_eq_true rfl) dX4_init_134 ⟨(Nat.le_of_ble_eq_true rfl), (Nat.le_of_ble_eq_true rfl)⟩ rfl) (fun H locs hH => ?_)
          refine lv_iconst (v := 1) hx hb dX4_init_137 (by decide) ?_
          obtain ⟨M41, eM41, hf⟩ := bs_ hf
          refine mg_iast hx hb hKn hH eM41 dX4_init_138 (fun H locs hH => ?_)
          obtain ⟨v42, ev42⟩ : ∃ z : Int32, z = x1 + 1 := ⟨_, rfl⟩
          have hf := lu_ ev42 hf
          refine lv_iinc (v := v42) (lv' := [(1, .int v42), (0, .ref x0)]) hx hb dX4_init_139 hl (k := 1) rfl (by rw [ev42]; rfl) (by decide) rfl (fun ls hl => ?_)
          refine lv_goto (tgt := 101) hx hb dX4_init_142 (by decide) ?_
          exact ih M41 n x0 v42 _ _ ls hH (lv_sub hl [1, 0] rfl) hf
  unfold fX4_init at hf
  refine lv_aload_n hx hb dX4_init_0 rfl (lv_at hl 0 rfl) ?_
  refine W.objInit hx hb hown (hts _ q1169) (hts _ q116) (hts _ q117) rfl (by rw [hml]; exact hl.1) rfl dX4_init_1 (Nat.le_of_ble_eq_true rfl) (Nat.le_of_ble_eq_true rfl) ?_
  refine W.eq (g2 := F0 m 4 ls []) rfl ?_
  refine lv_aload_n hx hb dX4_init_4 rfl (lv_at hl 0 rfl) ?_
  refine lv_bipush (v := 42) hx hb dX4_init_5 (by decide) ?_
  refine mg_newa hx hb hKn hH 0 (by decide) rfl (hts _ q255) (N := 42) (by decide) (by decide) (by decide) (Nat.le_of_ble_eq_true rfl) (Nat.le_of_ble_eq_true rfl) dX4_init_7 (fun H hH => ?_)
  obtain ⟨M1, eM1⟩ : ∃ z : Mem_, z = ms_ M n (eI_ 0 42 (fun _ => 0)) := ⟨_, rfl⟩
  have hf := lu_ eM1 hf
  have hH := st_eq eM1 hH
  refine W.widen (k := 1) (n := 42) (Nat.le_of_ble_eq_true rfl) (Nat.le_of_ble_eq_true rfl) ?_
  obtain ⟨M2, eM2, hf⟩ := bs_ hf
  refine mg_pFF hx hb hts hown hKn hH eM2 in_X4 tyX4_ok nmX4 rfl (by decide) (hts _ q1176) (fun _ h9 => h9) rfl hname rfl rfl rfl dX4_init_9 (fun H locs hH => ?_)
  refine lv_aload_n hx hb dX4_init_12 rfl (lv_at hl 0 rfl) ?_
  refine lv_bipush (v := 42) hx hb dX4_init_13 (by decide) ?_
  refine mg_newa hx hb hKn hH 0 (by decide) rfl (hts _ q255) (N := 42) (by decide) (by decide) (by decide) (Nat.le_of_ble_eq_true rfl) (Nat.le_of_ble_eq_true rfl) dX4_init_15 (fun H hH => ?_)
  obtain ⟨M3, eM3⟩ : ∃ z : Mem_, z = ms_ M2 (n + 1) (eI_ 0 42 (fun _ => 0)) := ⟨_, rfl⟩
  have hf := lu_ eM3 hf
  have hH := st_eq eM3 hH
  refine W.widen (k := 2) (n := 84) (Nat.le_of_ble_eq_true rfl) (Nat.le_of_ble_eq_true rfl) ?_
  obtain ⟨M4, eM4, hf⟩ := bs_ hf
  refine mg_pFF hx hb hts hown hKn hH eM4 in_X4 tyX4_ok nmX4 rfl (by decide) (hts _ q1177) (fun _ h9 => h9) rfl hname rfl rfl rfl dX4_init_17 (fun H locs hH => ?_)
  refine lv_aload_n hx hb dX4_init_20 rfl (lv_at hl 0 rfl) ?_
  refine lv_bipush (v := 42) hx hb dX4_init_21 (by decide) ?_
  refine mg_newa hx hb hKn hH 0 (by decide) rfl (hts _ q255) (N := 42) (by decide) (by decide) (by decide) (Nat.le_of_ble_eq_true rfl) (Nat.le_of_ble_eq_true rfl) dX4_init_23 (fun H hH => ?_)
  obtain ⟨M5, eM5⟩ : ∃ z : Mem_, z = ms_ M4 (n + 2) (eI_ 0 42 (fun _ => 0)) := ⟨_, rfl⟩
  have hf := lu_ eM5 hf
  have hH := st_eq eM5 hH
  refine W.widen (k := 3) (n := 126) (Nat.le_of_ble_eq_true rfl) (Nat.le_of_ble_eq_true rfl) ?_
  obtain ⟨M6, eM6, hf⟩ := bs_ hf
  refine mg_pFF hx hb hts hown hKn hH eM6 in_X4 tyX4_ok nmX4 rfl (by decide) (hts _ q1178) (fun _ h9 => h9) rfl hname rfl rfl rfl dX4_init_25 (fun H locs hH => ?_)
  refine lv_aload_n hx hb dX4_init_28 rfl (lv_at hl 0 rfl) ?_
  refine lv_bipush (v := 42) hx hb dX4_init_29 (by decide) ?_
  refine mg_newa hx hb hKn hH 0 (by decide) rfl (hts _ q255) (N := 42) (by decide) (by decide) (by decide) (Nat.le_of_ble_eq_true rfl) (Nat.le_of_ble_eq_true rfl) dX4_init_31 (fun H hH => ?_)
  obtain ⟨M7, eM7⟩ : ∃ z : Mem_, z = ms_ M6 (n + 3) (eI_ 0 42 (fun _ => 0)) := ⟨_, rfl⟩
  have hf := lu_ eM7 hf
  have hH := st_eq eM7 hH
  refine W.widen (k := 4) (n := 168) (Nat.le_of_ble_eq_true rfl) (Nat.le_of_ble_eq_true rfl) ?_
  obtain ⟨M8, eM8, hf⟩ := bs_ hf
  refine mg_pFF hx hb hts hown hKn hH eM8 in_X4 tyX4_ok nmX4 rfl (by decide) (hts _ q1179) (fun _ h9 => h9) rfl hname rfl rfl rfl dX4_init_33 (fun H locs hH => ?_)
  refine lv_aload_n hx hb dX4_init_36 rfl (lv_at hl 0 rfl) ?_
  refine lv_iconst (v := 4) hx hb dX4_init_37 (by decide) ?_
  refine mg_newa hx hb hKn hH 0 (by decide) rfl (hts _ q255) (N := 4) (by decide) (by decide) (by decide) (Nat.le_of_ble_eq_true rfl) (Nat.le_of_ble_eq_true rfl) dX4_init_38 (fun H hH => ?_)
  obtain ⟨M9, eM9⟩ : ∃ z : Mem_, z = ms_ M8 (n + 4) (eI_ 0 4 (fun _ => 0)) := ⟨_, rfl⟩
  have hf := lu_ eM9 hf
  have hH := st_eq eM9 hH
  refine W.widen (k := 5) (n := 172) (Nat.le_of_ble_eq_true rfl) (Nat.le_of_ble_eq_true rfl) ?_
  obtain ⟨M10, eM10, hf⟩ := bs_ hf
  refine mg_pFF hx hb hts hown hKn hH eM10 in_X4 tyX4_ok nmX4 rfl (by decide) (hts _ q1180) (fun _ h9 => h9) rfl hname rfl rfl rfl dX4_init_40 (fun H locs hH => ?_)
  refine lv_aload_n hx hb dX4_init_43 rfl (lv_at hl 0 rfl) ?_
  refine lv_iconst (v := 3) hx hb dX4_init_44 (by decide) ?_
  refine mg_newa hx hb hKn hH 0 (by decide) rfl (hts _ q255) (N := 3) (by decide) (by decide) (by decide) (Nat.le_of_ble_eq_true rfl) (Nat.le_of_ble_eq_true rfl) dX4_init_45 (fun H hH => ?_)
  obtain ⟨M11, eM11⟩ : ∃ z : Mem_, z = ms_ M10 (n + 5) (eI_ 0 3 (fun _ => 0)) := ⟨_, rfl⟩
  have hf := lu_ eM11 hf
  have hH := st_eq eM11 hH
  refine W.widen (k := 6) (n := 175) (Nat.le_of_ble_eq_true rfl) (Nat.le_of_ble_eq_true rfl) ?_
  obtain ⟨M12, eM12, hf⟩ := bs_ hf
  refine mg_pFF hx hb hts hown hKn hH eM12 in_X4 tyX4_ok nmX4 rfl (by decide) (hts _ q1185) (fun _ h9 => h9) rfl hname rfl rfl rfl dX4_init_47 (fun H locs hH => ?_)
  refine lv_aload_n hx hb dX4_init_50 rfl (lv_at hl 0 rfl) ?_
  refine lv_bipush (v := 8) hx hb dX4_init_51 (by decide) ?_
  refine mg_newa hx hb hKn hH 0 (by decide) rfl (hts _ q255) (N := 8) (by decide) (by decide) (by decide) (Nat.le_of_ble_eq_true rfl) (Nat.le_of_ble_eq_true rfl) dX4_init_53 (fun H hH => ?_)
  obtain ⟨M13, eM13⟩ : ∃ z : Mem_, z = ms_ M12 (n + 6) (eI_ 0 8 (fun _ => 0)) := ⟨_, rfl⟩
  have hf := lu_ eM13 hf
  have hH := st_eq eM13 hH
  refine W.widen (k := 7) (n := 183) (Nat.le_of_ble_eq_true rfl) (Nat.le_of_ble_eq_true rfl) ?_
  obtain ⟨M14, eM14, hf⟩ := bs_ hf
  refine mg_pFF hx hb hts hown hKn hH eM14 in_X4 tyX4_ok nmX4 rfl (by decide) (hts _ q1189) (fun _ h9 => h9) rfl hname rfl rfl rfl dX4_init_55 (fun H locs hH => ?_)
  refine lv_aload_n hx hb dX4_init_58 rfl (lv_at hl 0 rfl) ?_
  refine lv_bipush (v := 8) hx hb dX4_init_59 (by decide) ?_
  refine mg_newa hx hb hKn hH 0 (by decide) rfl (hts _ q255) (N := 8) (by decide) (by decide) (by decide) (Nat.le_of_ble_eq_true rfl) (Nat.le_of_ble_eq_true rfl) dX4_init_61 (fun H hH => ?_)
  obtain ⟨M15, eM15⟩ : ∃ z : Mem_, z = ms_ M14 (n + 7) (eI_ 0 8 (fun _ => 0)) := ⟨_, rfl⟩
  have hf := lu_ eM15 hf
  have hH := st_eq eM15 hH
  refine W.widen (k := 8) (n := 191) (Nat.le_of_ble_eq_true rfl) (Nat.le_of_ble_eq_true rfl) ?_
  obtain ⟨M16, eM16, hf⟩ := bs_ hf
  refine mg_pFF hx hb hts hown hKn hH eM16 in_X4 tyX4_ok nmX4 rfl (by decide) (hts _ q1190) (fun _ h9 => h9) rfl hname rfl rfl rfl dX4_init_63 (fun H locs hH => ?_)
  refine lv_aload_n hx hb dX4_init_66 rfl (lv_at hl 0 rfl) ?_
  refine lv_bipush (v := 8) hx hb dX4_init_67 (by decide) ?_
  refine mg_newa hx hb hKn hH 0 (by decide) rfl (hts _ q255) (N := 8) (by decide) (by decide) (by decide) (Nat.le_of_ble_eq_true rfl) (Nat.le_of_ble_eq_true rfl) dX4_init_69 (fun H hH => ?_)
  obtain ⟨M17, eM17⟩ : ∃ z : Mem_, z = ms_ M16 (n + 8) (eI_ 0 8 (fun _ => 0)) := ⟨_, rfl⟩
  have hf := lu_ eM17 hf
  have hH := st_eq eM17 hH
  refine W.widen (k := 9) (n := 199) (Nat.le_of_ble_eq_true rfl) (Nat.le_of_ble_eq_true rfl) ?_
  obtain ⟨M18, eM18, hf⟩ := bs_ hf
  refine mg_pFF hx hb hts hown hKn hH eM18 in_X4 tyX4_ok nmX4 rfl (by decide) (hts _ q1191) (fun _ h9 => h9) rfl hname rfl rfl rfl dX4_init_71 (fun H locs hH => ?_)
  refine lv_aload_n hx hb dX4_init_74 rfl (lv_at hl 0 rfl) ?_
  refine lv_bipush (v := 8) hx hb dX4_init_75 (by decide) ?_
  refine mg_newa hx hb hKn hH 0 (by decide) rfl (hts _ q255) (N := 8) (by decide) (by decide) (by decide) (Nat.le_of_ble_eq_true rfl) (Nat.le_of_ble_eq_true rfl) dX4_init_77 (fun H hH => ?_)
  obtain ⟨M19, eM19⟩ : ∃ z : Mem_, z = ms_ M18 (n + 9) (eI_ 0 8 (fun _ => 0)) := ⟨_, rfl⟩
  have hf := lu_ eM19 hf
  have hH := st_eq eM19 hH
  refine W.widen (k := 10) (n := 207) (Nat.le_of_ble_eq_true rfl) (Nat.le_of_ble_eq_true rfl) ?_
  obtain ⟨M20, eM20, hf⟩ := bs_ hf
  refine mg_pFF hx hb hts hown hKn hH eM20 in_X4 tyX4_ok nmX4 rfl (by decide) (hts _ q1192) (fun _ h9 => h9) rfl hname rfl rfl rfl dX4_init_79 (fun H locs hH => ?_)
  refine lv_aload_n hx hb dX4_init_82 rfl (lv_at hl 0 rfl) ?_
  refine lv_bipush (v := 8) hx hb dX4_init_83 (by decide) ?_
  refine mg_newa hx hb hKn hH 0 (by decide) rfl (hts _ q255) (N := 8) (by decide) (by decide) (by decide) (Nat.le_of_ble_eq_true rfl) (Nat.le_of_ble_eq_true rfl) dX4_init_85 (fun H hH => ?_)
  obtain ⟨M21, eM21⟩ : ∃ z : Mem_, z = ms_ M20 (n + 10) (eI_ 0 8 (fun _ => 0)) := ⟨_, rfl⟩
  have hf := lu_ eM21 hf
  have hH := st_eq eM21 hH
  refine W.widen (k := 11) (n := 215) (Nat.le_of_ble_eq_true rfl) (Nat.le_of_ble_eq_true rfl) ?_
  obtain ⟨M22, eM22, hf⟩ := bs_ hf
  refine mg_pFF hx hb hts hown hKn hH eM22 in_X4 tyX4_ok nmX4 rfl (by decide) (hts _ q1193) (fun _ h9 => h9) rfl hname rfl rfl rfl dX4_init_87 (fun H locs hH => ?_)
  refine lv_aload_n hx hb dX4_init_90 rfl (lv_at hl 0 rfl) ?_
  refine lv_sipush (v := 800) hx hb dX4_init_91 (by decide) ?_
  refine mg_newa hx hb hKn hH 0 (by decide) rfl (hts _ q255) (N := 800) (by decide) (by decide) (by decide) (Nat.le_of_ble_eq_true rfl) (Nat.le_of_ble_eq_true rfl) dX4_init_94 (fun H hH => ?_)
  obtain ⟨M23, eM23⟩ : ∃ z : Mem_, z = ms_ M22 (n + 11) (eI_ 0 800 (fun _ => 0)) := ⟨_, rfl⟩
  have hf := lu_ eM23 hf
  have hH := st_eq eM23 hH
  refine W.widen (k := 12) (n := 1015) (Nat.le_of_ble_eq_true rfl) (Nat.le_of_ble_eq_true rfl) ?_
  obtain ⟨M24, eM24, hf⟩ := bs_ hf
  refine mg_pFF hx hb hts hown hKn hH eM24 in_X4 tyX4_ok nmX4 rfl (by decide) (hts _ q1194) (fun _ h9 => h9) rfl hname rfl rfl rfl dX4_init_96 (fun H locs hH => ?_)
  refine lv_iconst (v := 0) hx hb dX4_init_99 (by decide) ?_
  refine lv_istore_n (lv' := [(1, .int 0), (0, .ref a0)]) hx hb dX4_init_100 rfl hl (by decide) rfl (fun ls hl => ?_)
  exact w101 1000 M24 (n + 12) a0 0 _ _ ls hH (lv_sub hl [1, 0] rfl) hf
def fX4_isIn (a0 : Int32) (a1 : Int32) (a2 : Int32) : Bool :=
  if a0 < a1 then
    false
  else
    if a2 < a0 then
      false
    else
      true
theorem kdX4_isIn : yX4_isIn.cls ≠ "java/lang/invoke/MethodHandle" ∧ yX4_isIn.cls ≠ "java/lang/invoke/VarHandle" ∧ (parseMethodDescriptor yX4_isIn.desc).map (fun d => d.parameters.length) = some 3 := by decide +kernel
set_option maxHeartbeats 4000000 in
theorem mX4_isIn (l : Launch) (G : GT_) (M : Mem_) (n : Nat) (a0 : Int32) (a1 : Int32) (a2 : Int32) (r : Bool) (hf : fX4_isIn a0 a1 a2 = r) : Ct_ G l yX4_isIn (ws_ yX4_isIn cX4_isIn 3 (some .boolean)) ({ frames := 0, cells := 0, slots := 0, locals := 0 }) 0 0 [.int a0, .int a1, .int a2] M n (some (.int (b2_ r))) M n := by
  refine en_ (by decide) (Nat.le_of_ble_eq_true rfl) ?_
  intro p e s m below meth c hx hb hr hlk hml hown hts hname hKn hH ls hl
  have hown : s.vm.findClass RX4 = some m.cls := hown
  have hl : lv_has ls 3 [(0, .int a0), (1, .int a1), (2, .int a2)] := hl
  unfold fX4_isIn at hf
  generalize s.heap = H at hH ⊢
  refine lv_iload_n hx hb dX4_isIn_0 rfl (lv_at hl 0 rfl) ?_
  refine lv_iload_n hx hb dX4_isIn_1 rfl (lv_at hl 1 rfl) ?_
  refine lv_icmp_lt (tgt := 14) hx hb dX4_isIn_2 (by decide) (fun c2 => ?_) (fun c2 => ?_)
  · have hf := ip_ c2 hf
    refine lv_iconst (v := 0) hx hb dX4_isIn_14 (by decide) ?_
    subst hf
    exact rt_b (b := false) hx hb hr hlk hH dX4_isIn_15
  · have hf := in_ c2 hf
    refine lv_iload_n hx hb dX4_isIn_5 rfl (lv_at hl 0 rfl) ?_
    refine lv_iload_n hx hb dX4_isIn_6 rfl (lv_at hl 2 rfl) ?_
    refine lv_icmp_gt (tgt := 14) hx hb dX4_isIn_7 (by decide) (fun c1 => ?_) (fun c1 => ?_)
    · have hf := ip_ c1 hf
      refine lv_iconst (v := 0) hx hb dX4_isIn_14 (by decide) ?_
      subst hf
      exact rt_b (b := false) hx hb hr hlk hH dX4_isIn_15
    · have hf := in_ c1 hf
      refine lv_iconst (v := 1) hx hb dX4_isIn_10 (by decide) ?_
      refine lv_goto (tgt := 15) hx hb dX4_isIn_11 (by decide) ?_
      subst hf
      exact rt_b (b := true) hx hb hr hlk hH dX4_isIn_15
def fX4_isShelf (a0 : Int32) : Bool :=
  lt_ (fX4_isIn a0 0 7) fun r1 =>
  r1
theorem kdX4_isShelf : yX4_isShelf.cls ≠ "java/lang/invoke/MethodHandle" ∧ yX4_isShelf.cls ≠ "java/lang/invoke/VarHandle" ∧ (parseMethodDescriptor yX4_isShelf.desc).map (fun d => d.parameters.length) = some 1 := by decide +kernel
set_option maxHeartbeats 4000000 in
theorem mX4_isShelf (l : Launch) (G : GT_) (M : Mem_) (n : Nat) (a0 : Int32) (r : Bool) (hf : fX4_isShelf a0 = r) : Ct_ G l yX4_isShelf (ws_ yX4_isShelf cX4_isShelf 1 (some .boolean)) ({ frames := 1, cells := 0, slots := 0, locals := 22 }) 0 0 [.int a0] M n (some (.int (b2_ r))) M n := by
  refine en_ (by decide) (Nat.le_of_ble_eq_true rfl) ?_
  intro p e s m below meth c hx hb hr hlk hml hown hts hname hKn hH ls hl
  have hown : s.vm.findClass RX4 = some m.cls := hown
  have hl : lv_has ls 1 [(0, .int a0)] := hl
  unfold fX4_isShelf at hf
  generalize s.heap = H at hH ⊢
  refine lv_iload_n hx hb dX4_isShelf_0 rfl (lv_at hl 0 rfl) ?_
  refine lv_iconst (v := 0) hx hb dX4_isShelf_1 (by decide) ?_
  refine lv_bipush (v := 7) hx hb dX4_isShelf_2 (by decide) ?_
  obtain ⟨r1, er1⟩ : ∃ z, z = fX4_isIn a0 0 7 := ⟨_, rfl⟩
  have hf := lu_ er1 hf
  refine cl_i0 hH (rn_S ⟨hx, hb, hml, hown, hts⟩ hKn hH (mX4_isIn l G M n a0 0 7 r1 er1.symm) (va_cwS 3 hts (lw_S q1248 q1249 q70 q1250) rfl rfl rfl kdX4_isIn ⟨Nat.le_of_ble_eq_true rfl, Nat.le_of_ble_eq_true rfl⟩) rfl hl.1 (Nat.le_of_ble_eq_true rfl) dX4_isShelf_4 ⟨(Nat.le_of_ble_eq_true rfl), (Nat.le_of_ble_eq_true rfl)⟩ rfl) (fun H locs hH => ?_)
  subst hf
  exact rt_b (b := _) hx hb hr hlk hH dX4_isShelf_7
def fX4_wrongRow (M : Mem_) (a0 : Nat) (a1 : Int32) (a2 : Int32) : Option Int32 :=
  lt_ (fX4_isShelf a1) fun r1 =>
  if (b2_ r1) = 0 then
    some (-1)
  else
    (gR_ M a0 3 13).bind fun v2 =>
    (aI_ M v2 0 a1).bind fun v3 =>
    if v3 = 0 then
      some (-11)
    else
      (gR_ M a0 3 13).bind fun v4 =>
      (aI_ M v4 0 a1).bind fun v5 =>
      if v5 = 2 then
        if a2 < 0 then
          some 0
        else
          (gR_ M a0 3 16).bind fun v6 =>
          (aI_ M v6 0 a1).bind fun v7 =>
          if v7 = a2 then
            some 0
          else
            some (-12)
      else
        some (-12)
theorem kdX4_wrongRow : yX4_wrongRow.cls ≠ "java/lang/invoke/MethodHandle" ∧ yX4_wrongRow.cls ≠ "java/lang/invoke/VarHandle" ∧ (parseMethodDescriptor yX4_wrongRow.desc).map (fun d => d.parameters.length) = some 2 := by decide +kernel
set_option maxHeartbeats 4000000 in
theorem mX4_wrongRow (l : Launch) (G : GT_) (M : Mem_) (n : Nat) (a0 : Nat) (a1 : Int32) (a2 : Int32) (r : Int32) (hf : fX4_wrongRow M a0 a1 a2 = some r) : Ct_ G l yX4_wrongRow (ws_ yX4_wrongRow cX4_wrongRow 3 (some .int)) ({ frames := 2, cells := 0, slots := 0, locals := 42 }) 0 0 [.ref a0, .int a1, .int a2] M n (some (.int r)) M n := by
  refine en_ (by decide) (Nat.le_of_ble_eq_true rfl) ?_
  intro p e s m below meth c hx hb hr hlk hml hown hts hname hKn hH ls hl
  have hown : s.vm.findClass RX4 = some m.cls := hown
  have hl : lv_has ls 3 [(0, .ref a0), (1, .int a1), (2, .int a2)] := hl
  unfold fX4_wrongRow at hf
  generalize s.heap = H at hH ⊢
  refine lv_iload_n hx hb dX4_wrongRow_0 rfl (lv_at hl 1 rfl) ?_
  obtain ⟨r1, er1⟩ : ∃ z, z = fX4_isShelf a1 := ⟨_, rfl⟩
  have hf := lu_ er1 hf
  refine cl_i0 hH (rn_S ⟨hx, hb, hml, hown, hts⟩ hKn hH (mX4_isShelf l G M n a1 r1 er1.symm) (va_cwS 1 hts (lw_S q1245 q1246 q70 q1247) rfl rfl rfl kdX4_isShelf ⟨Nat.le_of_ble_eq_true rfl, Nat.le_of_ble_eq_true rfl⟩) rfl hl.1 (Nat.le_of_ble_eq_true rfl) dX4_wrongRow_1 ⟨(Nat.le_of_ble_eq_true rfl), (Nat.le_of_ble_eq_true rfl)⟩ rfl) (fun H locs hH => ?_)
  refine lv_if_ne (tgt := 11) hx hb dX4_wrongRow_4 (by decide) (fun c12 => ?_) (fun c12 => ?_)
  · have hf := in_ c12 hf
    refine lv_aload_n hx hb dX4_wrongRow_11 rfl (lv_at hl 0 rfl) ?_
    obtain ⟨v2, ev2, hf⟩ := bs_ hf
    refine mg_gR hx hb hts hown hKn hH ev2 in_X4 rfl (by decide) (hts _ q1189) (fun _ h9 => h9) dX4_wrongRow_12 ?_
    refine lv_iload_n hx hb dX4_wrongRow_15 rfl (lv_at hl 1 rfl) ?_
    obtain ⟨v3, ev3, hf⟩ := bs_ hf
    refine mg_iald hx hb hKn hH ev3 dX4_wrongRow_16 ?_
    refine lv_if_ne (tgt := 25) hx hb dX4_wrongRow_17 (by decide) (fun c11 => ?_) (fun c11 => ?_)
    · have hf := in_ c11 hf
      refine lv_aload_n hx hb dX4_wrongRow_25 rfl (lv_at hl 0 rfl) ?_
      obtain ⟨v4, ev4, hf⟩ := bs_ hf
      refine mg_gR hx hb hts hown hKn hH ev4 in_X4 rfl (by decide) (hts _ q1189) (fun _ h9 => h9) dX4_wrongRow_26 ?_
      refine lv_iload_n hx hb dX4_wrongRow_29 rfl (lv_at hl 1 rfl) ?_
      obtain ⟨v5, ev5, hf⟩ := bs_ hf
      refine mg_iald hx hb hKn hH ev5 dX4_wrongRow_30 ?_
      refine lv_iconst (v := 2) hx hb dX4_wrongRow_31 (by decide) ?_
      refine lv_icmp_ne (tgt := 49) hx hb dX4_wrongRow_32 (by decide) (fun c10 => ?_) (fun c10 => ?_)
      · have hf := in_ c10 hf
        refine lv_bipush (v := (-12)) hx hb dX4_wrongRow_49 (by decide) ?_
        refine lv_goto (tgt := 55) hx hb dX4_wrongRow_51 (by decide) ?_
        cases hf
        exact rt_i hx hb hr hlk hH dX4_wrongRow_55
      · have hf := ip_ c10 hf
        refine lv_iload_n hx hb dX4_wrongRow_35 rfl (lv_at hl 2 rfl) ?_
        refine lv_if_lt (tgt := 54) hx hb dX4_wrongRow_36 (by decide) (fun c9 => ?_) (fun c9 => ?_)
        · have hf := ip_ c9 hf
          refine lv_iconst (v := 0) hx hb dX4_wrongRow_54 (by decide) ?_
          cases hf
          exact rt_i hx hb hr hlk hH dX4_wrongRow_55
        · have hf := in_ c9 hf
          refine lv_aload_n hx hb dX4_wrongRow_39 rfl (lv_at hl 0 rfl) ?_
          obtain ⟨v6, ev6, hf⟩ := bs_ hf
          refine mg_gR hx hb hts hown hKn hH ev6 in_X4 rfl (by decide) (hts _ q1192) (fun _ h9 => h9) dX4_wrongRow_40 ?_
          refine lv_iload_n hx hb dX4_wrongRow_43 rfl (lv_at hl 1 rfl) ?_
          obtain ⟨v7, ev7, hf⟩ := bs_ hf
          refine mg_iald hx hb hKn hH ev7 dX4_wrongRow_44 ?_
          refine lv_iload_n hx hb dX4_wrongRow_45 rfl (lv_at hl 2 rfl) ?_
          refine lv_icmp_eq (tgt := 54) hx hb dX4_wrongRow_46 (by decide) (fun c8 => ?_) (fun c8 => ?_)
          · have hf := ip_ c8 hf
            refine lv_iconst (v := 0) hx hb dX4_wrongRow_54 (by decide) ?_
            cases hf
            exact rt_i hx hb hr hlk hH dX4_wrongRow_55
          · have hf := in_ c8 hf
            refine lv_bipush (v := (-12)) hx hb dX4_wrongRow_49 (by decide) ?_
            refine lv_goto (tgt := 55) hx hb dX4_wrongRow_51 (by decide) ?_
            cases hf
            exact rt_i hx hb hr hlk hH dX4_wrongRow_55
    · have hf := ip_ c11 hf
      refine lv_bipush (v := (-11)) hx hb dX4_wrongRow_20 (by decide) ?_
      refine lv_goto (tgt := 55) hx hb dX4_wrongRow_22 (by decide) ?_
      cases hf
      exact rt_i hx hb hr hlk hH dX4_wrongRow_55
  · have hf := ip_ c12 hf
    refine lv_iconst (v := (-1)) hx hb dX4_wrongRow_7 (by decide) ?_
    refine lv_goto (tgt := 55) hx hb dX4_wrongRow_8 (by decide) ?_
    cases hf
    exact rt_i hx hb hr hlk hH dX4_wrongRow_55
def fX4_here (M : Mem_) (a0 : Nat) : Option Int32 :=
  (gI_ M a0 3 6).bind fun v1 =>
  (gI_ M a0 3 8).bind fun v2 =>
  if v2 ≤ v1 then
    some (-1)
  else
    (gR_ M a0 3 18).bind fun v3 =>
    (gI_ M a0 3 7).bind fun v4 =>
    (gI_ M a0 3 6).bind fun v5 =>
    (aI_ M v3 0 (v4 + v5)).bind fun v6 =>
    some (v6 &&& 255)
theorem kdX4_here : yX4_here.cls ≠ "java/lang/invoke/MethodHandle" ∧ yX4_here.cls ≠ "java/lang/invoke/VarHandle" ∧ (parseMethodDescriptor yX4_here.desc).map (fun d => d.parameters.length) = some 0 := by decide +kernel
set_option maxHeartbeats 4000000 in
theorem mX4_here (l : Launch) (G : GT_) (M : Mem_) (n : Nat) (a0 : Nat) (r : Int32) (hf : fX4_here M a0 = some r) : Ct_ G l yX4_here (ws_ yX4_here cX4_here 1 (some .int)) ({ frames := 0, cells := 0, slots := 0, locals := 0 }) 0 0 [.ref a0] M n (some (.int r)) M n := by
  refine en_ (by decide) (Nat.le_of_ble_eq_true rfl) ?_
  intro p e s m below meth c hx hb hr hlk hml hown hts hname hKn hH ls hl
  have hown : s.vm.findClass RX4 = some m.cls := hown
  have hl : lv_has ls 1 [(0, .ref a0)] := hl
  unfold fX4_here at hf
  generalize s.heap = H at hH ⊢
  refine lv_aload_n hx hb dX4_here_0 rfl (lv_at hl 0 rfl) ?_
  obtain ⟨v1, ev1, hf⟩ := bs_ hf
  refine mg_gI hx hb hts hown hKn hH ev1 in_X4 rfl (by decide) (hts _ q1182) (fun _ h9 => h9) dX4_here_1 ?_
  refine lv_aload_n hx hb dX4_here_4 rfl (lv_at hl 0 rfl) ?_
  obtain ⟨v2, ev2, hf⟩ := bs_ hf
  refine mg_gI hx hb hts hown hKn hH ev2 in_X4 rfl (by decide) (hts _ q1184) (fun _ h9 => h9) dX4_here_5 ?_
  refine lv_icmp_ge (tgt := 32) hx hb dX4_here_8 (by decide) (fun c7 => ?_) (fun c7 => ?_)
  · have hf := ip_ c7 hf
    refine lv_iconst (v := (-1)) hx hb dX4_here_32 (by decide) ?_
    cases hf
    exact rt_i hx hb hr hlk hH dX4_here_33
  · have hf := in_ c7 hf
    refine lv_aload_n hx hb dX4_here_11 rfl (lv_at hl 0 rfl) ?_
    obtain ⟨v3, ev3, hf⟩ := bs_ hf
    refine mg_gR hx hb hts hown hKn hH ev3 in_X4 rfl (by decide) (hts _ q1194) (fun _ h9 => h9) dX4_here_12 ?_
    refine lv_aload_n hx hb dX4_here_15 rfl (lv_at hl 0 rfl) ?_
    obtain ⟨v4, ev4, hf⟩ := bs_ hf
    refine mg_gI hx hb hts hown hKn hH ev4 in_X4 rfl (by decide) (hts _ q1183) (fun _ h9 => h9) dX4_here_16 ?_
    refine lv_aload_n hx hb dX4_here_19 rfl (lv_at hl 0 rfl) ?_
    obtain ⟨v5, ev5, hf⟩ := bs_ hf
    refine mg_gI hx hb hts hown hKn hH ev5 in_X4 rfl (by decide) (hts _ q1182) (fun _ h9 => h9) dX4_here_20 ?_
    refine lv_iadd hx hb dX4_here_23 ?_
    obtain ⟨v6, ev6, hf⟩ := bs_ hf
    refine mg_iald hx hb hKn hH ev6 dX4_here_24 ?_
    refine lv_sipush (v := 255) hx hb dX4_here_25 (by decide) ?_
    refine lv_iand hx hb dX4_here_28 ?_
    refine lv_goto (tgt := 33) hx hb dX4_here_29 (by decide) ?_
    cases hf
    exact rt_i hx hb hr hlk hH dX4_here_33
def fX4_readsNumber_L9 : Nat → Mem_ → Nat → Int32 → Int32 → Int32 → Option (Bool × Mem_)
  | 0, _, _, _, _, _ => none
  | fuel + 1, M, x0, x1, x2, x3 =>
    if x2 ≤ x3 then
      some (true, M)
    else
      (ck_ M x0 3).bind fun u3 =>
      (fX4_here M x0).bind fun r4 =>
      lt_ (fX4_isIn r4 48 57) fun r5 =>
      if (b2_ r5) = 0 then
        some (false, M)
      else
        (gR_ M x0 3 9).bind fun v6 =>
        (gR_ M x0 3 9).bind fun v7 =>
        (aI_ M v7 0 x1).bind fun v8 =>
        (ck_ M x0 3).bind fun u9 =>
        (fX4_here M x0).bind fun r10 =>
        (sI_ M v6 0 x1 (((10 * v8) + r10) - 48)).bind fun M11 =>
        (gI_ M11 x0 3 6).bind fun v12 =>
        lt_ ((v12 + 1)) fun v13 =>
        (pF_ M11 x0 3 6 (.int v13)).bind fun M14 =>
        lt_ (x3 + 1) fun v15 =>
        fX4_readsNumber_L9 fuel M14 x0 x1 x2 v15
def fX4_readsNumber (M : Mem_) (a0 : Nat) (a1 : Int32) (a2 : Int32) : Option (Bool × Mem_) :=
  (gR_ M a0 3 9).bind fun v1 =>
  (sI_ M v1 0 a1 0).bind fun M2 =>
  fX4_readsNumber_L9 1000 M2 a0 a1 a2 0
theorem kdX4_readsNumber : yX4_readsNumber.cls ≠ "java/lang/invoke/MethodHandle" ∧ yX4_readsNumber.cls ≠ "java/lang/invoke/VarHandle" ∧ (parseMethodDescriptor yX4_readsNumber.desc).map (fun d => d.parameters.length) = some 2 := by decide +kernel
set_option maxHeartbeats 4000000 in
theorem mX4_readsNumber (l : Launch) (G : GT_) (M : Mem_) (n : Nat) (a0 : Nat) (a1 : Int32) (a2 : Int32) (r : Bool) (M1 : Mem_) (hf : fX4_readsNumber M a0 a1 a2 = some (r, M1)) : Ct_ G l yX4_readsNumber (ws_ yX4_readsNumber cX4_readsNumber 4 (some .boolean)) ({ frames := 1, cells := 0, slots := 0, locals := 22 }) 0 0 [.ref a0, .int a1, .int a2] M n (some (.int (b2_ r))) M1 n := by
  refine en_ (by decide) (Nat.le_of_ble_eq_true rfl) ?_
  intro p e s m below meth c hx hb hr hlk hml hown hts hname hKn hH ls hl
  have hown : s.vm.findClass RX4 = some m.cls := hown
  have hl : lv_has ls 4 [(0, .ref a0), (1, .int a1), (2, .int a2)] := hl
  have w9 : ∀ (fuel : Nat), ∀ (M : Mem_) (x0 : Nat) (x1 : Int32) (x2 : Int32) (x3 : Int32) (H : Heap) (locs : List Loc) (ls : Array Slot), St_ G n M s H locs → lv_has ls 4 [(0, .ref x0), (1, .int x1), (2, .int x2), (3, .int x3)] → fX4_readsNumber_L9 fuel M x0 x1 x2 x3 = some (r, M1) → W p l e ({ frames := 1, cells := 0, slots := 0, locals := 22 } : Room) s m ([.ref a0, .int a1, .int a2] : List Value).toArray below meth c H locs 0 0 (MQ below (Qc_ G (some (.int (b2_ r))) M1 n) ([.ref a0, .int a1, .int a2] : List Value).toArray s 0 0 (fun q => G.1 ≤ q)) (F0 m 9 ls []) := by
    intro fuel
    induction fuel with
    | zero =>
      intro M x0 x1 x2 x3 H locs ls hH hl hf
      cases hf
    | succ fuel ih =>
      intro M x0 x1 x2 x3 H locs ls hH hl hf
      unfold fX4_readsNumber_L9 at hf
      refine lv_iload_n hx hb dX4_readsNumber_9 rfl (lv_at hl 3 rfl) ?_
      refine lv_iload_n hx hb dX4_readsNumber_10 rfl (lv_at hl 2 rfl) ?_
      refine lv_icmp_ge (tgt := 69) hx hb dX4_readsNumber_11 (by decide) (fun c17 => ?_) (fun c17 => ?_)
      · have hf := ip_ c17 hf
        refine lv_iconst (v := 1) hx hb dX4_readsNumber_69 (by decide) ?_
        cases hf
        exact rt_b (b := true) hx hb hr hlk hH dX4_readsNumber_70
      · have hf := in_ c17 hf
        refine lv_aload_n hx hb dX4_readsNumber_14 rfl (lv_at hl 0 rfl) ?_
        obtain ⟨u3, eu3, hf⟩ := bs_ hf
        obtain ⟨r4, er4, hf⟩ := bs_ hf
        refine cl_i0 hH (rn_V ⟨hx, hb, hml, hown, hts⟩ hKn hH (mX4_here l G M n x0 r4 er4) (cwV 0 hts (lw_V q1255 q1257 qs40 q70 q1258) rfl rfl rfl ⟨rfl, kdX4_here⟩ ⟨Nat.le_of_ble_eq_true rfl, Nat.le_of_ble_eq_true rfl⟩) eu3 rfl rfl hl.1 (Nat.le_of_ble_eq_true rfl) dX4_readsNumber_15 ⟨(Nat.le_of_ble_eq_true rfl), (Nat.le_of_ble_eq_true rfl)⟩ rfl) (fun H locs hH => ?_)
        refine lv_bipush (v := 48) hx hb dX4_readsNumber_18 (by decide) ?_
        refine lv_bipush (v := 57) hx hb dX4_readsNumber_20 (by decide) ?_
        obtain ⟨r5, er5⟩ : ∃ z, z = fX4_isIn r4 48 57 := ⟨_, rfl⟩
        have hf := lu_ er5 hf
        refine cl_i0 hH (rn_S ⟨hx, hb, hml, hown, hts⟩ hKn hH (mX4_isIn l G M n r4 48 57 r5 er5.symm) (va_cwS 3 hts (lw_S q1248 q1249 q70 q1250) rfl rfl rfl kdX4_isIn ⟨Nat.le_of_ble_eq_true rfl, Nat.le_of_ble_eq_true rfl⟩) rfl hl.1 (Nat.le_of_ble_eq_true rfl) dX4_readsNumber_22 ⟨(Nat.le_of_ble_eq_true rfl), (Nat.le_of_ble_eq_true rfl)⟩ rfl) (fun H locs hH => ?_)
        refine lv_if_ne (tgt := 30) hx hb dX4_readsNumber_25 (by decide) (fun c16 => ?_) (fun c16 => ?_)
        · have hf := in_ c16 hf
          refine lv_aload_n hx hb dX4_readsNumber_30 rfl (lv_at hl 0 rfl) ?_
          obtain ⟨v6, ev6, hf⟩ := bs_ hf
          refine mg_gR hx hb hts hown hKn hH ev6 in_X4 rfl (by decide) (hts _ q1185) (fun _ h9 => h9) dX4_readsNumber_31 ?_
          refine lv_iload_n hx hb dX4_readsNumber_34 rfl (lv_at hl 1 rfl) ?_
          refine lv_bipush (v := 10) hx hb dX4_readsNumber_35 (by decide) ?_
          refine lv_aload_n hx hb dX4_readsNumber_37 rfl (lv_at hl 0 rfl) ?_
          obtain ⟨v7, ev7, hf⟩ := bs_ hf
          refine mg_gR hx hb hts hown hKn hH ev7 in_X4 rfl (by decide) (hts _ q1185) (fun _ h9 => h9) dX4_readsNumber_38 ?_
          refine lv_iload_n hx hb dX4_readsNumber_41 rfl (lv_at hl 1 rfl) ?_
          obtain ⟨v8, ev8, hf⟩ := bs_ hf
          refine mg_iald hx hb hKn hH ev8 dX4_readsNumber_42 ?_
          refine lv_imul hx hb dX4_readsNumber_43 ?_
          refine lv_aload_n hx hb dX4_readsNumber_44 rfl (lv_at hl 0 rfl) ?_
          obtain ⟨u9, eu9, hf⟩ := bs_ hf
          obtain ⟨r10, er10, hf⟩ := bs_ hf
          refine cl_i0 hH (rn_V ⟨hx, hb, hml, hown, hts⟩ hKn hH (mX4_here l G M n x0 r10 er10) (cwV 0 hts (lw_V q1255 q1257 qs40 q70 q1258) rfl rfl rfl ⟨rfl, kdX4_here⟩ ⟨Nat.le_of_ble_eq_true rfl, Nat.le_of_ble_eq_true rfl⟩) eu9 rfl rfl hl.1 (Nat.le_of_ble_eq_true rfl) dX4_readsNumber_45 ⟨(Nat.le_of_ble_eq_true rfl), (Nat.le_of_ble_eq_true rfl)⟩ rfl) (fun H locs hH => ?_)
          refine lv_iadd hx hb dX4_readsNumber_48 ?_
          refine lv_bipush (v := 48) hx hb dX4_readsNumber_49 (by decide) ?_
          refine lv_isub hx hb dX4_readsNumber_51 ?_
          obtain ⟨M11, eM11, hf⟩ := bs_ hf
          refine mg_iast hx hb hKn hH eM11 dX4_readsNumber_52 (fun H locs hH => ?_)
          refine lv_aload_n hx hb dX4_readsNumber_53 rfl (lv_at hl 0 rfl) ?_
          refine lv_dup hx hb dX4_readsNumber_54 rfl ?_
          obtain ⟨v12, ev12, hf⟩ := bs_ hf
          refine mg_gI hx hb hts hown hKn hH ev12 in_X4 rfl (by decide) (hts _ q1182) (fun _ h9 => h9) dX4_readsNumber_55 ?_
          refine lv_iconst (v := 1) hx hb dX4_readsNumber_58 (by decide) ?_
          refine lv_iadd hx hb dX4_readsNumber_59 ?_
          refine lv_topi (fun v13 ev13 => ?_)
          have hf := lu_ ev13 hf
          obtain ⟨M14, eM14, hf⟩ := bs_ hf
          refine mg_pF hx hb hts hown hKn hH eM14 in_X4 tyX4_ok nmX4 rfl (by decide) (hts _ q1182) (fun _ h9 => h9) rfl rfl rfl dX4_readsNumber_60 (fun H locs hH => ?_)
          obtain ⟨v15, ev15⟩ : ∃ z : Int32, z = x3 + 1 := ⟨_, rfl⟩
          have hf := lu_ ev15 hf
          refine lv_iinc (v := v15) (lv' := [(3, .int v15), (0, .ref x0), (1, .int x1), (2, .int x2)]) hx hb dX4_readsNumber_63 hl (k := 3) rfl (by rw [ev15]; rfl) (by decide) rfl (fun ls hl => ?_)
          refine lv_goto (tgt := 9) hx hb dX4_readsNumber_66 (by decide) ?_
          exact ih M14 x0 x1 x2 v15 _ _ ls hH (lv_sub hl [1, 2, 3, 0] rfl) hf
        · have hf := ip_ c16 hf
          refine lv_iconst (v := 0) hx hb dX4_readsNumber_28 (by decide) ?_
          cases hf
          exact rt_b (b := false) hx hb hr hlk hH dX4_readsNumber_29
  unfold fX4_readsNumber at hf
  refine lv_aload_n hx hb dX4_readsNumber_0 rfl (lv_at hl 0 rfl) ?_
  obtain ⟨v1, ev1, hf⟩ := bs_ hf
  refine mg_gR hx hb hts hown hKn hH ev1 in_X4 rfl (by decide) (hts _ q1185) (fun _ h9 => h9) dX4_readsNumber_1 ?_
  refine lv_iload_n hx hb dX4_readsNumber_4 rfl (lv_at hl 1 rfl) ?_
  refine lv_iconst (v := 0) hx hb dX4_readsNumber_5 (by decide) ?_
  obtain ⟨M2, eM2, hf⟩ := bs_ hf
  refine mg_iast hx hb hKn hH eM2 dX4_readsNumber_6 (fun H locs hH => ?_)
  refine lv_iconst (v := 0) hx hb dX4_readsNumber_7 (by decide) ?_
  refine lv_istore_n (lv' := [(3, .int 0), (0, .ref a0), (1, .int a1), (2, .int a2)]) hx hb dX4_readsNumber_8 rfl hl (by decide) rfl (fun ls hl => ?_)
  exact w9 1000 M2 a0 a1 a2 0 _ _ ls hH (lv_sub hl [1, 2, 3, 0] rfl) hf
