set_option maxRecDepth 100000
def fX2_init (M : Mem_) (n : Nat) (a0 : Nat) : Option (Mem_ × Nat) :=
  lt_ (ms_ M n (eQ_ 3 8 (fun _ => none))) fun M1 =>
  (pF_ M1 a0 1 0 (.ref n)).bind fun M2 =>
  lt_ (ms_ M2 (n + 1) (eI_ 0 4 (fun _ => 0))) fun M3 =>
  (sI_ M3 (n + 1) 0 0 1).bind fun M4 =>
  (sI_ M4 (n + 1) 0 1 7).bind fun M5 =>
  (sI_ M5 (n + 1) 0 2 1).bind fun M6 =>
  (sI_ M6 (n + 1) 0 3 7).bind fun M7 =>
  (pF_ M7 a0 1 1 (.ref (n + 1))).bind fun M8 =>
  lt_ (ms_ M8 (n + 2) (eI_ 0 4 (fun _ => 0))) fun M9 =>
  (sI_ M9 (n + 2) 0 0 1).bind fun M10 =>
  (sI_ M10 (n + 2) 0 1 1).bind fun M11 =>
  (sI_ M11 (n + 2) 0 2 1).bind fun M12 =>
  (sI_ M12 (n + 2) 0 3 1).bind fun M13 =>
  (pF_ M13 a0 1 2 (.ref (n + 2))).bind fun M14 =>
  lt_ (ms_ M14 (n + 3) (eI_ 0 4 (fun _ => 0))) fun M15 =>
  (pF_ M15 a0 1 3 (.ref (n + 3))).bind fun M16 =>
  lt_ (ms_ M16 (n + 4) (eI_ 0 2 (fun _ => 0))) fun M17 =>
  (pF_ M17 a0 1 4 (.ref (n + 4))).bind fun M18 =>
  lt_ (ms_ M18 (n + 5) (eI_ 0 2 (fun _ => 0))) fun M19 =>
  (sI_ M19 (n + 5) 0 0 1).bind fun M20 =>
  (sI_ M20 (n + 5) 0 1 1).bind fun M21 =>
  (pF_ M21 a0 1 5 (.ref (n + 5))).bind fun M22 =>
  lt_ (ms_ M22 (n + 6) (eI_ 0 2 (fun _ => 0))) fun M23 =>
  (pF_ M23 a0 1 6 (.ref (n + 6))).bind fun M24 =>
  lt_ (ms_ M24 (n + 7) (eI_ 0 4 (fun _ => 0))) fun M25 =>
  (pF_ M25 a0 1 7 (.ref (n + 7))).bind fun M26 =>
  some (M26, n + 8)
theorem kdX2_init : yX2_init.cls ≠ "java/lang/invoke/MethodHandle" ∧ yX2_init.cls ≠ "java/lang/invoke/VarHandle" ∧ (parseMethodDescriptor yX2_init.desc).map (fun d => d.parameters.length) = some 0 := by decide +kernel
set_option maxHeartbeats 4000000 in
theorem mX2_init (l : Launch) (G : GT_) (M : Mem_) (n : Nat) (a0 : Nat) (M1 : Mem_) (n1 : Nat) (hf : fX2_init M n a0 = some (M1, n1)) : Ct_ G l yX2_init (ws_ yX2_init cX2_init 1 none) ({ frames := 1, cells := 8, slots := 30, locals := 12 }) 8 30 [.ref a0] M n (none) M1 n1 := by
  refine en_ (by decide) (Nat.le_of_ble_eq_true rfl) ?_
  intro p e s m below meth c hx hb hr hlk hml hown hts hname hKn hH ls hl
  have hown : s.vm.findClass RX2 = some m.cls := hown
  have hl : lv_has ls 1 [(0, .ref a0)] := hl
  unfold fX2_init at hf
  generalize s.heap = H at hH ⊢
  refine lv_aload_n hx hb dX2_init_0 rfl (lv_at hl 0 rfl) ?_
  refine W.objInit hx hb hown (hts _ q868) (hts _ q116) (hts _ q117) rfl (by rw [hml]; exact hl.1) rfl dX2_init_1 (Nat.le_of_ble_eq_true rfl) (Nat.le_of_ble_eq_true rfl) ?_
  refine W.eq (g2 := F0 m 4 ls []) rfl ?_
  refine lv_aload_n hx hb dX2_init_4 rfl (lv_at hl 0 rfl) ?_
  refine lv_bipush (v := 8) hx hb dX2_init_5 (by decide) ?_
  refine mg_newq (t := 3) hx hb hKn hH hown (hts _ q869) (hKn.2.2.1 _ (List.mem_of_getElem? (i := 0) rfl)) rfl (N := 8) (by decide) (by decide) (by decide) (Nat.le_of_ble_eq_true rfl) (Nat.le_of_ble_eq_true rfl) dX2_init_7 (fun H hH => ?_)
  obtain ⟨M1, eM1⟩ : ∃ z : Mem_, z = ms_ M n (eQ_ 3 8 (fun _ => none)) := ⟨_, rfl⟩
  have hf := lu_ eM1 hf
  have hH := st_eq eM1 hH
  refine W.widen (k := 1) (n := 8) (Nat.le_of_ble_eq_true rfl) (Nat.le_of_ble_eq_true rfl) ?_
  obtain ⟨M2, eM2, hf⟩ := bs_ hf
  refine mg_pFF hx hb hts hown hKn hH eM2 in_X2 tyX2_ok nmX2 rfl (by decide) (hts _ q871) (fun _ h9 => h9) rfl hname rfl rfl rfl dX2_init_10 (fun H locs hH => ?_)
  refine lv_aload_n hx hb dX2_init_13 rfl (lv_at hl 0 rfl) ?_
  refine lv_iconst (v := 4) hx hb dX2_init_14 (by decide) ?_
  refine mg_newa hx hb hKn hH 0 (by decide) rfl (hts _ q255) (N := 4) (by decide) (by decide) (by decide) (Nat.le_of_ble_eq_true rfl) (Nat.le_of_ble_eq_true rfl) dX2_init_15 (fun H hH => ?_)
  obtain ⟨M3, eM3⟩ : ∃ z : Mem_, z = ms_ M2 (n + 1) (eI_ 0 4 (fun _ => 0)) := ⟨_, rfl⟩
  have hf := lu_ eM3 hf
  have hH := st_eq eM3 hH
  refine W.widen (k := 2) (n := 12) (Nat.le_of_ble_eq_true rfl) (Nat.le_of_ble_eq_true rfl) ?_
  refine lv_dup hx hb dX2_init_17 rfl ?_
  refine lv_iconst (v := 0) hx hb dX2_init_18 (by decide) ?_
  refine lv_iconst (v := 1) hx hb dX2_init_19 (by decide) ?_
  obtain ⟨M4, eM4, hf⟩ := bs_ hf
  refine mg_iast hx hb hKn hH eM4 dX2_init_20 (fun H locs hH => ?_)
  refine lv_dup hx hb dX2_init_21 rfl ?_
  refine lv_iconst (v := 1) hx hb dX2_init_22 (by decide) ?_
  refine lv_bipush (v := 7) hx hb dX2_init_23 (by decide) ?_
  obtain ⟨M5, eM5, hf⟩ := bs_ hf
  refine mg_iast hx hb hKn hH eM5 dX2_init_25 (fun H locs hH => ?_)
  refine lv_dup hx hb dX2_init_26 rfl ?_
  refine lv_iconst (v := 2) hx hb dX2_init_27 (by decide) ?_
  refine lv_iconst (v := 1) hx hb dX2_init_28 (by decide) ?_
  obtain ⟨M6, eM6, hf⟩ := bs_ hf
  refine mg_iast hx hb hKn hH eM6 dX2_init_29 (fun H locs hH => ?_)
  refine lv_dup hx hb dX2_init_30 rfl ?_
  refine lv_iconst (v := 3) hx hb dX2_init_31 (by decide) ?_
  refine lv_bipush (v := 7) hx hb dX2_init_32 (by decide) ?_
  obtain ⟨M7, eM7, hf⟩ := bs_ hf
  refine mg_iast hx hb hKn hH eM7 dX2_init_34 (fun H locs hH => ?_)
  obtain ⟨M8, eM8, hf⟩ := bs_ hf
  refine mg_pFF hx hb hts hown hKn hH eM8 in_X2 tyX2_ok nmX2 rfl (by decide) (hts _ q873) (fun _ h9 => h9) rfl hname rfl rfl rfl dX2_init_35 (fun H locs hH => ?_)
  refine lv_aload_n hx hb dX2_init_38 rfl (lv_at hl 0 rfl) ?_
  refine lv_iconst (v := 4) hx hb dX2_init_39 (by decide) ?_
  refine mg_newa hx hb hKn hH 0 (by decide) rfl (hts _ q255) (N := 4) (by decide) (by decide) (by decide) (Nat.le_of_ble_eq_true rfl) (Nat.le_of_ble_eq_true rfl) dX2_init_40 (fun H hH => ?_)
  obtain ⟨M9, eM9⟩ : ∃ z : Mem_, z = ms_ M8 (n + 2) (eI_ 0 4 (fun _ => 0)) := ⟨_, rfl⟩
  have hf := lu_ eM9 hf
  have hH := st_eq eM9 hH
  refine W.widen (k := 3) (n := 16) (Nat.le_of_ble_eq_true rfl) (Nat.le_of_ble_eq_true rfl) ?_
  refine lv_dup hx hb dX2_init_42 rfl ?_
  refine lv_iconst (v := 0) hx hb dX2_init_43 (by decide) ?_
  refine lv_iconst (v := 1) hx hb dX2_init_44 (by decide) ?_
  obtain ⟨M10, eM10, hf⟩ := bs_ hf
  refine mg_iast hx hb hKn hH eM10 dX2_init_45 (fun H locs hH => ?_)
  refine lv_dup hx hb dX2_init_46 rfl ?_
  refine lv_iconst (v := 1) hx hb dX2_init_47 (by decide) ?_
  refine lv_iconst (v := 1) hx hb dX2_init_48 (by decide) ?_
  obtain ⟨M11, eM11, hf⟩ := bs_ hf
  refine mg_iast hx hb hKn hH eM11 dX2_init_49 (fun H locs hH => ?_)
  refine lv_dup hx hb dX2_init_50 rfl ?_
  refine lv_iconst (v := 2) hx hb dX2_init_51 (by decide) ?_
  refine lv_iconst (v := 1) hx hb dX2_init_52 (by decide) ?_
  obtain ⟨M12, eM12, hf⟩ := bs_ hf
  refine mg_iast hx hb hKn hH eM12 dX2_init_53 (fun H locs hH => ?_)
  refine lv_dup hx hb dX2_init_54 rfl ?_
  refine lv_iconst (v := 3) hx hb dX2_init_55 (by decide) ?_
  refine lv_iconst (v := 1) hx hb dX2_init_56 (by decide) ?_
  obtain ⟨M13, eM13, hf⟩ := bs_ hf
  refine mg_iast hx hb hKn hH eM13 dX2_init_57 (fun H locs hH => ?_)
  obtain ⟨M14, eM14, hf⟩ := bs_ hf
  refine mg_pFF hx hb hts hown hKn hH eM14 in_X2 tyX2_ok nmX2 rfl (by decide) (hts _ q875) (fun _ h9 => h9) rfl hname rfl rfl rfl dX2_init_58 (fun H locs hH => ?_)
  refine lv_aload_n hx hb dX2_init_61 rfl (lv_at hl 0 rfl) ?_
  refine lv_iconst (v := 4) hx hb dX2_init_62 (by decide) ?_
  refine mg_newa hx hb hKn hH 0 (by decide) rfl (hts _ q255) (N := 4) (by decide) (by decide) (by decide) (Nat.le_of_ble_eq_true rfl) (Nat.le_of_ble_eq_true rfl) dX2_init_63 (fun H hH => ?_)
  obtain ⟨M15, eM15⟩ : ∃ z : Mem_, z = ms_ M14 (n + 3) (eI_ 0 4 (fun _ => 0)) := ⟨_, rfl⟩
  have hf := lu_ eM15 hf
  have hH := st_eq eM15 hH
  refine W.widen (k := 4) (n := 20) (Nat.le_of_ble_eq_true rfl) (Nat.le_of_ble_eq_true rfl) ?_
  obtain ⟨M16, eM16, hf⟩ := bs_ hf
  refine mg_pFF hx hb hts hown hKn hH eM16 in_X2 tyX2_ok nmX2 rfl (by decide) (hts _ q877) (fun _ h9 => h9) rfl hname rfl rfl rfl dX2_init_65 (fun H locs hH => ?_)
  refine lv_aload_n hx hb dX2_init_68 rfl (lv_at hl 0 rfl) ?_
  refine lv_iconst (v := 2) hx hb dX2_init_69 (by decide) ?_
  refine mg_newa hx hb hKn hH 0 (by decide) rfl (hts _ q255) (N := 2) (by decide) (by decide) (by decide) (Nat.le_of_ble_eq_true rfl) (Nat.le_of_ble_eq_true rfl) dX2_init_70 (fun H hH => ?_)
  obtain ⟨M17, eM17⟩ : ∃ z : Mem_, z = ms_ M16 (n + 4) (eI_ 0 2 (fun _ => 0)) := ⟨_, rfl⟩
  have hf := lu_ eM17 hf
  have hH := st_eq eM17 hH
  refine W.widen (k := 5) (n := 22) (Nat.le_of_ble_eq_true rfl) (Nat.le_of_ble_eq_true rfl) ?_
  obtain ⟨M18, eM18, hf⟩ := bs_ hf
  refine mg_pFF hx hb hts hown hKn hH eM18 in_X2 tyX2_ok nmX2 rfl (by decide) (hts _ q879) (fun _ h9 => h9) rfl hname rfl rfl rfl dX2_init_72 (fun H locs hH => ?_)
  refine lv_aload_n hx hb dX2_init_75 rfl (lv_at hl 0 rfl) ?_
  refine lv_iconst (v := 2) hx hb dX2_init_76 (by decide) ?_
  refine mg_newa hx hb hKn hH 0 (by decide) rfl (hts _ q255) (N := 2) (by decide) (by decide) (by decide) (Nat.le_of_ble_eq_true rfl) (Nat.le_of_ble_eq_true rfl) dX2_init_77 (fun H hH => ?_)
  obtain ⟨M19, eM19⟩ : ∃ z : Mem_, z = ms_ M18 (n + 5) (eI_ 0 2 (fun _ => 0)) := ⟨_, rfl⟩
  have hf := lu_ eM19 hf
  have hH := st_eq eM19 hH
  refine W.widen (k := 6) (n := 24) (Nat.le_of_ble_eq_true rfl) (Nat.le_of_ble_eq_true rfl) ?_
  refine lv_dup hx hb dX2_init_79 rfl ?_
  refine lv_iconst (v := 0) hx hb dX2_init_80 (by decide) ?_
  refine lv_iconst (v := 1) hx hb dX2_init_81 (by decide) ?_
  obtain ⟨M20, eM20, hf⟩ := bs_ hf
  refine mg_iast hx hb hKn hH eM20 dX2_init_82 (fun H locs hH => ?_)
  refine lv_dup hx hb dX2_init_83 rfl ?_
  refine lv_iconst (v := 1) hx hb dX2_init_84 (by decide) ?_
  refine lv_iconst (v := 1) hx hb dX2_init_85 (by decide) ?_
  obtain ⟨M21, eM21, hf⟩ := bs_ hf
  refine mg_iast hx hb hKn hH eM21 dX2_init_86 (fun H locs hH => ?_)
  obtain ⟨M22, eM22, hf⟩ := bs_ hf
  refine mg_pFF hx hb hts hown hKn hH eM22 in_X2 tyX2_ok nmX2 rfl (by decide) (hts _ q881) (fun _ h9 => h9) rfl hname rfl rfl rfl dX2_init_87 (fun H locs hH => ?_)
  refine lv_aload_n hx hb dX2_init_90 rfl (lv_at hl 0 rfl) ?_
  refine lv_iconst (v := 2) hx hb dX2_init_91 (by decide) ?_
  refine mg_newa hx hb hKn hH 0 (by decide) rfl (hts _ q255) (N := 2) (by decide) (by decide) (by decide) (Nat.le_of_ble_eq_true rfl) (Nat.le_of_ble_eq_true rfl) dX2_init_92 (fun H hH => ?_)
  obtain ⟨M23, eM23⟩ : ∃ z : Mem_, z = ms_ M22 (n + 6) (eI_ 0 2 (fun _ => 0)) := ⟨_, rfl⟩
  have hf := lu_ eM23 hf
  have hH := st_eq eM23 hH
  refine W.widen (k := 7) (n := 26) (Nat.le_of_ble_eq_true rfl) (Nat.le_of_ble_eq_true rfl) ?_
  obtain ⟨M24, eM24, hf⟩ := bs_ hf
  refine mg_pFF hx hb hts hown hKn hH eM24 in_X2 tyX2_ok nmX2 rfl (by decide) (hts _ q883) (fun _ h9 => h9) rfl hname rfl rfl rfl dX2_init_94 (fun H locs hH => ?_)
  refine lv_aload_n hx hb dX2_init_97 rfl (lv_at hl 0 rfl) ?_
  refine lv_iconst (v := 4) hx hb dX2_init_98 (by decide) ?_
  refine mg_newa hx hb hKn hH 0 (by decide) rfl (hts _ q255) (N := 4) (by decide) (by decide) (by decide) (Nat.le_of_ble_eq_true rfl) (Nat.le_of_ble_eq_true rfl) dX2_init_99 (fun H hH => ?_)
  obtain ⟨M25, eM25⟩ : ∃ z : Mem_, z = ms_ M24 (n + 7) (eI_ 0 4 (fun _ => 0)) := ⟨_, rfl⟩
  have hf := lu_ eM25 hf
  have hH := st_eq eM25 hH
  refine W.widen (k := 8) (n := 30) (Nat.le_of_ble_eq_true rfl) (Nat.le_of_ble_eq_true rfl) ?_
  obtain ⟨M26, eM26, hf⟩ := bs_ hf
  refine mg_pFF hx hb hts hown hKn hH eM26 in_X2 tyX2_ok nmX2 rfl (by decide) (hts _ q885) (fun _ h9 => h9) rfl hname rfl rfl rfl dX2_init_101 (fun H locs hH => ?_)
  cases hf
  refine W.widen (k := 8) (n := 30) (Nat.le_of_ble_eq_true rfl) (Nat.le_of_ble_eq_true rfl) ?_
  exact rt_v hx hb hr hlk hH dX2_init_104
def fX3_init (M : Mem_) (a0 : Nat) : Option Mem_ :=
  some M
theorem kdX3_init : yX3_init.cls ≠ "java/lang/invoke/MethodHandle" ∧ yX3_init.cls ≠ "java/lang/invoke/VarHandle" ∧ (parseMethodDescriptor yX3_init.desc).map (fun d => d.parameters.length) = some 0 := by decide +kernel
set_option maxHeartbeats 4000000 in
theorem mX3_init (l : Launch) (G : GT_) (M : Mem_) (n : Nat) (a0 : Nat) (M1 : Mem_) (hf : fX3_init M a0 = some M1) : Ct_ G l yX3_init (ws_ yX3_init cX3_init 1 none) ({ frames := 1, cells := 0, slots := 0, locals := 12 }) 0 0 [.ref a0] M n (none) M1 n := by
  refine en_ (by decide) (Nat.le_of_ble_eq_true rfl) ?_
  intro p e s m below meth c hx hb hr hlk hml hown hts hname hKn hH ls hl
  have hown : s.vm.findClass RX3 = some m.cls := hown
  have hl : lv_has ls 1 [(0, .ref a0)] := hl
  unfold fX3_init at hf
  generalize s.heap = H at hH ⊢
  refine lv_aload_n hx hb dX3_init_0 rfl (lv_at hl 0 rfl) ?_
  refine W.objInit hx hb hown (hts _ q932) (hts _ q116) (hts _ q117) rfl (by rw [hml]; exact hl.1) rfl dX3_init_1 (Nat.le_of_ble_eq_true rfl) (Nat.le_of_ble_eq_true rfl) ?_
  refine W.eq (g2 := F0 m 4 ls []) rfl ?_
  cases hf
  exact rt_v hx hb hr hlk hH dX3_init_4
def fX1_init_L68 : Nat → Mem_ → Nat → Nat → Int32 → Option (Mem_ × Nat)
  | 0, _, _, _, _ => none
  | fuel + 1, M, n, x0, x1 =>
    if 8 ≤ x1 then
      some (M, n)
    else
      (gR_ M x0 0 8).bind fun v25 =>
      lt_ (ms_ M n (eO_ 2 [.null])) fun M26 =>
      (fX3_init M26 n).bind fun M28 =>
      (ck_ M28 n 2).bind fun u30 =>
      (sQ_ M28 v25 5 x1 (some n)).bind fun M29 =>
      lt_ (x1 + 1) fun v31 =>
      fX1_init_L68 fuel M29 (n + 1) x0 v31
def fX1_init (M : Mem_) (n : Nat) (a0 : Nat) : Option (Mem_ × Nat) :=
  lt_ (ms_ M n (eO_ 1 [.null, .null, .null, .null, .null, .null, .null, .null, .int 0, .int 0, .int 0, .int 0, .int 0])) fun M1 =>
  bw_ (fX2_init M1 (n + 1) n) fun M3 n4 =>
  (pF_ M3 a0 0 0 (.ref n)).bind fun M5 =>
  lt_ (ms_ M5 n4 (eO_ 1 [.null, .null, .null, .null, .null, .null, .null, .null, .int 0, .int 0, .int 0, .int 0, .int 0])) fun M6 =>
  bw_ (fX2_init M6 (n4 + 1) n4) fun M8 n9 =>
  (pF_ M8 a0 0 1 (.ref n4)).bind fun M10 =>
  lt_ (ms_ M10 n9 (eO_ 1 [.null, .null, .null, .null, .null, .null, .null, .null, .int 0, .int 0, .int 0, .int 0, .int 0])) fun M11 =>
  bw_ (fX2_init M11 (n9 + 1) n9) fun M13 n14 =>
  (pF_ M13 a0 0 2 (.ref n9)).bind fun M15 =>
  lt_ (ms_ M15 n14 (eO_ 1 [.null, .null, .null, .null, .null, .null, .null, .null, .int 0, .int 0, .int 0, .int 0, .int 0])) fun M16 =>
  bw_ (fX2_init M16 (n14 + 1) n14) fun M18 n19 =>
  (pF_ M18 a0 0 3 (.ref n14)).bind fun M20 =>
  lt_ (ms_ M20 n19 (eQ_ 4 100 (fun _ => none))) fun M21 =>
  (pF_ M21 a0 0 5 (.ref n19)).bind fun M22 =>
  lt_ (ms_ M22 (n19 + 1) (eQ_ 5 8 (fun _ => none))) fun M23 =>
  (pF_ M23 a0 0 8 (.ref (n19 + 1))).bind fun M24 =>
  fX1_init_L68 10 M24 (n19 + 2) a0 0
theorem kdX1_init : yX1_init.cls ≠ "java/lang/invoke/MethodHandle" ∧ yX1_init.cls ≠ "java/lang/invoke/VarHandle" ∧ (parseMethodDescriptor yX1_init.desc).map (fun d => d.parameters.length) = some 0 := by decide +kernel
set_option maxHeartbeats 4000000 in
theorem mX1_init (l : Launch) (G : GT_) (M : Mem_) (n : Nat) (a0 : Nat) (M1 : Mem_) (n1 : Nat) (hf : fX1_init M n a0 = some (M1, n1)) : Ct_ G l yX1_init (ws_ yX1_init cX1_init 2 none) ({ frames := 2, cells := 48, slots := 290, locals := 32 }) 48 290 [.ref a0] M n (none) M1 n1 := by
  refine en_ (by decide) (Nat.le_of_ble_eq_true rfl) ?_
  intro p e s m below meth c hx hb hr hlk hml hown hts hname hKn hH ls hl
  have hown : s.vm.findClass RX1 = some m.cls := hown
  have hl : lv_has ls 2 [(0, .ref a0)] := hl
  have w68 : ∀ (fuel : Nat), ∀ (M : Mem_) (n : Nat) (x0 : Nat) (x1 : Int32) (k1 k2 : Nat) (H : Heap) (locs : List Loc) (ls : Array Slot), k1 + 1 * fuel ≤ 48 → k2 + 1 * fuel ≤ 290 → St_ G n M s H locs → lv_has ls 2 [(0, .ref x0), (1, .int x1)] → fX1_init_L68 fuel M n x0 x1 = some (M1, n1) → W p l e ({ frames := 2, cells := 48, slots := 290, locals := 32 } : Room) s m ([.ref a0] : List Value).toArray below meth c H locs k1 k2 (MQ below (Qc_ G (none) M1 n1) ([.ref a0] : List Value).toArray s 48 290 (fun q => G.1 ≤ q)) (F0 m 68 ls []) := by
    intro fuel
    induction fuel with
    | zero =>
      intro M n x0 x1 k1 k2 H locs ls hk1 hk2 hH hl hf
      cases hf
    | succ fuel ih =>
      intro M n x0 x1 k1 k2 H locs ls hk1 hk2 hH hl hf
      unfold fX1_init_L68 at hf
      refine lv_iload_n hx hb dX1_init_68 rfl (lv_at hl 1 rfl) ?_
      refine lv_bipush (v := 8) hx hb dX1_init_69 (by decide) ?_
      refine lv_icmp_ge (tgt := 93) hx hb dX1_init_71 (by decide) (fun c32 => ?_) (fun c32 => ?_)
      · have hf := ip_ c32 hf
        cases hf
        refine W.widen (k := 48) (n := 290) (by omega) (by omega) ?_
        exact rt_v hx hb hr hlk hH dX1_init_93
      · have hf := in_ c32 hf
        refine lv_aload_n hx hb dX1_init_74 rfl (lv_at hl 0 rfl) ?_
        obtain ⟨v25, ev25, hf⟩ := bs_ hf
        refine mg_gR hx hb hts hown hKn hH ev25 in_X1 rfl (by decide) (hts _ q945) (fun _ h9 => h9) dX1_init_75 ?_
        refine lv_iload_n hx hb dX1_init_78 rfl (lv_at hl 1 rfl) ?_
        refine mg_new (ci := 2) hx hb hts hown hKn hH in_X3 tyX3_ok (hts _ q926) (hts _ q928) (hts _ q69) rfl (show k1 + 1 ≤ 48 by omega) (show k2 + 1 ≤ 290 by omega) dX1_init_79 (fun H hH => ?_)
        obtain ⟨M26, eM26⟩ : ∃ z : Mem_, z = ms_ M n (eO_ 2 [.null]) := ⟨_, rfl⟩
        have hf := lu_ eM26 hf
        have hH := st_eq eM26 hH
        refine W.widen (k := k1 + 1) (n := k2 + 1) (by omega) (by omega) ?_
        refine lv_dup hx hb dX1_init_82 rfl ?_
        obtain ⟨M28, er27, hf⟩ := bs_ hf
        refine cl_v0 hH (rn_IN ⟨hx, hb, hml, hown, hts⟩ hKn hH (mX3_init l G M26 (n + 1) n M28 er27) ⟨va_cnB 0 hts (lw_meth q931) rfl rfl rfl (hKn.2.1 _ (List.mem_of_getElem? (i := 1) rfl)) (hts _ q69) kdX3_init ⟨Nat.le_of_ble_eq_true rfl, Nat.le_of_ble_eq_true rfl⟩, rfl, hts _ q930⟩ rfl hl.1 (Nat.le_of_ble_eq_true rfl) dX1_init_83 ⟨(show k1 + 1 + 0 ≤ 48 by omega), (show k2 + 1 + 0 ≤ 290 by omega)⟩ rfl) (fun H locs hH => ?_)
        obtain ⟨u30, eu30, hf⟩ := bs_ hf
        obtain ⟨M29, eM29, hf⟩ := bs_ hf
        refine mg_ast hx hb hKn hH rfl (any_ck hKn hH eu30 rfl) eM29 dX1_init_86 (fun H locs hH => ?_)
        obtain ⟨v31, ev31⟩ : ∃ z : Int32, z = x1 + 1 := ⟨_, rfl⟩
        have hf := lu_ ev31 hf
        refine lv_iinc (v := v31) (lv' := [(1, .int v31), (0, .ref x0)]) hx hb dX1_init_87 hl (k := 1) rfl (by rw [ev31]; rfl) (by decide) rfl (fun ls hl => ?_)
        refine lv_goto (tgt := 68) hx hb dX1_init_90 (by decide) ?_
        exact ih M29 (n + 1) x0 v31 (k1 + 1) (k2 + 1) _ _ ls (by omega) (by omega) hH (lv_sub hl [1, 0] rfl) hf
  unfold fX1_init at hf
  refine lv_aload_n hx hb dX1_init_0 rfl (lv_at hl 0 rfl) ?_
  refine W.objInit hx hb hown (hts _ q863) (hts _ q116) (hts _ q117) rfl (by rw [hml]; exact hl.1) rfl dX1_init_1 (Nat.le_of_ble_eq_true rfl) (Nat.le_of_ble_eq_true rfl) ?_
  refine W.eq (g2 := F0 m 4 ls []) rfl ?_
  refine lv_aload_n hx hb dX1_init_4 rfl (lv_at hl 0 rfl) ?_
  refine mg_new (ci := 1) hx hb hts hown hKn hH in_X2 tyX2_ok (hts _ q864) (hts _ q523) (hts _ q68) rfl (Nat.le_of_ble_eq_true rfl) (Nat.le_of_ble_eq_true rfl) dX1_init_5 (fun H hH => ?_)
  obtain ⟨M1, eM1⟩ : ∃ z : Mem_, z = ms_ M n (eO_ 1 [.null, .null, .null, .null, .null, .null, .null, .null, .int 0, .int 0, .int 0, .int 0, .int 0]) := ⟨_, rfl⟩
  have hf := lu_ eM1 hf
  have hH := st_eq eM1 hH
  refine W.widen (k := 1) (n := 13) (Nat.le_of_ble_eq_true rfl) (Nat.le_of_ble_eq_true rfl) ?_
  refine lv_dup hx hb dX1_init_8 rfl ?_
  obtain ⟨M3, n4, er2, hf⟩ := bws_ hf
  refine cl_v hH (rn_IN ⟨hx, hb, hml, hown, hts⟩ hKn hH (mX2_init l G M1 (n + 1) n M3 n4 er2) ⟨va_cnB 0 hts (lw_meth q867) rfl rfl rfl (hKn.2.1 _ (List.mem_of_getElem? (i := 0) rfl)) (hts _ q68) kdX2_init ⟨Nat.le_of_ble_eq_true rfl, Nat.le_of_ble_eq_true rfl⟩, rfl, hts _ q866⟩ rfl hl.1 (Nat.le_of_ble_eq_true rfl) dX1_init_9 ⟨(Nat.le_of_ble_eq_true rfl), (Nat.le_of_ble_eq_true rfl)⟩ rfl) (fun H locs hH => ?_)
  refine W.widen (k := 9) (n := 43) (Nat.le_of_ble_eq_true rfl) (Nat.le_of_ble_eq_true rfl) ?_
  obtain ⟨M5, eM5, hf⟩ := bs_ hf
  refine mg_pFF hx hb hts hown hKn hH eM5 in_X1 tyX1_ok nmX1 rfl (by decide) (hts _ q937) (fun _ h9 => h9) rfl hname rfl rfl rfl dX1_init_12 (fun H locs hH => ?_)
  refine lv_aload_n hx hb dX1_init_15 rfl (lv_at hl 0 rfl) ?_
  refine mg_new (ci := 1) hx hb hts hown hKn hH in_X2 tyX2_ok (hts _ q864) (hts _ q523) (hts _ q68) rfl (Nat.le_of_ble_eq_true rfl) (Nat.le_of_ble_eq_true rfl) dX1_init_16 (fun H hH => ?_)
  obtain ⟨M6, eM6⟩ : ∃ z : Mem_, z = ms_ M5 n4 (eO_ 1 [.null, .null, .null, .null, .null, .null, .null, .null, .int 0, .int 0, .int 0, .int 0, .int 0]) := ⟨_, rfl⟩
  have hf := lu_ eM6 hf
  have hH := st_eq eM6 hH
  refine W.widen (k := 10) (n := 56) (Nat.le_of_ble_eq_true rfl) (Nat.le_of_ble_eq_true rfl) ?_
  refine lv_dup hx hb dX1_init_19 rfl ?_
  obtain ⟨M8, n9, er7, hf⟩ := bws_ hf
  refine cl_v hH (rn_IN ⟨hx, hb, hml, hown, hts⟩ hKn hH (mX2_init l G M6 (n4 + 1) n4 M8 n9 er7) ⟨va_cnB 0 hts (lw_meth q867) rfl rfl rfl (hKn.2.1 _ (List.mem_of_getElem? (i := 0) rfl)) (hts _ q68) kdX2_init ⟨Nat.le_of_ble_eq_true rfl, Nat.le_of_ble_eq_true rfl⟩, rfl, hts _ q866⟩ rfl hl.1 (Nat.le_of_ble_eq_true rfl) dX1_init_20 ⟨(Nat.le_of_ble_eq_true rfl), (Nat.le_of_ble_eq_true rfl)⟩ rfl) (fun H locs hH => ?_)
  refine W.widen (k := 18) (n := 86) (Nat.le_of_ble_eq_true rfl) (Nat.le_of_ble_eq_true rfl) ?_
  obtain ⟨M10, eM10, hf⟩ := bs_ hf
  refine mg_pFF hx hb hts hown hKn hH eM10 in_X1 tyX1_ok nmX1 rfl (by decide) (hts _ q938) (fun _ h9 => h9) rfl hname rfl rfl rfl dX1_init_23 (fun H locs hH => ?_)
  refine lv_aload_n hx hb dX1_init_26 rfl (lv_at hl 0 rfl) ?_
  refine mg_new (ci := 1) hx hb hts hown hKn hH in_X2 tyX2_ok (hts _ q864) (hts _ q523) (hts _ q68) rfl (Nat.le_of_ble_eq_true rfl) (Nat.le_of_ble_eq_true rfl) dX1_init_27 (fun H hH => ?_)
  obtain ⟨M11, eM11⟩ : ∃ z : Mem_, z = ms_ M10 n9 (eO_ 1 [.null, .null, .null, .null, .null, .null, .null, .null, .int 0, .int 0, .int 0, .int 0, .int 0]) := ⟨_, rfl⟩
  have hf := lu_ eM11 hf
  have hH := st_eq eM11 hH
  refine W.widen (k := 19) (n := 99) (Nat.le_of_ble_eq_true rfl) (Nat.le_of_ble_eq_true rfl) ?_
  refine lv_dup hx hb dX1_init_30 rfl ?_
  obtain ⟨M13, n14, er12, hf⟩ := bws_ hf
  refine cl_v hH (rn_IN ⟨hx, hb, hml, hown, hts⟩ hKn hH (mX2_init l G M11 (n9 + 1) n9 M13 n14 er12) ⟨va_cnB 0 hts (lw_meth q867) rfl rfl rfl (hKn.2.1 _ (List.mem_of_getElem? (i := 0) rfl)) (hts _ q68) kdX2_init ⟨Nat.le_of_ble_eq_true rfl, Nat.le_of_ble_eq_true rfl⟩, rfl, hts _ q866⟩ rfl hl.1 (Nat.le_of_ble_eq_true rfl) dX1_init_31 ⟨(Nat.le_of_ble_eq_true rfl), (Nat.le_of_ble_eq_true rfl)⟩ rfl) (fun H locs hH => ?_)
  refine W.widen (k := 27) (n := 129) (Nat.le_of_ble_eq_true rfl) (Nat.le_of_ble_eq_true rfl) ?_
  obtain ⟨M15, eM15, hf⟩ := bs_ hf
  refine mg_pFF hx hb hts hown hKn hH eM15 in_X1 tyX1_ok nmX1 rfl (by decide) (hts _ q939) (fun _ h9 => h9) rfl hname rfl rfl rfl dX1_init_34 (fun H locs hH => ?_)
  refine lv_aload_n hx hb dX1_init_37 rfl (lv_at hl 0 rfl) ?_
  refine mg_new (ci := 1) hx hb hts hown hKn hH in_X2 tyX2_ok (hts _ q864) (hts _ q523) (hts _ q68) rfl (Nat.le_of_ble_eq_true rfl) (Nat.le_of_ble_eq_true rfl) dX1_init_38 (fun H hH => ?_)
  obtain ⟨M16, eM16⟩ : ∃ z : Mem_, z = ms_ M15 n14 (eO_ 1 [.null, .null, .null, .null, .null, .null, .null, .null, .int 0, .int 0, .int 0, .int 0, .int 0]) := ⟨_, rfl⟩
  have hf := lu_ eM16 hf
  have hH := st_eq eM16 hH
  refine W.widen (k := 28) (n := 142) (Nat.le_of_ble_eq_true rfl) (Nat.le_of_ble_eq_true rfl) ?_
  refine lv_dup hx hb dX1_init_41 rfl ?_
  obtain ⟨M18, n19, er17, hf⟩ := bws_ hf
  refine cl_v hH (rn_IN ⟨hx, hb, hml, hown, hts⟩ hKn hH (mX2_init l G M16 (n14 + 1) n14 M18 n19 er17) ⟨va_cnB 0 hts (lw_meth q867) rfl rfl rfl (hKn.2.1 _ (List.mem_of_getElem? (i := 0) rfl)) (hts _ q68) kdX2_init ⟨Nat.le_of_ble_eq_true rfl, Nat.le_of_ble_eq_true rfl⟩, rfl, hts _ q866⟩ rfl hl.1 (Nat.le_of_ble_eq_true rfl) dX1_init_42 ⟨(Nat.le_of_ble_eq_true rfl), (Nat.le_of_ble_eq_true rfl)⟩ rfl) (fun H locs hH => ?_)
  refine W.widen (k := 36) (n := 172) (Nat.le_of_ble_eq_true rfl) (Nat.le_of_ble_eq_true rfl) ?_
  obtain ⟨M20, eM20, hf⟩ := bs_ hf
  refine mg_pFF hx hb hts hown hKn hH eM20 in_X1 tyX1_ok nmX1 rfl (by decide) (hts _ q940) (fun _ h9 => h9) rfl hname rfl rfl rfl dX1_init_45 (fun H locs hH => ?_)
  refine lv_aload_n hx hb dX1_init_48 rfl (lv_at hl 0 rfl) ?_
  refine lv_bipush (v := 100) hx hb dX1_init_49 (by decide) ?_
  refine mg_newq (t := 4) hx hb hKn hH hown (hts _ q924) (hKn.2.2.1 _ (List.mem_of_getElem? (i := 1) rfl)) rfl (N := 100) (by decide) (by decide) (by decide) (Nat.le_of_ble_eq_true rfl) (Nat.le_of_ble_eq_true rfl) dX1_init_51 (fun H hH => ?_)
  obtain ⟨M21, eM21⟩ : ∃ z : Mem_, z = ms_ M20 n19 (eQ_ 4 100 (fun _ => none)) := ⟨_, rfl⟩
  have hf := lu_ eM21 hf
  have hH := st_eq eM21 hH
  refine W.widen (k := 37) (n := 272) (Nat.le_of_ble_eq_true rfl) (Nat.le_of_ble_eq_true rfl) ?_
  obtain ⟨M22, eM22, hf⟩ := bs_ hf
  refine mg_pFF hx hb hts hown hKn hH eM22 in_X1 tyX1_ok nmX1 rfl (by decide) (hts _ q942) (fun _ h9 => h9) rfl hname rfl rfl rfl dX1_init_54 (fun H locs hH => ?_)
  refine lv_aload_n hx hb dX1_init_57 rfl (lv_at hl 0 rfl) ?_
  refine lv_bipush (v := 8) hx hb dX1_init_58 (by decide) ?_
  refine mg_newq (t := 5) hx hb hKn hH hown (hts _ q926) (hKn.2.2.1 _ (List.mem_of_getElem? (i := 2) rfl)) rfl (N := 8) (by decide) (by decide) (by decide) (Nat.le_of_ble_eq_true rfl) (Nat.le_of_ble_eq_true rfl) dX1_init_60 (fun H hH => ?_)
  obtain ⟨M23, eM23⟩ : ∃ z : Mem_, z = ms_ M22 (n19 + 1) (eQ_ 5 8 (fun _ => none)) := ⟨_, rfl⟩
  have hf := lu_ eM23 hf
  have hH := st_eq eM23 hH
  refine W.widen (k := 38) (n := 280) (Nat.le_of_ble_eq_true rfl) (Nat.le_of_ble_eq_true rfl) ?_
  obtain ⟨M24, eM24, hf⟩ := bs_ hf
  refine mg_pFF hx hb hts hown hKn hH eM24 in_X1 tyX1_ok nmX1 rfl (by decide) (hts _ q945) (fun _ h9 => h9) rfl hname rfl rfl rfl dX1_init_63 (fun H locs hH => ?_)
  refine lv_iconst (v := 0) hx hb dX1_init_66 (by decide) ?_
  refine lv_istore_n (lv' := [(1, .int 0), (0, .ref a0)]) hx hb dX1_init_67 rfl hl (by decide) rfl (fun ls hl => ?_)
  exact w68 10 M24 (n19 + 2) a0 0 38 280 _ _ ls (Nat.le_of_ble_eq_true rfl) (Nat.le_of_ble_eq_true rfl) hH (lv_sub hl [1, 0] rfl) hf
def fX1_isNine (a0 : Int32) : Bool :=
  lt_ (fX1_isIn a0 0 9) fun r1 =>
  r1
theorem kdX1_isNine : yX1_isNine.cls ≠ "java/lang/invoke/MethodHandle" ∧ yX1_isNine.cls ≠ "java/lang/invoke/VarHandle" ∧ (parseMethodDescriptor yX1_isNine.desc).map (fun d => d.parameters.length) = some 1 := by decide +kernel
set_option maxHeartbeats 4000000 in
theorem mX1_isNine (l : Launch) (G : GT_) (M : Mem_) (n : Nat) (a0 : Int32) (r : Bool) (hf : fX1_isNine a0 = r) : Ct_ G l yX1_isNine (ws_ yX1_isNine cX1_isNine 1 (some .boolean)) ({ frames := 1, cells := 0, slots := 0, locals := 22 }) 0 0 [.int a0] M n (some (.int (b2_ r))) M n := by
  refine en_ (by decide) (Nat.le_of_ble_eq_true rfl) ?_
  intro p e s m below meth c hx hb hr hlk hml hown hts hname hKn hH ls hl
  have hown : s.vm.findClass RX1 = some m.cls := hown
  have hl : lv_has ls 1 [(0, .int a0)] := hl
  unfold fX1_isNine at hf
  generalize s.heap = H at hH ⊢
  refine lv_iload_n hx hb dX1_isNine_0 rfl (lv_at hl 0 rfl) ?_
  refine lv_iconst (v := 0) hx hb dX1_isNine_1 (by decide) ?_
  refine lv_bipush (v := 9) hx hb dX1_isNine_2 (by decide) ?_
  obtain ⟨r1, er1⟩ : ∃ z, z = fX1_isIn a0 0 9 := ⟨_, rfl⟩
  have hf := lu_ er1 hf
  refine cl_i0 hH (rn_S ⟨hx, hb, hml, hown, hts⟩ hKn hH (mX1_isIn l G M n a0 0 9 r1 er1.symm) (va_cwS 3 hts (lw_S q199 q200 q67 q201) rfl rfl rfl kdX1_isIn ⟨Nat.le_of_ble_eq_true rfl, Nat.le_of_ble_eq_true rfl⟩) rfl hl.1 (Nat.le_of_ble_eq_true rfl) dX1_isNine_4 ⟨(Nat.le_of_ble_eq_true rfl), (Nat.le_of_ble_eq_true rfl)⟩ rfl) (fun H locs hH => ?_)
  subst hf
  exact rt_b (b := _) hx hb hr hlk hH dX1_isNine_7
def fX1_keep (M : Mem_) (n : Nat) (a0 : Nat) (a1 : Int32) (a2 : Int32) (a3 : Int32) (a4 : Int32) : Option (Int32 × Mem_ × Nat) :=
  (ck_ M a0 0).bind fun u1 =>
  lt_ (fX1_isShelf a0 a1) fun r2 =>
  if (b2_ r2) = 0 then
    some ((-1), M, n)
  else
    lt_ (fX1_isIn a2 0 1) fun r3 =>
    if (b2_ r3) = 0 then
      some ((-1), M, n)
    else
      if a2 = 1 then
        lt_ (fX1_isIn a3 0 7) fun r12 =>
        if (b2_ r12) = 0 then
          some ((-1), M, n)
        else
          lt_ (fX1_isNine a4) fun r13 =>
          if (b2_ r13) = 0 then
            some ((-1), M, n)
          else
            (gR_ M a0 0 8).bind fun v14 =>
            (aR_ M v14 5 a1).bind fun v15 =>
            if a2 = 0 then
              (pF_ M v15 2 0 (.null)).bind fun M20 =>
              some (0, M20, n)
            else
              ba_ (fX1_strokeOf M n a3 a4) fun r16 M17 n18 =>
              (pF_ M17 v15 2 0 (.ref r16)).bind fun M19 =>
              some (0, M19, n18)
      else
        (gR_ M a0 0 8).bind fun v4 =>
        (aR_ M v4 5 a1).bind fun v5 =>
        if a2 = 0 then
          (pF_ M v5 2 0 (.null)).bind fun M10 =>
          some (0, M10, n)
        else
          ba_ (fX1_strokeOf M n a3 a4) fun r6 M7 n8 =>
          (pF_ M7 v5 2 0 (.ref r6)).bind fun M9 =>
          some (0, M9, n8)
theorem kdX1_keep : yX1_keep.cls ≠ "java/lang/invoke/MethodHandle" ∧ yX1_keep.cls ≠ "java/lang/invoke/VarHandle" ∧ (parseMethodDescriptor yX1_keep.desc).map (fun d => d.parameters.length) = some 4 := by decide +kernel
set_option maxHeartbeats 4000000 in
theorem mX1_keep (l : Launch) (G : GT_) (M : Mem_) (n : Nat) (a0 : Nat) (a1 : Int32) (a2 : Int32) (a3 : Int32) (a4 : Int32) (r : Int32) (M1 : Mem_) (n1 : Nat) (hf : fX1_keep M n a0 a1 a2 a3 a4 = some (r, M1, n1)) : Ct_ G l yX1_keep (ws_ yX1_keep cX1_keep 5 (some .int)) ({ frames := 5, cells := 1, slots := 1, locals := 96 }) 1 1 [.ref a0, .int a1, .int a2, .int a3, .int a4] M n (some (.int r)) M1 n1 := by
  refine en_ (by decide) (Nat.le_of_ble_eq_true rfl) ?_
  intro p e s m below meth c hx hb hr hlk hml hown hts hname hKn hH ls hl
  have hown : s.vm.findClass RX1 = some m.cls := hown
  have hl : lv_has ls 5 [(0, .ref a0), (1, .int a1), (2, .int a2), (3, .int a3), (4, .int a4)] := hl
  unfold fX1_keep at hf
  generalize s.heap = H at hH ⊢
  refine lv_aload_n hx hb dX1_keep_0 rfl (lv_at hl 0 rfl) ?_
  refine lv_iload_n hx hb dX1_keep_1 rfl (lv_at hl 1 rfl) ?_
  obtain ⟨u1, eu1, hf⟩ := bs_ hf
  obtain ⟨r2, er2⟩ : ∃ z, z = fX1_isShelf a0 a1 := ⟨_, rfl⟩
  have hf := lu_ er2 hf
  refine cl_i0 hH (rn_V ⟨hx, hb, hml, hown, hts⟩ hKn hH (mX1_isShelf l G M n a0 a1 r2 er2.symm) (cwV 1 hts (lw_V q194 q196 qs2 q67 q198) rfl rfl rfl ⟨rfl, kdX1_isShelf⟩ ⟨Nat.le_of_ble_eq_true rfl, Nat.le_of_ble_eq_true rfl⟩) eu1 rfl rfl hl.1 (Nat.le_of_ble_eq_true rfl) dX1_keep_2 ⟨(Nat.le_of_ble_eq_true rfl), (Nat.le_of_ble_eq_true rfl)⟩ rfl) (fun H locs hH => ?_)
  refine lv_if_eq (tgt := 40) hx hb dX1_keep_5 (by decide) (fun c26 => ?_) (fun c26 => ?_)
  · have hf := ip_ c26 hf
    refine lv_iconst (v := (-1)) hx hb dX1_keep_40 (by decide) ?_
    cases hf
    refine W.widen (k := 1) (n := 1) (Nat.le_of_ble_eq_true rfl) (Nat.le_of_ble_eq_true rfl) ?_
    exact rt_i hx hb hr hlk hH dX1_keep_41
  · have hf := in_ c26 hf
    refine lv_iload_n hx hb dX1_keep_8 rfl (lv_at hl 2 rfl) ?_
    refine lv_iconst (v := 0) hx hb dX1_keep_9 (by decide) ?_
    refine lv_iconst (v := 1) hx hb dX1_keep_10 (by decide) ?_
    obtain ⟨r3, er3⟩ : ∃ z, z = fX1_isIn a2 0 1 := ⟨_, rfl⟩
    have hf := lu_ er3 hf
    refine cl_i0 hH (rn_S ⟨hx, hb, hml, hown, hts⟩ hKn hH (mX1_isIn l G M n a2 0 1 r3 er3.symm) (va_cwS 3 hts (lw_S q199 q200 q67 q201) rfl rfl rfl kdX1_isIn ⟨Nat.le_of_ble_eq_true rfl, Nat.le_of_ble_eq_true rfl⟩) rfl hl.1 (Nat.le_of_ble_eq_true rfl) dX1_keep_11 ⟨(Nat.le_of_ble_eq_true rfl), (Nat.le_of_ble_eq_true rfl)⟩ rfl) (fun H locs hH => ?_)
    refine lv_if_eq (tgt := 40) hx hb dX1_keep_14 (by decide) (fun c25 => ?_) (fun c25 => ?_)
    · have hf := ip_ c25 hf
      refine lv_iconst (v := (-1)) hx hb dX1_keep_40 (by decide) ?_
      cases hf
      refine W.widen (k := 1) (n := 1) (Nat.le_of_ble_eq_true rfl) (Nat.le_of_ble_eq_true rfl) ?_
      exact rt_i hx hb hr hlk hH dX1_keep_41
    · have hf := in_ c25 hf
      refine lv_iload_n hx hb dX1_keep_17 rfl (lv_at hl 2 rfl) ?_
      refine lv_iconst (v := 1) hx hb dX1_keep_18 (by decide) ?_
      refine lv_icmp_ne (tgt := 42) hx hb dX1_keep_19 (by decide) (fun c24 => ?_) (fun c24 => ?_)
      · have hf := in_ c24 hf
        refine lv_aload_n hx hb dX1_keep_42 rfl (lv_at hl 0 rfl) ?_
        obtain ⟨v4, ev4, hf⟩ := bs_ hf
        refine mg_gR hx hb hts hown hKn hH ev4 in_X1 rfl (by decide) (hts _ q945) (fun _ h9 => h9) dX1_keep_43 ?_
        refine lv_iload_n hx hb dX1_keep_46 rfl (lv_at hl 1 rfl) ?_
        obtain ⟨v5, ev5, hf⟩ := bs_ hf
        refine mg_aald5 hx hb hKn hH ev5 dX1_keep_47 ?_
        refine lv_iload_n hx hb dX1_keep_48 rfl (lv_at hl 2 rfl) ?_
        refine lv_if_ne (tgt := 56) hx hb dX1_keep_49 (by decide) (fun c11 => ?_) (fun c11 => ?_)
        · have hf := in_ c11 hf
          refine lv_iload_n hx hb dX1_keep_56 rfl (lv_at hl 3 rfl) ?_
          refine lv_iload hx hb dX1_keep_57 (lv_at hl 4 rfl) ?_
          obtain ⟨r6, M7, n8, er6, hf⟩ := bas_ hf
          refine cl_r hH (rn_S ⟨hx, hb, hml, hown, hts⟩ hKn hH (mX1_strokeOf l G M n a3 a4 r6 M7 n8 er6) (va_cwS 2 hts (lw_S q316 q317 q67 q318) rfl rfl rfl kdX1_strokeOf ⟨Nat.le_of_ble_eq_true rfl, Nat.le_of_ble_eq_true rfl⟩) rfl hl.1 (Nat.le_of_ble_eq_true rfl) dX1_keep_59 ⟨(Nat.le_of_ble_eq_true rfl), (Nat.le_of_ble_eq_true rfl)⟩ rfl) (fun H locs hH => ?_)
          refine W.widen (k := 1) (n := 1) (Nat.le_of_ble_eq_true rfl) (Nat.le_of_ble_eq_true rfl) ?_
          obtain ⟨M9, eM9, hf⟩ := bs_ hf
          refine mg_pF hx hb hts hown hKn hH eM9 in_X3 tyX3_ok nmX3 rfl (by decide) (hts _ q933) (fun _ h9 => h9) rfl rfl rfl dX1_keep_62 (fun H locs hH => ?_)
          refine lv_iconst (v := 0) hx hb dX1_keep_65 (by decide) ?_
          cases hf
          refine W.widen (k := 1) (n := 1) (Nat.le_of_ble_eq_true rfl) (Nat.le_of_ble_eq_true rfl) ?_
          exact rt_i hx hb hr hlk hH dX1_keep_66
        · have hf := ip_ c11 hf
          refine lv_null hx hb dX1_keep_52 ?_
          refine lv_goto (tgt := 62) hx hb dX1_keep_53 (by decide) ?_
          obtain ⟨M10, eM10, hf⟩ := bs_ hf
          refine mg_pF hx hb hts hown hKn hH eM10 in_X3 tyX3_ok nmX3 rfl (by decide) (hts _ q933) (fun _ h9 => h9) rfl rfl rfl dX1_keep_62 (fun H locs hH => ?_)
          refine lv_iconst (v := 0) hx hb dX1_keep_65 (by decide) ?_
          cases hf
          refine W.widen (k := 1) (n := 1) (Nat.le_of_ble_eq_true rfl) (Nat.le_of_ble_eq_true rfl) ?_
          exact rt_i hx hb hr hlk hH dX1_keep_66
      · have hf := ip_ c24 hf
        refine lv_iload_n hx hb dX1_keep_22 rfl (lv_at hl 3 rfl) ?_
        refine lv_iconst (v := 0) hx hb dX1_keep_23 (by decide) ?_
        refine lv_bipush (v := 7) hx hb dX1_keep_24 (by decide) ?_
        obtain ⟨r12, er12⟩ : ∃ z, z = fX1_isIn a3 0 7 := ⟨_, rfl⟩
        have hf := lu_ er12 hf
        refine cl_i0 hH (rn_S ⟨hx, hb, hml, hown, hts⟩ hKn hH (mX1_isIn l G M n a3 0 7 r12 er12.symm) (va_cwS 3 hts (lw_S q199 q200 q67 q201) rfl rfl rfl kdX1_isIn ⟨Nat.le_of_ble_eq_true rfl, Nat.le_of_ble_eq_true rfl⟩) rfl hl.1 (Nat.le_of_ble_eq_true rfl) dX1_keep_26 ⟨(Nat.le_of_ble_eq_true rfl), (Nat.le_of_ble_eq_true rfl)⟩ rfl) (fun H locs hH => ?_)
        refine lv_if_eq (tgt := 40) hx hb dX1_keep_29 (by decide) (fun c23 => ?_) (fun c23 => ?_)
        · have hf := ip_ c23 hf
          refine lv_iconst (v := (-1)) hx hb dX1_keep_40 (by decide) ?_
          cases hf
          refine W.widen (k := 1) (n := 1) (Nat.le_of_ble_eq_true rfl) (Nat.le_of_ble_eq_true rfl) ?_
          exact rt_i hx hb hr hlk hH dX1_keep_41
        · have hf := in_ c23 hf
          refine lv_iload hx hb dX1_keep_32 (lv_at hl 4 rfl) ?_
          obtain ⟨r13, er13⟩ : ∃ z, z = fX1_isNine a4 := ⟨_, rfl⟩
          have hf := lu_ er13 hf
          refine cl_i0 hH (rn_S ⟨hx, hb, hml, hown, hts⟩ hKn hH (mX1_isNine l G M n a4 r13 er13.symm) (va_cwS 1 hts (lw_S q969 q970 q67 q971) rfl rfl rfl kdX1_isNine ⟨Nat.le_of_ble_eq_true rfl, Nat.le_of_ble_eq_true rfl⟩) rfl hl.1 (Nat.le_of_ble_eq_true rfl) dX1_keep_34 ⟨(Nat.le_of_ble_eq_true rfl), (Nat.le_of_ble_eq_true rfl)⟩ rfl) (fun H locs hH => ?_)
          refine lv_if_ne (tgt := 42) hx hb dX1_keep_37 (by decide) (fun c22 => ?_) (fun c22 => ?_)
          · have hf := in_ c22 hf
            refine lv_aload_n hx hb dX1_keep_42 rfl (lv_at hl 0 rfl) ?_
            obtain ⟨v14, ev14, hf⟩ := bs_ hf
            refine mg_gR hx hb hts hown hKn hH ev14 in_X1 rfl (by decide) (hts _ q945) (fun _ h9 => h9) dX1_keep_43 ?_
            refine lv_iload_n hx hb dX1_keep_46 rfl (lv_at hl 1 rfl) ?_
            obtain ⟨v15, ev15, hf⟩ := bs_ hf
            refine mg_aald5 hx hb hKn hH ev15 dX1_keep_47 ?_
            refine lv_iload_n hx hb dX1_keep_48 rfl (lv_at hl 2 rfl) ?_
            refine lv_if_ne (tgt := 56) hx hb dX1_keep_49 (by decide) (fun c21 => ?_) (fun c21 => ?_)
            · have hf := in_ c21 hf
              refine lv_iload_n hx hb dX1_keep_56 rfl (lv_at hl 3 rfl) ?_
              refine lv_iload hx hb dX1_keep_57 (lv_at hl 4 rfl) ?_
              obtain ⟨r16, M17, n18, er16, hf⟩ := bas_ hf
              refine cl_r hH (rn_S ⟨hx, hb, hml, hown, hts⟩ hKn hH (mX1_strokeOf l G M n a3 a4 r16 M17 n18 er16) (va_cwS 2 hts (lw_S q316 q317 q67 q318) rfl rfl rfl kdX1_strokeOf ⟨Nat.le_of_ble_eq_true rfl, Nat.le_of_ble_eq_true rfl⟩) rfl hl.1 (Nat.le_of_ble_eq_true rfl) dX1_keep_59 ⟨(Nat.le_of_ble_eq_true rfl), (Nat.le_of_ble_eq_true rfl)⟩ rfl) (fun H locs hH => ?_)
              refine W.widen (k := 1) (n := 1) (Nat.le_of_ble_eq_true rfl) (Nat.le_of_ble_eq_true rfl) ?_
              obtain ⟨M19, eM19, hf⟩ := bs_ hf
              refine mg_pF hx hb hts hown hKn hH eM19 in_X3 tyX3_ok nmX3 rfl (by decide) (hts _ q933) (fun _ h9 => h9) rfl rfl rfl dX1_keep_62 (fun H locs hH => ?_)
              refine lv_iconst (v := 0) hx hb dX1_keep_65 (by decide) ?_
              cases hf
              refine W.widen (k := 1) (n := 1) (Nat.le_of_ble_eq_true rfl) (Nat.le_of_ble_eq_true rfl) ?_
              exact rt_i hx hb hr hlk hH dX1_keep_66
            · have hf := ip_ c21 hf
              refine lv_null hx hb dX1_keep_52 ?_
              refine lv_goto (tgt := 62) hx hb dX1_keep_53 (by decide) ?_
              obtain ⟨M20, eM20, hf⟩ := bs_ hf
              refine mg_pF hx hb hts hown hKn hH eM20 in_X3 tyX3_ok nmX3 rfl (by decide) (hts _ q933) (fun _ h9 => h9) rfl rfl rfl dX1_keep_62 (fun H locs hH => ?_)
              refine lv_iconst (v := 0) hx hb dX1_keep_65 (by decide) ?_
              cases hf
              refine W.widen (k := 1) (n := 1) (Nat.le_of_ble_eq_true rfl) (Nat.le_of_ble_eq_true rfl) ?_
              exact rt_i hx hb hr hlk hH dX1_keep_66
          · have hf := ip_ c22 hf
            refine lv_iconst (v := (-1)) hx hb dX1_keep_40 (by decide) ?_
            cases hf
            refine W.widen (k := 1) (n := 1) (Nat.le_of_ble_eq_true rfl) (Nat.le_of_ble_eq_true rfl) ?_
            exact rt_i hx hb hr hlk hH dX1_keep_41
