set_option maxRecDepth 100000
def fX4_timeBy (a0 : Int32) (a1 : Int32) (a2 : Int32) : Int32 :=
  if (a2 / 3) = 0 then
    if a0 = 1 then
      if a1 < 5 then
        2
      else
        1
    else
      if a0 = 2 then
        2
      else
        if a0 = 3 then
          6
        else
          if a0 = 4 then
            (2 - 1)
          else
            if a0 = 7 then
              7
            else
              3
  else
    if a0 = 1 then
      if a1 < 5 then
        2
      else
        1
    else
      if a0 = 2 then
        3
      else
        if a0 = 3 then
          6
        else
          if a0 = 4 then
            (3 - 1)
          else
            if a0 = 7 then
              7
            else
              3
theorem kdX4_timeBy : yX4_timeBy.cls ≠ "java/lang/invoke/MethodHandle" ∧ yX4_timeBy.cls ≠ "java/lang/invoke/VarHandle" ∧ (parseMethodDescriptor yX4_timeBy.desc).map (fun d => d.parameters.length) = some 3 := by decide +kernel
set_option maxHeartbeats 4000000 in
theorem mX4_timeBy (l : Launch) (G : GT_) (M : Mem_) (n : Nat) (a0 : Int32) (a1 : Int32) (a2 : Int32) (r : Int32) (hf : fX4_timeBy a0 a1 a2 = r) : Ct_ G l yX4_timeBy (ws_ yX4_timeBy cX4_timeBy 4 (some .int)) ({ frames := 0, cells := 0, slots := 0, locals := 0 }) 0 0 [.int a0, .int a1, .int a2] M n (some (.int r)) M n := by
  refine en_ (by decide) (Nat.le_of_ble_eq_true rfl) ?_
  intro p e s m below meth c hx hb hr hlk hml hown hts hname hKn hH ls hl
  have hown : s.vm.findClass RX4 = some m.cls := hown
  have hl : lv_has ls 4 [(0, .int a0), (1, .int a1), (2, .int a2)] := hl
  unfold fX4_timeBy at hf
  generalize s.heap = H at hH ⊢
  refine lv_iload_n hx hb dX4_timeBy_0 rfl (lv_at hl 2 rfl) ?_
  refine lv_iconst (v := 3) hx hb dX4_timeBy_1 (by decide) ?_
  refine lv_idiv hx hb dX4_timeBy_2 (by decide) ?_
  refine lv_if_ne (tgt := 10) hx hb dX4_timeBy_3 (by decide) (fun c13 => ?_) (fun c13 => ?_)
  · have hf := in_ c13 hf
    refine lv_iconst (v := 3) hx hb dX4_timeBy_10 (by decide) ?_
    refine lv_istore_n (lv' := [(3, .int 3), (0, .int a0), (1, .int a1), (2, .int a2)]) hx hb dX4_timeBy_11 rfl hl (by decide) rfl (fun ls hl => ?_)
    refine lv_iload_n hx hb dX4_timeBy_12 rfl (lv_at hl 1 rfl) ?_
    by_cases c1 : a0 = 1
    · have hf := ip_ c1 hf
      refine sw_I (off := 43) (tgt := 56) hx hb dX4_timeBy_13 c1 (by decide) (by decide) (by decide) (by decide) ?_
      refine lv_iload_n hx hb dX4_timeBy_56 rfl (lv_at hl 2 rfl) ?_
      refine lv_iconst (v := 5) hx hb dX4_timeBy_57 (by decide) ?_
      refine lv_icmp_lt (tgt := 65) hx hb dX4_timeBy_58 (by decide) (fun c2 => ?_) (fun c2 => ?_)
      · have hf := ip_ c2 hf
        refine lv_iconst (v := 2) hx hb dX4_timeBy_65 (by decide) ?_
        subst hf
        exact rt_i hx hb hr hlk hH dX4_timeBy_66
      · have hf := in_ c2 hf
        refine lv_iconst (v := 1) hx hb dX4_timeBy_61 (by decide) ?_
        refine lv_goto (tgt := 66) hx hb dX4_timeBy_62 (by decide) ?_
        subst hf
        exact rt_i hx hb hr hlk hH dX4_timeBy_66
    · have hf := in_ c1 hf
      by_cases c3 : a0 = 2
      · have hf := ip_ c3 hf
        refine sw_I (off := 54) (tgt := 67) hx hb dX4_timeBy_13 c3 (by decide) (by decide) (by decide) (by decide) ?_
        refine lv_iload_n hx hb dX4_timeBy_67 rfl (lv_at hl 0 rfl) ?_
        subst hf
        exact rt_i hx hb hr hlk hH dX4_timeBy_68
      · have hf := in_ c3 hf
        by_cases c4 : a0 = 3
        · have hf := ip_ c4 hf
          refine sw_I (off := 56) (tgt := 69) hx hb dX4_timeBy_13 c4 (by decide) (by decide) (by decide) (by decide) ?_
          refine lv_bipush (v := 6) hx hb dX4_timeBy_69 (by decide) ?_
          subst hf
          exact rt_i hx hb hr hlk hH dX4_timeBy_71
        · have hf := in_ c4 hf
          by_cases c5 : a0 = 4
          · have hf := ip_ c5 hf
            refine sw_I (off := 59) (tgt := 72) hx hb dX4_timeBy_13 c5 (by decide) (by decide) (by decide) (by decide) ?_
            refine lv_iload_n hx hb dX4_timeBy_72 rfl (lv_at hl 0 rfl) ?_
            refine lv_iconst (v := 1) hx hb dX4_timeBy_73 (by decide) ?_
            refine lv_isub hx hb dX4_timeBy_74 ?_
            subst hf
            exact rt_i hx hb hr hlk hH dX4_timeBy_75
          · have hf := in_ c5 hf
            by_cases c6 : a0 = 7
            · have hf := ip_ c6 hf
              refine sw_I (off := 63) (tgt := 76) hx hb dX4_timeBy_13 c6 (by decide) (by decide) (by decide) (by decide) ?_
              refine lv_bipush (v := 7) hx hb dX4_timeBy_76 (by decide) ?_
              subst hf
              exact rt_i hx hb hr hlk hH dX4_timeBy_78
            · have hf := in_ c6 hf
              refine sw_D (tgt := 79) hx hb dX4_timeBy_13 [(1, 43), (2, 54), (3, 56), (4, 59), (5, 66), (6, 66), (7, 63)] (by decide) (by decide) (by decide) ⟨Or.inr (lv_neT c1 (by decide)), Or.inr (lv_neT c3 (by decide)), Or.inr (lv_neT c4 (by decide)), Or.inr (lv_neT c5 (by decide)), Or.inl rfl, Or.inl rfl, Or.inr (lv_neT c6 (by decide)), trivial⟩ (by decide) ?_
              refine lv_iconst (v := 3) hx hb dX4_timeBy_79 (by decide) ?_
              subst hf
              exact rt_i hx hb hr hlk hH dX4_timeBy_80
  · have hf := ip_ c13 hf
    refine lv_iconst (v := 2) hx hb dX4_timeBy_6 (by decide) ?_
    refine lv_goto (tgt := 11) hx hb dX4_timeBy_7 (by decide) ?_
    refine lv_istore_n (lv' := [(3, .int 2), (0, .int a0), (1, .int a1), (2, .int a2)]) hx hb dX4_timeBy_11 rfl hl (by decide) rfl (fun ls hl => ?_)
    refine lv_iload_n hx hb dX4_timeBy_12 rfl (lv_at hl 1 rfl) ?_
    by_cases c7 : a0 = 1
    · have hf := ip_ c7 hf
      refine sw_I (off := 43) (tgt := 56) hx hb dX4_timeBy_13 c7 (by decide) (by decide) (by decide) (by decide) ?_
      refine lv_iload_n hx hb dX4_timeBy_56 rfl (lv_at hl 2 rfl) ?_
      refine lv_iconst (v := 5) hx hb dX4_timeBy_57 (by decide) ?_
      refine lv_icmp_lt (tgt := 65) hx hb dX4_timeBy_58 (by decide) (fun c8 => ?_) (fun c8 => ?_)
      · have hf := ip_ c8 hf
        refine lv_iconst (v := 2) hx hb dX4_timeBy_65 (by decide) ?_
        subst hf
        exact rt_i hx hb hr hlk hH dX4_timeBy_66
      · have hf := in_ c8 hf
        refine lv_iconst (v := 1) hx hb dX4_timeBy_61 (by decide) ?_
        refine lv_goto (tgt := 66) hx hb dX4_timeBy_62 (by decide) ?_
        subst hf
        exact rt_i hx hb hr hlk hH dX4_timeBy_66
    · have hf := in_ c7 hf
      by_cases c9 : a0 = 2
      · have hf := ip_ c9 hf
        refine sw_I (off := 54) (tgt := 67) hx hb dX4_timeBy_13 c9 (by decide) (by decide) (by decide) (by decide) ?_
        refine lv_iload_n hx hb dX4_timeBy_67 rfl (lv_at hl 0 rfl) ?_
        subst hf
        exact rt_i hx hb hr hlk hH dX4_timeBy_68
      · have hf := in_ c9 hf
        by_cases c10 : a0 = 3
        · have hf := ip_ c10 hf
          refine sw_I (off := 56) (tgt := 69) hx hb dX4_timeBy_13 c10 (by decide) (by decide) (by decide) (by decide) ?_
          refine lv_bipush (v := 6) hx hb dX4_timeBy_69 (by decide) ?_
          subst hf
          exact rt_i hx hb hr hlk hH dX4_timeBy_71
        · have hf := in_ c10 hf
          by_cases c11 : a0 = 4
          · have hf := ip_ c11 hf
            refine sw_I (off := 59) (tgt := 72) hx hb dX4_timeBy_13 c11 (by decide) (by decide) (by decide) (by decide) ?_
            refine lv_iload_n hx hb dX4_timeBy_72 rfl (lv_at hl 0 rfl) ?_
            refine lv_iconst (v := 1) hx hb dX4_timeBy_73 (by decide) ?_
            refine lv_isub hx hb dX4_timeBy_74 ?_
            subst hf
            exact rt_i hx hb hr hlk hH dX4_timeBy_75
          · have hf := in_ c11 hf
            by_cases c12 : a0 = 7
            · have hf := ip_ c12 hf
              refine sw_I (off := 63) (tgt := 76) hx hb dX4_timeBy_13 c12 (by decide) (by decide) (by decide) (by decide) ?_
              refine lv_bipush (v := 7) hx hb dX4_timeBy_76 (by decide) ?_
              subst hf
              exact rt_i hx hb hr hlk hH dX4_timeBy_78
            · have hf := in_ c12 hf
              refine sw_D (tgt := 79) hx hb dX4_timeBy_13 [(1, 43), (2, 54), (3, 56), (4, 59), (5, 66), (6, 66), (7, 63)] (by decide) (by decide) (by decide) ⟨Or.inr (lv_neT c7 (by decide)), Or.inr (lv_neT c9 (by decide)), Or.inr (lv_neT c10 (by decide)), Or.inr (lv_neT c11 (by decide)), Or.inl rfl, Or.inl rfl, Or.inr (lv_neT c12 (by decide)), trivial⟩ (by decide) ?_
              refine lv_iconst (v := 3) hx hb dX4_timeBy_79 (by decide) ?_
              subst hf
              exact rt_i hx hb hr hlk hH dX4_timeBy_80
def fX4_timeIn (M : Mem_) (a0 : Nat) (a1 : Int32) (a2 : Int32) : Option Int32 :=
  lt_ (fX4_ofS a1 0) fun r1 =>
  (aI_ M a0 0 r1).bind fun v2 =>
  lt_ (fX4_ofS a1 1) fun r3 =>
  (aI_ M a0 0 r3).bind fun v4 =>
  lt_ (fX4_timeBy v2 v4 a2) fun r5 =>
  some r5
theorem kdX4_timeIn : yX4_timeIn.cls ≠ "java/lang/invoke/MethodHandle" ∧ yX4_timeIn.cls ≠ "java/lang/invoke/VarHandle" ∧ (parseMethodDescriptor yX4_timeIn.desc).map (fun d => d.parameters.length) = some 3 := by decide +kernel
set_option maxHeartbeats 4000000 in
theorem mX4_timeIn (l : Launch) (G : GT_) (M : Mem_) (n : Nat) (a0 : Nat) (a1 : Int32) (a2 : Int32) (r : Int32) (hf : fX4_timeIn M a0 a1 a2 = some r) : Ct_ G l yX4_timeIn (ws_ yX4_timeIn cX4_timeIn 3 (some .int)) ({ frames := 1, cells := 0, slots := 0, locals := 23 }) 0 0 [.ref a0, .int a1, .int a2] M n (some (.int r)) M n := by
  refine en_ (by decide) (Nat.le_of_ble_eq_true rfl) ?_
  intro p e s m below meth c hx hb hr hlk hml hown hts hname hKn hH ls hl
  have hown : s.vm.findClass RX4 = some m.cls := hown
  have hl : lv_has ls 3 [(0, .ref a0), (1, .int a1), (2, .int a2)] := hl
  unfold fX4_timeIn at hf
  generalize s.heap = H at hH ⊢
  refine lv_aload_n hx hb dX4_timeIn_0 rfl (lv_at hl 0 rfl) ?_
  refine lv_iload_n hx hb dX4_timeIn_1 rfl (lv_at hl 1 rfl) ?_
  refine lv_iconst (v := 0) hx hb dX4_timeIn_2 (by decide) ?_
  obtain ⟨r1, er1⟩ : ∃ z, z = fX4_ofS a1 0 := ⟨_, rfl⟩
  have hf := lu_ er1 hf
  refine cl_i0 hH (rn_S ⟨hx, hb, hml, hown, hts⟩ hKn hH (mX4_ofS l G M n a1 0 r1 er1.symm) (va_cwS 2 hts (lw_S q1274 q1275 q70 q1276) rfl rfl rfl kdX4_ofS ⟨Nat.le_of_ble_eq_true rfl, Nat.le_of_ble_eq_true rfl⟩) rfl hl.1 (Nat.le_of_ble_eq_true rfl) dX4_timeIn_3 ⟨(Nat.le_of_ble_eq_true rfl), (Nat.le_of_ble_eq_true rfl)⟩ rfl) (fun H locs hH => ?_)
  obtain ⟨v2, ev2, hf⟩ := bs_ hf
  refine mg_iald hx hb hKn hH ev2 dX4_timeIn_6 ?_
  refine lv_aload_n hx hb dX4_timeIn_7 rfl (lv_at hl 0 rfl) ?_
  refine lv_iload_n hx hb dX4_timeIn_8 rfl (lv_at hl 1 rfl) ?_
  refine lv_iconst (v := 1) hx hb dX4_timeIn_9 (by decide) ?_
  obtain ⟨r3, er3⟩ : ∃ z, z = fX4_ofS a1 1 := ⟨_, rfl⟩
  have hf := lu_ er3 hf
  refine cl_i0 hH (rn_S ⟨hx, hb, hml, hown, hts⟩ hKn hH (mX4_ofS l G M n a1 1 r3 er3.symm) (va_cwS 2 hts (lw_S q1274 q1275 q70 q1276) rfl rfl rfl kdX4_ofS ⟨Nat.le_of_ble_eq_true rfl, Nat.le_of_ble_eq_true rfl⟩) rfl hl.1 (Nat.le_of_ble_eq_true rfl) dX4_timeIn_10 ⟨(Nat.le_of_ble_eq_true rfl), (Nat.le_of_ble_eq_true rfl)⟩ rfl) (fun H locs hH => ?_)
  obtain ⟨v4, ev4, hf⟩ := bs_ hf
  refine mg_iald hx hb hKn hH ev4 dX4_timeIn_13 ?_
  refine lv_iload_n hx hb dX4_timeIn_14 rfl (lv_at hl 2 rfl) ?_
  obtain ⟨r5, er5⟩ : ∃ z, z = fX4_timeBy v2 v4 a2 := ⟨_, rfl⟩
  have hf := lu_ er5 hf
  refine cl_i0 hH (rn_S ⟨hx, hb, hml, hown, hts⟩ hKn hH (mX4_timeBy l G M n v2 v4 a2 r5 er5.symm) (va_cwS 3 hts (lw_S q1304 q1305 q70 q1306) rfl rfl rfl kdX4_timeBy ⟨Nat.le_of_ble_eq_true rfl, Nat.le_of_ble_eq_true rfl⟩) rfl hl.1 (Nat.le_of_ble_eq_true rfl) dX4_timeIn_15 ⟨(Nat.le_of_ble_eq_true rfl), (Nat.le_of_ble_eq_true rfl)⟩ rfl) (fun H locs hH => ?_)
  cases hf
  exact rt_i hx hb hr hlk hH dX4_timeIn_18
def fX4_apart (a0 : Int32) (a1 : Int32) : Int32 :=
  if a1 ≤ a0 then
    (a0 - a1)
  else
    (a1 - a0)
theorem kdX4_apart : yX4_apart.cls ≠ "java/lang/invoke/MethodHandle" ∧ yX4_apart.cls ≠ "java/lang/invoke/VarHandle" ∧ (parseMethodDescriptor yX4_apart.desc).map (fun d => d.parameters.length) = some 2 := by decide +kernel
set_option maxHeartbeats 4000000 in
theorem mX4_apart (l : Launch) (G : GT_) (M : Mem_) (n : Nat) (a0 : Int32) (a1 : Int32) (r : Int32) (hf : fX4_apart a0 a1 = r) : Ct_ G l yX4_apart (ws_ yX4_apart cX4_apart 2 (some .int)) ({ frames := 0, cells := 0, slots := 0, locals := 0 }) 0 0 [.int a0, .int a1] M n (some (.int r)) M n := by
  refine en_ (by decide) (Nat.le_of_ble_eq_true rfl) ?_
  intro p e s m below meth c hx hb hr hlk hml hown hts hname hKn hH ls hl
  have hown : s.vm.findClass RX4 = some m.cls := hown
  have hl : lv_has ls 2 [(0, .int a0), (1, .int a1)] := hl
  unfold fX4_apart at hf
  generalize s.heap = H at hH ⊢
  refine lv_iload_n hx hb dX4_apart_0 rfl (lv_at hl 0 rfl) ?_
  refine lv_iload_n hx hb dX4_apart_1 rfl (lv_at hl 1 rfl) ?_
  refine lv_icmp_ge (tgt := 11) hx hb dX4_apart_2 (by decide) (fun c1 => ?_) (fun c1 => ?_)
  · have hf := ip_ c1 hf
    refine lv_iload_n hx hb dX4_apart_11 rfl (lv_at hl 0 rfl) ?_
    refine lv_iload_n hx hb dX4_apart_12 rfl (lv_at hl 1 rfl) ?_
    refine lv_isub hx hb dX4_apart_13 ?_
    subst hf
    exact rt_i hx hb hr hlk hH dX4_apart_14
  · have hf := in_ c1 hf
    refine lv_iload_n hx hb dX4_apart_5 rfl (lv_at hl 1 rfl) ?_
    refine lv_iload_n hx hb dX4_apart_6 rfl (lv_at hl 0 rfl) ?_
    refine lv_isub hx hb dX4_apart_7 ?_
    refine lv_goto (tgt := 14) hx hb dX4_apart_8 (by decide) ?_
    subst hf
    exact rt_i hx hb hr hlk hH dX4_apart_14
def fX4_wayOf (a0 : Int32) (a1 : Int32) : Int32 :=
  lt_ (fX4_apart (a0 / 3) (a1 / 3)) fun r1 =>
  lt_ (fX4_apart (a0 - a0 / 3 * 3) (a1 - a1 / 3 * 3)) fun r2 =>
  (r1 + r2)
theorem kdX4_wayOf : yX4_wayOf.cls ≠ "java/lang/invoke/MethodHandle" ∧ yX4_wayOf.cls ≠ "java/lang/invoke/VarHandle" ∧ (parseMethodDescriptor yX4_wayOf.desc).map (fun d => d.parameters.length) = some 2 := by decide +kernel
set_option maxHeartbeats 4000000 in
theorem mX4_wayOf (l : Launch) (G : GT_) (M : Mem_) (n : Nat) (a0 : Int32) (a1 : Int32) (r : Int32) (hf : fX4_wayOf a0 a1 = r) : Ct_ G l yX4_wayOf (ws_ yX4_wayOf cX4_wayOf 2 (some .int)) ({ frames := 1, cells := 0, slots := 0, locals := 21 }) 0 0 [.int a0, .int a1] M n (some (.int r)) M n := by
  refine en_ (by decide) (Nat.le_of_ble_eq_true rfl) ?_
  intro p e s m below meth c hx hb hr hlk hml hown hts hname hKn hH ls hl
  have hown : s.vm.findClass RX4 = some m.cls := hown
  have hl : lv_has ls 2 [(0, .int a0), (1, .int a1)] := hl
  unfold fX4_wayOf at hf
  generalize s.heap = H at hH ⊢
  refine lv_iload_n hx hb dX4_wayOf_0 rfl (lv_at hl 0 rfl) ?_
  refine lv_iconst (v := 3) hx hb dX4_wayOf_1 (by decide) ?_
  refine lv_idiv hx hb dX4_wayOf_2 (by decide) ?_
  refine lv_iload_n hx hb dX4_wayOf_3 rfl (lv_at hl 1 rfl) ?_
  refine lv_iconst (v := 3) hx hb dX4_wayOf_4 (by decide) ?_
  refine lv_idiv hx hb dX4_wayOf_5 (by decide) ?_
  obtain ⟨r1, er1⟩ : ∃ z, z = fX4_apart (a0 / 3) (a1 / 3) := ⟨_, rfl⟩
  have hf := lu_ er1 hf
  refine cl_i0 hH (rn_S ⟨hx, hb, hml, hown, hts⟩ hKn hH (mX4_apart l G M n (a0 / 3) (a1 / 3) r1 er1.symm) (va_cwS 2 hts (lw_S q1313 q1314 q70 q1315) rfl rfl rfl kdX4_apart ⟨Nat.le_of_ble_eq_true rfl, Nat.le_of_ble_eq_true rfl⟩) rfl hl.1 (Nat.le_of_ble_eq_true rfl) dX4_wayOf_6 ⟨(Nat.le_of_ble_eq_true rfl), (Nat.le_of_ble_eq_true rfl)⟩ rfl) (fun H locs hH => ?_)
  refine lv_iload_n hx hb dX4_wayOf_9 rfl (lv_at hl 0 rfl) ?_
  refine lv_iconst (v := 3) hx hb dX4_wayOf_10 (by decide) ?_
  refine lv_irem hx hb dX4_wayOf_11 (by decide) ?_
  refine lv_iload_n hx hb dX4_wayOf_12 rfl (lv_at hl 1 rfl) ?_
  refine lv_iconst (v := 3) hx hb dX4_wayOf_13 (by decide) ?_
  refine lv_irem hx hb dX4_wayOf_14 (by decide) ?_
  obtain ⟨r2, er2⟩ : ∃ z, z = fX4_apart (a0 - a0 / 3 * 3) (a1 - a1 / 3 * 3) := ⟨_, rfl⟩
  have hf := lu_ er2 hf
  refine cl_i0 hH (rn_S ⟨hx, hb, hml, hown, hts⟩ hKn hH (mX4_apart l G M n (a0 - a0 / 3 * 3) (a1 - a1 / 3 * 3) r2 er2.symm) (va_cwS 2 hts (lw_S q1313 q1314 q70 q1315) rfl rfl rfl kdX4_apart ⟨Nat.le_of_ble_eq_true rfl, Nat.le_of_ble_eq_true rfl⟩) rfl hl.1 (Nat.le_of_ble_eq_true rfl) dX4_wayOf_15 ⟨(Nat.le_of_ble_eq_true rfl), (Nat.le_of_ble_eq_true rfl)⟩ rfl) (fun H locs hH => ?_)
  refine lv_iadd hx hb dX4_wayOf_18 ?_
  subst hf
  exact rt_i hx hb hr hlk hH dX4_wayOf_19
def fX4_whoseIn (M : Mem_) (a0 : Nat) (a1 : Int32) (a2 : Int32) : Option Int32 :=
  lt_ ((2 * a1)) fun v1 =>
  lt_ (fX4_ofP v1 0) fun r2 =>
  (aI_ M a0 0 r2).bind fun v3 =>
  lt_ (fX4_wayOf v3 a2) fun r4 =>
  lt_ (fX4_ofP (v1 + 1) 0) fun r5 =>
  (aI_ M a0 0 r5).bind fun v6 =>
  lt_ (fX4_wayOf v6 a2) fun r7 =>
  if r4 = r7 then
    lt_ (fX4_ofSide a1 1) fun r8 =>
    (aI_ M a0 0 r8).bind fun v9 =>
    if v9 = 1 then
      some v1
    else
      if v9 = 2 then
        some v1
      else
        lt_ (fX4_ofP v1 3) fun r10 =>
        (aI_ M a0 0 r10).bind fun v11 =>
        lt_ (fX4_ofP (v1 + 1) 3) fun r12 =>
        (aI_ M a0 0 r12).bind fun v13 =>
        if v11 = v13 then
          if v9 = 3 then
            some 9
          else
            some 9
        else
          if v9 = 3 then
            lt_ (fX4_ofP v1 3) fun r17 =>
            (aI_ M a0 0 r17).bind fun v18 =>
            if v18 = 1 then
              some v1
            else
              some (v1 + 1)
          else
            some 9
  else
    if r7 ≤ r4 then
      some (v1 + 1)
    else
      some v1
theorem kdX4_whoseIn : yX4_whoseIn.cls ≠ "java/lang/invoke/MethodHandle" ∧ yX4_whoseIn.cls ≠ "java/lang/invoke/VarHandle" ∧ (parseMethodDescriptor yX4_whoseIn.desc).map (fun d => d.parameters.length) = some 3 := by decide +kernel
set_option maxHeartbeats 4000000 in
theorem mX4_whoseIn (l : Launch) (G : GT_) (M : Mem_) (n : Nat) (a0 : Nat) (a1 : Int32) (a2 : Int32) (r : Int32) (hf : fX4_whoseIn M a0 a1 a2 = some r) : Ct_ G l yX4_whoseIn (ws_ yX4_whoseIn cX4_whoseIn 8 (some .int)) ({ frames := 2, cells := 0, slots := 0, locals := 42 }) 0 0 [.ref a0, .int a1, .int a2] M n (some (.int r)) M n := by
  refine en_ (by decide) (Nat.le_of_ble_eq_true rfl) ?_
  intro p e s m below meth c hx hb hr hlk hml hown hts hname hKn hH ls hl
  have hown : s.vm.findClass RX4 = some m.cls := hown
  have hl : lv_has ls 8 [(0, .ref a0), (1, .int a1), (2, .int a2)] := hl
  unfold fX4_whoseIn at hf
  generalize s.heap = H at hH ⊢
  refine lv_iconst (v := 2) hx hb dX4_whoseIn_0 (by decide) ?_
  refine lv_iload_n hx hb dX4_whoseIn_1 rfl (lv_at hl 1 rfl) ?_
  refine lv_imul hx hb dX4_whoseIn_2 ?_
  refine lv_topi (fun v1 ev1 => ?_)
  have hf := lu_ ev1 hf
  refine lv_istore_n (lv' := [(3, .int v1), (0, .ref a0), (1, .int a1), (2, .int a2)]) hx hb dX4_whoseIn_3 rfl hl (by decide) rfl (fun ls hl => ?_)
  refine lv_aload_n hx hb dX4_whoseIn_4 rfl (lv_at hl 1 rfl) ?_
  refine lv_iload_n hx hb dX4_whoseIn_5 rfl (lv_at hl 0 rfl) ?_
  refine lv_iconst (v := 0) hx hb dX4_whoseIn_6 (by decide) ?_
  obtain ⟨r2, er2⟩ : ∃ z, z = fX4_ofP v1 0 := ⟨_, rfl⟩
  have hf := lu_ er2 hf
  refine cl_i0 hH (rn_S ⟨hx, hb, hml, hown, hts⟩ hKn hH (mX4_ofP l G M n v1 0 r2 er2.symm) (va_cwS 2 hts (lw_S q1170 q1171 q70 q1172) rfl rfl rfl kdX4_ofP ⟨Nat.le_of_ble_eq_true rfl, Nat.le_of_ble_eq_true rfl⟩) rfl hl.1 (Nat.le_of_ble_eq_true rfl) dX4_whoseIn_7 ⟨(Nat.le_of_ble_eq_true rfl), (Nat.le_of_ble_eq_true rfl)⟩ rfl) (fun H locs hH => ?_)
  obtain ⟨v3, ev3, hf⟩ := bs_ hf
  refine mg_iald hx hb hKn hH ev3 dX4_whoseIn_10 ?_
  refine lv_iload_n hx hb dX4_whoseIn_11 rfl (lv_at hl 3 rfl) ?_
  obtain ⟨r4, er4⟩ : ∃ z, z = fX4_wayOf v3 a2 := ⟨_, rfl⟩
  have hf := lu_ er4 hf
  refine cl_i0 hH (rn_S ⟨hx, hb, hml, hown, hts⟩ hKn hH (mX4_wayOf l G M n v3 a2 r4 er4.symm) (va_cwS 2 hts (lw_S q1310 q1311 q70 q1312) rfl rfl rfl kdX4_wayOf ⟨Nat.le_of_ble_eq_true rfl, Nat.le_of_ble_eq_true rfl⟩) rfl hl.1 (Nat.le_of_ble_eq_true rfl) dX4_whoseIn_12 ⟨(Nat.le_of_ble_eq_true rfl), (Nat.le_of_ble_eq_true rfl)⟩ rfl) (fun H locs hH => ?_)
  refine lv_istore (lv' := [(4, .int r4), (3, .int v1), (0, .ref a0), (1, .int a1), (2, .int a2)]) hx hb dX4_whoseIn_15 hl (by decide) rfl (fun ls hl => ?_)
  refine lv_aload_n hx hb dX4_whoseIn_17 rfl (lv_at hl 2 rfl) ?_
  refine lv_iload_n hx hb dX4_whoseIn_18 rfl (lv_at hl 1 rfl) ?_
  refine lv_iconst (v := 1) hx hb dX4_whoseIn_19 (by decide) ?_
  refine lv_iadd hx hb dX4_whoseIn_20 ?_
  refine lv_iconst (v := 0) hx hb dX4_whoseIn_21 (by decide) ?_
  obtain ⟨r5, er5⟩ : ∃ z, z = fX4_ofP (v1 + 1) 0 := ⟨_, rfl⟩
  have hf := lu_ er5 hf
  refine cl_i0 hH (rn_S ⟨hx, hb, hml, hown, hts⟩ hKn hH (mX4_ofP l G M n (v1 + 1) 0 r5 er5.symm) (va_cwS 2 hts (lw_S q1170 q1171 q70 q1172) rfl rfl rfl kdX4_ofP ⟨Nat.le_of_ble_eq_true rfl, Nat.le_of_ble_eq_true rfl⟩) rfl hl.1 (Nat.le_of_ble_eq_true rfl) dX4_whoseIn_22 ⟨(Nat.le_of_ble_eq_true rfl), (Nat.le_of_ble_eq_true rfl)⟩ rfl) (fun H locs hH => ?_)
  obtain ⟨v6, ev6, hf⟩ := bs_ hf
  refine mg_iald hx hb hKn hH ev6 dX4_whoseIn_25 ?_
  refine lv_iload_n hx hb dX4_whoseIn_26 rfl (lv_at hl 4 rfl) ?_
  obtain ⟨r7, er7⟩ : ∃ z, z = fX4_wayOf v6 a2 := ⟨_, rfl⟩
  have hf := lu_ er7 hf
  refine cl_i0 hH (rn_S ⟨hx, hb, hml, hown, hts⟩ hKn hH (mX4_wayOf l G M n v6 a2 r7 er7.symm) (va_cwS 2 hts (lw_S q1310 q1311 q70 q1312) rfl rfl rfl kdX4_wayOf ⟨Nat.le_of_ble_eq_true rfl, Nat.le_of_ble_eq_true rfl⟩) rfl hl.1 (Nat.le_of_ble_eq_true rfl) dX4_whoseIn_27 ⟨(Nat.le_of_ble_eq_true rfl), (Nat.le_of_ble_eq_true rfl)⟩ rfl) (fun H locs hH => ?_)
  refine lv_istore (lv' := [(5, .int r7), (4, .int r4), (3, .int v1), (0, .ref a0), (1, .int a1), (2, .int a2)]) hx hb dX4_whoseIn_30 hl (by decide) rfl (fun ls hl => ?_)
  refine lv_iload hx hb dX4_whoseIn_32 (lv_at hl 1 rfl) ?_
  refine lv_iload hx hb dX4_whoseIn_34 (lv_at hl 0 rfl) ?_
  refine lv_icmp_eq (tgt := 54) hx hb dX4_whoseIn_36 (by decide) (fun c25 => ?_) (fun c25 => ?_)
  · have hf := ip_ c25 hf
    refine lv_aload_n hx hb dX4_whoseIn_54 rfl (lv_at hl 3 rfl) ?_
    refine lv_iload_n hx hb dX4_whoseIn_55 rfl (lv_at hl 4 rfl) ?_
    refine lv_iconst (v := 1) hx hb dX4_whoseIn_56 (by decide) ?_
    obtain ⟨r8, er8⟩ : ∃ z, z = fX4_ofSide a1 1 := ⟨_, rfl⟩
    have hf := lu_ er8 hf
    refine cl_i0 hH (rn_S ⟨hx, hb, hml, hown, hts⟩ hKn hH (mX4_ofSide l G M n a1 1 r8 er8.symm) (va_cwS 2 hts (lw_S q1173 q1174 q70 q1175) rfl rfl rfl kdX4_ofSide ⟨Nat.le_of_ble_eq_true rfl, Nat.le_of_ble_eq_true rfl⟩) rfl hl.1 (Nat.le_of_ble_eq_true rfl) dX4_whoseIn_57 ⟨(Nat.le_of_ble_eq_true rfl), (Nat.le_of_ble_eq_true rfl)⟩ rfl) (fun H locs hH => ?_)
    obtain ⟨v9, ev9, hf⟩ := bs_ hf
    refine mg_iald hx hb hKn hH ev9 dX4_whoseIn_60 ?_
    refine lv_istore (lv' := [(6, .int v9), (5, .int r7), (4, .int r4), (3, .int v1), (0, .ref a0), (1, .int a1), (2, .int a2)]) hx hb dX4_whoseIn_61 hl (by decide) rfl (fun ls hl => ?_)
    refine lv_iload hx hb dX4_whoseIn_63 (lv_at hl 0 rfl) ?_
    refine lv_iconst (v := 1) hx hb dX4_whoseIn_65 (by decide) ?_
    refine lv_icmp_eq (tgt := 75) hx hb dX4_whoseIn_66 (by decide) (fun c23 => ?_) (fun c23 => ?_)
    · have hf := ip_ c23 hf
      refine lv_iload_n hx hb dX4_whoseIn_75 rfl (lv_at hl 3 rfl) ?_
      cases hf
      exact rt_i hx hb hr hlk hH dX4_whoseIn_76
    · have hf := in_ c23 hf
      refine lv_iload hx hb dX4_whoseIn_69 (lv_at hl 0 rfl) ?_
      refine lv_iconst (v := 2) hx hb dX4_whoseIn_71 (by decide) ?_
      refine lv_icmp_ne (tgt := 77) hx hb dX4_whoseIn_72 (by decide) (fun c22 => ?_) (fun c22 => ?_)
      · have hf := in_ c22 hf
        refine lv_aload_n hx hb dX4_whoseIn_77 rfl (lv_at hl 4 rfl) ?_
        refine lv_iload_n hx hb dX4_whoseIn_78 rfl (lv_at hl 3 rfl) ?_
        refine lv_iconst (v := 3) hx hb dX4_whoseIn_79 (by decide) ?_
        obtain ⟨r10, er10⟩ : ∃ z, z = fX4_ofP v1 3 := ⟨_, rfl⟩
        have hf := lu_ er10 hf
        refine cl_i0 hH (rn_S ⟨hx, hb, hml, hown, hts⟩ hKn hH (mX4_ofP l G M n v1 3 r10 er10.symm) (va_cwS 2 hts (lw_S q1170 q1171 q70 q1172) rfl rfl rfl kdX4_ofP ⟨Nat.le_of_ble_eq_true rfl, Nat.le_of_ble_eq_true rfl⟩) rfl hl.1 (Nat.le_of_ble_eq_true rfl) dX4_whoseIn_80 ⟨(Nat.le_of_ble_eq_true rfl), (Nat.le_of_ble_eq_true rfl)⟩ rfl) (fun H locs hH => ?_)
        obtain ⟨v11, ev11, hf⟩ := bs_ hf
        refine mg_iald hx hb hKn hH ev11 dX4_whoseIn_83 ?_
        refine lv_aload_n hx hb dX4_whoseIn_84 rfl (lv_at hl 4 rfl) ?_
        refine lv_iload_n hx hb dX4_whoseIn_85 rfl (lv_at hl 3 rfl) ?_
        refine lv_iconst (v := 1) hx hb dX4_whoseIn_86 (by decide) ?_
        refine lv_iadd hx hb dX4_whoseIn_87 ?_
        refine lv_iconst (v := 3) hx hb dX4_whoseIn_88 (by decide) ?_
        obtain ⟨r12, er12⟩ : ∃ z, z = fX4_ofP (v1 + 1) 3 := ⟨_, rfl⟩
        have hf := lu_ er12 hf
        refine cl_i0 hH (rn_S ⟨hx, hb, hml, hown, hts⟩ hKn hH (mX4_ofP l G M n (v1 + 1) 3 r12 er12.symm) (va_cwS 2 hts (lw_S q1170 q1171 q70 q1172) rfl rfl rfl kdX4_ofP ⟨Nat.le_of_ble_eq_true rfl, Nat.le_of_ble_eq_true rfl⟩) rfl hl.1 (Nat.le_of_ble_eq_true rfl) dX4_whoseIn_89 ⟨(Nat.le_of_ble_eq_true rfl), (Nat.le_of_ble_eq_true rfl)⟩ rfl) (fun H locs hH => ?_)
        obtain ⟨v13, ev13, hf⟩ := bs_ hf
        refine mg_iald hx hb hKn hH ev13 dX4_whoseIn_92 ?_
        refine lv_icmp_eq (tgt := 100) hx hb dX4_whoseIn_93 (by decide) (fun c21 => ?_) (fun c21 => ?_)
        · have hf := ip_ c21 hf
          refine lv_iconst (v := 0) hx hb dX4_whoseIn_100 (by decide) ?_
          refine lv_istore (lv' := [(7, .int 0), (6, .int v9), (5, .int r7), (4, .int r4), (3, .int v1), (0, .ref a0), (1, .int a1), (2, .int a2)]) hx hb dX4_whoseIn_101 hl (by decide) rfl (fun ls hl => ?_)
          refine lv_iload hx hb dX4_whoseIn_103 (lv_at hl 1 rfl) ?_
          refine lv_iconst (v := 3) hx hb dX4_whoseIn_105 (by decide) ?_
          refine lv_icmp_ne (tgt := 135) hx hb dX4_whoseIn_106 (by decide) (fun c15 => ?_) (fun c15 => ?_)
          · have hf := in_ c15 hf
            refine lv_bipush (v := 9) hx hb dX4_whoseIn_135 (by decide) ?_
            cases hf
            exact rt_i hx hb hr hlk hH dX4_whoseIn_137
          · have hf := ip_ c15 hf
            refine lv_iload hx hb dX4_whoseIn_109 (lv_at hl 0 rfl) ?_
            refine lv_if_eq (tgt := 135) hx hb dX4_whoseIn_111 (by decide) (fun c14 => ?_) (fun c14 => ?_)
            · refine lv_bipush (v := 9) hx hb dX4_whoseIn_135 (by decide) ?_
              cases hf
              exact rt_i hx hb hr hlk hH dX4_whoseIn_137
            · exact absurd c14 (by decide)
        · have hf := in_ c21 hf
          refine lv_iconst (v := 1) hx hb dX4_whoseIn_96 (by decide) ?_
          refine lv_goto (tgt := 101) hx hb dX4_whoseIn_97 (by decide) ?_
          refine lv_istore (lv' := [(7, .int 1), (6, .int v9), (5, .int r7), (4, .int r4), (3, .int v1), (0, .ref a0), (1, .int a1), (2, .int a2)]) hx hb dX4_whoseIn_101 hl (by decide) rfl (fun ls hl => ?_)
          refine lv_iload hx hb dX4_whoseIn_103 (lv_at hl 1 rfl) ?_
          refine lv_iconst (v := 3) hx hb dX4_whoseIn_105 (by decide) ?_
          refine lv_icmp_ne (tgt := 135) hx hb dX4_whoseIn_106 (by decide) (fun c20 => ?_) (fun c20 => ?_)
          · have hf := in_ c20 hf
            refine lv_bipush (v := 9) hx hb dX4_whoseIn_135 (by decide) ?_
            cases hf
            exact rt_i hx hb hr hlk hH dX4_whoseIn_137
          · have hf := ip_ c20 hf
            refine lv_iload hx hb dX4_whoseIn_109 (lv_at hl 0 rfl) ?_
            refine lv_if_eq (tgt := 135) hx hb dX4_whoseIn_111 (by decide) (fun c16 => ?_) (fun c16 => ?_)
            · exact absurd c16 (by decide)
            · refine lv_aload_n hx hb dX4_whoseIn_114 rfl (lv_at hl 5 rfl) ?_
              refine lv_iload_n hx hb dX4_whoseIn_115 rfl (lv_at hl 4 rfl) ?_
              refine lv_iconst (v := 3) hx hb dX4_whoseIn_116 (by decide) ?_
              obtain ⟨r17, er17⟩ : ∃ z, z = fX4_ofP v1 3 := ⟨_, rfl⟩
              have hf := lu_ er17 hf
              refine cl_i0 hH (rn_S ⟨hx, hb, hml, hown, hts⟩ hKn hH (mX4_ofP l G M n v1 3 r17 er17.symm) (va_cwS 2 hts (lw_S q1170 q1171 q70 q1172) rfl rfl rfl kdX4_ofP ⟨Nat.le_of_ble_eq_true rfl, Nat.le_of_ble_eq_true rfl⟩) rfl hl.1 (Nat.le_of_ble_eq_true rfl) dX4_whoseIn_117 ⟨(Nat.le_of_ble_eq_true rfl), (Nat.le_of_ble_eq_true rfl)⟩ rfl) (fun H locs hH => ?_)
              obtain ⟨v18, ev18, hf⟩ := bs_ hf
              refine mg_iald hx hb hKn hH ev18 dX4_whoseIn_120 ?_
              refine lv_iconst (v := 1) hx hb dX4_whoseIn_121 (by decide) ?_
              refine lv_icmp_ne (tgt := 129) hx hb dX4_whoseIn_122 (by decide) (fun c19 => ?_) (fun c19 => ?_)
              · have hf := in_ c19 hf
                refine lv_iload_n hx hb dX4_whoseIn_129 rfl (lv_at hl 4 rfl) ?_
                refine lv_iconst (v := 1) hx hb dX4_whoseIn_130 (by decide) ?_
                refine lv_iadd hx hb dX4_whoseIn_131 ?_
                refine lv_goto (tgt := 137) hx hb dX4_whoseIn_132 (by decide) ?_
                cases hf
                exact rt_i hx hb hr hlk hH dX4_whoseIn_137
              · have hf := ip_ c19 hf
                refine lv_iload_n hx hb dX4_whoseIn_125 rfl (lv_at hl 4 rfl) ?_
                refine lv_goto (tgt := 137) hx hb dX4_whoseIn_126 (by decide) ?_
                cases hf
                exact rt_i hx hb hr hlk hH dX4_whoseIn_137
      · have hf := ip_ c22 hf
        refine lv_iload_n hx hb dX4_whoseIn_75 rfl (lv_at hl 3 rfl) ?_
        cases hf
        exact rt_i hx hb hr hlk hH dX4_whoseIn_76
  · have hf := in_ c25 hf
    refine lv_iload hx hb dX4_whoseIn_39 (lv_at hl 1 rfl) ?_
    refine lv_iload hx hb dX4_whoseIn_41 (lv_at hl 0 rfl) ?_
    refine lv_icmp_ge (tgt := 50) hx hb dX4_whoseIn_43 (by decide) (fun c24 => ?_) (fun c24 => ?_)
    · have hf := ip_ c24 hf
      refine lv_iload_n hx hb dX4_whoseIn_50 rfl (lv_at hl 2 rfl) ?_
      refine lv_iconst (v := 1) hx hb dX4_whoseIn_51 (by decide) ?_
      refine lv_iadd hx hb dX4_whoseIn_52 ?_
      cases hf
      exact rt_i hx hb hr hlk hH dX4_whoseIn_53
    · have hf := in_ c24 hf
      refine lv_iload_n hx hb dX4_whoseIn_46 rfl (lv_at hl 2 rfl) ?_
      refine lv_goto (tgt := 53) hx hb dX4_whoseIn_47 (by decide) ?_
      cases hf
      exact rt_i hx hb hr hlk hH dX4_whoseIn_53
def fX4_tiresBy (a0 : Int32) (a1 : Int32) : Int32 :=
  if a0 = 1 then
    5
  else
    if a0 = 2 then
      (1 + (a1 / 3))
    else
      if a0 = 3 then
        2
      else
        if a0 = 4 then
          (1 + (a1 / 3))
        else
          if a0 = 7 then
            2
          else
            1
theorem kdX4_tiresBy : yX4_tiresBy.cls ≠ "java/lang/invoke/MethodHandle" ∧ yX4_tiresBy.cls ≠ "java/lang/invoke/VarHandle" ∧ (parseMethodDescriptor yX4_tiresBy.desc).map (fun d => d.parameters.length) = some 2 := by decide +kernel
set_option maxHeartbeats 4000000 in
theorem mX4_tiresBy (l : Launch) (G : GT_) (M : Mem_) (n : Nat) (a0 : Int32) (a1 : Int32) (r : Int32) (hf : fX4_tiresBy a0 a1 = r) : Ct_ G l yX4_tiresBy (ws_ yX4_tiresBy cX4_tiresBy 2 (some .int)) ({ frames := 0, cells := 0, slots := 0, locals := 0 }) 0 0 [.int a0, .int a1] M n (some (.int r)) M n := by
  refine en_ (by decide) (Nat.le_of_ble_eq_true rfl) ?_
  intro p e s m below meth c hx hb hr hlk hml hown hts hname hKn hH ls hl
  have hown : s.vm.findClass RX4 = some m.cls := hown
  have hl : lv_has ls 2 [(0, .int a0), (1, .int a1)] := hl
  unfold fX4_tiresBy at hf
  generalize s.heap = H at hH ⊢
  refine lv_iload_n hx hb dX4_tiresBy_0 rfl (lv_at hl 0 rfl) ?_
  by_cases c1 : a0 = 1
  · have hf := ip_ c1 hf
    refine sw_I (off := 43) (tgt := 44) hx hb dX4_tiresBy_1 c1 (by decide) (by decide) (by decide) (by decide) ?_
    refine lv_iconst (v := 5) hx hb dX4_tiresBy_44 (by decide) ?_
    subst hf
    exact rt_i hx hb hr hlk hH dX4_tiresBy_45
  · have hf := in_ c1 hf
    by_cases c2 : a0 = 2
    · have hf := ip_ c2 hf
      refine sw_I (off := 45) (tgt := 46) hx hb dX4_tiresBy_1 c2 (by decide) (by decide) (by decide) (by decide) ?_
      refine lv_iconst (v := 1) hx hb dX4_tiresBy_46 (by decide) ?_
      refine lv_iload_n hx hb dX4_tiresBy_47 rfl (lv_at hl 1 rfl) ?_
      refine lv_iconst (v := 3) hx hb dX4_tiresBy_48 (by decide) ?_
      refine lv_idiv hx hb dX4_tiresBy_49 (by decide) ?_
      refine lv_iadd hx hb dX4_tiresBy_50 ?_
      subst hf
      exact rt_i hx hb hr hlk hH dX4_tiresBy_51
    · have hf := in_ c2 hf
      by_cases c3 : a0 = 3
      · have hf := ip_ c3 hf
        refine sw_I (off := 51) (tgt := 52) hx hb dX4_tiresBy_1 c3 (by decide) (by decide) (by decide) (by decide) ?_
        refine lv_iconst (v := 2) hx hb dX4_tiresBy_52 (by decide) ?_
        subst hf
        exact rt_i hx hb hr hlk hH dX4_tiresBy_53
      · have hf := in_ c3 hf
        by_cases c4 : a0 = 4
        · have hf := ip_ c4 hf
          refine sw_I (off := 45) (tgt := 46) hx hb dX4_tiresBy_1 c4 (by decide) (by decide) (by decide) (by decide) ?_
          refine lv_iconst (v := 1) hx hb dX4_tiresBy_46 (by decide) ?_
          refine lv_iload_n hx hb dX4_tiresBy_47 rfl (lv_at hl 1 rfl) ?_
          refine lv_iconst (v := 3) hx hb dX4_tiresBy_48 (by decide) ?_
          refine lv_idiv hx hb dX4_tiresBy_49 (by decide) ?_
          refine lv_iadd hx hb dX4_tiresBy_50 ?_
          subst hf
          exact rt_i hx hb hr hlk hH dX4_tiresBy_51
        · have hf := in_ c4 hf
          by_cases c5 : a0 = 7
          · have hf := ip_ c5 hf
            refine sw_I (off := 51) (tgt := 52) hx hb dX4_tiresBy_1 c5 (by decide) (by decide) (by decide) (by decide) ?_
            refine lv_iconst (v := 2) hx hb dX4_tiresBy_52 (by decide) ?_
            subst hf
            exact rt_i hx hb hr hlk hH dX4_tiresBy_53
          · have hf := in_ c5 hf
            refine sw_D (tgt := 54) hx hb dX4_tiresBy_1 [(1, 43), (2, 45), (3, 51), (4, 45), (5, 53), (6, 53), (7, 51)] (by decide) (by decide) (by decide) ⟨Or.inr (lv_neT c1 (by decide)), Or.inr (lv_neT c2 (by decide)), Or.inr (lv_neT c3 (by decide)), Or.inr (lv_neT c4 (by decide)), Or.inl rfl, Or.inl rfl, Or.inr (lv_neT c5 (by decide)), trivial⟩ (by decide) ?_
            refine lv_iconst (v := 1) hx hb dX4_tiresBy_54 (by decide) ?_
            subst hf
            exact rt_i hx hb hr hlk hH dX4_tiresBy_55
def fX4_least (a0 : Int32) (a1 : Int32) : Int32 :=
  if a1 ≤ a0 then
    a1
  else
    a0
theorem kdX4_least : yX4_least.cls ≠ "java/lang/invoke/MethodHandle" ∧ yX4_least.cls ≠ "java/lang/invoke/VarHandle" ∧ (parseMethodDescriptor yX4_least.desc).map (fun d => d.parameters.length) = some 2 := by decide +kernel
set_option maxHeartbeats 4000000 in
theorem mX4_least (l : Launch) (G : GT_) (M : Mem_) (n : Nat) (a0 : Int32) (a1 : Int32) (r : Int32) (hf : fX4_least a0 a1 = r) : Ct_ G l yX4_least (ws_ yX4_least cX4_least 2 (some .int)) ({ frames := 0, cells := 0, slots := 0, locals := 0 }) 0 0 [.int a0, .int a1] M n (some (.int r)) M n := by
  refine en_ (by decide) (Nat.le_of_ble_eq_true rfl) ?_
  intro p e s m below meth c hx hb hr hlk hml hown hts hname hKn hH ls hl
  have hown : s.vm.findClass RX4 = some m.cls := hown
  have hl : lv_has ls 2 [(0, .int a0), (1, .int a1)] := hl
  unfold fX4_least at hf
  generalize s.heap = H at hH ⊢
  refine lv_iload_n hx hb dX4_least_0 rfl (lv_at hl 0 rfl) ?_
  refine lv_iload_n hx hb dX4_least_1 rfl (lv_at hl 1 rfl) ?_
  refine lv_icmp_ge (tgt := 9) hx hb dX4_least_2 (by decide) (fun c1 => ?_) (fun c1 => ?_)
  · have hf := ip_ c1 hf
    refine lv_iload_n hx hb dX4_least_9 rfl (lv_at hl 1 rfl) ?_
    subst hf
    exact rt_i hx hb hr hlk hH dX4_least_10
  · have hf := in_ c1 hf
    refine lv_iload_n hx hb dX4_least_5 rfl (lv_at hl 0 rfl) ?_
    refine lv_goto (tgt := 10) hx hb dX4_least_6 (by decide) ?_
    subst hf
    exact rt_i hx hb hr hlk hH dX4_least_10
def fX4_isTired (M : Mem_) (a0 : Nat) (a1 : Int32) (a2 : Int32) : Option Mem_ :=
  lt_ (fX4_ofP a1 2) fun r1 =>
  lt_ (fX4_ofP a1 2) fun r2 =>
  (aI_ M a0 0 r2).bind fun v3 =>
  lt_ (fX4_least 99 (v3 + a2)) fun r4 =>
  (sI_ M a0 0 r1 r4).bind fun M5 =>
  some M5
theorem kdX4_isTired : yX4_isTired.cls ≠ "java/lang/invoke/MethodHandle" ∧ yX4_isTired.cls ≠ "java/lang/invoke/VarHandle" ∧ (parseMethodDescriptor yX4_isTired.desc).map (fun d => d.parameters.length) = some 3 := by decide +kernel
set_option maxHeartbeats 4000000 in
theorem mX4_isTired (l : Launch) (G : GT_) (M : Mem_) (n : Nat) (a0 : Nat) (a1 : Int32) (a2 : Int32) (M1 : Mem_) (hf : fX4_isTired M a0 a1 a2 = some M1) : Ct_ G l yX4_isTired (ws_ yX4_isTired cX4_isTired 3 none) ({ frames := 1, cells := 0, slots := 0, locals := 21 }) 0 0 [.ref a0, .int a1, .int a2] M n (none) M1 n := by
  refine en_ (by decide) (Nat.le_of_ble_eq_true rfl) ?_
  intro p e s m below meth c hx hb hr hlk hml hown hts hname hKn hH ls hl
  have hown : s.vm.findClass RX4 = some m.cls := hown
  have hl : lv_has ls 3 [(0, .ref a0), (1, .int a1), (2, .int a2)] := hl
  unfold fX4_isTired at hf
  generalize s.heap = H at hH ⊢
  refine lv_aload_n hx hb dX4_isTired_0 rfl (lv_at hl 0 rfl) ?_
  refine lv_iload_n hx hb dX4_isTired_1 rfl (lv_at hl 1 rfl) ?_
  refine lv_iconst (v := 2) hx hb dX4_isTired_2 (by decide) ?_
  obtain ⟨r1, er1⟩ : ∃ z, z = fX4_ofP a1 2 := ⟨_, rfl⟩
  have hf := lu_ er1 hf
  refine cl_i0 hH (rn_S ⟨hx, hb, hml, hown, hts⟩ hKn hH (mX4_ofP l G M n a1 2 r1 er1.symm) (va_cwS 2 hts (lw_S q1170 q1171 q70 q1172) rfl rfl rfl kdX4_ofP ⟨Nat.le_of_ble_eq_true rfl, Nat.le_of_ble_eq_true rfl⟩) rfl hl.1 (Nat.le_of_ble_eq_true rfl) dX4_isTired_3 ⟨(Nat.le_of_ble_eq_true rfl), (Nat.le_of_ble_eq_true rfl)⟩ rfl) (fun H locs hH => ?_)
  refine lv_bipush (v := 99) hx hb dX4_isTired_6 (by decide) ?_
  refine lv_aload_n hx hb dX4_isTired_8 rfl (lv_at hl 0 rfl) ?_
  refine lv_iload_n hx hb dX4_isTired_9 rfl (lv_at hl 1 rfl) ?_
  refine lv_iconst (v := 2) hx hb dX4_isTired_10 (by decide) ?_
  obtain ⟨r2, er2⟩ : ∃ z, z = fX4_ofP a1 2 := ⟨_, rfl⟩
  have hf := lu_ er2 hf
  refine cl_i0 hH (rn_S ⟨hx, hb, hml, hown, hts⟩ hKn hH (mX4_ofP l G M n a1 2 r2 er2.symm) (va_cwS 2 hts (lw_S q1170 q1171 q70 q1172) rfl rfl rfl kdX4_ofP ⟨Nat.le_of_ble_eq_true rfl, Nat.le_of_ble_eq_true rfl⟩) rfl hl.1 (Nat.le_of_ble_eq_true rfl) dX4_isTired_11 ⟨(Nat.le_of_ble_eq_true rfl), (Nat.le_of_ble_eq_true rfl)⟩ rfl) (fun H locs hH => ?_)
  obtain ⟨v3, ev3, hf⟩ := bs_ hf
  refine mg_iald hx hb hKn hH ev3 dX4_isTired_14 ?_
  refine lv_iload_n hx hb dX4_isTired_15 rfl (lv_at hl 2 rfl) ?_
  refine lv_iadd hx hb dX4_isTired_16 ?_
  obtain ⟨r4, er4⟩ : ∃ z, z = fX4_least 99 (v3 + a2) := ⟨_, rfl⟩
  have hf := lu_ er4 hf
  refine cl_i0 hH (rn_S ⟨hx, hb, hml, hown, hts⟩ hKn hH (mX4_least l G M n 99 (v3 + a2) r4 er4.symm) (va_cwS 2 hts (lw_S q1322 q1323 q70 q1324) rfl rfl rfl kdX4_least ⟨Nat.le_of_ble_eq_true rfl, Nat.le_of_ble_eq_true rfl⟩) rfl hl.1 (Nat.le_of_ble_eq_true rfl) dX4_isTired_17 ⟨(Nat.le_of_ble_eq_true rfl), (Nat.le_of_ble_eq_true rfl)⟩ rfl) (fun H locs hH => ?_)
  obtain ⟨M5, eM5, hf⟩ := bs_ hf
  refine mg_iast hx hb hKn hH eM5 dX4_isTired_20 (fun H locs hH => ?_)
  cases hf
  exact rt_v hx hb hr hlk hH dX4_isTired_21
def fX4_isBoths (M : Mem_) (a0 : Nat) (a1 : Int32) (a2 : Int32) : Option Bool :=
  lt_ (fX4_ofSide a1 1) fun r1 =>
  (aI_ M a0 0 r1).bind fun v2 =>
  if v2 = 2 then
    lt_ (fX4_ofP (2 * a1) 0) fun r3 =>
    (aI_ M a0 0 r3).bind fun v4 =>
    lt_ (fX4_wayOf v4 a2) fun r5 =>
    lt_ (fX4_ofP ((2 * a1) + 1) 0) fun r6 =>
    (aI_ M a0 0 r6).bind fun v7 =>
    lt_ (fX4_wayOf v7 a2) fun r8 =>
    if r5 = r8 then
      some true
    else
      some false
  else
    some false
theorem kdX4_isBoths : yX4_isBoths.cls ≠ "java/lang/invoke/MethodHandle" ∧ yX4_isBoths.cls ≠ "java/lang/invoke/VarHandle" ∧ (parseMethodDescriptor yX4_isBoths.desc).map (fun d => d.parameters.length) = some 3 := by decide +kernel
set_option maxHeartbeats 4000000 in
theorem mX4_isBoths (l : Launch) (G : GT_) (M : Mem_) (n : Nat) (a0 : Nat) (a1 : Int32) (a2 : Int32) (r : Bool) (hf : fX4_isBoths M a0 a1 a2 = some r) : Ct_ G l yX4_isBoths (ws_ yX4_isBoths cX4_isBoths 3 (some .boolean)) ({ frames := 2, cells := 0, slots := 0, locals := 42 }) 0 0 [.ref a0, .int a1, .int a2] M n (some (.int (b2_ r))) M n := by
  refine en_ (by decide) (Nat.le_of_ble_eq_true rfl) ?_
  intro p e s m below meth c hx hb hr hlk hml hown hts hname hKn hH ls hl
  have hown : s.vm.findClass RX4 = some m.cls := hown
  have hl : lv_has ls 3 [(0, .ref a0), (1, .int a1), (2, .int a2)] := hl
  unfold fX4_isBoths at hf
  generalize s.heap = H at hH ⊢
  refine lv_aload_n hx hb dX4_isBoths_0 rfl (lv_at hl 0 rfl) ?_
  refine lv_iload_n hx hb dX4_isBoths_1 rfl (lv_at hl 1 rfl) ?_
  refine lv_iconst (v := 1) hx hb dX4_isBoths_2 (by decide) ?_
  obtain ⟨r1, er1⟩ : ∃ z, z = fX4_ofSide a1 1 := ⟨_, rfl⟩
  have hf := lu_ er1 hf
  refine cl_i0 hH (rn_S ⟨hx, hb, hml, hown, hts⟩ hKn hH (mX4_ofSide l G M n a1 1 r1 er1.symm) (va_cwS 2 hts (lw_S q1173 q1174 q70 q1175) rfl rfl rfl kdX4_ofSide ⟨Nat.le_of_ble_eq_true rfl, Nat.le_of_ble_eq_true rfl⟩) rfl hl.1 (Nat.le_of_ble_eq_true rfl) dX4_isBoths_3 ⟨(Nat.le_of_ble_eq_true rfl), (Nat.le_of_ble_eq_true rfl)⟩ rfl) (fun H locs hH => ?_)
  obtain ⟨v2, ev2, hf⟩ := bs_ hf
  refine mg_iald hx hb hKn hH ev2 dX4_isBoths_6 ?_
  refine lv_iconst (v := 2) hx hb dX4_isBoths_7 (by decide) ?_
  refine lv_icmp_ne (tgt := 46) hx hb dX4_isBoths_8 (by decide) (fun c10 => ?_) (fun c10 => ?_)
  · have hf := in_ c10 hf
    refine lv_iconst (v := 0) hx hb dX4_isBoths_46 (by decide) ?_
    cases hf
    exact rt_b (b := false) hx hb hr hlk hH dX4_isBoths_47
  · have hf := ip_ c10 hf
    refine lv_aload_n hx hb dX4_isBoths_11 rfl (lv_at hl 0 rfl) ?_
    refine lv_iconst (v := 2) hx hb dX4_isBoths_12 (by decide) ?_
    refine lv_iload_n hx hb dX4_isBoths_13 rfl (lv_at hl 1 rfl) ?_
    refine lv_imul hx hb dX4_isBoths_14 ?_
    refine lv_iconst (v := 0) hx hb dX4_isBoths_15 (by decide) ?_
    obtain ⟨r3, er3⟩ : ∃ z, z = fX4_ofP (2 * a1) 0 := ⟨_, rfl⟩
    have hf := lu_ er3 hf
    refine cl_i0 hH (rn_S ⟨hx, hb, hml, hown, hts⟩ hKn hH (mX4_ofP l G M n (2 * a1) 0 r3 er3.symm) (va_cwS 2 hts (lw_S q1170 q1171 q70 q1172) rfl rfl rfl kdX4_ofP ⟨Nat.le_of_ble_eq_true rfl, Nat.le_of_ble_eq_true rfl⟩) rfl hl.1 (Nat.le_of_ble_eq_true rfl) dX4_isBoths_16 ⟨(Nat.le_of_ble_eq_true rfl), (Nat.le_of_ble_eq_true rfl)⟩ rfl) (fun H locs hH => ?_)
    obtain ⟨v4, ev4, hf⟩ := bs_ hf
    refine mg_iald hx hb hKn hH ev4 dX4_isBoths_19 ?_
    refine lv_iload_n hx hb dX4_isBoths_20 rfl (lv_at hl 2 rfl) ?_
    obtain ⟨r5, er5⟩ : ∃ z, z = fX4_wayOf v4 a2 := ⟨_, rfl⟩
    have hf := lu_ er5 hf
    refine cl_i0 hH (rn_S ⟨hx, hb, hml, hown, hts⟩ hKn hH (mX4_wayOf l G M n v4 a2 r5 er5.symm) (va_cwS 2 hts (lw_S q1310 q1311 q70 q1312) rfl rfl rfl kdX4_wayOf ⟨Nat.le_of_ble_eq_true rfl, Nat.le_of_ble_eq_true rfl⟩) rfl hl.1 (Nat.le_of_ble_eq_true rfl) dX4_isBoths_21 ⟨(Nat.le_of_ble_eq_true rfl), (Nat.le_of_ble_eq_true rfl)⟩ rfl) (fun H locs hH => ?_)
    refine lv_aload_n hx hb dX4_isBoths_24 rfl (lv_at hl 0 rfl) ?_
    refine lv_iconst (v := 2) hx hb dX4_isBoths_25 (by decide) ?_
    refine lv_iload_n hx hb dX4_isBoths_26 rfl (lv_at hl 1 rfl) ?_
    refine lv_imul hx hb dX4_isBoths_27 ?_
    refine lv_iconst (v := 1) hx hb dX4_isBoths_28 (by decide) ?_
    refine lv_iadd hx hb dX4_isBoths_29 ?_
    refine lv_iconst (v := 0) hx hb dX4_isBoths_30 (by decide) ?_
    obtain ⟨r6, er6⟩ : ∃ z, z = fX4_ofP ((2 * a1) + 1) 0 := ⟨_, rfl⟩
    have hf := lu_ er6 hf
    refine cl_i0 hH (rn_S ⟨hx, hb, hml, hown, hts⟩ hKn hH (mX4_ofP l G M n ((2 * a1) + 1) 0 r6 er6.symm) (va_cwS 2 hts (lw_S q1170 q1171 q70 q1172) rfl rfl rfl kdX4_ofP ⟨Nat.le_of_ble_eq_true rfl, Nat.le_of_ble_eq_true rfl⟩) rfl hl.1 (Nat.le_of_ble_eq_true rfl) dX4_isBoths_31 ⟨(Nat.le_of_ble_eq_true rfl), (Nat.le_of_ble_eq_true rfl)⟩ rfl) (fun H locs hH => ?_)
    obtain ⟨v7, ev7, hf⟩ := bs_ hf
    refine mg_iald hx hb hKn hH ev7 dX4_isBoths_34 ?_
    refine lv_iload_n hx hb dX4_isBoths_35 rfl (lv_at hl 2 rfl) ?_
    obtain ⟨r8, er8⟩ : ∃ z, z = fX4_wayOf v7 a2 := ⟨_, rfl⟩
    have hf := lu_ er8 hf
    refine cl_i0 hH (rn_S ⟨hx, hb, hml, hown, hts⟩ hKn hH (mX4_wayOf l G M n v7 a2 r8 er8.symm) (va_cwS 2 hts (lw_S q1310 q1311 q70 q1312) rfl rfl rfl kdX4_wayOf ⟨Nat.le_of_ble_eq_true rfl, Nat.le_of_ble_eq_true rfl⟩) rfl hl.1 (Nat.le_of_ble_eq_true rfl) dX4_isBoths_36 ⟨(Nat.le_of_ble_eq_true rfl), (Nat.le_of_ble_eq_true rfl)⟩ rfl) (fun H locs hH => ?_)
    refine lv_icmp_ne (tgt := 46) hx hb dX4_isBoths_39 (by decide) (fun c9 => ?_) (fun c9 => ?_)
    · have hf := in_ c9 hf
      refine lv_iconst (v := 0) hx hb dX4_isBoths_46 (by decide) ?_
      cases hf
      exact rt_b (b := false) hx hb hr hlk hH dX4_isBoths_47
    · have hf := ip_ c9 hf
      refine lv_iconst (v := 1) hx hb dX4_isBoths_42 (by decide) ?_
      refine lv_goto (tgt := 47) hx hb dX4_isBoths_43 (by decide) ?_
      cases hf
      exact rt_b (b := true) hx hb hr hlk hH dX4_isBoths_47
def fX4_stepsIn (M : Mem_) (a0 : Nat) (a1 : Int32) (a2 : Int32) : Option Int32 :=
  lt_ (fX4_ofP a1 1) fun r1 =>
  (aI_ M a0 0 r1).bind fun v2 =>
  lt_ (fX4_ofP a1 2) fun r3 =>
  (aI_ M a0 0 r3).bind fun v4 =>
  lt_ ((v2 - (v4 / 30))) fun v5 =>
  if 1 ≤ v5 then
    some (a2 * v5)
  else
    some (a2 * 1)
theorem kdX4_stepsIn : yX4_stepsIn.cls ≠ "java/lang/invoke/MethodHandle" ∧ yX4_stepsIn.cls ≠ "java/lang/invoke/VarHandle" ∧ (parseMethodDescriptor yX4_stepsIn.desc).map (fun d => d.parameters.length) = some 3 := by decide +kernel
set_option maxHeartbeats 4000000 in
theorem mX4_stepsIn (l : Launch) (G : GT_) (M : Mem_) (n : Nat) (a0 : Nat) (a1 : Int32) (a2 : Int32) (r : Int32) (hf : fX4_stepsIn M a0 a1 a2 = some r) : Ct_ G l yX4_stepsIn (ws_ yX4_stepsIn cX4_stepsIn 4 (some .int)) ({ frames := 1, cells := 0, slots := 0, locals := 21 }) 0 0 [.ref a0, .int a1, .int a2] M n (some (.int r)) M n := by
  refine en_ (by decide) (Nat.le_of_ble_eq_true rfl) ?_
  intro p e s m below meth c hx hb hr hlk hml hown hts hname hKn hH ls hl
  have hown : s.vm.findClass RX4 = some m.cls := hown
  have hl : lv_has ls 4 [(0, .ref a0), (1, .int a1), (2, .int a2)] := hl
  unfold fX4_stepsIn at hf
  generalize s.heap = H at hH ⊢
  refine lv_aload_n hx hb dX4_stepsIn_0 rfl (lv_at hl 0 rfl) ?_
  refine lv_iload_n hx hb dX4_stepsIn_1 rfl (lv_at hl 1 rfl) ?_
  refine lv_iconst (v := 1) hx hb dX4_stepsIn_2 (by decide) ?_
  obtain ⟨r1, er1⟩ : ∃ z, z = fX4_ofP a1 1 := ⟨_, rfl⟩
  have hf := lu_ er1 hf
  refine cl_i0 hH (rn_S ⟨hx, hb, hml, hown, hts⟩ hKn hH (mX4_ofP l G M n a1 1 r1 er1.symm) (va_cwS 2 hts (lw_S q1170 q1171 q70 q1172) rfl rfl rfl kdX4_ofP ⟨Nat.le_of_ble_eq_true rfl, Nat.le_of_ble_eq_true rfl⟩) rfl hl.1 (Nat.le_of_ble_eq_true rfl) dX4_stepsIn_3 ⟨(Nat.le_of_ble_eq_true rfl), (Nat.le_of_ble_eq_true rfl)⟩ rfl) (fun H locs hH => ?_)
  obtain ⟨v2, ev2, hf⟩ := bs_ hf
  refine mg_iald hx hb hKn hH ev2 dX4_stepsIn_6 ?_
  refine lv_aload_n hx hb dX4_stepsIn_7 rfl (lv_at hl 0 rfl) ?_
  refine lv_iload_n hx hb dX4_stepsIn_8 rfl (lv_at hl 1 rfl) ?_
  refine lv_iconst (v := 2) hx hb dX4_stepsIn_9 (by decide) ?_
  obtain ⟨r3, er3⟩ : ∃ z, z = fX4_ofP a1 2 := ⟨_, rfl⟩
  have hf := lu_ er3 hf
  refine cl_i0 hH (rn_S ⟨hx, hb, hml, hown, hts⟩ hKn hH (mX4_ofP l G M n a1 2 r3 er3.symm) (va_cwS 2 hts (lw_S q1170 q1171 q70 q1172) rfl rfl rfl kdX4_ofP ⟨Nat.le_of_ble_eq_true rfl, Nat.le_of_ble_eq_true rfl⟩) rfl hl.1 (Nat.le_of_ble_eq_true rfl) dX4_stepsIn_10 ⟨(Nat.le_of_ble_eq_true rfl), (Nat.le_of_ble_eq_true rfl)⟩ rfl) (fun H locs hH => ?_)
  obtain ⟨v4, ev4, hf⟩ := bs_ hf
  refine mg_iald hx hb hKn hH ev4 dX4_stepsIn_13 ?_
  refine lv_bipush (v := 30) hx hb dX4_stepsIn_14 (by decide) ?_
  refine lv_idiv hx hb dX4_stepsIn_16 (by decide) ?_
  refine lv_isub hx hb dX4_stepsIn_17 ?_
  refine lv_topi (fun v5 ev5 => ?_)
  have hf := lu_ ev5 hf
  refine lv_istore_n (lv' := [(3, .int v5), (0, .ref a0), (1, .int a1), (2, .int a2)]) hx hb dX4_stepsIn_18 rfl hl (by decide) rfl (fun ls hl => ?_)
  refine lv_iload_n hx hb dX4_stepsIn_19 rfl (lv_at hl 3 rfl) ?_
  refine lv_iload_n hx hb dX4_stepsIn_20 rfl (lv_at hl 0 rfl) ?_
  refine lv_iconst (v := 1) hx hb dX4_stepsIn_21 (by decide) ?_
  refine lv_icmp_ge (tgt := 29) hx hb dX4_stepsIn_22 (by decide) (fun c6 => ?_) (fun c6 => ?_)
  · have hf := ip_ c6 hf
    refine lv_iload_n hx hb dX4_stepsIn_29 rfl (lv_at hl 0 rfl) ?_
    refine lv_imul hx hb dX4_stepsIn_30 ?_
    cases hf
    exact rt_i hx hb hr hlk hH dX4_stepsIn_31
  · have hf := in_ c6 hf
    refine lv_iconst (v := 1) hx hb dX4_stepsIn_25 (by decide) ?_
    refine lv_goto (tgt := 30) hx hb dX4_stepsIn_26 (by decide) ?_
    refine lv_imul hx hb dX4_stepsIn_30 ?_
    cases hf
    exact rt_i hx hb hr hlk hH dX4_stepsIn_31
def fX4_moves (M : Mem_) (a0 : Nat) (a1 : Nat) (a2 : Int32) (a3 : Int32) : Option Mem_ :=
  (gR_ M a0 3 4).bind fun v1 =>
  (aI_ M v1 0 a2).bind fun v2 =>
  lt_ (fX4_ofP a2 0) fun r3 =>
  (aI_ M a1 0 r3).bind fun v4 =>
  lt_ (fX4_wayOf v4 a3) fun r5 =>
  (sI_ M v1 0 a2 (v2 + r5)).bind fun M6 =>
  lt_ (fX4_ofP a2 0) fun r7 =>
  (sI_ M6 a1 0 r7 a3).bind fun M8 =>
  some M8
theorem kdX4_moves : yX4_moves.cls ≠ "java/lang/invoke/MethodHandle" ∧ yX4_moves.cls ≠ "java/lang/invoke/VarHandle" ∧ (parseMethodDescriptor yX4_moves.desc).map (fun d => d.parameters.length) = some 3 := by decide +kernel
set_option maxHeartbeats 4000000 in
theorem mX4_moves (l : Launch) (G : GT_) (M : Mem_) (n : Nat) (a0 : Nat) (a1 : Nat) (a2 : Int32) (a3 : Int32) (M1 : Mem_) (hf : fX4_moves M a0 a1 a2 a3 = some M1) : Ct_ G l yX4_moves (ws_ yX4_moves cX4_moves 4 none) ({ frames := 2, cells := 0, slots := 0, locals := 42 }) 0 0 [.ref a0, .ref a1, .int a2, .int a3] M n (none) M1 n := by
  refine en_ (by decide) (Nat.le_of_ble_eq_true rfl) ?_
  intro p e s m below meth c hx hb hr hlk hml hown hts hname hKn hH ls hl
  have hown : s.vm.findClass RX4 = some m.cls := hown
  have hl : lv_has ls 4 [(0, .ref a0), (1, .ref a1), (2, .int a2), (3, .int a3)] := hl
  unfold fX4_moves at hf
  generalize s.heap = H at hH ⊢
  refine lv_aload_n hx hb dX4_moves_0 rfl (lv_at hl 0 rfl) ?_
  obtain ⟨v1, ev1, hf⟩ := bs_ hf
  refine mg_gR hx hb hts hown hKn hH ev1 in_X4 rfl (by decide) (hts _ q1180) (fun _ h9 => h9) dX4_moves_1 ?_
  refine lv_iload_n hx hb dX4_moves_4 rfl (lv_at hl 2 rfl) ?_
  refine lv_dup2_11 hx hb dX4_moves_5 rfl rfl ?_
  obtain ⟨v2, ev2, hf⟩ := bs_ hf
  refine mg_iald hx hb hKn hH ev2 dX4_moves_6 ?_
  refine lv_aload_n hx hb dX4_moves_7 rfl (lv_at hl 1 rfl) ?_
  refine lv_iload_n hx hb dX4_moves_8 rfl (lv_at hl 2 rfl) ?_
  refine lv_iconst (v := 0) hx hb dX4_moves_9 (by decide) ?_
  obtain ⟨r3, er3⟩ : ∃ z, z = fX4_ofP a2 0 := ⟨_, rfl⟩
  have hf := lu_ er3 hf
  refine cl_i0 hH (rn_S ⟨hx, hb, hml, hown, hts⟩ hKn hH (mX4_ofP l G M n a2 0 r3 er3.symm) (va_cwS 2 hts (lw_S q1170 q1171 q70 q1172) rfl rfl rfl kdX4_ofP ⟨Nat.le_of_ble_eq_true rfl, Nat.le_of_ble_eq_true rfl⟩) rfl hl.1 (Nat.le_of_ble_eq_true rfl) dX4_moves_10 ⟨(Nat.le_of_ble_eq_true rfl), (Nat.le_of_ble_eq_true rfl)⟩ rfl) (fun H locs hH => ?_)
  obtain ⟨v4, ev4, hf⟩ := bs_ hf
  refine mg_iald hx hb hKn hH ev4 dX4_moves_13 ?_
  refine lv_iload_n hx hb dX4_moves_14 rfl (lv_at hl 3 rfl) ?_
  obtain ⟨r5, er5⟩ : ∃ z, z = fX4_wayOf v4 a3 := ⟨_, rfl⟩
  have hf := lu_ er5 hf
  refine cl_i0 hH (rn_S ⟨hx, hb, hml, hown, hts⟩ hKn hH (mX4_wayOf l G M n v4 a3 r5 er5.symm) (va_cwS 2 hts (lw_S q1310 q1311 q70 q1312) rfl rfl rfl kdX4_wayOf ⟨Nat.le_of_ble_eq_true rfl, Nat.le_of_ble_eq_true rfl⟩) rfl hl.1 (Nat.le_of_ble_eq_true rfl) dX4_moves_15 ⟨(Nat.le_of_ble_eq_true rfl), (Nat.le_of_ble_eq_true rfl)⟩ rfl) (fun H locs hH => ?_)
  refine lv_iadd hx hb dX4_moves_18 ?_
  obtain ⟨M6, eM6, hf⟩ := bs_ hf
  refine mg_iast hx hb hKn hH eM6 dX4_moves_19 (fun H locs hH => ?_)
  refine lv_aload_n hx hb dX4_moves_20 rfl (lv_at hl 1 rfl) ?_
  refine lv_iload_n hx hb dX4_moves_21 rfl (lv_at hl 2 rfl) ?_
  refine lv_iconst (v := 0) hx hb dX4_moves_22 (by decide) ?_
  obtain ⟨r7, er7⟩ : ∃ z, z = fX4_ofP a2 0 := ⟨_, rfl⟩
  have hf := lu_ er7 hf
  refine cl_i0 hH (rn_S ⟨hx, hb, hml, hown, hts⟩ hKn hH (mX4_ofP l G M6 n a2 0 r7 er7.symm) (va_cwS 2 hts (lw_S q1170 q1171 q70 q1172) rfl rfl rfl kdX4_ofP ⟨Nat.le_of_ble_eq_true rfl, Nat.le_of_ble_eq_true rfl⟩) rfl hl.1 (Nat.le_of_ble_eq_true rfl) dX4_moves_23 ⟨(Nat.le_of_ble_eq_true rfl), (Nat.le_of_ble_eq_true rfl)⟩ rfl) (fun H locs hH => ?_)
  refine lv_iload_n hx hb dX4_moves_26 rfl (lv_at hl 3 rfl) ?_
  obtain ⟨M8, eM8, hf⟩ := bs_ hf
  refine mg_iast hx hb hKn hH eM8 dX4_moves_27 (fun H locs hH => ?_)
  cases hf
  exact rt_v hx hb hr hlk hH dX4_moves_28
def fX4_partner (a0 : Int32) : Int32 :=
  if (a0 - a0 / 2 * 2) = 0 then
    (a0 + 1)
  else
    (a0 - 1)
theorem kdX4_partner : yX4_partner.cls ≠ "java/lang/invoke/MethodHandle" ∧ yX4_partner.cls ≠ "java/lang/invoke/VarHandle" ∧ (parseMethodDescriptor yX4_partner.desc).map (fun d => d.parameters.length) = some 1 := by decide +kernel
set_option maxHeartbeats 4000000 in
theorem mX4_partner (l : Launch) (G : GT_) (M : Mem_) (n : Nat) (a0 : Int32) (r : Int32) (hf : fX4_partner a0 = r) : Ct_ G l yX4_partner (ws_ yX4_partner cX4_partner 1 (some .int)) ({ frames := 0, cells := 0, slots := 0, locals := 0 }) 0 0 [.int a0] M n (some (.int r)) M n := by
  refine en_ (by decide) (Nat.le_of_ble_eq_true rfl) ?_
  intro p e s m below meth c hx hb hr hlk hml hown hts hname hKn hH ls hl
  have hown : s.vm.findClass RX4 = some m.cls := hown
  have hl : lv_has ls 1 [(0, .int a0)] := hl
  unfold fX4_partner at hf
  generalize s.heap = H at hH ⊢
  refine lv_iload_n hx hb dX4_partner_0 rfl (lv_at hl 0 rfl) ?_
  refine lv_iconst (v := 2) hx hb dX4_partner_1 (by decide) ?_
  refine lv_irem hx hb dX4_partner_2 (by decide) ?_
  refine lv_if_ne (tgt := 12) hx hb dX4_partner_3 (by decide) (fun c1 => ?_) (fun c1 => ?_)
  · have hf := in_ c1 hf
    refine lv_iload_n hx hb dX4_partner_12 rfl (lv_at hl 0 rfl) ?_
    refine lv_iconst (v := 1) hx hb dX4_partner_13 (by decide) ?_
    refine lv_isub hx hb dX4_partner_14 ?_
    subst hf
    exact rt_i hx hb hr hlk hH dX4_partner_15
  · have hf := ip_ c1 hf
    refine lv_iload_n hx hb dX4_partner_6 rfl (lv_at hl 0 rfl) ?_
    refine lv_iconst (v := 1) hx hb dX4_partner_7 (by decide) ?_
    refine lv_iadd hx hb dX4_partner_8 ?_
    refine lv_goto (tgt := 15) hx hb dX4_partner_9 (by decide) ?_
    subst hf
    exact rt_i hx hb hr hlk hH dX4_partner_15
def fX4_placeFor (a0 : Int32) (a1 : Int32) : Int32 :=
  if a0 = 0 then
    (5 - (a1 - a1 / 3 * 3))
  else
    ((3 * (2 - (a1 / 3))) + 1)
theorem kdX4_placeFor : yX4_placeFor.cls ≠ "java/lang/invoke/MethodHandle" ∧ yX4_placeFor.cls ≠ "java/lang/invoke/VarHandle" ∧ (parseMethodDescriptor yX4_placeFor.desc).map (fun d => d.parameters.length) = some 2 := by decide +kernel
set_option maxHeartbeats 4000000 in
theorem mX4_placeFor (l : Launch) (G : GT_) (M : Mem_) (n : Nat) (a0 : Int32) (a1 : Int32) (r : Int32) (hf : fX4_placeFor a0 a1 = r) : Ct_ G l yX4_placeFor (ws_ yX4_placeFor cX4_placeFor 2 (some .int)) ({ frames := 0, cells := 0, slots := 0, locals := 0 }) 0 0 [.int a0, .int a1] M n (some (.int r)) M n := by
  refine en_ (by decide) (Nat.le_of_ble_eq_true rfl) ?_
  intro p e s m below meth c hx hb hr hlk hml hown hts hname hKn hH ls hl
  have hown : s.vm.findClass RX4 = some m.cls := hown
  have hl : lv_has ls 2 [(0, .int a0), (1, .int a1)] := hl
  unfold fX4_placeFor at hf
  generalize s.heap = H at hH ⊢
  refine lv_iload_n hx hb dX4_placeFor_0 rfl (lv_at hl 0 rfl) ?_
  refine lv_if_ne (tgt := 12) hx hb dX4_placeFor_1 (by decide) (fun c1 => ?_) (fun c1 => ?_)
  · have hf := in_ c1 hf
    refine lv_iconst (v := 3) hx hb dX4_placeFor_12 (by decide) ?_
    refine lv_iconst (v := 2) hx hb dX4_placeFor_13 (by decide) ?_
    refine lv_iload_n hx hb dX4_placeFor_14 rfl (lv_at hl 1 rfl) ?_
    refine lv_iconst (v := 3) hx hb dX4_placeFor_15 (by decide) ?_
    refine lv_idiv hx hb dX4_placeFor_16 (by decide) ?_
    refine lv_isub hx hb dX4_placeFor_17 ?_
    refine lv_imul hx hb dX4_placeFor_18 ?_
    refine lv_iconst (v := 1) hx hb dX4_placeFor_19 (by decide) ?_
    refine lv_iadd hx hb dX4_placeFor_20 ?_
    subst hf
    exact rt_i hx hb hr hlk hH dX4_placeFor_21
  · have hf := ip_ c1 hf
    refine lv_iconst (v := 5) hx hb dX4_placeFor_4 (by decide) ?_
    refine lv_iload_n hx hb dX4_placeFor_5 rfl (lv_at hl 1 rfl) ?_
    refine lv_iconst (v := 3) hx hb dX4_placeFor_6 (by decide) ?_
    refine lv_irem hx hb dX4_placeFor_7 (by decide) ?_
    refine lv_isub hx hb dX4_placeFor_8 ?_
    refine lv_goto (tgt := 21) hx hb dX4_placeFor_9 (by decide) ?_
    subst hf
    exact rt_i hx hb hr hlk hH dX4_placeFor_21
def fX4_towards_L12 : Nat → Int32 → Int32 → Int32 → Int32 → Int32 → Int32 → Option Int32
  | 0, _, _, _, _, _, _ => none
  | fuel + 1, x0, x1, x2, x3, x4, x5 =>
    if x3 ≤ 0 then
      some ((3 * x5) + x4)
    else
      if x4 = (x1 - x1 / 3 * 3) then
        if x5 = (x1 / 3) then
          some ((3 * x5) + x4)
        else
          if x4 = (x1 - x1 / 3 * 3) then
            if (x1 / 3) ≤ x5 then
              lt_ ((x5 + (-1))) fun v14 =>
              lt_ (x3 + (-1)) fun v15 =>
              fX4_towards_L12 fuel x0 x1 x2 v15 x4 v14
            else
              lt_ ((x5 + 1)) fun v16 =>
              lt_ (x3 + (-1)) fun v17 =>
              fX4_towards_L12 fuel x0 x1 x2 v17 x4 v16
          else
            if (x1 - x1 / 3 * 3) ≤ x4 then
              lt_ ((x4 + (-1))) fun v19 =>
              lt_ (x3 + (-1)) fun v20 =>
              fX4_towards_L12 fuel x0 x1 x2 v20 v19 x5
            else
              lt_ ((x4 + 1)) fun v21 =>
              lt_ (x3 + (-1)) fun v22 =>
              fX4_towards_L12 fuel x0 x1 x2 v22 v21 x5
      else
        if x4 = (x1 - x1 / 3 * 3) then
          if (x1 / 3) ≤ x5 then
            lt_ ((x5 + (-1))) fun v3 =>
            lt_ (x3 + (-1)) fun v4 =>
            fX4_towards_L12 fuel x0 x1 x2 v4 x4 v3
          else
            lt_ ((x5 + 1)) fun v5 =>
            lt_ (x3 + (-1)) fun v6 =>
            fX4_towards_L12 fuel x0 x1 x2 v6 x4 v5
        else
          if (x1 - x1 / 3 * 3) ≤ x4 then
            lt_ ((x4 + (-1))) fun v8 =>
            lt_ (x3 + (-1)) fun v9 =>
            fX4_towards_L12 fuel x0 x1 x2 v9 v8 x5
          else
            lt_ ((x4 + 1)) fun v10 =>
            lt_ (x3 + (-1)) fun v11 =>
            fX4_towards_L12 fuel x0 x1 x2 v11 v10 x5
def fX4_towards (a0 : Int32) (a1 : Int32) (a2 : Int32) : Option Int32 :=
  lt_ ((a0 - a0 / 3 * 3)) fun v1 =>
  lt_ ((a0 / 3)) fun v2 =>
  fX4_towards_L12 1000 a0 a1 a2 a2 v1 v2
theorem kdX4_towards : yX4_towards.cls ≠ "java/lang/invoke/MethodHandle" ∧ yX4_towards.cls ≠ "java/lang/invoke/VarHandle" ∧ (parseMethodDescriptor yX4_towards.desc).map (fun d => d.parameters.length) = some 3 := by decide +kernel
set_option maxHeartbeats 4000000 in
theorem mX4_towards (l : Launch) (G : GT_) (M : Mem_) (n : Nat) (a0 : Int32) (a1 : Int32) (a2 : Int32) (r : Int32) (hf : fX4_towards a0 a1 a2 = some r) : Ct_ G l yX4_towards (ws_ yX4_towards cX4_towards 6 (some .int)) ({ frames := 0, cells := 0, slots := 0, locals := 0 }) 0 0 [.int a0, .int a1, .int a2] M n (some (.int r)) M n := by
  refine en_ (by decide) (Nat.le_of_ble_eq_true rfl) ?_
  intro p e s m below meth c hx hb hr hlk hml hown hts hname hKn hH ls hl
  have hown : s.vm.findClass RX4 = some m.cls := hown
  have hl : lv_has ls 6 [(0, .int a0), (1, .int a1), (2, .int a2)] := hl
  have w12 : ∀ (fuel : Nat), ∀ (x0 : Int32) (x1 : Int32) (x2 : Int32) (x3 : Int32) (x4 : Int32) (x5 : Int32) (H : Heap) (locs : List Loc) (ls : Array Slot), St_ G n M s H locs → lv_has ls 6 [(0, .int x0), (1, .int x1), (2, .int x2), (3, .int x3), (4, .int x4), (5, .int x5)] → fX4_towards_L12 fuel x0 x1 x2 x3 x4 x5 = some r → W p l e ({ frames := 0, cells := 0, slots := 0, locals := 0 } : Room) s m ([.int a0, .int a1, .int a2] : List Value).toArray below meth c H locs 0 0 (MQ below (Qc_ G (some (.int r)) M n) ([.int a0, .int a1, .int a2] : List Value).toArray s 0 0 (fun q => G.1 ≤ q)) (F0 m 12 ls []) := by
    intro fuel
    induction fuel with
    | zero =>
      intro x0 x1 x2 x3 x4 x5 H locs ls hH hl hf
      cases hf
    | succ fuel ih =>
      intro x0 x1 x2 x3 x4 x5 H locs ls hH hl hf
      unfold fX4_towards_L12 at hf
      refine lv_iload_n hx hb dX4_towards_12 rfl (lv_at hl 3 rfl) ?_
      refine lv_if_le (tgt := 85) hx hb dX4_towards_13 (by decide) (fun c27 => ?_) (fun c27 => ?_)
      · have hf := ip_ c27 hf
        refine lv_iconst (v := 3) hx hb dX4_towards_85 (by decide) ?_
        refine lv_iload hx hb dX4_towards_86 (lv_at hl 5 rfl) ?_
        refine lv_imul hx hb dX4_towards_88 ?_
        refine lv_iload hx hb dX4_towards_89 (lv_at hl 4 rfl) ?_
        refine lv_iadd hx hb dX4_towards_91 ?_
        cases hf
        exact rt_i hx hb hr hlk hH dX4_towards_92
      · have hf := in_ c27 hf
        refine lv_iload hx hb dX4_towards_16 (lv_at hl 4 rfl) ?_
        refine lv_iload_n hx hb dX4_towards_18 rfl (lv_at hl 1 rfl) ?_
        refine lv_iconst (v := 3) hx hb dX4_towards_19 (by decide) ?_
        refine lv_irem hx hb dX4_towards_20 (by decide) ?_
        refine lv_icmp_ne (tgt := 32) hx hb dX4_towards_21 (by decide) (fun c26 => ?_) (fun c26 => ?_)
        · have hf := in_ c26 hf
          refine lv_iload hx hb dX4_towards_32 (lv_at hl 4 rfl) ?_
          refine lv_iload_n hx hb dX4_towards_34 rfl (lv_at hl 1 rfl) ?_
          refine lv_iconst (v := 3) hx hb dX4_towards_35 (by decide) ?_
          refine lv_irem hx hb dX4_towards_36 (by decide) ?_
          refine lv_icmp_eq (tgt := 61) hx hb dX4_towards_37 (by decide) (fun c13 => ?_) (fun c13 => ?_)
          · have hf := ip_ c13 hf
            refine lv_iload hx hb dX4_towards_61 (lv_at hl 5 rfl) ?_
            refine lv_iload hx hb dX4_towards_63 (lv_at hl 5 rfl) ?_
            refine lv_iload_n hx hb dX4_towards_65 rfl (lv_at hl 1 rfl) ?_
            refine lv_iconst (v := 3) hx hb dX4_towards_66 (by decide) ?_
            refine lv_idiv hx hb dX4_towards_67 (by decide) ?_
            refine lv_icmp_ge (tgt := 75) hx hb dX4_towards_68 (by decide) (fun c7 => ?_) (fun c7 => ?_)
            · have hf := ip_ c7 hf
              refine lv_iconst (v := (-1)) hx hb dX4_towards_75 (by decide) ?_
              refine lv_iadd hx hb dX4_towards_76 ?_
              refine lv_topi (fun v3 ev3 => ?_)
              have hf := lu_ ev3 hf
              refine lv_istore (lv' := [(5, .int v3), (0, .int x0), (1, .int x1), (2, .int x2), (3, .int x3), (4, .int x4)]) hx hb dX4_towards_77 hl (by decide) rfl (fun ls hl => ?_)
              obtain ⟨v4, ev4⟩ : ∃ z : Int32, z = x3 + (-1) := ⟨_, rfl⟩
              have hf := lu_ ev4 hf
              refine lv_iinc (v := v4) (lv' := [(3, .int v4), (5, .int v3), (0, .int x0), (1, .int x1), (2, .int x2), (4, .int x4)]) hx hb dX4_towards_79 hl (k := 4) rfl (by rw [ev4]; rfl) (by decide) rfl (fun ls hl => ?_)
              refine lv_goto (tgt := 12) hx hb dX4_towards_82 (by decide) ?_
              exact ih x0 x1 x2 v4 x4 v3 _ _ ls hH (lv_sub hl [2, 3, 4, 0, 5, 1] rfl) hf
            · have hf := in_ c7 hf
              refine lv_iconst (v := 1) hx hb dX4_towards_71 (by decide) ?_
              refine lv_goto (tgt := 76) hx hb dX4_towards_72 (by decide) ?_
              refine lv_iadd hx hb dX4_towards_76 ?_
              refine lv_topi (fun v5 ev5 => ?_)
              have hf := lu_ ev5 hf
              refine lv_istore (lv' := [(5, .int v5), (0, .int x0), (1, .int x1), (2, .int x2), (3, .int x3), (4, .int x4)]) hx hb dX4_towards_77 hl (by decide) rfl (fun ls hl => ?_)
              obtain ⟨v6, ev6⟩ : ∃ z : Int32, z = x3 + (-1) := ⟨_, rfl⟩
              have hf := lu_ ev6 hf
              refine lv_iinc (v := v6) (lv' := [(3, .int v6), (5, .int v5), (0, .int x0), (1, .int x1), (2, .int x2), (4, .int x4)]) hx hb dX4_towards_79 hl (k := 4) rfl (by rw [ev6]; rfl) (by decide) rfl (fun ls hl => ?_)
              refine lv_goto (tgt := 12) hx hb dX4_towards_82 (by decide) ?_
              exact ih x0 x1 x2 v6 x4 v5 _ _ ls hH (lv_sub hl [2, 3, 4, 0, 5, 1] rfl) hf
          · have hf := in_ c13 hf
            refine lv_iload hx hb dX4_towards_40 (lv_at hl 4 rfl) ?_
            refine lv_iload hx hb dX4_towards_42 (lv_at hl 4 rfl) ?_
            refine lv_iload_n hx hb dX4_towards_44 rfl (lv_at hl 1 rfl) ?_
            refine lv_iconst (v := 3) hx hb dX4_towards_45 (by decide) ?_
            refine lv_irem hx hb dX4_towards_46 (by decide) ?_
            refine lv_icmp_ge (tgt := 54) hx hb dX4_towards_47 (by decide) (fun c12 => ?_) (fun c12 => ?_)
            · have hf := ip_ c12 hf
              refine lv_iconst (v := (-1)) hx hb dX4_towards_54 (by decide) ?_
              refine lv_iadd hx hb dX4_towards_55 ?_
              refine lv_topi (fun v8 ev8 => ?_)
              have hf := lu_ ev8 hf
              refine lv_istore (lv' := [(4, .int v8), (0, .int x0), (1, .int x1), (2, .int x2), (3, .int x3), (5, .int x5)]) hx hb dX4_towards_56 hl (by decide) rfl (fun ls hl => ?_)
              refine lv_goto (tgt := 79) hx hb dX4_towards_58 (by decide) ?_
              obtain ⟨v9, ev9⟩ : ∃ z : Int32, z = x3 + (-1) := ⟨_, rfl⟩
              have hf := lu_ ev9 hf
              refine lv_iinc (v := v9) (lv' := [(3, .int v9), (4, .int v8), (0, .int x0), (1, .int x1), (2, .int x2), (5, .int x5)]) hx hb dX4_towards_79 hl (k := 4) rfl (by rw [ev9]; rfl) (by decide) rfl (fun ls hl => ?_)
              refine lv_goto (tgt := 12) hx hb dX4_towards_82 (by decide) ?_
              exact ih x0 x1 x2 v9 v8 x5 _ _ ls hH (lv_sub hl [2, 3, 4, 0, 1, 5] rfl) hf
            · have hf := in_ c12 hf
              refine lv_iconst (v := 1) hx hb dX4_towards_50 (by decide) ?_
              refine lv_goto (tgt := 55) hx hb dX4_towards_51 (by decide) ?_
              refine lv_iadd hx hb dX4_towards_55 ?_
              refine lv_topi (fun v10 ev10 => ?_)
              have hf := lu_ ev10 hf
              refine lv_istore (lv' := [(4, .int v10), (0, .int x0), (1, .int x1), (2, .int x2), (3, .int x3), (5, .int x5)]) hx hb dX4_towards_56 hl (by decide) rfl (fun ls hl => ?_)
              refine lv_goto (tgt := 79) hx hb dX4_towards_58 (by decide) ?_
              obtain ⟨v11, ev11⟩ : ∃ z : Int32, z = x3 + (-1) := ⟨_, rfl⟩
              have hf := lu_ ev11 hf
              refine lv_iinc (v := v11) (lv' := [(3, .int v11), (4, .int v10), (0, .int x0), (1, .int x1), (2, .int x2), (5, .int x5)]) hx hb dX4_towards_79 hl (k := 4) rfl (by rw [ev11]; rfl) (by decide) rfl (fun ls hl => ?_)
              refine lv_goto (tgt := 12) hx hb dX4_towards_82 (by decide) ?_
              exact ih x0 x1 x2 v11 v10 x5 _ _ ls hH (lv_sub hl [2, 3, 4, 0, 1, 5] rfl) hf
        · have hf := ip_ c26 hf
          refine lv_iload hx hb dX4_towards_24 (lv_at hl 5 rfl) ?_
          refine lv_iload_n hx hb dX4_towards_26 rfl (lv_at hl 1 rfl) ?_
          refine lv_iconst (v := 3) hx hb dX4_towards_27 (by decide) ?_
          refine lv_idiv hx hb dX4_towards_28 (by decide) ?_
          refine lv_icmp_eq (tgt := 85) hx hb dX4_towards_29 (by decide) (fun c25 => ?_) (fun c25 => ?_)
          · have hf := ip_ c25 hf
            refine lv_iconst (v := 3) hx hb dX4_towards_85 (by decide) ?_
            refine lv_iload hx hb dX4_towards_86 (lv_at hl 5 rfl) ?_
            refine lv_imul hx hb dX4_towards_88 ?_
            refine lv_iload hx hb dX4_towards_89 (lv_at hl 4 rfl) ?_
            refine lv_iadd hx hb dX4_towards_91 ?_
            cases hf
            exact rt_i hx hb hr hlk hH dX4_towards_92
          · have hf := in_ c25 hf
            refine lv_iload hx hb dX4_towards_32 (lv_at hl 4 rfl) ?_
            refine lv_iload_n hx hb dX4_towards_34 rfl (lv_at hl 1 rfl) ?_
            refine lv_iconst (v := 3) hx hb dX4_towards_35 (by decide) ?_
            refine lv_irem hx hb dX4_towards_36 (by decide) ?_
            refine lv_icmp_eq (tgt := 61) hx hb dX4_towards_37 (by decide) (fun c24 => ?_) (fun c24 => ?_)
            · have hf := ip_ c24 hf
              refine lv_iload hx hb dX4_towards_61 (lv_at hl 5 rfl) ?_
              refine lv_iload hx hb dX4_towards_63 (lv_at hl 5 rfl) ?_
              refine lv_iload_n hx hb dX4_towards_65 rfl (lv_at hl 1 rfl) ?_
              refine lv_iconst (v := 3) hx hb dX4_towards_66 (by decide) ?_
              refine lv_idiv hx hb dX4_towards_67 (by decide) ?_
              refine lv_icmp_ge (tgt := 75) hx hb dX4_towards_68 (by decide) (fun c18 => ?_) (fun c18 => ?_)
              · have hf := ip_ c18 hf
                refine lv_iconst (v := (-1)) hx hb dX4_towards_75 (by decide) ?_
                refine lv_iadd hx hb dX4_towards_76 ?_
                refine lv_topi (fun v14 ev14 => ?_)
                have hf := lu_ ev14 hf
                refine lv_istore (lv' := [(5, .int v14), (0, .int x0), (1, .int x1), (2, .int x2), (3, .int x3), (4, .int x4)]) hx hb dX4_towards_77 hl (by decide) rfl (fun ls hl => ?_)
                obtain ⟨v15, ev15⟩ : ∃ z : Int32, z = x3 + (-1) := ⟨_, rfl⟩
                have hf := lu_ ev15 hf
                refine lv_iinc (v := v15) (lv' := [(3, .int v15), (5, .int v14), (0, .int x0), (1, .int x1), (2, .int x2), (4, .int x4)]) hx hb dX4_towards_79 hl (k := 4) rfl (by rw [ev15]; rfl) (by decide) rfl (fun ls hl => ?_)
                refine lv_goto (tgt := 12) hx hb dX4_towards_82 (by decide) ?_
                exact ih x0 x1 x2 v15 x4 v14 _ _ ls hH (lv_sub hl [2, 3, 4, 0, 5, 1] rfl) hf
              · have hf := in_ c18 hf
                refine lv_iconst (v := 1) hx hb dX4_towards_71 (by decide) ?_
                refine lv_goto (tgt := 76) hx hb dX4_towards_72 (by decide) ?_
                refine lv_iadd hx hb dX4_towards_76 ?_
                refine lv_topi (fun v16 ev16 => ?_)
                have hf := lu_ ev16 hf
                refine lv_istore (lv' := [(5, .int v16), (0, .int x0), (1, .int x1), (2, .int x2), (3, .int x3), (4, .int x4)]) hx hb dX4_towards_77 hl (by decide) rfl (fun ls hl => ?_)
                obtain ⟨v17, ev17⟩ : ∃ z : Int32, z = x3 + (-1) := ⟨_, rfl⟩
                have hf := lu_ ev17 hf
                refine lv_iinc (v := v17) (lv' := [(3, .int v17), (5, .int v16), (0, .int x0), (1, .int x1), (2, .int x2), (4, .int x4)]) hx hb dX4_towards_79 hl (k := 4) rfl (by rw [ev17]; rfl) (by decide) rfl (fun ls hl => ?_)
                refine lv_goto (tgt := 12) hx hb dX4_towards_82 (by decide) ?_
                exact ih x0 x1 x2 v17 x4 v16 _ _ ls hH (lv_sub hl [2, 3, 4, 0, 5, 1] rfl) hf
            · have hf := in_ c24 hf
              refine lv_iload hx hb dX4_towards_40 (lv_at hl 4 rfl) ?_
              refine lv_iload hx hb dX4_towards_42 (lv_at hl 4 rfl) ?_
              refine lv_iload_n hx hb dX4_towards_44 rfl (lv_at hl 1 rfl) ?_
              refine lv_iconst (v := 3) hx hb dX4_towards_45 (by decide) ?_
              refine lv_irem hx hb dX4_towards_46 (by decide) ?_
              refine lv_icmp_ge (tgt := 54) hx hb dX4_towards_47 (by decide) (fun c23 => ?_) (fun c23 => ?_)
              · have hf := ip_ c23 hf
                refine lv_iconst (v := (-1)) hx hb dX4_towards_54 (by decide) ?_
                refine lv_iadd hx hb dX4_towards_55 ?_
                refine lv_topi (fun v19 ev19 => ?_)
                have hf := lu_ ev19 hf
                refine lv_istore (lv' := [(4, .int v19), (0, .int x0), (1, .int x1), (2, .int x2), (3, .int x3), (5, .int x5)]) hx hb dX4_towards_56 hl (by decide) rfl (fun ls hl => ?_)
                refine lv_goto (tgt := 79) hx hb dX4_towards_58 (by decide) ?_
                obtain ⟨v20, ev20⟩ : ∃ z : Int32, z = x3 + (-1) := ⟨_, rfl⟩
                have hf := lu_ ev20 hf
                refine lv_iinc (v := v20) (lv' := [(3, .int v20), (4, .int v19), (0, .int x0), (1, .int x1), (2, .int x2), (5, .int x5)]) hx hb dX4_towards_79 hl (k := 4) rfl (by rw [ev20]; rfl) (by decide) rfl (fun ls hl => ?_)
                refine lv_goto (tgt := 12) hx hb dX4_towards_82 (by decide) ?_
                exact ih x0 x1 x2 v20 v19 x5 _ _ ls hH (lv_sub hl [2, 3, 4, 0, 1, 5] rfl) hf
              · have hf := in_ c23 hf
                refine lv_iconst (v := 1) hx hb dX4_towards_50 (by decide) ?_
                refine lv_goto (tgt := 55) hx hb dX4_towards_51 (by decide) ?_
                refine lv_iadd hx hb dX4_towards_55 ?_
                refine lv_topi (fun v21 ev21 => ?_)
                have hf := lu_ ev21 hf
                refine lv_istore (lv' := [(4, .int v21), (0, .int x0), (1, .int x1), (2, .int x2), (3, .int x3), (5, .int x5)]) hx hb dX4_towards_56 hl (by decide) rfl (fun ls hl => ?_)
                refine lv_goto (tgt := 79) hx hb dX4_towards_58 (by decide) ?_
                obtain ⟨v22, ev22⟩ : ∃ z : Int32, z = x3 + (-1) := ⟨_, rfl⟩
                have hf := lu_ ev22 hf
                refine lv_iinc (v := v22) (lv' := [(3, .int v22), (4, .int v21), (0, .int x0), (1, .int x1), (2, .int x2), (5, .int x5)]) hx hb dX4_towards_79 hl (k := 4) rfl (by rw [ev22]; rfl) (by decide) rfl (fun ls hl => ?_)
                refine lv_goto (tgt := 12) hx hb dX4_towards_82 (by decide) ?_
                exact ih x0 x1 x2 v22 v21 x5 _ _ ls hH (lv_sub hl [2, 3, 4, 0, 1, 5] rfl) hf
  unfold fX4_towards at hf
  refine lv_iload_n hx hb dX4_towards_0 rfl (lv_at hl 2 rfl) ?_
  refine lv_istore_n (lv' := [(3, .int a2), (0, .int a0), (1, .int a1), (2, .int a2)]) hx hb dX4_towards_1 rfl hl (by decide) rfl (fun ls hl => ?_)
  refine lv_iload_n hx hb dX4_towards_2 rfl (lv_at hl 1 rfl) ?_
  refine lv_iconst (v := 3) hx hb dX4_towards_3 (by decide) ?_
  refine lv_irem hx hb dX4_towards_4 (by decide) ?_
  refine lv_topi (fun v1 ev1 => ?_)
  have hf := lu_ ev1 hf
  refine lv_istore (lv' := [(4, .int v1), (3, .int a2), (0, .int a0), (1, .int a1), (2, .int a2)]) hx hb dX4_towards_5 hl (by decide) rfl (fun ls hl => ?_)
  refine lv_iload_n hx hb dX4_towards_7 rfl (lv_at hl 2 rfl) ?_
  refine lv_iconst (v := 3) hx hb dX4_towards_8 (by decide) ?_
  refine lv_idiv hx hb dX4_towards_9 (by decide) ?_
  refine lv_topi (fun v2 ev2 => ?_)
  have hf := lu_ ev2 hf
  refine lv_istore (lv' := [(5, .int v2), (4, .int v1), (3, .int a2), (0, .int a0), (1, .int a1), (2, .int a2)]) hx hb dX4_towards_10 hl (by decide) rfl (fun ls hl => ?_)
  exact w12 1000 a0 a1 a2 a2 v1 v2 _ _ ls hH (lv_sub hl [3, 4, 5, 2, 1, 0] rfl) hf
