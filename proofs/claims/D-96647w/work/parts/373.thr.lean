set_option maxRecDepth 100000
def fX1_cost (M : Mem_) (n : Nat) (a0 : Nat) (a1 : Int32) : Option (Int32 × Mem_ × Nat) :=
  (ck_ M a0 0).bind fun u1 =>
  lt_ (fX1_isShelf a0 a1) fun r2 =>
  if (b2_ r2) = 0 then
    some ((-1), M, n)
  else
    (gR_ M a0 0 8).bind fun v3 =>
    (aR_ M v3 5 a1).bind fun v4 =>
    (gN_ M v4 2 0).bind fun v5 =>
    no_ v5 (
      some ((-11), M, n + 1)
    ) (fun o6 =>
      (tg_ M o6).bind fun t9 =>
      if t9 = 3 then
        (s_cost M o6).bind fun r8 =>
        some (r8, M, n)
      else
        some ((-12), M, n + 3)
    )
theorem kdX1_cost : yX1_cost.cls ≠ "java/lang/invoke/MethodHandle" ∧ yX1_cost.cls ≠ "java/lang/invoke/VarHandle" ∧ (parseMethodDescriptor yX1_cost.desc).map (fun d => d.parameters.length) = some 1 := by decide +kernel
set_option maxHeartbeats 4000000 in
theorem mX1_cost (l : Launch) (hnt : l.flags = flags0) (G : GT_) (M : Mem_) (n : Nat) (a0 : Nat) (a1 : Int32) (r : Int32) (M1 : Mem_) (n1 : Nat) (hf : fX1_cost M n a0 a1 = some (r, M1, n1)) : Ct_ G l yX1_cost (wsW_ yX1_cost cX1_cost 3 (some .int) [(10, 25, 26, 371), (10, 25, 30, 174)]) ({ frames := 9, cells := 3, slots := 1000, locals := 10250 }) 3 1000 [.ref a0, .int a1] M n (some (.int r)) M1 n1 := by
  refine en_h (by decide) (Nat.le_of_ble_eq_true rfl) ?_
  intro p e s m below meth c had htab hx hb hr hlk hml hown hts hname hKn hH ls hl
  have hown : s.vm.findClass RX1 = some m.cls := hown
  have hl : lv_has ls 3 [(0, .ref a0), (1, .int a1)] := hl
  unfold fX1_cost at hf
  generalize s.heap = H at hH ⊢
  refine lv_aload_n hx hb dX1_cost_0 rfl (lv_at hl 0 rfl) ?_
  refine lv_iload_n hx hb dX1_cost_1 rfl (lv_at hl 1 rfl) ?_
  obtain ⟨u1, eu1, hf⟩ := bs_ hf
  obtain ⟨r2, er2⟩ : ∃ z, z = fX1_isShelf a0 a1 := ⟨_, rfl⟩
  have hf := lu_ er2 hf
  refine cl_i0 hH (rn_V ⟨hx, hb, hml, hown, hts⟩ hKn hH (mX1_isShelf l G M n a0 a1 r2 er2.symm) (cwV 1 hts (lw_V q194 q196 qs2 q67 q198) rfl rfl rfl ⟨rfl, kdX1_isShelf⟩ ⟨Nat.le_of_ble_eq_true rfl, Nat.le_of_ble_eq_true rfl⟩) eu1 rfl rfl hl.1 (Nat.le_of_ble_eq_true rfl) dX1_cost_2 ⟨(Nat.le_of_ble_eq_true rfl), (Nat.le_of_ble_eq_true rfl)⟩ rfl) (fun H locs hH => ?_)
  refine lv_if_ne (tgt := 10) hx hb dX1_cost_5 (by decide) (fun c11 => ?_) (fun c11 => ?_)
  · have hf := in_ c11 hf
    refine lv_aload_n hx hb dX1_cost_10 rfl (lv_at hl 0 rfl) ?_
    obtain ⟨v3, ev3, hf⟩ := bs_ hf
    refine mg_gR hx hb hts hown hKn hH ev3 in_X1 rfl (by decide) (hts _ q945) (fun _ h9 => h9) dX1_cost_11 ?_
    refine lv_iload_n hx hb dX1_cost_14 rfl (lv_at hl 1 rfl) ?_
    obtain ⟨v4, ev4, hf⟩ := bs_ hf
    refine mg_aald5 hx hb hKn hH ev4 dX1_cost_15 ?_
    obtain ⟨v5, ev5, hf⟩ := bs_ hf
    refine mg_gN hx hb hts hown hKn hH ev5 in_X3 rfl (by decide) (hts _ q933) (fun _ h9 => h9) dX1_cost_16 ?_
    cases v5 with
    | none =>
      have hf := noN_ hf
      have hl : lv_has ls 3 [(0, .ref a0), (1, .int a1)] := hl
      refine lv_castN hx hb dX1_cost_19 ?_
      refine wx_npe (st := []) hx hnt hts hKn hH (hl.1.trans hml.symm) (Nat.le_of_ble_eq_true rfl) (Nat.le_of_ble_eq_true rfl) (Nat.le_of_ble_eq_true rfl) (Nat.le_of_ble_eq_true rfl) (fun T hT X => by obtain ⟨mk9, methM9, hn9, hm9, hs9, ha9⟩ := Cond.instanceMethod_spec (hts _ q1047); obtain ⟨meth9, c9, hm99, -, -, -, -, -, -, hsig9⟩ := Cond.code_spec hn9 (hts _ q1074); cases hm9.symm.trans hm99; obtain ⟨c2, ck9, r19, hcn9, hck9, hni9, hf9, hn19⟩ := Cond.sameMethod_found (hts _ q1049); cases hn9.symm.trans hn19; obtain ⟨kr9, hkr9, -⟩ := className_of_methodNamed hn9; have hcc9 := (findClass_of_methodNamed hn9).symm.trans hcn9; cases hcc9; cases hkr9.symm.trans hck9; exact X.invokevirtualNull hx hown (hts _ q1046) hn9 hm9 hs9 hkr9 hni9 (by decide) (g := F0 m 22 ls [.null]) rfl (argsL := []) (by have h99 : (parseMethodDescriptor _).map (fun d => d.parameters.length) = some 0 := (by decide +kernel : (parseMethodDescriptor "()I").map (fun d => d.parameters.length) = some 0); rw [hsig9] at h99; exact (Option.some.inj h99).symm) rfl (by rw [hb]; exact dX1_cost_22)) (fun H locs hH hcl => ?_)
      refine wx_catch (pc := 22) (own := "SideBySide") (C := "java/lang/NullPointerException") (ok := (fun k9 => decide (k9 = 371))) (h := 26) hown htab ⟨fun _ => ⟨by decide, "java/lang/NullPointerException", hts _ q1024, Or.inl ⟨rfl, hKn.2.2.2.1 ("java/lang/NullPointerException", "java/lang/NullPointerException") (by decide +kernel)⟩⟩, fun _ => ⟨by decide, "java/lang/ClassCastException", hts _ q102, Or.inr ⟨rfl, hKn.2.2.2.2.1 ("java/lang/NullPointerException", "java/lang/ClassCastException") (by decide +kernel)⟩⟩, trivial⟩ (by decide) hcl ?_
      refine W.widen (k := 1) (n := 8) (Nat.le_of_ble_eq_true rfl) (Nat.le_of_ble_eq_true rfl) ?_
      refine lv_astore_n (lv' := [(2, .ref n), (0, .ref a0), (1, .int a1)]) hx hb dX1_cost_26 rfl hl (by decide) rfl (fun ls hl => ?_)
      refine lv_bipush (v := (-11)) hx hb dX1_cost_27 (by decide) ?_
      cases hf
      refine W.widen (k := 3) (n := 1000) (Nat.le_of_ble_eq_true rfl) (Nat.le_of_ble_eq_true rfl) ?_
      exact rt_i hx hb hr hlk hH dX1_cost_29
    | some o6 =>
      have hf := noS_ hf
      have hl : lv_has ls 3 [(0, .ref a0), (1, .int a1)] := hl
      obtain ⟨t9, et9, hf⟩ := bs_ hf
      by_cases c10 : t9 = 3
      · have hf := ip_ c10 hf
        refine mg_cast (tag := 3) hx hb hown (hts _ q319) hKn hH (cc_of et9 c10) dX1_cost_19 ?_
        obtain ⟨r8, er8, hf⟩ := bs_ hf
        refine cl_i0 hH (rs_cost ⟨hx, hb, hml, hown, hts⟩ hKn hH er8 (hts _ q1046) ⟨Nat.le_of_ble_eq_true rfl, Nat.le_of_ble_eq_true rfl⟩ hl.1 (Nat.le_of_ble_eq_true rfl) dX1_cost_22 ⟨(Nat.le_of_ble_eq_true rfl), (Nat.le_of_ble_eq_true rfl)⟩ rfl) (fun H locs hH => ?_)
        cases hf
        refine W.widen (k := 3) (n := 1000) (Nat.le_of_ble_eq_true rfl) (Nat.le_of_ble_eq_true rfl) ?_
        exact rt_i hx hb hr hlk hH dX1_cost_25
      · have hf := in_ c10 hf
        refine mg_castx (tag := 3) hx hb hnt hown (by decide) (hts _ q319) hts hKn hH (hl.1.trans hml.symm) et9 c10 (Nat.le_of_ble_eq_true rfl) (Nat.le_of_ble_eq_true rfl) (Nat.le_of_ble_eq_true rfl) (Nat.le_of_ble_eq_true rfl) dX1_cost_19 (fun H locs hH hcl => ?_)
        refine wx_catch (pc := 19) (own := "SideBySide") (C := "java/lang/ClassCastException") (ok := (fun k9 => decide (k9 = 174))) (h := 30) hown htab ⟨fun _ => ⟨by decide, "java/lang/NullPointerException", hts _ q1024, Or.inr ⟨rfl, hKn.2.2.2.2.1 ("java/lang/ClassCastException", "java/lang/NullPointerException") (by decide +kernel)⟩⟩, fun _ => ⟨by decide, "java/lang/ClassCastException", hts _ q102, Or.inl ⟨rfl, hKn.2.2.2.1 ("java/lang/ClassCastException", "java/lang/ClassCastException") (by decide +kernel)⟩⟩, trivial⟩ (by decide) hcl ?_
        refine W.widen (k := 3) (n := 1000) (Nat.le_of_ble_eq_true rfl) (Nat.le_of_ble_eq_true rfl) ?_
        refine lv_astore_n (lv' := [(2, .ref (n + 2)), (0, .ref a0), (1, .int a1)]) hx hb dX1_cost_30 rfl hl (by decide) rfl (fun ls hl => ?_)
        refine lv_bipush (v := (-12)) hx hb dX1_cost_31 (by decide) ?_
        cases hf
        refine W.widen (k := 3) (n := 1000) (Nat.le_of_ble_eq_true rfl) (Nat.le_of_ble_eq_true rfl) ?_
        exact rt_i hx hb hr hlk hH dX1_cost_33
  · have hf := ip_ c11 hf
    refine lv_iconst (v := (-1)) hx hb dX1_cost_8 (by decide) ?_
    cases hf
    refine W.widen (k := 3) (n := 1000) (Nat.le_of_ble_eq_true rfl) (Nat.le_of_ble_eq_true rfl) ?_
    exact rt_i hx hb hr hlk hH dX1_cost_9
def fX1_toss (M : Mem_) (n : Nat) (a0 : Nat) (a1 : Int32) : Option (Int32 × Mem_ × Nat) :=
  (ck_ M a0 0).bind fun u1 =>
  lt_ (fX1_isShelf a0 a1) fun r2 =>
  if (b2_ r2) = 0 then
    some ((-1), M, n)
  else
    (gR_ M a0 0 8).bind fun v3 =>
    (aR_ M v3 5 a1).bind fun v4 =>
    (gN_ M v4 2 0).bind fun v5 =>
    no_ v5 (
      some ((-11), M, n)
    ) (fun o6 =>
      (gR_ M a0 0 8).bind fun v7 =>
      (aR_ M v7 5 a1).bind fun v8 =>
      (gN_ M v8 2 0).bind fun v9 =>
      no_ v9 (
        some ((-15), M, n + 1)
      ) (fun o10 =>
        (tg_ M o10).bind fun t18 =>
        if t18 = 3 then
          ba_ (s_failure M n o10) fun r12 M13 n14 =>
          no_ r12 (
            some ((-15), M13, n14 + 1)
          ) (fun o15 =>
            (gX_ M13 o15 15).bind fun v16 =>
            (gX_ M13 o15 15).bind fun v17 =>
            some (v17, M13, n14)
          )
        else
          some ((-12), M, n + 3)
      )
    )
theorem kdX1_toss : yX1_toss.cls ≠ "java/lang/invoke/MethodHandle" ∧ yX1_toss.cls ≠ "java/lang/invoke/VarHandle" ∧ (parseMethodDescriptor yX1_toss.desc).map (fun d => d.parameters.length) = some 1 := by decide +kernel
set_option maxHeartbeats 4000000 in
theorem mX1_toss (l : Launch) (hnt : l.flags = flags0) (G : GT_) (M : Mem_) (n : Nat) (a0 : Nat) (a1 : Int32) (r : Int32) (M1 : Mem_) (n1 : Nat) (hf : fX1_toss M n a0 a1 = some (r, M1, n1)) : Ct_ G l yX1_toss (wsW_ yX1_toss cX1_toss 3 (some .int) [(25, 41, 41, 391), (25, 41, 47, 371), (25, 41, 51, 174)]) ({ frames := 9, cells := 4, slots := 1000, locals := 10250 }) 4 1000 [.ref a0, .int a1] M n (some (.int r)) M1 n1 := by
  refine en_h (by decide) (Nat.le_of_ble_eq_true rfl) ?_
  intro p e s m below meth c had htab hx hb hr hlk hml hown hts hname hKn hH ls hl
  have hown : s.vm.findClass RX1 = some m.cls := hown
  have hl : lv_has ls 3 [(0, .ref a0), (1, .int a1)] := hl
  unfold fX1_toss at hf
  generalize s.heap = H at hH ⊢
  refine lv_aload_n hx hb dX1_toss_0 rfl (lv_at hl 0 rfl) ?_
  refine lv_iload_n hx hb dX1_toss_1 rfl (lv_at hl 1 rfl) ?_
  obtain ⟨u1, eu1, hf⟩ := bs_ hf
  obtain ⟨r2, er2⟩ : ∃ z, z = fX1_isShelf a0 a1 := ⟨_, rfl⟩
  have hf := lu_ er2 hf
  refine cl_i0 hH (rn_V ⟨hx, hb, hml, hown, hts⟩ hKn hH (mX1_isShelf l G M n a0 a1 r2 er2.symm) (cwV 1 hts (lw_V q194 q196 qs2 q67 q198) rfl rfl rfl ⟨rfl, kdX1_isShelf⟩ ⟨Nat.le_of_ble_eq_true rfl, Nat.le_of_ble_eq_true rfl⟩) eu1 rfl rfl hl.1 (Nat.le_of_ble_eq_true rfl) dX1_toss_2 ⟨(Nat.le_of_ble_eq_true rfl), (Nat.le_of_ble_eq_true rfl)⟩ rfl) (fun H locs hH => ?_)
  refine lv_if_ne (tgt := 10) hx hb dX1_toss_5 (by decide) (fun c20 => ?_) (fun c20 => ?_)
  · have hf := in_ c20 hf
    refine lv_aload_n hx hb dX1_toss_10 rfl (lv_at hl 0 rfl) ?_
    obtain ⟨v3, ev3, hf⟩ := bs_ hf
    refine mg_gR hx hb hts hown hKn hH ev3 in_X1 rfl (by decide) (hts _ q945) (fun _ h9 => h9) dX1_toss_11 ?_
    refine lv_iload_n hx hb dX1_toss_14 rfl (lv_at hl 1 rfl) ?_
    obtain ⟨v4, ev4, hf⟩ := bs_ hf
    refine mg_aald5 hx hb hKn hH ev4 dX1_toss_15 ?_
    obtain ⟨v5, ev5, hf⟩ := bs_ hf
    refine mg_gN hx hb hts hown hKn hH ev5 in_X3 rfl (by decide) (hts _ q933) (fun _ h9 => h9) dX1_toss_16 ?_
    cases v5 with
    | none =>
      have hf := noN_ hf
      have hl : lv_has ls 3 [(0, .ref a0), (1, .int a1)] := hl
      refine lv_ifnonnullN hx hb dX1_toss_19 ?_
      refine lv_bipush (v := (-11)) hx hb dX1_toss_22 (by decide) ?_
      cases hf
      refine W.widen (k := 4) (n := 1000) (Nat.le_of_ble_eq_true rfl) (Nat.le_of_ble_eq_true rfl) ?_
      exact rt_i hx hb hr hlk hH dX1_toss_24
    | some o6 =>
      have hf := noS_ hf
      have hl : lv_has ls 3 [(0, .ref a0), (1, .int a1)] := hl
      refine lv_ifnonnull (tgt := 25) hx hb dX1_toss_19 (by decide) ?_
      refine lv_aload_n hx hb dX1_toss_25 rfl (lv_at hl 0 rfl) ?_
      obtain ⟨v7, ev7, hf⟩ := bs_ hf
      refine mg_gR hx hb hts hown hKn hH ev7 in_X1 rfl (by decide) (hts _ q945) (fun _ h9 => h9) dX1_toss_26 ?_
      refine lv_iload_n hx hb dX1_toss_29 rfl (lv_at hl 1 rfl) ?_
      obtain ⟨v8, ev8, hf⟩ := bs_ hf
      refine mg_aald5 hx hb hKn hH ev8 dX1_toss_30 ?_
      obtain ⟨v9, ev9, hf⟩ := bs_ hf
      refine mg_gN hx hb hts hown hKn hH ev9 in_X3 rfl (by decide) (hts _ q933) (fun _ h9 => h9) dX1_toss_31 ?_
      cases v9 with
      | none =>
        have hf := noN_ hf
        have hl : lv_has ls 3 [(0, .ref a0), (1, .int a1)] := hl
        refine lv_castN hx hb dX1_toss_34 ?_
        refine wx_npe (st := []) hx hnt hts hKn hH (hl.1.trans hml.symm) (Nat.le_of_ble_eq_true rfl) (Nat.le_of_ble_eq_true rfl) (Nat.le_of_ble_eq_true rfl) (Nat.le_of_ble_eq_true rfl) (fun T hT X => by obtain ⟨mk9, methM9, hn9, hm9, hs9, ha9⟩ := Cond.instanceMethod_spec (hts _ q1081); obtain ⟨meth9, c9, hm99, -, -, -, -, -, -, hsig9⟩ := Cond.code_spec hn9 (hts _ q1122); cases hm9.symm.trans hm99; obtain ⟨c2, ck9, r19, hcn9, hck9, hni9, hf9, hn19⟩ := Cond.sameMethod_found (hts _ q1083); cases hn9.symm.trans hn19; obtain ⟨kr9, hkr9, -⟩ := className_of_methodNamed hn9; have hcc9 := (findClass_of_methodNamed hn9).symm.trans hcn9; cases hcc9; cases hkr9.symm.trans hck9; exact X.invokevirtualNull hx hown (hts _ q1080) hn9 hm9 hs9 hkr9 hni9 (by decide) (g := F0 m 37 ls [.null]) rfl (argsL := []) (by have h99 : (parseMethodDescriptor _).map (fun d => d.parameters.length) = some 0 := (by decide +kernel : (parseMethodDescriptor "()LSideBySide$Tossed;").map (fun d => d.parameters.length) = some 0); rw [hsig9] at h99; exact (Option.some.inj h99).symm) rfl (by rw [hb]; exact dX1_toss_37)) (fun H locs hH hcl => ?_)
        refine wx_catch (pc := 37) (own := "SideBySide") (C := "java/lang/NullPointerException") (ok := (fun k9 => decide (k9 = 371))) (h := 47) hown htab ⟨fun _ => ⟨by decide, "SideBySide$Tossed", hts _ q1079, Or.inr ⟨rfl, hKn.2.2.2.2.1 ("java/lang/NullPointerException", "SideBySide$Tossed") (by decide +kernel)⟩⟩, fun _ => ⟨by decide, "java/lang/NullPointerException", hts _ q1024, Or.inl ⟨rfl, hKn.2.2.2.1 ("java/lang/NullPointerException", "java/lang/NullPointerException") (by decide +kernel)⟩⟩, fun _ => ⟨by decide, "java/lang/ClassCastException", hts _ q102, Or.inr ⟨rfl, hKn.2.2.2.2.1 ("java/lang/NullPointerException", "java/lang/ClassCastException") (by decide +kernel)⟩⟩, trivial⟩ (by decide) hcl ?_
        refine W.widen (k := 1) (n := 8) (Nat.le_of_ble_eq_true rfl) (Nat.le_of_ble_eq_true rfl) ?_
        refine lv_astore_n (lv' := [(2, .ref n), (0, .ref a0), (1, .int a1)]) hx hb dX1_toss_47 rfl hl (by decide) rfl (fun ls hl => ?_)
        refine lv_bipush (v := (-15)) hx hb dX1_toss_48 (by decide) ?_
        cases hf
        refine W.widen (k := 4) (n := 1000) (Nat.le_of_ble_eq_true rfl) (Nat.le_of_ble_eq_true rfl) ?_
        exact rt_i hx hb hr hlk hH dX1_toss_50
      | some o10 =>
        have hf := noS_ hf
        have hl : lv_has ls 3 [(0, .ref a0), (1, .int a1)] := hl
        obtain ⟨t18, et18, hf⟩ := bs_ hf
        by_cases c19 : t18 = 3
        · have hf := ip_ c19 hf
          refine mg_cast (tag := 3) hx hb hown (hts _ q319) hKn hH (cc_of et18 c19) dX1_toss_34 ?_
          obtain ⟨r12, M13, n14, er12, hf⟩ := bas_ hf
          refine cl_w hH (rs_failure hnt ⟨hx, hb, hml, hown, hts⟩ hKn hH er12 (hts _ q1080) ⟨Nat.le_of_ble_eq_true rfl, Nat.le_of_ble_eq_true rfl⟩ hl.1 (Nat.le_of_ble_eq_true rfl) dX1_toss_37 ⟨(Nat.le_of_ble_eq_true rfl), (Nat.le_of_ble_eq_true rfl)⟩ rfl) (fun H locs hH => ?_)
          refine W.widen (k := 3) (n := 21) (Nat.le_of_ble_eq_true rfl) (Nat.le_of_ble_eq_true rfl) ?_
          cases r12 with
          | none =>
            have hf := noN_ hf
            have hl : lv_has ls 3 [(0, .ref a0), (1, .int a1)] := hl
            refine wx_npe (st := []) hx hnt hts hKn hH (hl.1.trans hml.symm) (Nat.le_of_ble_eq_true rfl) (Nat.le_of_ble_eq_true rfl) (Nat.le_of_ble_eq_true rfl) (Nat.le_of_ble_eq_true rfl) (fun T hT X => ⟨T.vm, X, X.athrowNull hx (g := F0 m 40 ls [.null]) rfl rfl (by rw [hb]; exact dX1_toss_40)⟩) (fun H locs hH hcl => ?_)
            refine wx_catch (pc := 40) (own := "SideBySide") (C := "java/lang/NullPointerException") (ok := (fun k9 => decide (k9 = 371))) (h := 47) hown htab ⟨fun _ => ⟨by decide, "SideBySide$Tossed", hts _ q1079, Or.inr ⟨rfl, hKn.2.2.2.2.1 ("java/lang/NullPointerException", "SideBySide$Tossed") (by decide +kernel)⟩⟩, fun _ => ⟨by decide, "java/lang/NullPointerException", hts _ q1024, Or.inl ⟨rfl, hKn.2.2.2.1 ("java/lang/NullPointerException", "java/lang/NullPointerException") (by decide +kernel)⟩⟩, fun _ => ⟨by decide, "java/lang/ClassCastException", hts _ q102, Or.inr ⟨rfl, hKn.2.2.2.2.1 ("java/lang/NullPointerException", "java/lang/ClassCastException") (by decide +kernel)⟩⟩, trivial⟩ (by decide) hcl ?_
            refine W.widen (k := 4) (n := 29) (Nat.le_of_ble_eq_true rfl) (Nat.le_of_ble_eq_true rfl) ?_
            refine lv_astore_n (lv' := [(2, .ref n14), (0, .ref a0), (1, .int a1)]) hx hb dX1_toss_47 rfl hl (by decide) rfl (fun ls hl => ?_)
            refine lv_bipush (v := (-15)) hx hb dX1_toss_48 (by decide) ?_
            cases hf
            refine W.widen (k := 4) (n := 1000) (Nat.le_of_ble_eq_true rfl) (Nat.le_of_ble_eq_true rfl) ?_
            exact rt_i hx hb hr hlk hH dX1_toss_50
          | some o15 =>
            have hf := noS_ hf
            have hl : lv_has ls 3 [(0, .ref a0), (1, .int a1)] := hl
            obtain ⟨v16, ev16, hf⟩ := bs_ hf
            refine wx_athrow hx hb dX1_toss_40 ?_
            refine wx_catch (pc := 40) (own := "SideBySide") (C := "SideBySide$Tossed") (ok := (fun k9 => decide (k9 = 391))) (h := 41) hown htab ⟨fun _ => ⟨by decide, "SideBySide$Tossed", hts _ q1079, Or.inl ⟨rfl, hKn.2.2.2.1 ("SideBySide$Tossed", "SideBySide$Tossed") (by decide +kernel)⟩⟩, fun _ => ⟨by decide, "java/lang/NullPointerException", hts _ q1024, Or.inr ⟨rfl, hKn.2.2.2.2.1 ("SideBySide$Tossed", "java/lang/NullPointerException") (by decide +kernel)⟩⟩, fun _ => ⟨by decide, "java/lang/ClassCastException", hts _ q102, Or.inr ⟨rfl, hKn.2.2.2.2.1 ("SideBySide$Tossed", "java/lang/ClassCastException") (by decide +kernel)⟩⟩, trivial⟩ (by decide) (gX_cls hKn hH ev16 rfl) ?_
            refine lv_astore_n (lv' := [(2, .ref o15), (0, .ref a0), (1, .int a1)]) hx hb dX1_toss_41 rfl hl (by decide) rfl (fun ls hl => ?_)
            refine lv_aload_n hx hb dX1_toss_42 rfl (lv_at hl 0 rfl) ?_
            obtain ⟨v17, ev17, hf⟩ := bs_ hf
            refine mg_gX hx hb hts hown hKn hH ev17 in_X16 rfl (by decide) (hts _ q1104) (fun _ h9 => h9) dX1_toss_43 ?_
            cases hf
            refine W.widen (k := 4) (n := 1000) (Nat.le_of_ble_eq_true rfl) (Nat.le_of_ble_eq_true rfl) ?_
            exact rt_i hx hb hr hlk hH dX1_toss_46
        · have hf := in_ c19 hf
          refine mg_castx (tag := 3) hx hb hnt hown (by decide) (hts _ q319) hts hKn hH (hl.1.trans hml.symm) et18 c19 (Nat.le_of_ble_eq_true rfl) (Nat.le_of_ble_eq_true rfl) (Nat.le_of_ble_eq_true rfl) (Nat.le_of_ble_eq_true rfl) dX1_toss_34 (fun H locs hH hcl => ?_)
          refine wx_catch (pc := 34) (own := "SideBySide") (C := "java/lang/ClassCastException") (ok := (fun k9 => decide (k9 = 174))) (h := 51) hown htab ⟨fun _ => ⟨by decide, "SideBySide$Tossed", hts _ q1079, Or.inr ⟨rfl, hKn.2.2.2.2.1 ("java/lang/ClassCastException", "SideBySide$Tossed") (by decide +kernel)⟩⟩, fun _ => ⟨by decide, "java/lang/NullPointerException", hts _ q1024, Or.inr ⟨rfl, hKn.2.2.2.2.1 ("java/lang/ClassCastException", "java/lang/NullPointerException") (by decide +kernel)⟩⟩, fun _ => ⟨by decide, "java/lang/ClassCastException", hts _ q102, Or.inl ⟨rfl, hKn.2.2.2.1 ("java/lang/ClassCastException", "java/lang/ClassCastException") (by decide +kernel)⟩⟩, trivial⟩ (by decide) hcl ?_
          refine W.widen (k := 3) (n := 1000) (Nat.le_of_ble_eq_true rfl) (Nat.le_of_ble_eq_true rfl) ?_
          refine lv_astore_n (lv' := [(2, .ref (n + 2)), (0, .ref a0), (1, .int a1)]) hx hb dX1_toss_51 rfl hl (by decide) rfl (fun ls hl => ?_)
          refine lv_bipush (v := (-12)) hx hb dX1_toss_52 (by decide) ?_
          cases hf
          refine W.widen (k := 4) (n := 1000) (Nat.le_of_ble_eq_true rfl) (Nat.le_of_ble_eq_true rfl) ?_
          exact rt_i hx hb hr hlk hH dX1_toss_54
  · have hf := ip_ c20 hf
    refine lv_iconst (v := (-1)) hx hb dX1_toss_8 (by decide) ?_
    cases hf
    refine W.widen (k := 4) (n := 1000) (Nat.le_of_ble_eq_true rfl) (Nat.le_of_ble_eq_true rfl) ?_
    exact rt_i hx hb hr hlk hH dX1_toss_9
