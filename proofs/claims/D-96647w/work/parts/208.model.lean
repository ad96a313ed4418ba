set_option maxRecDepth 100000
def fX4_isPointless_L13 : Nat → Mem_ → Nat → Int32 → Int32 → Int32 → Option (Bool × Mem_)
  | 0, _, _, _, _, _ => none
  | fuel + 1, M, x0, x1, x2, x3 =>
    if x1 ≤ x3 then
      some (true, M)
    else
      (gR_ M x0 3 1).bind fun v5 =>
      lt_ (fX4_has x2 x3) fun r6 =>
      if (b2_ r6) = 0 then
        (gR_ M x0 3 0).bind fun v7 =>
        (aI_ M v7 0 3).bind fun v8 =>
        (sI_ M v5 0 3 v8).bind fun M9 =>
        (gR_ M9 x0 3 1).bind fun v10 =>
        (ck_ M9 x0 3).bind fun u11 =>
        bw_ (fX4_hits M9 x0 v10 x3 2) fun r12 M13 =>
        if (b2_ r12) = 0 then
          lt_ (x3 + 1) fun v14 =>
          fX4_isPointless_L13 fuel M13 x0 x1 x2 v14
        else
          some (false, M13)
      else
        (sI_ M v5 0 3 1).bind fun M16 =>
        (gR_ M16 x0 3 1).bind fun v17 =>
        (ck_ M16 x0 3).bind fun u18 =>
        bw_ (fX4_hits M16 x0 v17 x3 2) fun r19 M20 =>
        if (b2_ r19) = 0 then
          lt_ (x3 + 1) fun v21 =>
          fX4_isPointless_L13 fuel M20 x0 x1 x2 v21
        else
          some (false, M20)
def fX4_isPointless (M : Mem_) (a0 : Nat) (a1 : Int32) (a2 : Int32) : Option (Bool × Mem_) :=
  (gR_ M a0 3 0).bind fun v1 =>
  (gR_ M a0 3 1).bind fun v2 =>
  (fX4_copies M v1 v2).bind fun M4 =>
  fX4_isPointless_L13 1000 M4 a0 a1 a2 0
theorem kdX4_isPointless : yX4_isPointless.cls ≠ "java/lang/invoke/MethodHandle" ∧ yX4_isPointless.cls ≠ "java/lang/invoke/VarHandle" ∧ (parseMethodDescriptor yX4_isPointless.desc).map (fun d => d.parameters.length) = some 2 := by decide +kernel
set_option maxHeartbeats 4000000 in
theorem mX4_isPointless (l : Launch) (G : GT_) (M : Mem_) (n : Nat) (a0 : Nat) (a1 : Int32) (a2 : Int32) (r : Bool) (M1 : Mem_) (hf : fX4_isPointless M a0 a1 a2 = some (r, M1)) : Ct_ G l yX4_isPointless (ws_ yX4_isPointless cX4_isPointless 4 (some .boolean)) ({ frames := 4, cells := 0, slots := 0, locals := 99 }) 0 0 [.ref a0, .int a1, .int a2] M n (some (.int (b2_ r))) M1 n := by
  refine en_ (by decide) (Nat.le_of_ble_eq_true rfl) ?_
  intro p e s m below meth c hx hb hr hlk hml hown hts hname hKn hH ls hl
  have hown : s.vm.findClass RX4 = some m.cls := hown
  have hl : lv_has ls 4 [(0, .ref a0), (1, .int a1), (2, .int a2)] := hl
  have w13 : ∀ (fuel : Nat), ∀ (M : Mem_) (x0 : Nat) (x1 : Int32) (x2 : Int32) (x3 : Int32) (H : Heap) (locs : List Loc) (ls : Array Slot), St_ G n M s H locs → lv_has ls 4 [(0, .ref x0), (1, .int x1), (2, .int x2), (3, .int x3)] → fX4_isPointless_L13 fuel M x0 x1 x2 x3 = some (r, M1) → W p l e ({ frames := 4, cells := 0, slots := 0, locals := 99 } : Room) s m ([.ref a0, .int a1, .int a2] : List Value).toArray below meth c H locs 0 0 (MQ below (Qc_ G (some (.int (b2_ r))) M1 n) ([.ref a0, .int a1, .int a2] : List Value).toArray s 0 0 (fun q => G.1 ≤ q)) (F0 m 13 ls []) := by
    intro fuel
    induction fuel with
    | zero =>
      intro M x0 x1 x2 x3 H locs ls hH hl hf
      cases hf
    | succ fuel ih =>
      intro M x0 x1 x2 x3 H locs ls hH hl hf
      unfold fX4_isPointless_L13 at hf
      refine lv_iload_n hx hb dX4_isPointless_13 rfl (lv_at hl 3 rfl) ?_
      refine lv_iload_n hx hb dX4_isPointless_14 rfl (lv_at hl 1 rfl) ?_
      refine lv_icmp_ge (tgt := 63) hx hb dX4_isPointless_15 (by decide) (fun c24 => ?_) (fun c24 => ?_)
      · have hf := ip_ c24 hf
        refine lv_iconst (v := 1) hx hb dX4_isPointless_63 (by decide) ?_
        cases hf
        exact rt_b (b := true) hx hb hr hlk hH dX4_isPointless_64
      · have hf := in_ c24 hf
        refine lv_aload_n hx hb dX4_isPointless_18 rfl (lv_at hl 0 rfl) ?_
        obtain ⟨v5, ev5, hf⟩ := bs_ hf
        refine mg_gR hx hb hts hown hKn hH ev5 in_X4 rfl (by decide) (hts _ q1177) (fun _ h9 => h9) dX4_isPointless_19 ?_
        refine lv_iconst (v := 3) hx hb dX4_isPointless_22 (by decide) ?_
        refine lv_iload_n hx hb dX4_isPointless_23 rfl (lv_at hl 2 rfl) ?_
        refine lv_iload_n hx hb dX4_isPointless_24 rfl (lv_at hl 3 rfl) ?_
        obtain ⟨r6, er6⟩ : ∃ z, z = fX4_has x2 x3 := ⟨_, rfl⟩
        have hf := lu_ er6 hf
        refine cl_i0 hH (rn_S ⟨hx, hb, hml, hown, hts⟩ hKn hH (mX4_has l G M n x2 x3 r6 er6.symm) (va_cwS 2 hts (lw_S q1522 q1523 q70 q1524) rfl rfl rfl kdX4_has ⟨Nat.le_of_ble_eq_true rfl, Nat.le_of_ble_eq_true rfl⟩) rfl hl.1 (Nat.le_of_ble_eq_true rfl) dX4_isPointless_25 ⟨(Nat.le_of_ble_eq_true rfl), (Nat.le_of_ble_eq_true rfl)⟩ rfl) (fun H locs hH => ?_)
        refine lv_if_eq (tgt := 35) hx hb dX4_isPointless_28 (by decide) (fun c23 => ?_) (fun c23 => ?_)
        · have hf := ip_ c23 hf
          refine lv_aload_n hx hb dX4_isPointless_35 rfl (lv_at hl 0 rfl) ?_
          obtain ⟨v7, ev7, hf⟩ := bs_ hf
          refine mg_gR hx hb hts hown hKn hH ev7 in_X4 rfl (by decide) (hts _ q1176) (fun _ h9 => h9) dX4_isPointless_36 ?_
          refine lv_iconst (v := 3) hx hb dX4_isPointless_39 (by decide) ?_
          obtain ⟨v8, ev8, hf⟩ := bs_ hf
          refine mg_iald hx hb hKn hH ev8 dX4_isPointless_40 ?_
          obtain ⟨M9, eM9, hf⟩ := bs_ hf
          refine mg_iast hx hb hKn hH eM9 dX4_isPointless_41 (fun H locs hH => ?_)
          refine lv_aload_n hx hb dX4_isPointless_42 rfl (lv_at hl 0 rfl) ?_
          refine lv_aload_n hx hb dX4_isPointless_43 rfl (lv_at hl 0 rfl) ?_
          obtain ⟨v10, ev10, hf⟩ := bs_ hf
          refine mg_gR hx hb hts hown hKn hH ev10 in_X4 rfl (by decide) (hts _ q1177) (fun _ h9 => h9) dX4_isPointless_44 ?_
          refine lv_iload_n hx hb dX4_isPointless_47 rfl (lv_at hl 3 rfl) ?_
          refine lv_iconst (v := 2) hx hb dX4_isPointless_48 (by decide) ?_
          obtain ⟨u11, eu11, hf⟩ := bs_ hf
          obtain ⟨r12, M13, er12, hf⟩ := bws_ hf
          refine cl_i0 hH (rn_V ⟨hx, hb, hml, hown, hts⟩ hKn hH (mX4_hits l G M9 n x0 v10 x3 2 r12 M13 er12) (cwV 3 hts (lw_V q1291 q1293 qs46 q70 q1294) rfl rfl rfl ⟨rfl, kdX4_hits⟩ ⟨Nat.le_of_ble_eq_true rfl, Nat.le_of_ble_eq_true rfl⟩) eu11 rfl rfl hl.1 (Nat.le_of_ble_eq_true rfl) dX4_isPointless_49 ⟨(Nat.le_of_ble_eq_true rfl), (Nat.le_of_ble_eq_true rfl)⟩ rfl) (fun H locs hH => ?_)
          refine lv_if_eq (tgt := 57) hx hb dX4_isPointless_52 (by decide) (fun c15 => ?_) (fun c15 => ?_)
          · have hf := ip_ c15 hf
            obtain ⟨v14, ev14⟩ : ∃ z : Int32, z = x3 + 1 := ⟨_, rfl⟩
            have hf := lu_ ev14 hf
            refine lv_iinc (v := v14) (lv' := [(3, .int v14), (0, .ref x0), (1, .int x1), (2, .int x2)]) hx hb dX4_isPointless_57 hl (k := 3) rfl (by rw [ev14]; rfl) (by decide) rfl (fun ls hl => ?_)
            refine lv_goto (tgt := 13) hx hb dX4_isPointless_60 (by decide) ?_
            exact ih M13 x0 x1 x2 v14 _ _ ls hH (lv_sub hl [1, 2, 3, 0] rfl) hf
          · have hf := in_ c15 hf
            refine lv_iconst (v := 0) hx hb dX4_isPointless_55 (by decide) ?_
            cases hf
            exact rt_b (b := false) hx hb hr hlk hH dX4_isPointless_56
        · have hf := in_ c23 hf
          refine lv_iconst (v := 1) hx hb dX4_isPointless_31 (by decide) ?_
          refine lv_goto (tgt := 41) hx hb dX4_isPointless_32 (by decide) ?_
          obtain ⟨M16, eM16, hf⟩ := bs_ hf
          refine mg_iast hx hb hKn hH eM16 dX4_isPointless_41 (fun H locs hH => ?_)
          refine lv_aload_n hx hb dX4_isPointless_42 rfl (lv_at hl 0 rfl) ?_
          refine lv_aload_n hx hb dX4_isPointless_43 rfl (lv_at hl 0 rfl) ?_
          obtain ⟨v17, ev17, hf⟩ := bs_ hf
          refine mg_gR hx hb hts hown hKn hH ev17 in_X4 rfl (by decide) (hts _ q1177) (fun _ h9 => h9) dX4_isPointless_44 ?_
          refine lv_iload_n hx hb dX4_isPointless_47 rfl (lv_at hl 3 rfl) ?_
          refine lv_iconst (v := 2) hx hb dX4_isPointless_48 (by decide) ?_
          obtain ⟨u18, eu18, hf⟩ := bs_ hf
          obtain ⟨r19, M20, er19, hf⟩ := bws_ hf
          refine cl_i0 hH (rn_V ⟨hx, hb, hml, hown, hts⟩ hKn hH (mX4_hits l G M16 n x0 v17 x3 2 r19 M20 er19) (cwV 3 hts (lw_V q1291 q1293 qs46 q70 q1294) rfl rfl rfl ⟨rfl, kdX4_hits⟩ ⟨Nat.le_of_ble_eq_true rfl, Nat.le_of_ble_eq_true rfl⟩) eu18 rfl rfl hl.1 (Nat.le_of_ble_eq_true rfl) dX4_isPointless_49 ⟨(Nat.le_of_ble_eq_true rfl), (Nat.le_of_ble_eq_true rfl)⟩ rfl) (fun H locs hH => ?_)
          refine lv_if_eq (tgt := 57) hx hb dX4_isPointless_52 (by decide) (fun c22 => ?_) (fun c22 => ?_)
          · have hf := ip_ c22 hf
            obtain ⟨v21, ev21⟩ : ∃ z : Int32, z = x3 + 1 := ⟨_, rfl⟩
            have hf := lu_ ev21 hf
            refine lv_iinc (v := v21) (lv' := [(3, .int v21), (0, .ref x0), (1, .int x1), (2, .int x2)]) hx hb dX4_isPointless_57 hl (k := 3) rfl (by rw [ev21]; rfl) (by decide) rfl (fun ls hl => ?_)
            refine lv_goto (tgt := 13) hx hb dX4_isPointless_60 (by decide) ?_
            exact ih M20 x0 x1 x2 v21 _ _ ls hH (lv_sub hl [1, 2, 3, 0] rfl) hf
          · have hf := in_ c22 hf
            refine lv_iconst (v := 0) hx hb dX4_isPointless_55 (by decide) ?_
            cases hf
            exact rt_b (b := false) hx hb hr hlk hH dX4_isPointless_56
  unfold fX4_isPointless at hf
  refine lv_aload_n hx hb dX4_isPointless_0 rfl (lv_at hl 0 rfl) ?_
  obtain ⟨v1, ev1, hf⟩ := bs_ hf
  refine mg_gR hx hb hts hown hKn hH ev1 in_X4 rfl (by decide) (hts _ q1176) (fun _ h9 => h9) dX4_isPointless_1 ?_
  refine lv_aload_n hx hb dX4_isPointless_4 rfl (lv_at hl 0 rfl) ?_
  obtain ⟨v2, ev2, hf⟩ := bs_ hf
  refine mg_gR hx hb hts hown hKn hH ev2 in_X4 rfl (by decide) (hts _ q1177) (fun _ h9 => h9) dX4_isPointless_5 ?_
  obtain ⟨M4, er3, hf⟩ := bs_ hf
  refine cl_v0 hH (rn_S ⟨hx, hb, hml, hown, hts⟩ hKn hH (mX4_copies l G M n v1 v2 M4 er3) (va_cwS 2 hts (lw_S q1263 q1264 q70 q1265) rfl rfl rfl kdX4_copies ⟨Nat.le_of_ble_eq_true rfl, Nat.le_of_ble_eq_true rfl⟩) rfl hl.1 (Nat.le_of_ble_eq_true rfl) dX4_isPointless_8 ⟨(Nat.le_of_ble_eq_true rfl), (Nat.le_of_ble_eq_true rfl)⟩ rfl) (fun H locs hH => ?_)
  refine lv_iconst (v := 0) hx hb dX4_isPointless_11 (by decide) ?_
  refine lv_istore_n (lv' := [(3, .int 0), (0, .ref a0), (1, .int a1), (2, .int a2)]) hx hb dX4_isPointless_12 rfl hl (by decide) rfl (fun ls hl => ?_)
  exact w13 1000 M4 a0 a1 a2 0 _ _ ls hH (lv_sub hl [1, 2, 3, 0] rfl) hf
def fX4_gcd_L6 : Nat → Int64 → Int64 → Int64 → Int64 → Option Int64
  | 0, _, _, _, _ => none
  | fuel + 1, x0, x2, x4, x6 =>
    if (lg_cmp x6 0) = 0 then
      some x4
    else
      (rl_ x4 x6).bind fun v1 =>
      fX4_gcd_L6 fuel x0 x2 x6 v1
def fX4_gcd (a0 : Int64) (a2 : Int64) : Option Int64 :=
  fX4_gcd_L6 1000 a0 a2 a0 a2
theorem kdX4_gcd : yX4_gcd.cls ≠ "java/lang/invoke/MethodHandle" ∧ yX4_gcd.cls ≠ "java/lang/invoke/VarHandle" ∧ (parseMethodDescriptor yX4_gcd.desc).map (fun d => d.parameters.length) = some 2 := by decide +kernel
set_option maxHeartbeats 4000000 in
theorem mX4_gcd (l : Launch) (G : GT_) (M : Mem_) (n : Nat) (a0 : Int64) (a2 : Int64) (r : Int64) (hf : fX4_gcd a0 a2 = some r) : Ct_ G l yX4_gcd (ws_ yX4_gcd cX4_gcd 10 (some .long)) ({ frames := 0, cells := 0, slots := 0, locals := 0 }) 0 0 [.long a0, .long a2] M n (some (.long r)) M n := by
  refine en_ (by decide) (Nat.le_of_ble_eq_true rfl) ?_
  intro p e s m below meth c hx hb hr hlk hml hown hts hname hKn hH ls hl
  have hown : s.vm.findClass RX4 = some m.cls := hown
  have hl : lv_has ls 10 [(0, .long a0), (2, .long a2)] := hl
  have w6 : ∀ (fuel : Nat), ∀ (x0 : Int64) (x2 : Int64) (x4 : Int64) (x6 : Int64) (H : Heap) (locs : List Loc) (ls : Array Slot), St_ G n M s H locs → lv_has ls 10 [(0, .long x0), (2, .long x2), (4, .long x4), (6, .long x6)] → fX4_gcd_L6 fuel x0 x2 x4 x6 = some r → W p l e ({ frames := 0, cells := 0, slots := 0, locals := 0 } : Room) s m ([.long a0, .long a2] : List Value).toArray below meth c H locs 0 0 (MQ below (Qc_ G (some (.long r)) M n) ([.long a0, .long a2] : List Value).toArray s 0 0 (fun q => G.1 ≤ q)) (F0 m 6 ls []) := by
    intro fuel
    induction fuel with
    | zero =>
      intro x0 x2 x4 x6 H locs ls hH hl hf
      cases hf
    | succ fuel ih =>
      intro x0 x2 x4 x6 H locs ls hH hl hf
      unfold fX4_gcd_L6 at hf
      refine lv_lload hx hb dX4_gcd_6 (lv_at hl 3 rfl) ?_
      refine lv_lconst (v := 0) hx hb dX4_gcd_8 (by decide) ?_
      refine W.lcmp hx hb dX4_gcd_9 ?_
      refine lv_if_eq (tgt := 31) hx hb dX4_gcd_10 (by decide) (fun c2 => ?_) (fun c2 => ?_)
      · have hf := ip_ c2 hf
        refine lv_lload hx hb dX4_gcd_31 (lv_at hl 2 rfl) ?_
        cases hf
        exact rt_l hx hb hr hlk hH dX4_gcd_33
      · have hf := in_ c2 hf
        refine lv_lload hx hb dX4_gcd_13 (lv_at hl 2 rfl) ?_
        refine lv_lload hx hb dX4_gcd_15 (lv_at hl 3 rfl) ?_
        obtain ⟨v1, ev1, hf⟩ := bs_ hf
        refine lv_lrem hx hb dX4_gcd_17 (rl_spec ev1).1 ?_
        rw [← (rl_spec ev1).2]
        refine lv_lstore (lv' := [(8, .long v1), (0, .long x0), (2, .long x2), (4, .long x4), (6, .long x6)]) hx hb dX4_gcd_18 hl (by decide) rfl (fun ls hl => ?_)
        refine lv_lload hx hb dX4_gcd_20 (lv_at hl 4 rfl) ?_
        refine lv_lstore (lv' := [(4, .long x6), (8, .long v1), (0, .long x0), (2, .long x2), (6, .long x6)]) hx hb dX4_gcd_22 hl (by decide) rfl (fun ls hl => ?_)
        refine lv_lload hx hb dX4_gcd_24 (lv_at hl 1 rfl) ?_
        refine lv_lstore (lv' := [(6, .long v1), (4, .long x6), (8, .long v1), (0, .long x0), (2, .long x2)]) hx hb dX4_gcd_26 hl (by decide) rfl (fun ls hl => ?_)
        refine lv_goto (tgt := 6) hx hb dX4_gcd_28 (by decide) ?_
        exact ih x0 x2 x6 v1 _ _ ls hH (lv_sub hl [3, 4, 1, 0] rfl) hf
  unfold fX4_gcd at hf
  refine lv_lload_n hx hb dX4_gcd_0 rfl (lv_at hl 0 rfl) ?_
  refine lv_lstore (lv' := [(4, .long a0), (0, .long a0), (2, .long a2)]) hx hb dX4_gcd_1 hl (by decide) rfl (fun ls hl => ?_)
  refine lv_lload_n hx hb dX4_gcd_3 rfl (lv_at hl 2 rfl) ?_
  refine lv_lstore (lv' := [(6, .long a2), (4, .long a0), (0, .long a0), (2, .long a2)]) hx hb dX4_gcd_4 hl (by decide) rfl (fun ls hl => ?_)
  exact w6 1000 a0 a2 a0 a2 _ _ ls hH (lv_sub hl [2, 3, 1, 0] rfl) hf
def fX4_partOf (a0 : Int64) (a2 : Int64) (a4 : Int32) : Option Int64 :=
  if (lg_cmp a0 0) = 0 then
    some (a4.toInt64)
  else
    if a4 = 0 then
      (fX4_gcd a0 a2).bind fun r3 =>
      (dl_ a0 r3).bind fun v4 =>
      some v4
    else
      (fX4_gcd a0 a2).bind fun r1 =>
      (dl_ a2 r1).bind fun v2 =>
      some v2
theorem kdX4_partOf : yX4_partOf.cls ≠ "java/lang/invoke/MethodHandle" ∧ yX4_partOf.cls ≠ "java/lang/invoke/VarHandle" ∧ (parseMethodDescriptor yX4_partOf.desc).map (fun d => d.parameters.length) = some 3 := by decide +kernel
set_option maxHeartbeats 4000000 in
theorem mX4_partOf (l : Launch) (G : GT_) (M : Mem_) (n : Nat) (a0 : Int64) (a2 : Int64) (a4 : Int32) (r : Int64) (hf : fX4_partOf a0 a2 a4 = some r) : Ct_ G l yX4_partOf (ws_ yX4_partOf cX4_partOf 5 (some .long)) ({ frames := 1, cells := 0, slots := 0, locals := 29 }) 0 0 [.long a0, .long a2, .int a4] M n (some (.long r)) M n := by
  refine en_ (by decide) (Nat.le_of_ble_eq_true rfl) ?_
  intro p e s m below meth c hx hb hr hlk hml hown hts hname hKn hH ls hl
  have hown : s.vm.findClass RX4 = some m.cls := hown
  have hl : lv_has ls 5 [(0, .long a0), (2, .long a2), (4, .int a4)] := hl
  unfold fX4_partOf at hf
  generalize s.heap = H at hH ⊢
  refine lv_lload_n hx hb dX4_partOf_0 rfl (lv_at hl 0 rfl) ?_
  refine lv_lconst (v := 0) hx hb dX4_partOf_1 (by decide) ?_
  refine W.lcmp hx hb dX4_partOf_2 ?_
  refine lv_if_ne (tgt := 10) hx hb dX4_partOf_3 (by decide) (fun c6 => ?_) (fun c6 => ?_)
  · have hf := in_ c6 hf
    refine lv_iload hx hb dX4_partOf_10 (lv_at hl 2 rfl) ?_
    refine lv_if_ne (tgt := 19) hx hb dX4_partOf_12 (by decide) (fun c5 => ?_) (fun c5 => ?_)
    · have hf := in_ c5 hf
      refine lv_lload_n hx hb dX4_partOf_19 rfl (lv_at hl 1 rfl) ?_
      refine lv_lload_n hx hb dX4_partOf_20 rfl (lv_at hl 0 rfl) ?_
      refine lv_lload_n hx hb dX4_partOf_21 rfl (lv_at hl 1 rfl) ?_
      obtain ⟨r1, er1, hf⟩ := bs_ hf
      refine cl_l0 hH (rn_S ⟨hx, hb, hml, hown, hts⟩ hKn hH (mX4_gcd l G M n a0 a2 r1 er1) (va_cwS 2 hts (lw_S q1532 q1533 q70 q1534) rfl rfl rfl kdX4_gcd ⟨Nat.le_of_ble_eq_true rfl, Nat.le_of_ble_eq_true rfl⟩) rfl hl.1 (Nat.le_of_ble_eq_true rfl) dX4_partOf_22 ⟨(Nat.le_of_ble_eq_true rfl), (Nat.le_of_ble_eq_true rfl)⟩ rfl) (fun H locs hH => ?_)
      obtain ⟨v2, ev2, hf⟩ := bs_ hf
      refine lv_ldiv hx hb dX4_partOf_25 (dl_spec ev2).1 ?_
      rw [← (dl_spec ev2).2]
      cases hf
      exact rt_l hx hb hr hlk hH dX4_partOf_26
    · have hf := ip_ c5 hf
      refine lv_lload_n hx hb dX4_partOf_15 rfl (lv_at hl 0 rfl) ?_
      refine lv_goto (tgt := 20) hx hb dX4_partOf_16 (by decide) ?_
      refine lv_lload_n hx hb dX4_partOf_20 rfl (lv_at hl 0 rfl) ?_
      refine lv_lload_n hx hb dX4_partOf_21 rfl (lv_at hl 1 rfl) ?_
      obtain ⟨r3, er3, hf⟩ := bs_ hf
      refine cl_l0 hH (rn_S ⟨hx, hb, hml, hown, hts⟩ hKn hH (mX4_gcd l G M n a0 a2 r3 er3) (va_cwS 2 hts (lw_S q1532 q1533 q70 q1534) rfl rfl rfl kdX4_gcd ⟨Nat.le_of_ble_eq_true rfl, Nat.le_of_ble_eq_true rfl⟩) rfl hl.1 (Nat.le_of_ble_eq_true rfl) dX4_partOf_22 ⟨(Nat.le_of_ble_eq_true rfl), (Nat.le_of_ble_eq_true rfl)⟩ rfl) (fun H locs hH => ?_)
      obtain ⟨v4, ev4, hf⟩ := bs_ hf
      refine lv_ldiv hx hb dX4_partOf_25 (dl_spec ev4).1 ?_
      rw [← (dl_spec ev4).2]
      cases hf
      exact rt_l hx hb hr hlk hH dX4_partOf_26
  · have hf := ip_ c6 hf
    refine lv_iload hx hb dX4_partOf_6 (lv_at hl 2 rfl) ?_
    refine lv_i2l hx hb dX4_partOf_8 rfl ?_
    cases hf
    exact rt_l hx hb hr hlk hH dX4_partOf_9
def fX4_draughts_L87 (K73 : Mem_ → Nat → Int32 → Int32 → Int32 → Int64 → Int64 → Int32 → Option (Int64 × Mem_)) : Nat → Mem_ → Nat → Int32 → Int32 → Int32 → Int64 → Int64 → Int32 → Int64 → Int32 → Option (Int64 × Mem_)
  | 0, _, _, _, _, _, _, _, _, _, _ => none
  | fuel + 1, M, x0, x1, x2, x3, x4, x6, x8, x9, x11 =>
    if x1 ≤ x11 then
      (ck_ M x0 3).bind fun u15 =>
      bw_ (fX4_isPointless M x0 x1 x8) fun r16 M17 =>
      if (b2_ r16) = 0 then
        lt_ ((x4 + 0)) fun v18 =>
        lt_ (x8 + 1) fun v19 =>
        K73 M17 x0 x1 x2 x3 v18 x6 v19
      else
        lt_ ((x4 + x9)) fun v20 =>
        lt_ (x8 + 1) fun v21 =>
        K73 M17 x0 x1 x2 x3 v20 x6 v21
    else
      lt_ (fX4_has x8 x11) fun r23 =>
      if (b2_ r23) = 0 then
        lt_ ((x9 * ((x2 - 1).toInt64))) fun v24 =>
        lt_ (x11 + 1) fun v25 =>
        fX4_draughts_L87 K73 fuel M x0 x1 x2 x3 x4 x6 x8 v24 v25
      else
        lt_ ((x9 * 1)) fun v26 =>
        lt_ (x11 + 1) fun v27 =>
        fX4_draughts_L87 K73 fuel M x0 x1 x2 x3 x4 x6 x8 v26 v27
def fX4_draughts_L73 : Nat → Mem_ → Nat → Int32 → Int32 → Int32 → Int64 → Int64 → Int32 → Option (Int64 × Mem_)
  | 0, _, _, _, _, _, _, _, _ => none
  | fuel + 1, M, x0, x1, x2, x3, x4, x6, x8 =>
    if (1 <<< (x1 &&& 31)) ≤ x8 then
      (fX4_partOf x4 x6 x3).bind fun r13 =>
      some (r13, M)
    else
      fX4_draughts_L87 (fX4_draughts_L73 fuel) 1000 M x0 x1 x2 x3 x4 x6 x8 1 0
def fX4_draughts_L51 : Nat → Mem_ → Nat → Int32 → Int32 → Int32 → Int64 → Int64 → Int32 → Option (Int64 × Mem_)
  | 0, _, _, _, _, _, _, _, _ => none
  | fuel + 1, M, x0, x1, x2, x3, x4, x6, x8 =>
    if x1 ≤ x8 then
      fX4_draughts_L73 1000 M x0 x1 x2 x3 x4 x6 0
    else
      lt_ ((x6 * (x2.toInt64))) fun v10 =>
      lt_ (x8 + 1) fun v11 =>
      fX4_draughts_L51 fuel M x0 x1 x2 x3 x4 v10 v11
def fX4_draughts (M : Mem_) (a0 : Nat) (a1 : Int32) (a2 : Int32) (a3 : Int32) : Option (Int64 × Mem_) :=
  lt_ (fX4_isIn a1 0 5) fun r1 =>
  if (b2_ r1) = 0 then
    some (1000000001, M)
  else
    (gR_ M a0 3 0).bind fun v2 =>
    (aI_ M v2 0 0).bind fun v3 =>
    if v3 < a1 then
      some (1000000001, M)
    else
      lt_ (fX4_isIn a2 2 20) fun r4 =>
      if (b2_ r4) = 0 then
        some (1000000001, M)
      else
        lt_ (fX4_isIn a3 0 1) fun r5 =>
        if (b2_ r5) = 0 then
          some (1000000001, M)
        else
          fX4_draughts_L51 1000 M a0 a1 a2 a3 0 1 0
theorem kdX4_draughts : yX4_draughts.cls ≠ "java/lang/invoke/MethodHandle" ∧ yX4_draughts.cls ≠ "java/lang/invoke/VarHandle" ∧ (parseMethodDescriptor yX4_draughts.desc).map (fun d => d.parameters.length) = some 3 := by decide +kernel
set_option maxHeartbeats 4000000 in
theorem mX4_draughts (l : Launch) (G : GT_) (M : Mem_) (n : Nat) (a0 : Nat) (a1 : Int32) (a2 : Int32) (a3 : Int32) (r : Int64) (M1 : Mem_) (hf : fX4_draughts M a0 a1 a2 a3 = some (r, M1)) : Ct_ G l yX4_draughts (ws_ yX4_draughts cX4_draughts 12 (some .long)) ({ frames := 5, cells := 0, slots := 0, locals := 122 }) 0 0 [.ref a0, .int a1, .int a2, .int a3] M n (some (.long r)) M1 n := by
  refine en_ (by decide) (Nat.le_of_ble_eq_true rfl) ?_
  intro p e s m below meth c hx hb hr hlk hml hown hts hname hKn hH ls hl
  have hown : s.vm.findClass RX4 = some m.cls := hown
  have hl : lv_has ls 12 [(0, .ref a0), (1, .int a1), (2, .int a2), (3, .int a3)] := hl
  have w87 : ∀ (K73 : Mem_ → Nat → Int32 → Int32 → Int32 → Int64 → Int64 → Int32 → Option (Int64 × Mem_)), (∀ (M : Mem_) (x0 : Nat) (x1 : Int32) (x2 : Int32) (x3 : Int32) (x4 : Int64) (x6 : Int64) (x8 : Int32) (H : Heap) (locs : List Loc) (ls : Array Slot), St_ G n M s H locs → lv_has ls 12 [(0, .ref x0), (1, .int x1), (2, .int x2), (3, .int x3), (4, .long x4), (6, .long x6), (8, .int x8)] → K73 M x0 x1 x2 x3 x4 x6 x8 = some (r, M1) → W p l e ({ frames := 5, cells := 0, slots := 0, locals := 122 } : Room) s m ([.ref a0, .int a1, .int a2, .int a3] : List Value).toArray below meth c H locs 0 0 (MQ below (Qc_ G (some (.long r)) M1 n) ([.ref a0, .int a1, .int a2, .int a3] : List Value).toArray s 0 0 (fun q => G.1 ≤ q)) (F0 m 73 ls [])) → ∀ (fuel : Nat), ∀ (M : Mem_) (x0 : Nat) (x1 : Int32) (x2 : Int32) (x3 : Int32) (x4 : Int64) (x6 : Int64) (x8 : Int32) (x9 : Int64) (x11 : Int32) (H : Heap) (locs : List Loc) (ls : Array Slot), St_ G n M s H locs → lv_has ls 12 [(0, .ref x0), (1, .int x1), (2, .int x2), (3, .int x3), (4, .long x4), (6, .long x6), (8, .int x8), (9, .long x9), (11, .int x11)] → fX4_draughts_L87 K73 fuel M x0 x1 x2 x3 x4 x6 x8 x9 x11 = some (r, M1) → W p l e ({ frames := 5, cells := 0, slots := 0, locals := 122 } : Room) s m ([.ref a0, .int a1, .int a2, .int a3] : List Value).toArray below meth c H locs 0 0 (MQ below (Qc_ G (some (.long r)) M1 n) ([.ref a0, .int a1, .int a2, .int a3] : List Value).toArray s 0 0 (fun q => G.1 ≤ q)) (F0 m 87 ls []) := by
    intro K73 hK73 fuel
    induction fuel with
    | zero =>
      intro M x0 x1 x2 x3 x4 x6 x8 x9 x11 H locs ls hH hl hf
      cases hf
    | succ fuel ih =>
      intro M x0 x1 x2 x3 x4 x6 x8 x9 x11 H locs ls hH hl hf
      unfold fX4_draughts_L87 at hf
      refine lv_iload hx hb dX4_draughts_87 (lv_at hl 8 rfl) ?_
      refine lv_iload_n hx hb dX4_draughts_89 rfl (lv_at hl 1 rfl) ?_
      refine lv_icmp_ge (tgt := 122) hx hb dX4_draughts_90 (by decide) (fun c29 => ?_) (fun c29 => ?_)
      · have hf := ip_ c29 hf
        refine lv_lload hx hb dX4_draughts_122 (lv_at hl 4 rfl) ?_
        refine lv_aload_n hx hb dX4_draughts_124 rfl (lv_at hl 0 rfl) ?_
        refine lv_iload_n hx hb dX4_draughts_125 rfl (lv_at hl 1 rfl) ?_
        refine lv_iload hx hb dX4_draughts_126 (lv_at hl 6 rfl) ?_
        obtain ⟨u15, eu15, hf⟩ := bs_ hf
        obtain ⟨r16, M17, er16, hf⟩ := bws_ hf
        refine cl_i0 hH (rn_V ⟨hx, hb, hml, hown, hts⟩ hKn hH (mX4_isPointless l G M n x0 x1 x8 r16 M17 er16) (cwV 2 hts (lw_V q1525 q1527 qs63 q70 q1528) rfl rfl rfl ⟨rfl, kdX4_isPointless⟩ ⟨Nat.le_of_ble_eq_true rfl, Nat.le_of_ble_eq_true rfl⟩) eu15 rfl rfl hl.1 (Nat.le_of_ble_eq_true rfl) dX4_draughts_128 ⟨(Nat.le_of_ble_eq_true rfl), (Nat.le_of_ble_eq_true rfl)⟩ rfl) (fun H locs hH => ?_)
        refine lv_if_eq (tgt := 139) hx hb dX4_draughts_131 (by decide) (fun c22 => ?_) (fun c22 => ?_)
        · have hf := ip_ c22 hf
          refine lv_lconst (v := 0) hx hb dX4_draughts_139 (by decide) ?_
          refine lv_ladd hx hb dX4_draughts_140 ?_
          refine lv_topl (fun v18 ev18 => ?_)
          have hf := lu_ ev18 hf
          refine lv_lstore (lv' := [(4, .long v18), (0, .ref x0), (1, .int x1), (2, .int x2), (3, .int x3), (6, .long x6), (8, .int x8), (9, .long x9), (11, .int x11)]) hx hb dX4_draughts_141 hl (by decide) rfl (fun ls hl => ?_)
          obtain ⟨v19, ev19⟩ : ∃ z : Int32, z = x8 + 1 := ⟨_, rfl⟩
          have hf := lu_ ev19 hf
          refine lv_iinc (v := v19) (lv' := [(8, .int v19), (4, .long v18), (0, .ref x0), (1, .int x1), (2, .int x2), (3, .int x3), (6, .long x6), (9, .long x9), (11, .int x11)]) hx hb dX4_draughts_143 hl (k := 6) rfl (by rw [ev19]; rfl) (by decide) rfl (fun ls hl => ?_)
          refine lv_goto (tgt := 73) hx hb dX4_draughts_146 (by decide) ?_
          exact hK73 M17 x0 x1 x2 x3 v18 x6 v19 _ _ ls hH (lv_sub hl [2, 3, 4, 5, 1, 6, 0] rfl) hf
        · have hf := in_ c22 hf
          refine lv_lload hx hb dX4_draughts_134 (lv_at hl 7 rfl) ?_
          refine lv_goto (tgt := 140) hx hb dX4_draughts_136 (by decide) ?_
          refine lv_ladd hx hb dX4_draughts_140 ?_
          refine lv_topl (fun v20 ev20 => ?_)
          have hf := lu_ ev20 hf
          refine lv_lstore (lv' := [(4, .long v20), (0, .ref x0), (1, .int x1), (2, .int x2), (3, .int x3), (6, .long x6), (8, .int x8), (9, .long x9), (11, .int x11)]) hx hb dX4_draughts_141 hl (by decide) rfl (fun ls hl => ?_)
          obtain ⟨v21, ev21⟩ : ∃ z : Int32, z = x8 + 1 := ⟨_, rfl⟩
          have hf := lu_ ev21 hf
          refine lv_iinc (v := v21) (lv' := [(8, .int v21), (4, .long v20), (0, .ref x0), (1, .int x1), (2, .int x2), (3, .int x3), (6, .long x6), (9, .long x9), (11, .int x11)]) hx hb dX4_draughts_143 hl (k := 6) rfl (by rw [ev21]; rfl) (by decide) rfl (fun ls hl => ?_)
          refine lv_goto (tgt := 73) hx hb dX4_draughts_146 (by decide) ?_
          exact hK73 M17 x0 x1 x2 x3 v20 x6 v21 _ _ ls hH (lv_sub hl [2, 3, 4, 5, 1, 6, 0] rfl) hf
      · have hf := in_ c29 hf
        refine lv_lload hx hb dX4_draughts_93 (lv_at hl 7 rfl) ?_
        refine lv_iload hx hb dX4_draughts_95 (lv_at hl 6 rfl) ?_
        refine lv_iload hx hb dX4_draughts_97 (lv_at hl 8 rfl) ?_
        obtain ⟨r23, er23⟩ : ∃ z, z = fX4_has x8 x11 := ⟨_, rfl⟩
        have hf := lu_ er23 hf
        refine cl_i0 hH (rn_S ⟨hx, hb, hml, hown, hts⟩ hKn hH (mX4_has l G M n x8 x11 r23 er23.symm) (va_cwS 2 hts (lw_S q1522 q1523 q70 q1524) rfl rfl rfl kdX4_has ⟨Nat.le_of_ble_eq_true rfl, Nat.le_of_ble_eq_true rfl⟩) rfl hl.1 (Nat.le_of_ble_eq_true rfl) dX4_draughts_99 ⟨(Nat.le_of_ble_eq_true rfl), (Nat.le_of_ble_eq_true rfl)⟩ rfl) (fun H locs hH => ?_)
        refine lv_if_eq (tgt := 109) hx hb dX4_draughts_102 (by decide) (fun c28 => ?_) (fun c28 => ?_)
        · have hf := ip_ c28 hf
          refine lv_iload_n hx hb dX4_draughts_109 rfl (lv_at hl 2 rfl) ?_
          refine lv_iconst (v := 1) hx hb dX4_draughts_110 (by decide) ?_
          refine lv_isub hx hb dX4_draughts_111 ?_
          refine lv_i2l hx hb dX4_draughts_112 rfl ?_
          refine lv_lmul hx hb dX4_draughts_113 ?_
          refine lv_topl (fun v24 ev24 => ?_)
          have hf := lu_ ev24 hf
          refine lv_lstore (lv' := [(9, .long v24), (0, .ref x0), (1, .int x1), (2, .int x2), (3, .int x3), (4, .long x4), (6, .long x6), (8, .int x8), (11, .int x11)]) hx hb dX4_draughts_114 hl (by decide) rfl (fun ls hl => ?_)
          obtain ⟨v25, ev25⟩ : ∃ z : Int32, z = x11 + 1 := ⟨_, rfl⟩
          have hf := lu_ ev25 hf
          refine lv_iinc (v := v25) (lv' := [(11, .int v25), (9, .long v24), (0, .ref x0), (1, .int x1), (2, .int x2), (3, .int x3), (4, .long x4), (6, .long x6), (8, .int x8)]) hx hb dX4_draughts_116 hl (k := 8) rfl (by rw [ev25]; rfl) (by decide) rfl (fun ls hl => ?_)
          refine lv_goto (tgt := 87) hx hb dX4_draughts_119 (by decide) ?_
          exact ih M x0 x1 x2 x3 x4 x6 x8 v24 v25 _ _ ls hH (lv_sub hl [2, 3, 4, 5, 6, 7, 8, 1, 0] rfl) hf
        · have hf := in_ c28 hf
          refine lv_lconst (v := 1) hx hb dX4_draughts_105 (by decide) ?_
          refine lv_goto (tgt := 113) hx hb dX4_draughts_106 (by decide) ?_
          refine lv_lmul hx hb dX4_draughts_113 ?_
          refine lv_topl (fun v26 ev26 => ?_)
          have hf := lu_ ev26 hf
          refine lv_lstore (lv' := [(9, .long v26), (0, .ref x0), (1, .int x1), (2, .int x2), (3, .int x3), (4, .long x4), (6, .long x6), (8, .int x8), (11, .int x11)]) hx hb dX4_draughts_114 hl (by decide) rfl (fun ls hl => ?_)
          obtain ⟨v27, ev27⟩ : ∃ z : Int32, z = x11 + 1 := ⟨_, rfl⟩
          have hf := lu_ ev27 hf
          refine lv_iinc (v := v27) (lv' := [(11, .int v27), (9, .long v26), (0, .ref x0), (1, .int x1), (2, .int x2), (3, .int x3), (4, .long x4), (6, .long x6), (8, .int x8)]) hx hb dX4_draughts_116 hl (k := 8) rfl (by rw [ev27]; rfl) (by decide) rfl (fun ls hl => ?_)
          refine lv_goto (tgt := 87) hx hb dX4_draughts_119 (by decide) ?_
          exact ih M x0 x1 x2 x3 x4 x6 x8 v26 v27 _ _ ls hH (lv_sub hl [2, 3, 4, 5, 6, 7, 8, 1, 0] rfl) hf
  have w73 : ∀ (fuel : Nat), ∀ (M : Mem_) (x0 : Nat) (x1 : Int32) (x2 : Int32) (x3 : Int32) (x4 : Int64) (x6 : Int64) (x8 : Int32) (H : Heap) (locs : List Loc) (ls : Array Slot), St_ G n M s H locs → lv_has ls 12 [(0, .ref x0), (1, .int x1), (2, .int x2), (3, .int x3), (4, .long x4), (6, .long x6), (8, .int x8)] → fX4_draughts_L73 fuel M x0 x1 x2 x3 x4 x6 x8 = some (r, M1) → W p l e ({ frames := 5, cells := 0, slots := 0, locals := 122 } : Room) s m ([.ref a0, .int a1, .int a2, .int a3] : List Value).toArray below meth c H locs 0 0 (MQ below (Qc_ G (some (.long r)) M1 n) ([.ref a0, .int a1, .int a2, .int a3] : List Value).toArray s 0 0 (fun q => G.1 ≤ q)) (F0 m 73 ls []) := by
    intro fuel
    induction fuel with
    | zero =>
      intro M x0 x1 x2 x3 x4 x6 x8 H locs ls hH hl hf
      cases hf
    | succ fuel ih =>
      intro M x0 x1 x2 x3 x4 x6 x8 H locs ls hH hl hf
      unfold fX4_draughts_L73 at hf
      refine lv_iload hx hb dX4_draughts_73 (lv_at hl 6 rfl) ?_
      refine lv_iconst (v := 1) hx hb dX4_draughts_75 (by decide) ?_
      refine lv_iload_n hx hb dX4_draughts_76 rfl (lv_at hl 1 rfl) ?_
      refine lv_ishl hx hb dX4_draughts_77 ?_
      refine lv_icmp_ge (tgt := 149) hx hb dX4_draughts_78 (by decide) (fun c14 => ?_) (fun c14 => ?_)
      · have hf := ip_ c14 hf
        refine lv_lload hx hb dX4_draughts_149 (lv_at hl 4 rfl) ?_
        refine lv_lload hx hb dX4_draughts_151 (lv_at hl 5 rfl) ?_
        refine lv_iload_n hx hb dX4_draughts_153 rfl (lv_at hl 3 rfl) ?_
        obtain ⟨r13, er13, hf⟩ := bs_ hf
        refine cl_l0 hH (rn_S ⟨hx, hb, hml, hown, hts⟩ hKn hH (mX4_partOf l G M n x4 x6 x3 r13 er13) (va_cwS 3 hts (lw_S q1529 q1530 q70 q1531) rfl rfl rfl kdX4_partOf ⟨Nat.le_of_ble_eq_true rfl, Nat.le_of_ble_eq_true rfl⟩) rfl hl.1 (Nat.le_of_ble_eq_true rfl) dX4_draughts_154 ⟨(Nat.le_of_ble_eq_true rfl), (Nat.le_of_ble_eq_true rfl)⟩ rfl) (fun H locs hH => ?_)
        cases hf
        exact rt_l hx hb hr hlk hH dX4_draughts_157
      · have hf := in_ c14 hf
        refine lv_lconst (v := 1) hx hb dX4_draughts_81 (by decide) ?_
        refine lv_lstore (lv' := [(9, .long 1), (0, .ref x0), (1, .int x1), (2, .int x2), (3, .int x3), (4, .long x4), (6, .long x6), (8, .int x8)]) hx hb dX4_draughts_82 hl (by decide) rfl (fun ls hl => ?_)
        refine lv_iconst (v := 0) hx hb dX4_draughts_84 (by decide) ?_
        refine lv_istore (lv' := [(11, .int 0), (9, .long 1), (0, .ref x0), (1, .int x1), (2, .int x2), (3, .int x3), (4, .long x4), (6, .long x6), (8, .int x8)]) hx hb dX4_draughts_85 hl (by decide) rfl (fun ls hl => ?_)
        exact w87 _ ih 1000 M x0 x1 x2 x3 x4 x6 x8 1 0 _ _ ls hH (lv_sub hl [2, 3, 4, 5, 6, 7, 8, 1, 0] rfl) hf
  have w51 : ∀ (fuel : Nat), ∀ (M : Mem_) (x0 : Nat) (x1 : Int32) (x2 : Int32) (x3 : Int32) (x4 : Int64) (x6 : Int64) (x8 : Int32) (H : Heap) (locs : List Loc) (ls : Array Slot), St_ G n M s H locs → lv_has ls 12 [(0, .ref x0), (1, .int x1), (2, .int x2), (3, .int x3), (4, .long x4), (6, .long x6), (8, .int x8)] → fX4_draughts_L51 fuel M x0 x1 x2 x3 x4 x6 x8 = some (r, M1) → W p l e ({ frames := 5, cells := 0, slots := 0, locals := 122 } : Room) s m ([.ref a0, .int a1, .int a2, .int a3] : List Value).toArray below meth c H locs 0 0 (MQ below (Qc_ G (some (.long r)) M1 n) ([.ref a0, .int a1, .int a2, .int a3] : List Value).toArray s 0 0 (fun q => G.1 ≤ q)) (F0 m 51 ls []) := by
    intro fuel
    induction fuel with
    | zero =>
      intro M x0 x1 x2 x3 x4 x6 x8 H locs ls hH hl hf
      cases hf
    | succ fuel ih =>
      intro M x0 x1 x2 x3 x4 x6 x8 H locs ls hH hl hf
      unfold fX4_draughts_L51 at hf
      refine lv_iload hx hb dX4_draughts_51 (lv_at hl 6 rfl) ?_
      refine lv_iload_n hx hb dX4_draughts_53 rfl (lv_at hl 1 rfl) ?_
      refine lv_icmp_ge (tgt := 70) hx hb dX4_draughts_54 (by decide) (fun c12 => ?_) (fun c12 => ?_)
      · have hf := ip_ c12 hf
        refine lv_iconst (v := 0) hx hb dX4_draughts_70 (by decide) ?_
        refine lv_istore (lv' := [(8, .int 0), (0, .ref x0), (1, .int x1), (2, .int x2), (3, .int x3), (4, .long x4), (6, .long x6)]) hx hb dX4_draughts_71 hl (by decide) rfl (fun ls hl => ?_)
        exact w73 1000 M x0 x1 x2 x3 x4 x6 0 _ _ ls hH (lv_sub hl [1, 2, 3, 4, 5, 6, 0] rfl) hf
      · have hf := in_ c12 hf
        refine lv_lload hx hb dX4_draughts_57 (lv_at hl 5 rfl) ?_
        refine lv_iload_n hx hb dX4_draughts_59 rfl (lv_at hl 2 rfl) ?_
        refine lv_i2l hx hb dX4_draughts_60 rfl ?_
        refine lv_lmul hx hb dX4_draughts_61 ?_
        refine lv_topl (fun v10 ev10 => ?_)
        have hf := lu_ ev10 hf
        refine lv_lstore (lv' := [(6, .long v10), (0, .ref x0), (1, .int x1), (2, .int x2), (3, .int x3), (4, .long x4), (8, .int x8)]) hx hb dX4_draughts_62 hl (by decide) rfl (fun ls hl => ?_)
        obtain ⟨v11, ev11⟩ : ∃ z : Int32, z = x8 + 1 := ⟨_, rfl⟩
        have hf := lu_ ev11 hf
        refine lv_iinc (v := v11) (lv' := [(8, .int v11), (6, .long v10), (0, .ref x0), (1, .int x1), (2, .int x2), (3, .int x3), (4, .long x4)]) hx hb dX4_draughts_64 hl (k := 6) rfl (by rw [ev11]; rfl) (by decide) rfl (fun ls hl => ?_)
        refine lv_goto (tgt := 51) hx hb dX4_draughts_67 (by decide) ?_
        exact ih M x0 x1 x2 x3 x4 v10 v11 _ _ ls hH (lv_sub hl [2, 3, 4, 5, 6, 1, 0] rfl) hf
  unfold fX4_draughts at hf
  refine lv_iload_n hx hb dX4_draughts_0 rfl (lv_at hl 1 rfl) ?_
  refine lv_iconst (v := 0) hx hb dX4_draughts_1 (by decide) ?_
  refine lv_iconst (v := 5) hx hb dX4_draughts_2 (by decide) ?_
  obtain ⟨r1, er1⟩ : ∃ z, z = fX4_isIn a1 0 5 := ⟨_, rfl⟩
  have hf := lu_ er1 hf
  refine cl_i0 hH (rn_S ⟨hx, hb, hml, hown, hts⟩ hKn hH (mX4_isIn l G M n a1 0 5 r1 er1.symm) (va_cwS 3 hts (lw_S q1248 q1249 q70 q1250) rfl rfl rfl kdX4_isIn ⟨Nat.le_of_ble_eq_true rfl, Nat.le_of_ble_eq_true rfl⟩) rfl hl.1 (Nat.le_of_ble_eq_true rfl) dX4_draughts_3 ⟨(Nat.le_of_ble_eq_true rfl), (Nat.le_of_ble_eq_true rfl)⟩ rfl) (fun H locs hH => ?_)
  refine lv_if_eq (tgt := 38) hx hb dX4_draughts_6 (by decide) (fun c9 => ?_) (fun c9 => ?_)
  · have hf := ip_ c9 hf
    refine lv_ldc2 hx hb hown (hts _ q1521) dX4_draughts_38 ?_
    cases hf
    exact rt_l hx hb hr hlk hH dX4_draughts_41
  · have hf := in_ c9 hf
    refine lv_iload_n hx hb dX4_draughts_9 rfl (lv_at hl 1 rfl) ?_
    refine lv_aload_n hx hb dX4_draughts_10 rfl (lv_at hl 0 rfl) ?_
    obtain ⟨v2, ev2, hf⟩ := bs_ hf
    refine mg_gR hx hb hts hown hKn hH ev2 in_X4 rfl (by decide) (hts _ q1176) (fun _ h9 => h9) dX4_draughts_11 ?_
    refine lv_iconst (v := 0) hx hb dX4_draughts_14 (by decide) ?_
    obtain ⟨v3, ev3, hf⟩ := bs_ hf
    refine mg_iald hx hb hKn hH ev3 dX4_draughts_15 ?_
    refine lv_icmp_gt (tgt := 38) hx hb dX4_draughts_16 (by decide) (fun c8 => ?_) (fun c8 => ?_)
    · have hf := ip_ c8 hf
      refine lv_ldc2 hx hb hown (hts _ q1521) dX4_draughts_38 ?_
      cases hf
      exact rt_l hx hb hr hlk hH dX4_draughts_41
    · have hf := in_ c8 hf
      refine lv_iload_n hx hb dX4_draughts_19 rfl (lv_at hl 2 rfl) ?_
      refine lv_iconst (v := 2) hx hb dX4_draughts_20 (by decide) ?_
      refine lv_bipush (v := 20) hx hb dX4_draughts_21 (by decide) ?_
      obtain ⟨r4, er4⟩ : ∃ z, z = fX4_isIn a2 2 20 := ⟨_, rfl⟩
      have hf := lu_ er4 hf
      refine cl_i0 hH (rn_S ⟨hx, hb, hml, hown, hts⟩ hKn hH (mX4_isIn l G M n a2 2 20 r4 er4.symm) (va_cwS 3 hts (lw_S q1248 q1249 q70 q1250) rfl rfl rfl kdX4_isIn ⟨Nat.le_of_ble_eq_true rfl, Nat.le_of_ble_eq_true rfl⟩) rfl hl.1 (Nat.le_of_ble_eq_true rfl) dX4_draughts_23 ⟨(Nat.le_of_ble_eq_true rfl), (Nat.le_of_ble_eq_true rfl)⟩ rfl) (fun H locs hH => ?_)
      refine lv_if_eq (tgt := 38) hx hb dX4_draughts_26 (by decide) (fun c7 => ?_) (fun c7 => ?_)
      · have hf := ip_ c7 hf
        refine lv_ldc2 hx hb hown (hts _ q1521) dX4_draughts_38 ?_
        cases hf
        exact rt_l hx hb hr hlk hH dX4_draughts_41
      · have hf := in_ c7 hf
        refine lv_iload_n hx hb dX4_draughts_29 rfl (lv_at hl 3 rfl) ?_
        refine lv_iconst (v := 0) hx hb dX4_draughts_30 (by decide) ?_
        refine lv_iconst (v := 1) hx hb dX4_draughts_31 (by decide) ?_
        obtain ⟨r5, er5⟩ : ∃ z, z = fX4_isIn a3 0 1 := ⟨_, rfl⟩
        have hf := lu_ er5 hf
        refine cl_i0 hH (rn_S ⟨hx, hb, hml, hown, hts⟩ hKn hH (mX4_isIn l G M n a3 0 1 r5 er5.symm) (va_cwS 3 hts (lw_S q1248 q1249 q70 q1250) rfl rfl rfl kdX4_isIn ⟨Nat.le_of_ble_eq_true rfl, Nat.le_of_ble_eq_true rfl⟩) rfl hl.1 (Nat.le_of_ble_eq_true rfl) dX4_draughts_32 ⟨(Nat.le_of_ble_eq_true rfl), (Nat.le_of_ble_eq_true rfl)⟩ rfl) (fun H locs hH => ?_)
        refine lv_if_ne (tgt := 42) hx hb dX4_draughts_35 (by decide) (fun c6 => ?_) (fun c6 => ?_)
        · have hf := in_ c6 hf
          refine lv_lconst (v := 0) hx hb dX4_draughts_42 (by decide) ?_
          refine lv_lstore (lv' := [(4, .long 0), (0, .ref a0), (1, .int a1), (2, .int a2), (3, .int a3)]) hx hb dX4_draughts_43 hl (by decide) rfl (fun ls hl => ?_)
          refine lv_lconst (v := 1) hx hb dX4_draughts_45 (by decide) ?_
          refine lv_lstore (lv' := [(6, .long 1), (4, .long 0), (0, .ref a0), (1, .int a1), (2, .int a2), (3, .int a3)]) hx hb dX4_draughts_46 hl (by decide) rfl (fun ls hl => ?_)
          refine lv_iconst (v := 0) hx hb dX4_draughts_48 (by decide) ?_
          refine lv_istore (lv' := [(8, .int 0), (6, .long 1), (4, .long 0), (0, .ref a0), (1, .int a1), (2, .int a2), (3, .int a3)]) hx hb dX4_draughts_49 hl (by decide) rfl (fun ls hl => ?_)
          exact w51 1000 M a0 a1 a2 a3 0 1 0 _ _ ls hH (lv_sub hl [3, 4, 5, 6, 2, 1, 0] rfl) hf
        · have hf := ip_ c6 hf
          refine lv_ldc2 hx hb hown (hts _ q1521) dX4_draughts_38 ?_
          cases hf
          exact rt_l hx hb hr hlk hH dX4_draughts_41
def fX4_allTired_L4 : Nat → Mem_ → Nat → Int32 → Int32 → Option Int32
  | 0, _, _, _, _ => none
  | fuel + 1, M, x0, x1, x2 =>
    if 4 ≤ x2 then
      some x1
    else
      (gR_ M x0 3 0).bind fun v1 =>
      lt_ (fX4_ofP x2 2) fun r2 =>
      (aI_ M v1 0 r2).bind fun v3 =>
      lt_ ((x1 + v3)) fun v4 =>
      lt_ (x2 + 1) fun v5 =>
      fX4_allTired_L4 fuel M x0 v4 v5
def fX4_allTired (M : Mem_) (a0 : Nat) : Option Int32 :=
  fX4_allTired_L4 1000 M a0 0 0
theorem kdX4_allTired : yX4_allTired.cls ≠ "java/lang/invoke/MethodHandle" ∧ yX4_allTired.cls ≠ "java/lang/invoke/VarHandle" ∧ (parseMethodDescriptor yX4_allTired.desc).map (fun d => d.parameters.length) = some 0 := by decide +kernel
set_option maxHeartbeats 4000000 in
theorem mX4_allTired (l : Launch) (G : GT_) (M : Mem_) (n : Nat) (a0 : Nat) (r : Int32) (hf : fX4_allTired M a0 = some r) : Ct_ G l yX4_allTired (ws_ yX4_allTired cX4_allTired 3 (some .int)) ({ frames := 1, cells := 0, slots := 0, locals := 21 }) 0 0 [.ref a0] M n (some (.int r)) M n := by
  refine en_ (by decide) (Nat.le_of_ble_eq_true rfl) ?_
  intro p e s m below meth c hx hb hr hlk hml hown hts hname hKn hH ls hl
  have hown : s.vm.findClass RX4 = some m.cls := hown
  have hl : lv_has ls 3 [(0, .ref a0)] := hl
  have w4 : ∀ (fuel : Nat), ∀ (M : Mem_) (x0 : Nat) (x1 : Int32) (x2 : Int32) (H : Heap) (locs : List Loc) (ls : Array Slot), St_ G n M s H locs → lv_has ls 3 [(0, .ref x0), (1, .int x1), (2, .int x2)] → fX4_allTired_L4 fuel M x0 x1 x2 = some r → W p l e ({ frames := 1, cells := 0, slots := 0, locals := 21 } : Room) s m ([.ref a0] : List Value).toArray below meth c H locs 0 0 (MQ below (Qc_ G (some (.int r)) M n) ([.ref a0] : List Value).toArray s 0 0 (fun q => G.1 ≤ q)) (F0 m 4 ls []) := by
    intro fuel
    induction fuel with
    | zero =>
      intro M x0 x1 x2 H locs ls hH hl hf
      cases hf
    | succ fuel ih =>
      intro M x0 x1 x2 H locs ls hH hl hf
      unfold fX4_allTired_L4 at hf
      refine lv_iload_n hx hb dX4_allTired_4 rfl (lv_at hl 2 rfl) ?_
      refine lv_iconst (v := 4) hx hb dX4_allTired_5 (by decide) ?_
      refine lv_icmp_ge (tgt := 28) hx hb dX4_allTired_6 (by decide) (fun c6 => ?_) (fun c6 => ?_)
      · have hf := ip_ c6 hf
        refine lv_iload_n hx hb dX4_allTired_28 rfl (lv_at hl 1 rfl) ?_
        cases hf
        exact rt_i hx hb hr hlk hH dX4_allTired_29
      · have hf := in_ c6 hf
        refine lv_iload_n hx hb dX4_allTired_9 rfl (lv_at hl 1 rfl) ?_
        refine lv_aload_n hx hb dX4_allTired_10 rfl (lv_at hl 0 rfl) ?_
        obtain ⟨v1, ev1, hf⟩ := bs_ hf
        refine mg_gR hx hb hts hown hKn hH ev1 in_X4 rfl (by decide) (hts _ q1176) (fun _ h9 => h9) dX4_allTired_11 ?_
        refine lv_iload_n hx hb dX4_allTired_14 rfl (lv_at hl 2 rfl) ?_
        refine lv_iconst (v := 2) hx hb dX4_allTired_15 (by decide) ?_
        obtain ⟨r2, er2⟩ : ∃ z, z = fX4_ofP x2 2 := ⟨_, rfl⟩
        have hf := lu_ er2 hf
        refine cl_i0 hH (rn_S ⟨hx, hb, hml, hown, hts⟩ hKn hH (mX4_ofP l G M n x2 2 r2 er2.symm) (va_cwS 2 hts (lw_S q1170 q1171 q70 q1172) rfl rfl rfl kdX4_ofP ⟨Nat.le_of_ble_eq_true rfl, Nat.le_of_ble_eq_true rfl⟩) rfl hl.1 (Nat.le_of_ble_eq_true rfl) dX4_allTired_16 ⟨(Nat.le_of_ble_eq_true rfl), (Nat.le_of_ble_eq_true rfl)⟩ rfl) (fun H locs hH => ?_)
        obtain ⟨v3, ev3, hf⟩ := bs_ hf
        refine mg_iald hx hb hKn hH ev3 dX4_allTired_19 ?_
        refine lv_iadd hx hb dX4_allTired_20 ?_
        refine lv_topi (fun v4 ev4 => ?_)
        have hf := lu_ ev4 hf
        refine lv_istore_n (lv' := [(1, .int v4), (0, .ref x0), (2, .int x2)]) hx hb dX4_allTired_21 rfl hl (by decide) rfl (fun ls hl => ?_)
        obtain ⟨v5, ev5⟩ : ∃ z : Int32, z = x2 + 1 := ⟨_, rfl⟩
        have hf := lu_ ev5 hf
        refine lv_iinc (v := v5) (lv' := [(2, .int v5), (1, .int v4), (0, .ref x0)]) hx hb dX4_allTired_22 hl (k := 2) rfl (by rw [ev5]; rfl) (by decide) rfl (fun ls hl => ?_)
        refine lv_goto (tgt := 4) hx hb dX4_allTired_25 (by decide) ?_
        exact ih M x0 v4 v5 _ _ ls hH (lv_sub hl [2, 1, 0] rfl) hf
  unfold fX4_allTired at hf
  refine lv_iconst (v := 0) hx hb dX4_allTired_0 (by decide) ?_
  refine lv_istore_n (lv' := [(1, .int 0), (0, .ref a0)]) hx hb dX4_allTired_1 rfl hl (by decide) rfl (fun ls hl => ?_)
  refine lv_iconst (v := 0) hx hb dX4_allTired_2 (by decide) ?_
  refine lv_istore_n (lv' := [(2, .int 0), (1, .int 0), (0, .ref a0)]) hx hb dX4_allTired_3 rfl hl (by decide) rfl (fun ls hl => ?_)
  exact w4 1000 M a0 0 0 _ _ ls hH (lv_sub hl [2, 1, 0] rfl) hf
def fX4_mean (M : Mem_) (a0 : Nat) (a1 : Int32) : Option Int64 :=
  lt_ (fX4_isIn a1 0 1) fun r1 =>
  if (b2_ r1) = 0 then
    some 1000000001
  else
    (ck_ M a0 3).bind fun u2 =>
    (fX4_allTired M a0).bind fun r3 =>
    (fX4_partOf (r3.toInt64) 4 a1).bind fun r4 =>
    some r4
theorem kdX4_mean : yX4_mean.cls ≠ "java/lang/invoke/MethodHandle" ∧ yX4_mean.cls ≠ "java/lang/invoke/VarHandle" ∧ (parseMethodDescriptor yX4_mean.desc).map (fun d => d.parameters.length) = some 1 := by decide +kernel
set_option maxHeartbeats 4000000 in
theorem mX4_mean (l : Launch) (G : GT_) (M : Mem_) (n : Nat) (a0 : Nat) (a1 : Int32) (r : Int64) (hf : fX4_mean M a0 a1 = some r) : Ct_ G l yX4_mean (ws_ yX4_mean cX4_mean 2 (some .long)) ({ frames := 2, cells := 0, slots := 0, locals := 53 }) 0 0 [.ref a0, .int a1] M n (some (.long r)) M n := by
  refine en_ (by decide) (Nat.le_of_ble_eq_true rfl) ?_
  intro p e s m below meth c hx hb hr hlk hml hown hts hname hKn hH ls hl
  have hown : s.vm.findClass RX4 = some m.cls := hown
  have hl : lv_has ls 2 [(0, .ref a0), (1, .int a1)] := hl
  unfold fX4_mean at hf
  generalize s.heap = H at hH ⊢
  refine lv_iload_n hx hb dX4_mean_0 rfl (lv_at hl 1 rfl) ?_
  refine lv_iconst (v := 0) hx hb dX4_mean_1 (by decide) ?_
  refine lv_iconst (v := 1) hx hb dX4_mean_2 (by decide) ?_
  obtain ⟨r1, er1⟩ : ∃ z, z = fX4_isIn a1 0 1 := ⟨_, rfl⟩
  have hf := lu_ er1 hf
  refine cl_i0 hH (rn_S ⟨hx, hb, hml, hown, hts⟩ hKn hH (mX4_isIn l G M n a1 0 1 r1 er1.symm) (va_cwS 3 hts (lw_S q1248 q1249 q70 q1250) rfl rfl rfl kdX4_isIn ⟨Nat.le_of_ble_eq_true rfl, Nat.le_of_ble_eq_true rfl⟩) rfl hl.1 (Nat.le_of_ble_eq_true rfl) dX4_mean_3 ⟨(Nat.le_of_ble_eq_true rfl), (Nat.le_of_ble_eq_true rfl)⟩ rfl) (fun H locs hH => ?_)
  refine lv_if_eq (tgt := 24) hx hb dX4_mean_6 (by decide) (fun c5 => ?_) (fun c5 => ?_)
  · have hf := ip_ c5 hf
    refine lv_ldc2 hx hb hown (hts _ q1521) dX4_mean_24 ?_
    cases hf
    exact rt_l hx hb hr hlk hH dX4_mean_27
  · have hf := in_ c5 hf
    refine lv_aload_n hx hb dX4_mean_9 rfl (lv_at hl 0 rfl) ?_
    obtain ⟨u2, eu2, hf⟩ := bs_ hf
    obtain ⟨r3, er3, hf⟩ := bs_ hf
    refine cl_i0 hH (rn_V ⟨hx, hb, hml, hown, hts⟩ hKn hH (mX4_allTired l G M n a0 r3 er3) (cwV 0 hts (lw_V q1539 q1541 qs64 q70 q1542) rfl rfl rfl ⟨rfl, kdX4_allTired⟩ ⟨Nat.le_of_ble_eq_true rfl, Nat.le_of_ble_eq_true rfl⟩) eu2 rfl rfl hl.1 (Nat.le_of_ble_eq_true rfl) dX4_mean_10 ⟨(Nat.le_of_ble_eq_true rfl), (Nat.le_of_ble_eq_true rfl)⟩ rfl) (fun H locs hH => ?_)
    refine lv_i2l hx hb dX4_mean_13 rfl ?_
    refine lv_ldc2 hx hb hown (hts _ q1543) dX4_mean_14 ?_
    refine lv_iload_n hx hb dX4_mean_17 rfl (lv_at hl 1 rfl) ?_
    obtain ⟨r4, er4, hf⟩ := bs_ hf
    refine cl_l0 hH (rn_S ⟨hx, hb, hml, hown, hts⟩ hKn hH (mX4_partOf l G M n (r3.toInt64) 4 a1 r4 er4) (va_cwS 3 hts (lw_S q1529 q1530 q70 q1531) rfl rfl rfl kdX4_partOf ⟨Nat.le_of_ble_eq_true rfl, Nat.le_of_ble_eq_true rfl⟩) rfl hl.1 (Nat.le_of_ble_eq_true rfl) dX4_mean_18 ⟨(Nat.le_of_ble_eq_true rfl), (Nat.le_of_ble_eq_true rfl)⟩ rfl) (fun H locs hH => ?_)
    refine lv_goto (tgt := 27) hx hb dX4_mean_21 (by decide) ?_
    cases hf
    exact rt_l hx hb hr hlk hH dX4_mean_27
def fX4_forged_L48 : Nat → Mem_ → Nat → Int32 → Int32 → Int32 → Int32 → Option (Int32 × Mem_)
  | 0, _, _, _, _, _, _ => none
  | fuel + 1, M, x0, x1, x2, x3, x4 =>
    (gR_ M x0 3 17).bind fun v18 =>
    (aI_ M v18 0 x1).bind fun v19 =>
    if v19 ≤ x4 then
      some ((-4), M)
    else
      (gR_ M x0 3 18).bind fun v20 =>
      (aI_ M v20 0 ((100 * x1) + x4)).bind fun v21 =>
      (gR_ M x0 3 18).bind fun v22 =>
      (aI_ M v22 0 (((100 * x1) + x4) + 1)).bind fun v23 =>
      if x3 = 0 then
        (ck_ M x0 3).bind fun u24 =>
        (fX4_isHit M x0 v21 v23).bind fun r25 =>
        if (b2_ r25) = 0 then
          some ((x4 / 2), M)
        else
          (gR_ M x0 3 1).bind fun v26 =>
          (ck_ M x0 3).bind fun u27 =>
          bw_ (fX4_hits M x0 v26 v21 v23) fun r28 M29 =>
          lt_ (x4 + 2) fun v30 =>
          fX4_forged_L48 fuel M29 x0 x1 x2 (b2_ r28) v30
      else
        some ((x4 / 2), M)
def fX4_forged (M : Mem_) (a0 : Nat) (a1 : Int32) : Option (Int32 × Mem_) :=
  (ck_ M a0 3).bind fun u1 =>
  (fX4_wrongRow M a0 a1 (-1)).bind fun r2 =>
  if r2 = 0 then
    (gR_ M a0 3 17).bind fun v8 =>
    (aI_ M v8 0 a1).bind fun v9 =>
    if (v9 - v9 / 2 * 2) = 1 then
      some ((-13), M)
    else
      if r2 = 0 then
        (gR_ M a0 3 0).bind fun v10 =>
        (gR_ M a0 3 1).bind fun v11 =>
        (fX4_copies M v10 v11).bind fun M13 =>
        fX4_forged_L48 1000 M13 a0 a1 r2 0 0
      else
        some (r2, M)
  else
    if r2 = 0 then
      (gR_ M a0 3 0).bind fun v3 =>
      (gR_ M a0 3 1).bind fun v4 =>
      (fX4_copies M v3 v4).bind fun M6 =>
      fX4_forged_L48 1000 M6 a0 a1 r2 0 0
    else
      some (r2, M)
theorem kdX4_forged : yX4_forged.cls ≠ "java/lang/invoke/MethodHandle" ∧ yX4_forged.cls ≠ "java/lang/invoke/VarHandle" ∧ (parseMethodDescriptor yX4_forged.desc).map (fun d => d.parameters.length) = some 1 := by decide +kernel
set_option maxHeartbeats 4000000 in
theorem mX4_forged (l : Launch) (G : GT_) (M : Mem_) (n : Nat) (a0 : Nat) (a1 : Int32) (r : Int32) (M1 : Mem_) (hf : fX4_forged M a0 a1 = some (r, M1)) : Ct_ G l yX4_forged (ws_ yX4_forged cX4_forged 7 (some .int)) ({ frames := 4, cells := 0, slots := 0, locals := 99 }) 0 0 [.ref a0, .int a1] M n (some (.int r)) M1 n := by
  refine en_ (by decide) (Nat.le_of_ble_eq_true rfl) ?_
  intro p e s m below meth c hx hb hr hlk hml hown hts hname hKn hH ls hl
  have hown : s.vm.findClass RX4 = some m.cls := hown
  have hl : lv_has ls 7 [(0, .ref a0), (1, .int a1)] := hl
  have w48 : ∀ (fuel : Nat), ∀ (M : Mem_) (x0 : Nat) (x1 : Int32) (x2 : Int32) (x3 : Int32) (x4 : Int32) (H : Heap) (locs : List Loc) (ls : Array Slot), St_ G n M s H locs → lv_has ls 7 [(0, .ref x0), (1, .int x1), (2, .int x2), (3, .int x3), (4, .int x4)] → fX4_forged_L48 fuel M x0 x1 x2 x3 x4 = some (r, M1) → W p l e ({ frames := 4, cells := 0, slots := 0, locals := 99 } : Room) s m ([.ref a0, .int a1] : List Value).toArray below meth c H locs 0 0 (MQ below (Qc_ G (some (.int r)) M1 n) ([.ref a0, .int a1] : List Value).toArray s 0 0 (fun q => G.1 ≤ q)) (F0 m 48 ls []) := by
    intro fuel
    induction fuel with
    | zero =>
      intro M x0 x1 x2 x3 x4 H locs ls hH hl hf
      cases hf
    | succ fuel ih =>
      intro M x0 x1 x2 x3 x4 H locs ls hH hl hf
      unfold fX4_forged_L48 at hf
      refine lv_iload hx hb dX4_forged_48 (lv_at hl 4 rfl) ?_
      refine lv_aload_n hx hb dX4_forged_50 rfl (lv_at hl 0 rfl) ?_
      obtain ⟨v18, ev18, hf⟩ := bs_ hf
      refine mg_gR hx hb hts hown hKn hH ev18 in_X4 rfl (by decide) (hts _ q1193) (fun _ h9 => h9) dX4_forged_51 ?_
      refine lv_iload_n hx hb dX4_forged_54 rfl (lv_at hl 1 rfl) ?_
      obtain ⟨v19, ev19, hf⟩ := bs_ hf
      refine mg_iald hx hb hKn hH ev19 dX4_forged_55 ?_
      refine lv_icmp_ge (tgt := 128) hx hb dX4_forged_56 (by decide) (fun c33 => ?_) (fun c33 => ?_)
      · have hf := ip_ c33 hf
        refine lv_bipush (v := (-4)) hx hb dX4_forged_128 (by decide) ?_
        cases hf
        exact rt_i hx hb hr hlk hH dX4_forged_130
      · have hf := in_ c33 hf
        refine lv_aload_n hx hb dX4_forged_59 rfl (lv_at hl 0 rfl) ?_
        obtain ⟨v20, ev20, hf⟩ := bs_ hf
        refine mg_gR hx hb hts hown hKn hH ev20 in_X4 rfl (by decide) (hts _ q1194) (fun _ h9 => h9) dX4_forged_60 ?_
        refine lv_bipush (v := 100) hx hb dX4_forged_63 (by decide) ?_
        refine lv_iload_n hx hb dX4_forged_65 rfl (lv_at hl 1 rfl) ?_
        refine lv_imul hx hb dX4_forged_66 ?_
        refine lv_iload hx hb dX4_forged_67 (lv_at hl 4 rfl) ?_
        refine lv_iadd hx hb dX4_forged_69 ?_
        obtain ⟨v21, ev21, hf⟩ := bs_ hf
        refine mg_iald hx hb hKn hH ev21 dX4_forged_70 ?_
        refine lv_istore (lv' := [(5, .int v21), (0, .ref x0), (1, .int x1), (2, .int x2), (3, .int x3), (4, .int x4)]) hx hb dX4_forged_71 hl (by decide) rfl (fun ls hl => ?_)
        refine lv_aload_n hx hb dX4_forged_73 rfl (lv_at hl 1 rfl) ?_
        obtain ⟨v22, ev22, hf⟩ := bs_ hf
        refine mg_gR hx hb hts hown hKn hH ev22 in_X4 rfl (by decide) (hts _ q1194) (fun _ h9 => h9) dX4_forged_74 ?_
        refine lv_bipush (v := 100) hx hb dX4_forged_77 (by decide) ?_
        refine lv_iload_n hx hb dX4_forged_79 rfl (lv_at hl 2 rfl) ?_
        refine lv_imul hx hb dX4_forged_80 ?_
        refine lv_iload hx hb dX4_forged_81 (lv_at hl 5 rfl) ?_
        refine lv_iadd hx hb dX4_forged_83 ?_
        refine lv_iconst (v := 1) hx hb dX4_forged_84 (by decide) ?_
        refine lv_iadd hx hb dX4_forged_85 ?_
        obtain ⟨v23, ev23, hf⟩ := bs_ hf
        refine mg_iald hx hb hKn hH ev23 dX4_forged_86 ?_
        refine lv_istore (lv' := [(6, .int v23), (5, .int v21), (0, .ref x0), (1, .int x1), (2, .int x2), (3, .int x3), (4, .int x4)]) hx hb dX4_forged_87 hl (by decide) rfl (fun ls hl => ?_)
        refine lv_iload_n hx hb dX4_forged_89 rfl (lv_at hl 5 rfl) ?_
        refine lv_if_ne (tgt := 104) hx hb dX4_forged_90 (by decide) (fun c32 => ?_) (fun c32 => ?_)
        · have hf := in_ c32 hf
          refine lv_iload hx hb dX4_forged_104 (lv_at hl 6 rfl) ?_
          refine lv_iconst (v := 2) hx hb dX4_forged_106 (by decide) ?_
          refine lv_idiv hx hb dX4_forged_107 (by decide) ?_
          cases hf
          exact rt_i hx hb hr hlk hH dX4_forged_108
        · have hf := ip_ c32 hf
          refine lv_aload_n hx hb dX4_forged_93 rfl (lv_at hl 2 rfl) ?_
          refine lv_iload hx hb dX4_forged_94 (lv_at hl 1 rfl) ?_
          refine lv_iload hx hb dX4_forged_96 (lv_at hl 0 rfl) ?_
          obtain ⟨u24, eu24, hf⟩ := bs_ hf
          obtain ⟨r25, er25, hf⟩ := bs_ hf
          refine cl_i0 hH (rn_V ⟨hx, hb, hml, hown, hts⟩ hKn hH (mX4_isHit l G M n x0 v21 v23 r25 er25) (cwV 2 hts (lw_V q1396 q1398 qs50 q70 q1399) rfl rfl rfl ⟨rfl, kdX4_isHit⟩ ⟨Nat.le_of_ble_eq_true rfl, Nat.le_of_ble_eq_true rfl⟩) eu24 rfl rfl hl.1 (Nat.le_of_ble_eq_true rfl) dX4_forged_98 ⟨(Nat.le_of_ble_eq_true rfl), (Nat.le_of_ble_eq_true rfl)⟩ rfl) (fun H locs hH => ?_)
          refine lv_if_ne (tgt := 109) hx hb dX4_forged_101 (by decide) (fun c31 => ?_) (fun c31 => ?_)
          · have hf := in_ c31 hf
            refine lv_aload_n hx hb dX4_forged_109 rfl (lv_at hl 2 rfl) ?_
            refine lv_aload_n hx hb dX4_forged_110 rfl (lv_at hl 2 rfl) ?_
            obtain ⟨v26, ev26, hf⟩ := bs_ hf
            refine mg_gR hx hb hts hown hKn hH ev26 in_X4 rfl (by decide) (hts _ q1177) (fun _ h9 => h9) dX4_forged_111 ?_
            refine lv_iload hx hb dX4_forged_114 (lv_at hl 1 rfl) ?_
            refine lv_iload hx hb dX4_forged_116 (lv_at hl 0 rfl) ?_
            obtain ⟨u27, eu27, hf⟩ := bs_ hf
            obtain ⟨r28, M29, er28, hf⟩ := bws_ hf
            refine cl_i0 hH (rn_V ⟨hx, hb, hml, hown, hts⟩ hKn hH (mX4_hits l G M n x0 v26 v21 v23 r28 M29 er28) (cwV 3 hts (lw_V q1291 q1293 qs46 q70 q1294) rfl rfl rfl ⟨rfl, kdX4_hits⟩ ⟨Nat.le_of_ble_eq_true rfl, Nat.le_of_ble_eq_true rfl⟩) eu27 rfl rfl hl.1 (Nat.le_of_ble_eq_true rfl) dX4_forged_118 ⟨(Nat.le_of_ble_eq_true rfl), (Nat.le_of_ble_eq_true rfl)⟩ rfl) (fun H locs hH => ?_)
            refine lv_istore_n (lv' := [(3, .int (b2_ r28)), (6, .int v23), (5, .int v21), (0, .ref x0), (1, .int x1), (2, .int x2), (4, .int x4)]) hx hb dX4_forged_121 rfl hl (by decide) rfl (fun ls hl => ?_)
            obtain ⟨v30, ev30⟩ : ∃ z : Int32, z = x4 + 2 := ⟨_, rfl⟩
            have hf := lu_ ev30 hf
            refine lv_iinc (v := v30) (lv' := [(4, .int v30), (3, .int (b2_ r28)), (6, .int v23), (5, .int v21), (0, .ref x0), (1, .int x1), (2, .int x2)]) hx hb dX4_forged_122 hl (k := 6) rfl (by rw [ev30]; rfl) (by decide) rfl (fun ls hl => ?_)
            refine lv_goto (tgt := 48) hx hb dX4_forged_125 (by decide) ?_
            exact ih M29 x0 x1 x2 (b2_ r28) v30 _ _ ls hH (lv_sub hl [4, 5, 6, 1, 0] rfl) hf
          · have hf := ip_ c31 hf
            refine lv_iload hx hb dX4_forged_104 (lv_at hl 6 rfl) ?_
            refine lv_iconst (v := 2) hx hb dX4_forged_106 (by decide) ?_
            refine lv_idiv hx hb dX4_forged_107 (by decide) ?_
            cases hf
            exact rt_i hx hb hr hlk hH dX4_forged_108
  unfold fX4_forged at hf
  refine lv_aload_n hx hb dX4_forged_0 rfl (lv_at hl 0 rfl) ?_
  refine lv_iload_n hx hb dX4_forged_1 rfl (lv_at hl 1 rfl) ?_
  refine lv_iconst (v := (-1)) hx hb dX4_forged_2 (by decide) ?_
  obtain ⟨u1, eu1, hf⟩ := bs_ hf
  obtain ⟨r2, er2, hf⟩ := bs_ hf
  refine cl_i0 hH (rn_V ⟨hx, hb, hml, hown, hts⟩ hKn hH (mX4_wrongRow l G M n a0 a1 (-1) r2 er2) (cwV 2 hts (lw_V q1241 q1243 qs38 q70 q1244) rfl rfl rfl ⟨rfl, kdX4_wrongRow⟩ ⟨Nat.le_of_ble_eq_true rfl, Nat.le_of_ble_eq_true rfl⟩) eu1 rfl rfl hl.1 (Nat.le_of_ble_eq_true rfl) dX4_forged_3 ⟨(Nat.le_of_ble_eq_true rfl), (Nat.le_of_ble_eq_true rfl)⟩ rfl) (fun H locs hH => ?_)
  refine lv_istore_n (lv' := [(2, .int r2), (0, .ref a0), (1, .int a1)]) hx hb dX4_forged_6 rfl hl (by decide) rfl (fun ls hl => ?_)
  refine lv_iload_n hx hb dX4_forged_7 rfl (lv_at hl 0 rfl) ?_
  refine lv_if_ne (tgt := 26) hx hb dX4_forged_8 (by decide) (fun c17 => ?_) (fun c17 => ?_)
  · have hf := in_ c17 hf
    refine lv_iload_n hx hb dX4_forged_26 rfl (lv_at hl 0 rfl) ?_
    refine lv_if_eq (tgt := 32) hx hb dX4_forged_27 (by decide) (fun c7 => ?_) (fun c7 => ?_)
    · have hf := ip_ c7 hf
      refine lv_aload_n hx hb dX4_forged_32 rfl (lv_at hl 1 rfl) ?_
      obtain ⟨v3, ev3, hf⟩ := bs_ hf
      refine mg_gR hx hb hts hown hKn hH ev3 in_X4 rfl (by decide) (hts _ q1176) (fun _ h9 => h9) dX4_forged_33 ?_
      refine lv_aload_n hx hb dX4_forged_36 rfl (lv_at hl 1 rfl) ?_
      obtain ⟨v4, ev4, hf⟩ := bs_ hf
      refine mg_gR hx hb hts hown hKn hH ev4 in_X4 rfl (by decide) (hts _ q1177) (fun _ h9 => h9) dX4_forged_37 ?_
      obtain ⟨M6, er5, hf⟩ := bs_ hf
      refine cl_v0 hH (rn_S ⟨hx, hb, hml, hown, hts⟩ hKn hH (mX4_copies l G M n v3 v4 M6 er5) (va_cwS 2 hts (lw_S q1263 q1264 q70 q1265) rfl rfl rfl kdX4_copies ⟨Nat.le_of_ble_eq_true rfl, Nat.le_of_ble_eq_true rfl⟩) rfl hl.1 (Nat.le_of_ble_eq_true rfl) dX4_forged_40 ⟨(Nat.le_of_ble_eq_true rfl), (Nat.le_of_ble_eq_true rfl)⟩ rfl) (fun H locs hH => ?_)
      refine lv_iconst (v := 0) hx hb dX4_forged_43 (by decide) ?_
      refine lv_istore_n (lv' := [(3, .int 0), (2, .int r2), (0, .ref a0), (1, .int a1)]) hx hb dX4_forged_44 rfl hl (by decide) rfl (fun ls hl => ?_)
      refine lv_iconst (v := 0) hx hb dX4_forged_45 (by decide) ?_
      refine lv_istore (lv' := [(4, .int 0), (3, .int 0), (2, .int r2), (0, .ref a0), (1, .int a1)]) hx hb dX4_forged_46 hl (by decide) rfl (fun ls hl => ?_)
      exact w48 1000 M6 a0 a1 r2 0 0 _ _ ls hH (lv_sub hl [3, 4, 2, 1, 0] rfl) hf
    · have hf := in_ c7 hf
      refine lv_iload_n hx hb dX4_forged_30 rfl (lv_at hl 0 rfl) ?_
      cases hf
      exact rt_i hx hb hr hlk hH dX4_forged_31
  · have hf := ip_ c17 hf
    refine lv_aload_n hx hb dX4_forged_11 rfl (lv_at hl 1 rfl) ?_
    obtain ⟨v8, ev8, hf⟩ := bs_ hf
    refine mg_gR hx hb hts hown hKn hH ev8 in_X4 rfl (by decide) (hts _ q1193) (fun _ h9 => h9) dX4_forged_12 ?_
    refine lv_iload_n hx hb dX4_forged_15 rfl (lv_at hl 2 rfl) ?_
    obtain ⟨v9, ev9, hf⟩ := bs_ hf
    refine mg_iald hx hb hKn hH ev9 dX4_forged_16 ?_
    refine lv_iconst (v := 2) hx hb dX4_forged_17 (by decide) ?_
    refine lv_irem hx hb dX4_forged_18 (by decide) ?_
    refine lv_iconst (v := 1) hx hb dX4_forged_19 (by decide) ?_
    refine lv_icmp_ne (tgt := 26) hx hb dX4_forged_20 (by decide) (fun c16 => ?_) (fun c16 => ?_)
    · have hf := in_ c16 hf
      refine lv_iload_n hx hb dX4_forged_26 rfl (lv_at hl 0 rfl) ?_
      refine lv_if_eq (tgt := 32) hx hb dX4_forged_27 (by decide) (fun c14 => ?_) (fun c14 => ?_)
      · have hf := ip_ c14 hf
        refine lv_aload_n hx hb dX4_forged_32 rfl (lv_at hl 1 rfl) ?_
        obtain ⟨v10, ev10, hf⟩ := bs_ hf
        refine mg_gR hx hb hts hown hKn hH ev10 in_X4 rfl (by decide) (hts _ q1176) (fun _ h9 => h9) dX4_forged_33 ?_
        refine lv_aload_n hx hb dX4_forged_36 rfl (lv_at hl 1 rfl) ?_
        obtain ⟨v11, ev11, hf⟩ := bs_ hf
        refine mg_gR hx hb hts hown hKn hH ev11 in_X4 rfl (by decide) (hts _ q1177) (fun _ h9 => h9) dX4_forged_37 ?_
        obtain ⟨M13, er12, hf⟩ := bs_ hf
        refine cl_v0 hH (rn_S ⟨hx, hb, hml, hown, hts⟩ hKn hH (mX4_copies l G M n v10 v11 M13 er12) (va_cwS 2 hts (lw_S q1263 q1264 q70 q1265) rfl rfl rfl kdX4_copies ⟨Nat.le_of_ble_eq_true rfl, Nat.le_of_ble_eq_true rfl⟩) rfl hl.1 (Nat.le_of_ble_eq_true rfl) dX4_forged_40 ⟨(Nat.le_of_ble_eq_true rfl), (Nat.le_of_ble_eq_true rfl)⟩ rfl) (fun H locs hH => ?_)
        refine lv_iconst (v := 0) hx hb dX4_forged_43 (by decide) ?_
        refine lv_istore_n (lv' := [(3, .int 0), (2, .int r2), (0, .ref a0), (1, .int a1)]) hx hb dX4_forged_44 rfl hl (by decide) rfl (fun ls hl => ?_)
        refine lv_iconst (v := 0) hx hb dX4_forged_45 (by decide) ?_
        refine lv_istore (lv' := [(4, .int 0), (3, .int 0), (2, .int r2), (0, .ref a0), (1, .int a1)]) hx hb dX4_forged_46 hl (by decide) rfl (fun ls hl => ?_)
        exact w48 1000 M13 a0 a1 r2 0 0 _ _ ls hH (lv_sub hl [3, 4, 2, 1, 0] rfl) hf
      · have hf := in_ c14 hf
        refine lv_iload_n hx hb dX4_forged_30 rfl (lv_at hl 0 rfl) ?_
        cases hf
        exact rt_i hx hb hr hlk hH dX4_forged_31
    · have hf := ip_ c16 hf
      refine lv_bipush (v := (-13)) hx hb dX4_forged_23 (by decide) ?_
      refine lv_istore_n (lv' := [(2, .int (-13)), (0, .ref a0), (1, .int a1)]) hx hb dX4_forged_25 rfl hl (by decide) rfl (fun ls hl => ?_)
      refine lv_iload_n hx hb dX4_forged_26 rfl (lv_at hl 0 rfl) ?_
      refine lv_if_eq (tgt := 32) hx hb dX4_forged_27 (by decide) (fun c15 => ?_) (fun c15 => ?_)
      · exact absurd c15 (by decide)
      · refine lv_iload_n hx hb dX4_forged_30 rfl (lv_at hl 0 rfl) ?_
        cases hf
        exact rt_i hx hb hr hlk hH dX4_forged_31
def fX4_judge_L42 : Nat → Mem_ → Nat → Int32 → Int32 → Int32 → Option (Int32 × Mem_)
  | 0, _, _, _, _, _ => none
  | fuel + 1, M, x0, x1, x2, x3 =>
    (gR_ M x0 3 17).bind fun v18 =>
    (aI_ M v18 0 x1).bind fun v19 =>
    if v19 ≤ x3 then
      some ((-4), M)
    else
      (ck_ M x0 3).bind fun u20 =>
      (fX4_isSkipped M x0 x1 x3).bind fun r21 =>
      if (b2_ r21) = 0 then
        (gR_ M x0 3 18).bind fun v32 =>
        (aI_ M v32 0 ((100 * x1) + x3)).bind fun v33 =>
        (gR_ M x0 3 1).bind fun v34 =>
        lt_ (fX4_ofSide 0 2) fun r35 =>
        (aI_ M v34 0 r35).bind fun v36 =>
        (gR_ M x0 3 1).bind fun v37 =>
        lt_ (fX4_ofSide 1 2) fun r38 =>
        (aI_ M v37 0 r38).bind fun v39 =>
        if v33 = (v36 + v39) then
          (gR_ M x0 3 1).bind fun v40 =>
          if (x3 - x3 / 2 * 2) = 0 then
            (ck_ M x0 3).bind fun u45 =>
            bw_ (fX4_hits M x0 v40 0 0) fun r46 M47 =>
            lt_ (x3 + 1) fun v48 =>
            fX4_judge_L42 fuel M47 x0 x1 x2 v48
          else
            (ck_ M x0 3).bind fun u41 =>
            bw_ (fX4_hits M x0 v40 0 8) fun r42 M43 =>
            lt_ (x3 + 1) fun v44 =>
            fX4_judge_L42 fuel M43 x0 x1 x2 v44
        else
          some (x3, M)
      else
        (gR_ M x0 3 1).bind fun v22 =>
        if (x3 - x3 / 2 * 2) = 0 then
          (ck_ M x0 3).bind fun u27 =>
          bw_ (fX4_hits M x0 v22 0 0) fun r28 M29 =>
          lt_ (x3 + 1) fun v30 =>
          fX4_judge_L42 fuel M29 x0 x1 x2 v30
        else
          (ck_ M x0 3).bind fun u23 =>
          bw_ (fX4_hits M x0 v22 0 8) fun r24 M25 =>
          lt_ (x3 + 1) fun v26 =>
          fX4_judge_L42 fuel M25 x0 x1 x2 v26
def fX4_judge (M : Mem_) (a0 : Nat) (a1 : Int32) : Option (Int32 × Mem_) :=
  (ck_ M a0 3).bind fun u1 =>
  (fX4_wrongRow M a0 a1 (-1)).bind fun r2 =>
  if r2 = 0 then
    (gR_ M a0 3 0).bind fun v8 =>
    (aI_ M v8 0 0).bind fun v9 =>
    if v9 = 0 then
      some ((-3), M)
    else
      if r2 = 0 then
        (gR_ M a0 3 0).bind fun v10 =>
        (gR_ M a0 3 1).bind fun v11 =>
        (fX4_copies M v10 v11).bind fun M13 =>
        fX4_judge_L42 1000 M13 a0 a1 r2 0
      else
        some (r2, M)
  else
    if r2 = 0 then
      (gR_ M a0 3 0).bind fun v3 =>
      (gR_ M a0 3 1).bind fun v4 =>
      (fX4_copies M v3 v4).bind fun M6 =>
      fX4_judge_L42 1000 M6 a0 a1 r2 0
    else
      some (r2, M)
theorem kdX4_judge : yX4_judge.cls ≠ "java/lang/invoke/MethodHandle" ∧ yX4_judge.cls ≠ "java/lang/invoke/VarHandle" ∧ (parseMethodDescriptor yX4_judge.desc).map (fun d => d.parameters.length) = some 1 := by decide +kernel
set_option maxHeartbeats 4000000 in
theorem mX4_judge (l : Launch) (G : GT_) (M : Mem_) (n : Nat) (a0 : Nat) (a1 : Int32) (r : Int32) (M1 : Mem_) (hf : fX4_judge M a0 a1 = some (r, M1)) : Ct_ G l yX4_judge (ws_ yX4_judge cX4_judge 5 (some .int)) ({ frames := 4, cells := 0, slots := 0, locals := 99 }) 0 0 [.ref a0, .int a1] M n (some (.int r)) M1 n := by
  refine en_ (by decide) (Nat.le_of_ble_eq_true rfl) ?_
  intro p e s m below meth c hx hb hr hlk hml hown hts hname hKn hH ls hl
  have hown : s.vm.findClass RX4 = some m.cls := hown
  have hl : lv_has ls 5 [(0, .ref a0), (1, .int a1)] := hl
  have w42 : ∀ (fuel : Nat), ∀ (M : Mem_) (x0 : Nat) (x1 : Int32) (x2 : Int32) (x3 : Int32) (H : Heap) (locs : List Loc) (ls : Array Slot), St_ G n M s H locs → lv_has ls 5 [(0, .ref x0), (1, .int x1), (2, .int x2), (3, .int x3)] → fX4_judge_L42 fuel M x0 x1 x2 x3 = some (r, M1) → W p l e ({ frames := 4, cells := 0, slots := 0, locals := 99 } : Room) s m ([.ref a0, .int a1] : List Value).toArray below meth c H locs 0 0 (MQ below (Qc_ G (some (.int r)) M1 n) ([.ref a0, .int a1] : List Value).toArray s 0 0 (fun q => G.1 ≤ q)) (F0 m 42 ls []) := by
    intro fuel
    induction fuel with
    | zero =>
      intro M x0 x1 x2 x3 H locs ls hH hl hf
      cases hf
    | succ fuel ih =>
      intro M x0 x1 x2 x3 H locs ls hH hl hf
      unfold fX4_judge_L42 at hf
      refine lv_iload_n hx hb dX4_judge_42 rfl (lv_at hl 3 rfl) ?_
      refine lv_aload_n hx hb dX4_judge_43 rfl (lv_at hl 0 rfl) ?_
      obtain ⟨v18, ev18, hf⟩ := bs_ hf
      refine mg_gR hx hb hts hown hKn hH ev18 in_X4 rfl (by decide) (hts _ q1193) (fun _ h9 => h9) dX4_judge_44 ?_
      refine lv_iload_n hx hb dX4_judge_47 rfl (lv_at hl 1 rfl) ?_
      obtain ⟨v19, ev19, hf⟩ := bs_ hf
      refine mg_iald hx hb hKn hH ev19 dX4_judge_48 ?_
      refine lv_icmp_ge (tgt := 127) hx hb dX4_judge_49 (by decide) (fun c52 => ?_) (fun c52 => ?_)
      · have hf := ip_ c52 hf
        refine lv_bipush (v := (-4)) hx hb dX4_judge_127 (by decide) ?_
        cases hf
        exact rt_i hx hb hr hlk hH dX4_judge_129
      · have hf := in_ c52 hf
        refine lv_aload_n hx hb dX4_judge_52 rfl (lv_at hl 0 rfl) ?_
        refine lv_iload_n hx hb dX4_judge_53 rfl (lv_at hl 1 rfl) ?_
        refine lv_iload_n hx hb dX4_judge_54 rfl (lv_at hl 3 rfl) ?_
        obtain ⟨u20, eu20, hf⟩ := bs_ hf
        obtain ⟨r21, er21, hf⟩ := bs_ hf
        refine cl_i0 hH (rn_V ⟨hx, hb, hml, hown, hts⟩ hKn hH (mX4_isSkipped l G M n x0 x1 x3 r21 er21) (cwV 2 hts (lw_V q1497 q1499 qs61 q70 q1500) rfl rfl rfl ⟨rfl, kdX4_isSkipped⟩ ⟨Nat.le_of_ble_eq_true rfl, Nat.le_of_ble_eq_true rfl⟩) eu20 rfl rfl hl.1 (Nat.le_of_ble_eq_true rfl) dX4_judge_55 ⟨(Nat.le_of_ble_eq_true rfl), (Nat.le_of_ble_eq_true rfl)⟩ rfl) (fun H locs hH => ?_)
        refine lv_if_ne (tgt := 98) hx hb dX4_judge_58 (by decide) (fun c51 => ?_) (fun c51 => ?_)
        · have hf := in_ c51 hf
          refine lv_aload_n hx hb dX4_judge_98 rfl (lv_at hl 0 rfl) ?_
          refine lv_aload_n hx hb dX4_judge_99 rfl (lv_at hl 0 rfl) ?_
          obtain ⟨v22, ev22, hf⟩ := bs_ hf
          refine mg_gR hx hb hts hown hKn hH ev22 in_X4 rfl (by decide) (hts _ q1177) (fun _ h9 => h9) dX4_judge_100 ?_
          refine lv_iconst (v := 0) hx hb dX4_judge_103 (by decide) ?_
          refine lv_iload_n hx hb dX4_judge_104 rfl (lv_at hl 3 rfl) ?_
          refine lv_iconst (v := 2) hx hb dX4_judge_105 (by decide) ?_
          refine lv_irem hx hb dX4_judge_106 (by decide) ?_
          refine lv_if_ne (tgt := 114) hx hb dX4_judge_107 (by decide) (fun c31 => ?_) (fun c31 => ?_)
          · have hf := in_ c31 hf
            refine lv_bipush (v := 8) hx hb dX4_judge_114 (by decide) ?_
            obtain ⟨u23, eu23, hf⟩ := bs_ hf
            obtain ⟨r24, M25, er24, hf⟩ := bws_ hf
            refine cl_i0 hH (rn_V ⟨hx, hb, hml, hown, hts⟩ hKn hH (mX4_hits l G M n x0 v22 0 8 r24 M25 er24) (cwV 3 hts (lw_V q1291 q1293 qs46 q70 q1294) rfl rfl rfl ⟨rfl, kdX4_hits⟩ ⟨Nat.le_of_ble_eq_true rfl, Nat.le_of_ble_eq_true rfl⟩) eu23 rfl rfl hl.1 (Nat.le_of_ble_eq_true rfl) dX4_judge_116 ⟨(Nat.le_of_ble_eq_true rfl), (Nat.le_of_ble_eq_true rfl)⟩ rfl) (fun H locs hH => ?_)
            refine lv_istore (lv' := [(4, .int (b2_ r24)), (0, .ref x0), (1, .int x1), (2, .int x2), (3, .int x3)]) hx hb dX4_judge_119 hl (by decide) rfl (fun ls hl => ?_)
            obtain ⟨v26, ev26⟩ : ∃ z : Int32, z = x3 + 1 := ⟨_, rfl⟩
            have hf := lu_ ev26 hf
            refine lv_iinc (v := v26) (lv' := [(3, .int v26), (4, .int (b2_ r24)), (0, .ref x0), (1, .int x1), (2, .int x2)]) hx hb dX4_judge_121 hl (k := 4) rfl (by rw [ev26]; rfl) (by decide) rfl (fun ls hl => ?_)
            refine lv_goto (tgt := 42) hx hb dX4_judge_124 (by decide) ?_
            exact ih M25 x0 x1 x2 v26 _ _ ls hH (lv_sub hl [2, 3, 4, 0] rfl) hf
          · have hf := ip_ c31 hf
            refine lv_iconst (v := 0) hx hb dX4_judge_110 (by decide) ?_
            refine lv_goto (tgt := 116) hx hb dX4_judge_111 (by decide) ?_
            obtain ⟨u27, eu27, hf⟩ := bs_ hf
            obtain ⟨r28, M29, er28, hf⟩ := bws_ hf
            refine cl_i0 hH (rn_V ⟨hx, hb, hml, hown, hts⟩ hKn hH (mX4_hits l G M n x0 v22 0 0 r28 M29 er28) (cwV 3 hts (lw_V q1291 q1293 qs46 q70 q1294) rfl rfl rfl ⟨rfl, kdX4_hits⟩ ⟨Nat.le_of_ble_eq_true rfl, Nat.le_of_ble_eq_true rfl⟩) eu27 rfl rfl hl.1 (Nat.le_of_ble_eq_true rfl) dX4_judge_116 ⟨(Nat.le_of_ble_eq_true rfl), (Nat.le_of_ble_eq_true rfl)⟩ rfl) (fun H locs hH => ?_)
            refine lv_istore (lv' := [(4, .int (b2_ r28)), (0, .ref x0), (1, .int x1), (2, .int x2), (3, .int x3)]) hx hb dX4_judge_119 hl (by decide) rfl (fun ls hl => ?_)
            obtain ⟨v30, ev30⟩ : ∃ z : Int32, z = x3 + 1 := ⟨_, rfl⟩
            have hf := lu_ ev30 hf
            refine lv_iinc (v := v30) (lv' := [(3, .int v30), (4, .int (b2_ r28)), (0, .ref x0), (1, .int x1), (2, .int x2)]) hx hb dX4_judge_121 hl (k := 4) rfl (by rw [ev30]; rfl) (by decide) rfl (fun ls hl => ?_)
            refine lv_goto (tgt := 42) hx hb dX4_judge_124 (by decide) ?_
            exact ih M29 x0 x1 x2 v30 _ _ ls hH (lv_sub hl [2, 3, 4, 0] rfl) hf
        · have hf := ip_ c51 hf
          refine lv_aload_n hx hb dX4_judge_61 rfl (lv_at hl 0 rfl) ?_
          obtain ⟨v32, ev32, hf⟩ := bs_ hf
          refine mg_gR hx hb hts hown hKn hH ev32 in_X4 rfl (by decide) (hts _ q1194) (fun _ h9 => h9) dX4_judge_62 ?_
          refine lv_bipush (v := 100) hx hb dX4_judge_65 (by decide) ?_
          refine lv_iload_n hx hb dX4_judge_67 rfl (lv_at hl 1 rfl) ?_
          refine lv_imul hx hb dX4_judge_68 ?_
          refine lv_iload_n hx hb dX4_judge_69 rfl (lv_at hl 3 rfl) ?_
          refine lv_iadd hx hb dX4_judge_70 ?_
          obtain ⟨v33, ev33, hf⟩ := bs_ hf
          refine mg_iald hx hb hKn hH ev33 dX4_judge_71 ?_
          refine lv_aload_n hx hb dX4_judge_72 rfl (lv_at hl 0 rfl) ?_
          obtain ⟨v34, ev34, hf⟩ := bs_ hf
          refine mg_gR hx hb hts hown hKn hH ev34 in_X4 rfl (by decide) (hts _ q1177) (fun _ h9 => h9) dX4_judge_73 ?_
          refine lv_iconst (v := 0) hx hb dX4_judge_76 (by decide) ?_
          refine lv_iconst (v := 2) hx hb dX4_judge_77 (by decide) ?_
          obtain ⟨r35, er35⟩ : ∃ z, z = fX4_ofSide 0 2 := ⟨_, rfl⟩
          have hf := lu_ er35 hf
          refine cl_i0 hH (rn_S ⟨hx, hb, hml, hown, hts⟩ hKn hH (mX4_ofSide l G M n 0 2 r35 er35.symm) (va_cwS 2 hts (lw_S q1173 q1174 q70 q1175) rfl rfl rfl kdX4_ofSide ⟨Nat.le_of_ble_eq_true rfl, Nat.le_of_ble_eq_true rfl⟩) rfl hl.1 (Nat.le_of_ble_eq_true rfl) dX4_judge_78 ⟨(Nat.le_of_ble_eq_true rfl), (Nat.le_of_ble_eq_true rfl)⟩ rfl) (fun H locs hH => ?_)
          obtain ⟨v36, ev36, hf⟩ := bs_ hf
          refine mg_iald hx hb hKn hH ev36 dX4_judge_81 ?_
          refine lv_aload_n hx hb dX4_judge_82 rfl (lv_at hl 0 rfl) ?_
          obtain ⟨v37, ev37, hf⟩ := bs_ hf
          refine mg_gR hx hb hts hown hKn hH ev37 in_X4 rfl (by decide) (hts _ q1177) (fun _ h9 => h9) dX4_judge_83 ?_
          refine lv_iconst (v := 1) hx hb dX4_judge_86 (by decide) ?_
          refine lv_iconst (v := 2) hx hb dX4_judge_87 (by decide) ?_
          obtain ⟨r38, er38⟩ : ∃ z, z = fX4_ofSide 1 2 := ⟨_, rfl⟩
          have hf := lu_ er38 hf
          refine cl_i0 hH (rn_S ⟨hx, hb, hml, hown, hts⟩ hKn hH (mX4_ofSide l G M n 1 2 r38 er38.symm) (va_cwS 2 hts (lw_S q1173 q1174 q70 q1175) rfl rfl rfl kdX4_ofSide ⟨Nat.le_of_ble_eq_true rfl, Nat.le_of_ble_eq_true rfl⟩) rfl hl.1 (Nat.le_of_ble_eq_true rfl) dX4_judge_88 ⟨(Nat.le_of_ble_eq_true rfl), (Nat.le_of_ble_eq_true rfl)⟩ rfl) (fun H locs hH => ?_)
          obtain ⟨v39, ev39, hf⟩ := bs_ hf
          refine mg_iald hx hb hKn hH ev39 dX4_judge_91 ?_
          refine lv_iadd hx hb dX4_judge_92 ?_
          refine lv_icmp_eq (tgt := 98) hx hb dX4_judge_93 (by decide) (fun c50 => ?_) (fun c50 => ?_)
          · have hf := ip_ c50 hf
            refine lv_aload_n hx hb dX4_judge_98 rfl (lv_at hl 0 rfl) ?_
            refine lv_aload_n hx hb dX4_judge_99 rfl (lv_at hl 0 rfl) ?_
            obtain ⟨v40, ev40, hf⟩ := bs_ hf
            refine mg_gR hx hb hts hown hKn hH ev40 in_X4 rfl (by decide) (hts _ q1177) (fun _ h9 => h9) dX4_judge_100 ?_
            refine lv_iconst (v := 0) hx hb dX4_judge_103 (by decide) ?_
            refine lv_iload_n hx hb dX4_judge_104 rfl (lv_at hl 3 rfl) ?_
            refine lv_iconst (v := 2) hx hb dX4_judge_105 (by decide) ?_
            refine lv_irem hx hb dX4_judge_106 (by decide) ?_
            refine lv_if_ne (tgt := 114) hx hb dX4_judge_107 (by decide) (fun c49 => ?_) (fun c49 => ?_)
            · have hf := in_ c49 hf
              refine lv_bipush (v := 8) hx hb dX4_judge_114 (by decide) ?_
              obtain ⟨u41, eu41, hf⟩ := bs_ hf
              obtain ⟨r42, M43, er42, hf⟩ := bws_ hf
              refine cl_i0 hH (rn_V ⟨hx, hb, hml, hown, hts⟩ hKn hH (mX4_hits l G M n x0 v40 0 8 r42 M43 er42) (cwV 3 hts (lw_V q1291 q1293 qs46 q70 q1294) rfl rfl rfl ⟨rfl, kdX4_hits⟩ ⟨Nat.le_of_ble_eq_true rfl, Nat.le_of_ble_eq_true rfl⟩) eu41 rfl rfl hl.1 (Nat.le_of_ble_eq_true rfl) dX4_judge_116 ⟨(Nat.le_of_ble_eq_true rfl), (Nat.le_of_ble_eq_true rfl)⟩ rfl) (fun H locs hH => ?_)
              refine lv_istore (lv' := [(4, .int (b2_ r42)), (0, .ref x0), (1, .int x1), (2, .int x2), (3, .int x3)]) hx hb dX4_judge_119 hl (by decide) rfl (fun ls hl => ?_)
              obtain ⟨v44, ev44⟩ : ∃ z : Int32, z = x3 + 1 := ⟨_, rfl⟩
              have hf := lu_ ev44 hf
              refine lv_iinc (v := v44) (lv' := [(3, .int v44), (4, .int (b2_ r42)), (0, .ref x0), (1, .int x1), (2, .int x2)]) hx hb dX4_judge_121 hl (k := 4) rfl (by rw [ev44]; rfl) (by decide) rfl (fun ls hl => ?_)
              refine lv_goto (tgt := 42) hx hb dX4_judge_124 (by decide) ?_
              exact ih M43 x0 x1 x2 v44 _ _ ls hH (lv_sub hl [2, 3, 4, 0] rfl) hf
            · have hf := ip_ c49 hf
              refine lv_iconst (v := 0) hx hb dX4_judge_110 (by decide) ?_
              refine lv_goto (tgt := 116) hx hb dX4_judge_111 (by decide) ?_
              obtain ⟨u45, eu45, hf⟩ := bs_ hf
              obtain ⟨r46, M47, er46, hf⟩ := bws_ hf
              refine cl_i0 hH (rn_V ⟨hx, hb, hml, hown, hts⟩ hKn hH (mX4_hits l G M n x0 v40 0 0 r46 M47 er46) (cwV 3 hts (lw_V q1291 q1293 qs46 q70 q1294) rfl rfl rfl ⟨rfl, kdX4_hits⟩ ⟨Nat.le_of_ble_eq_true rfl, Nat.le_of_ble_eq_true rfl⟩) eu45 rfl rfl hl.1 (Nat.le_of_ble_eq_true rfl) dX4_judge_116 ⟨(Nat.le_of_ble_eq_true rfl), (Nat.le_of_ble_eq_true rfl)⟩ rfl) (fun H locs hH => ?_)
              refine lv_istore (lv' := [(4, .int (b2_ r46)), (0, .ref x0), (1, .int x1), (2, .int x2), (3, .int x3)]) hx hb dX4_judge_119 hl (by decide) rfl (fun ls hl => ?_)
              obtain ⟨v48, ev48⟩ : ∃ z : Int32, z = x3 + 1 := ⟨_, rfl⟩
              have hf := lu_ ev48 hf
              refine lv_iinc (v := v48) (lv' := [(3, .int v48), (4, .int (b2_ r46)), (0, .ref x0), (1, .int x1), (2, .int x2)]) hx hb dX4_judge_121 hl (k := 4) rfl (by rw [ev48]; rfl) (by decide) rfl (fun ls hl => ?_)
              refine lv_goto (tgt := 42) hx hb dX4_judge_124 (by decide) ?_
              exact ih M47 x0 x1 x2 v48 _ _ ls hH (lv_sub hl [2, 3, 4, 0] rfl) hf
          · have hf := in_ c50 hf
            refine lv_iload_n hx hb dX4_judge_96 rfl (lv_at hl 3 rfl) ?_
            cases hf
            exact rt_i hx hb hr hlk hH dX4_judge_97
  unfold fX4_judge at hf
  refine lv_aload_n hx hb dX4_judge_0 rfl (lv_at hl 0 rfl) ?_
  refine lv_iload_n hx hb dX4_judge_1 rfl (lv_at hl 1 rfl) ?_
  refine lv_iconst (v := (-1)) hx hb dX4_judge_2 (by decide) ?_
  obtain ⟨u1, eu1, hf⟩ := bs_ hf
  obtain ⟨r2, er2, hf⟩ := bs_ hf
  refine cl_i0 hH (rn_V ⟨hx, hb, hml, hown, hts⟩ hKn hH (mX4_wrongRow l G M n a0 a1 (-1) r2 er2) (cwV 2 hts (lw_V q1241 q1243 qs38 q70 q1244) rfl rfl rfl ⟨rfl, kdX4_wrongRow⟩ ⟨Nat.le_of_ble_eq_true rfl, Nat.le_of_ble_eq_true rfl⟩) eu1 rfl rfl hl.1 (Nat.le_of_ble_eq_true rfl) dX4_judge_3 ⟨(Nat.le_of_ble_eq_true rfl), (Nat.le_of_ble_eq_true rfl)⟩ rfl) (fun H locs hH => ?_)
  refine lv_istore_n (lv' := [(2, .int r2), (0, .ref a0), (1, .int a1)]) hx hb dX4_judge_6 rfl hl (by decide) rfl (fun ls hl => ?_)
  refine lv_iload_n hx hb dX4_judge_7 rfl (lv_at hl 0 rfl) ?_
  refine lv_if_ne (tgt := 23) hx hb dX4_judge_8 (by decide) (fun c17 => ?_) (fun c17 => ?_)
  · have hf := in_ c17 hf
    refine lv_iload_n hx hb dX4_judge_23 rfl (lv_at hl 0 rfl) ?_
    refine lv_if_eq (tgt := 29) hx hb dX4_judge_24 (by decide) (fun c7 => ?_) (fun c7 => ?_)
    · have hf := ip_ c7 hf
      refine lv_aload_n hx hb dX4_judge_29 rfl (lv_at hl 1 rfl) ?_
      obtain ⟨v3, ev3, hf⟩ := bs_ hf
      refine mg_gR hx hb hts hown hKn hH ev3 in_X4 rfl (by decide) (hts _ q1176) (fun _ h9 => h9) dX4_judge_30 ?_
      refine lv_aload_n hx hb dX4_judge_33 rfl (lv_at hl 1 rfl) ?_
      obtain ⟨v4, ev4, hf⟩ := bs_ hf
      refine mg_gR hx hb hts hown hKn hH ev4 in_X4 rfl (by decide) (hts _ q1177) (fun _ h9 => h9) dX4_judge_34 ?_
      obtain ⟨M6, er5, hf⟩ := bs_ hf
      refine cl_v0 hH (rn_S ⟨hx, hb, hml, hown, hts⟩ hKn hH (mX4_copies l G M n v3 v4 M6 er5) (va_cwS 2 hts (lw_S q1263 q1264 q70 q1265) rfl rfl rfl kdX4_copies ⟨Nat.le_of_ble_eq_true rfl, Nat.le_of_ble_eq_true rfl⟩) rfl hl.1 (Nat.le_of_ble_eq_true rfl) dX4_judge_37 ⟨(Nat.le_of_ble_eq_true rfl), (Nat.le_of_ble_eq_true rfl)⟩ rfl) (fun H locs hH => ?_)
      refine lv_iconst (v := 0) hx hb dX4_judge_40 (by decide) ?_
      refine lv_istore_n (lv' := [(3, .int 0), (2, .int r2), (0, .ref a0), (1, .int a1)]) hx hb dX4_judge_41 rfl hl (by decide) rfl (fun ls hl => ?_)
      exact w42 1000 M6 a0 a1 r2 0 _ _ ls hH (lv_sub hl [2, 3, 1, 0] rfl) hf
    · have hf := in_ c7 hf
      refine lv_iload_n hx hb dX4_judge_27 rfl (lv_at hl 0 rfl) ?_
      cases hf
      exact rt_i hx hb hr hlk hH dX4_judge_28
  · have hf := ip_ c17 hf
    refine lv_aload_n hx hb dX4_judge_11 rfl (lv_at hl 1 rfl) ?_
    obtain ⟨v8, ev8, hf⟩ := bs_ hf
    refine mg_gR hx hb hts hown hKn hH ev8 in_X4 rfl (by decide) (hts _ q1176) (fun _ h9 => h9) dX4_judge_12 ?_
    refine lv_iconst (v := 0) hx hb dX4_judge_15 (by decide) ?_
    obtain ⟨v9, ev9, hf⟩ := bs_ hf
    refine mg_iald hx hb hKn hH ev9 dX4_judge_16 ?_
    refine lv_if_ne (tgt := 23) hx hb dX4_judge_17 (by decide) (fun c16 => ?_) (fun c16 => ?_)
    · have hf := in_ c16 hf
      refine lv_iload_n hx hb dX4_judge_23 rfl (lv_at hl 0 rfl) ?_
      refine lv_if_eq (tgt := 29) hx hb dX4_judge_24 (by decide) (fun c14 => ?_) (fun c14 => ?_)
      · have hf := ip_ c14 hf
        refine lv_aload_n hx hb dX4_judge_29 rfl (lv_at hl 1 rfl) ?_
        obtain ⟨v10, ev10, hf⟩ := bs_ hf
        refine mg_gR hx hb hts hown hKn hH ev10 in_X4 rfl (by decide) (hts _ q1176) (fun _ h9 => h9) dX4_judge_30 ?_
        refine lv_aload_n hx hb dX4_judge_33 rfl (lv_at hl 1 rfl) ?_
        obtain ⟨v11, ev11, hf⟩ := bs_ hf
        refine mg_gR hx hb hts hown hKn hH ev11 in_X4 rfl (by decide) (hts _ q1177) (fun _ h9 => h9) dX4_judge_34 ?_
        obtain ⟨M13, er12, hf⟩ := bs_ hf
        refine cl_v0 hH (rn_S ⟨hx, hb, hml, hown, hts⟩ hKn hH (mX4_copies l G M n v10 v11 M13 er12) (va_cwS 2 hts (lw_S q1263 q1264 q70 q1265) rfl rfl rfl kdX4_copies ⟨Nat.le_of_ble_eq_true rfl, Nat.le_of_ble_eq_true rfl⟩) rfl hl.1 (Nat.le_of_ble_eq_true rfl) dX4_judge_37 ⟨(Nat.le_of_ble_eq_true rfl), (Nat.le_of_ble_eq_true rfl)⟩ rfl) (fun H locs hH => ?_)
        refine lv_iconst (v := 0) hx hb dX4_judge_40 (by decide) ?_
        refine lv_istore_n (lv' := [(3, .int 0), (2, .int r2), (0, .ref a0), (1, .int a1)]) hx hb dX4_judge_41 rfl hl (by decide) rfl (fun ls hl => ?_)
        exact w42 1000 M13 a0 a1 r2 0 _ _ ls hH (lv_sub hl [2, 3, 1, 0] rfl) hf
      · have hf := in_ c14 hf
        refine lv_iload_n hx hb dX4_judge_27 rfl (lv_at hl 0 rfl) ?_
        cases hf
        exact rt_i hx hb hr hlk hH dX4_judge_28
    · have hf := ip_ c16 hf
      refine lv_bipush (v := (-3)) hx hb dX4_judge_20 (by decide) ?_
      refine lv_istore_n (lv' := [(2, .int (-3)), (0, .ref a0), (1, .int a1)]) hx hb dX4_judge_22 rfl hl (by decide) rfl (fun ls hl => ?_)
      refine lv_iload_n hx hb dX4_judge_23 rfl (lv_at hl 0 rfl) ?_
      refine lv_if_eq (tgt := 29) hx hb dX4_judge_24 (by decide) (fun c15 => ?_) (fun c15 => ?_)
      · exact absurd c15 (by decide)
      · refine lv_iload_n hx hb dX4_judge_27 rfl (lv_at hl 0 rfl) ?_
        cases hf
        exact rt_i hx hb hr hlk hH dX4_judge_28
def fX4_drawn (M : Mem_) (a0 : Nat) (a1 : Int32) : Option (Int32 × Mem_) :=
  (gI_ M a0 3 12).bind fun v1 =>
  lt_ (((v1 * 1103515245) + 12345)) fun v2 =>
  (pF_ M a0 3 12 (.int v2)).bind fun M3 =>
  (gI_ M3 a0 3 12).bind fun v4 =>
  (rm_ ((v4 &&& 2147483647) / 65536) a1).bind fun v5 =>
  some (v5, M3)
theorem kdX4_drawn : yX4_drawn.cls ≠ "java/lang/invoke/MethodHandle" ∧ yX4_drawn.cls ≠ "java/lang/invoke/VarHandle" ∧ (parseMethodDescriptor yX4_drawn.desc).map (fun d => d.parameters.length) = some 1 := by decide +kernel
set_option maxHeartbeats 4000000 in
theorem mX4_drawn (l : Launch) (G : GT_) (M : Mem_) (n : Nat) (a0 : Nat) (a1 : Int32) (r : Int32) (M1 : Mem_) (hf : fX4_drawn M a0 a1 = some (r, M1)) : Ct_ G l yX4_drawn (ws_ yX4_drawn cX4_drawn 2 (some .int)) ({ frames := 0, cells := 0, slots := 0, locals := 0 }) 0 0 [.ref a0, .int a1] M n (some (.int r)) M1 n := by
  refine en_ (by decide) (Nat.le_of_ble_eq_true rfl) ?_
  intro p e s m below meth c hx hb hr hlk hml hown hts hname hKn hH ls hl
  have hown : s.vm.findClass RX4 = some m.cls := hown
  have hl : lv_has ls 2 [(0, .ref a0), (1, .int a1)] := hl
  unfold fX4_drawn at hf
  generalize s.heap = H at hH ⊢
  refine lv_aload_n hx hb dX4_drawn_0 rfl (lv_at hl 0 rfl) ?_
  refine lv_aload_n hx hb dX4_drawn_1 rfl (lv_at hl 0 rfl) ?_
  obtain ⟨v1, ev1, hf⟩ := bs_ hf
  refine mg_gI hx hb hts hown hKn hH ev1 in_X4 rfl (by decide) (hts _ q1188) (fun _ h9 => h9) dX4_drawn_2 ?_
  refine lv_ldc hx hb hown (hts _ q1560) dX4_drawn_5 ?_
  refine lv_imul hx hb dX4_drawn_7 ?_
  refine lv_sipush (v := 12345) hx hb dX4_drawn_8 (by decide) ?_
  refine lv_iadd hx hb dX4_drawn_11 ?_
  refine lv_topi (fun v2 ev2 => ?_)
  have hf := lu_ ev2 hf
  obtain ⟨M3, eM3, hf⟩ := bs_ hf
  refine mg_pF hx hb hts hown hKn hH eM3 in_X4 tyX4_ok nmX4 rfl (by decide) (hts _ q1188) (fun _ h9 => h9) rfl rfl rfl dX4_drawn_12 (fun H locs hH => ?_)
  refine lv_aload_n hx hb dX4_drawn_15 rfl (lv_at hl 0 rfl) ?_
  obtain ⟨v4, ev4, hf⟩ := bs_ hf
  refine mg_gI hx hb hts hown hKn hH ev4 in_X4 rfl (by decide) (hts _ q1188) (fun _ h9 => h9) dX4_drawn_16 ?_
  refine lv_ldc hx hb hown (hts _ q1561) dX4_drawn_19 ?_
  refine lv_iand hx hb dX4_drawn_21 ?_
  refine lv_ldc hx hb hown (hts _ q1562) dX4_drawn_22 ?_
  refine lv_idiv hx hb dX4_drawn_24 (by decide) ?_
  refine lv_iload_n hx hb dX4_drawn_25 rfl (lv_at hl 1 rfl) ?_
  obtain ⟨v5, ev5, hf⟩ := bs_ hf
  refine lv_irem hx hb dX4_drawn_26 (rm_spec ev5).1 ?_
  rw [← (rm_spec ev5).2]
  cases hf
  exact rt_i hx hb hr hlk hH dX4_drawn_27
