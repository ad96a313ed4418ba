set_option maxRecDepth 100000
def fX5_digits_L2 : Nat → Mem_ → Nat → Nat → Nat → Int32 → Int32 → Option ((Nat ⊕ Unit) × Mem_ × Nat)
  | 0, _, _, _, _, _, _ => none
  | fuel + 1, M, n, x0, x1, x2, x3 =>
    if x2 ≤ x3 then
      some (.inr (), M, n)
    else
      (ck_ M x0 4).bind fun u1 =>
      bx_ (fX5_number M n x0 1) (fun xe3 M4 n5 =>
        some (.inl xe3, M4, n5)
      ) (fun r6 M7 n8 =>
        (ck_ M7 x1 5).bind fun u11 =>
        (fX6_tells M7 x1 r6).bind fun M13 =>
        lt_ (x3 + 1) fun v14 =>
        fX5_digits_L2 fuel M13 n8 x0 x1 x2 v14
      )
def fX5_digits (M : Mem_) (n : Nat) (a0 : Nat) (a1 : Nat) (a2 : Int32) : Option ((Nat ⊕ Unit) × Mem_ × Nat) :=
  fX5_digits_L2 6 M n a0 a1 a2 0
theorem kdX5_digits : yX5_digits.cls ≠ "java/lang/invoke/MethodHandle" ∧ yX5_digits.cls ≠ "java/lang/invoke/VarHandle" ∧ (parseMethodDescriptor yX5_digits.desc).map (fun d => d.parameters.length) = some 2 := by decide +kernel
set_option maxHeartbeats 4000000 in
theorem mX5_digits (l : Launch) (hnt : l.flags = flags0) (G : GT_) (M : Mem_) (n : Nat) (a0 : Nat) (a1 : Nat) (a2 : Int32) (M1 : Mem_) (n1 : Nat) (hf : fX5_digits M n a0 a1 a2 = some (.inr (), M1, n1)) : Ct_ G l yX5_digits (ws_ yX5_digits cX5_digits 4 none) ({ frames := 8, cells := 6, slots := 42, locals := 134 }) 6 42 [.ref a0, .ref a1, .int a2] M n (none) M1 n1 := by
  refine en_ (by decide) (Nat.le_of_ble_eq_true rfl) ?_
  intro p e s m below meth c hx hb hr hlk hml hown hts hname hKn hH ls hl
  have hown : s.vm.findClass RX5 = some m.cls := hown
  have hl : lv_has ls 4 [(0, .ref a0), (1, .ref a1), (2, .int a2)] := hl
  have w2 : ∀ (fuel : Nat), ∀ (M : Mem_) (n : Nat) (x0 : Nat) (x1 : Nat) (x2 : Int32) (x3 : Int32) (k1 k2 : Nat) (H : Heap) (locs : List Loc) (ls : Array Slot), k1 + 1 * fuel ≤ 6 → k2 + 7 * fuel ≤ 42 → St_ G n M s H locs → lv_has ls 4 [(0, .ref x0), (1, .ref x1), (2, .int x2), (3, .int x3)] → fX5_digits_L2 fuel M n x0 x1 x2 x3 = some (.inr (), M1, n1) → W p l e ({ frames := 8, cells := 6, slots := 42, locals := 134 } : Room) s m ([.ref a0, .ref a1, .int a2] : List Value).toArray below meth c H locs k1 k2 (MQ below (Qc_ G (none) M1 n1) ([.ref a0, .ref a1, .int a2] : List Value).toArray s 6 42 (fun q => G.1 ≤ q)) (F0 m 2 ls []) := by
    intro fuel
    induction fuel with
    | zero =>
      intro M n x0 x1 x2 x3 k1 k2 H locs ls hk1 hk2 hH hl hf
      cases hf
    | succ fuel ih =>
      intro M n x0 x1 x2 x3 k1 k2 H locs ls hk1 hk2 hH hl hf
      unfold fX5_digits_L2 at hf
      refine lv_iload_n hx hb dX5_digits_2 rfl (lv_at hl 3 rfl) ?_
      refine lv_iload_n hx hb dX5_digits_3 rfl (lv_at hl 2 rfl) ?_
      refine lv_icmp_ge (tgt := 22) hx hb dX5_digits_4 (by decide) (fun c15 => ?_) (fun c15 => ?_)
      · have hf := ip_ c15 hf
        cases hf
        refine W.widen (k := 6) (n := 42) (by omega) (by omega) ?_
        exact rt_v hx hb hr hlk hH dX5_digits_22
      · have hf := in_ c15 hf
        refine lv_aload_n hx hb dX5_digits_7 rfl (lv_at hl 1 rfl) ?_
        refine lv_aload_n hx hb dX5_digits_8 rfl (lv_at hl 0 rfl) ?_
        refine lv_iconst (v := 1) hx hb dX5_digits_9 (by decide) ?_
        obtain ⟨u1, eu1, hf⟩ := bs_ hf
        rcases bxs_ hf with ⟨xe3, M4, n5, e9, hf⟩ | ⟨r6, M7, n8, e9, hf⟩
        · cases hf
        · refine cl_i hH (rn_V ⟨hx, hb, hml, hown, hts⟩ hKn hH (mX5_number l hnt G M n x0 1 r6 M7 n8 e9) (cwV 1 hts (lw_V q264 q266 qs8 q76 q267) rfl rfl rfl ⟨rfl, kdX5_number⟩ ⟨(Nat.le_of_ble_eq_true rfl), (Nat.le_of_ble_eq_true rfl)⟩) eu1 rfl rfl hl.1 (Nat.le_of_ble_eq_true rfl) dX5_digits_10 ⟨(show k1 + 1 ≤ 6 by omega), (show k2 + 7 ≤ 42 by omega)⟩ rfl) (fun H locs hH => ?_)
          refine W.widen (k := k1 + 1) (n := k2 + 7) (by omega) (by omega) ?_
          obtain ⟨u11, eu11, hf⟩ := bs_ hf
          obtain ⟨M13, er12, hf⟩ := bs_ hf
          refine cl_v0 hH (rn_V ⟨hx, hb, hml, hown, hts⟩ hKn hH (mX6_tells l G M7 n8 x1 r6 M13 er12) (cwV 1 hts (lw_V q295 q296 q297 q77 q298) rfl rfl rfl ⟨rfl, kdX6_tells⟩ ⟨Nat.le_of_ble_eq_true rfl, Nat.le_of_ble_eq_true rfl⟩) eu11 rfl rfl hl.1 (Nat.le_of_ble_eq_true rfl) dX5_digits_13 ⟨(show k1 + 1 + 0 ≤ 6 by omega), (show k2 + 7 + 0 ≤ 42 by omega)⟩ rfl) (fun H locs hH => ?_)
          obtain ⟨v14, ev14⟩ : ∃ z : Int32, z = x3 + 1 := ⟨_, rfl⟩
          have hf := lu_ ev14 hf
          refine lv_iinc (v := v14) (lv' := [(3, .int v14), (0, .ref x0), (1, .ref x1), (2, .int x2)]) hx hb dX5_digits_16 hl (k := 3) rfl (by rw [ev14]; rfl) (by decide) rfl (fun ls hl => ?_)
          refine lv_goto (tgt := 2) hx hb dX5_digits_19 (by decide) ?_
          exact ih M13 n8 x0 x1 x2 v14 (k1 + 1) (k2 + 7) _ _ ls (by omega) (by omega) hH (lv_sub hl [1, 2, 3, 0] rfl) hf
  unfold fX5_digits at hf
  refine lv_iconst (v := 0) hx hb dX5_digits_0 (by decide) ?_
  refine lv_istore_n (lv' := [(3, .int 0), (0, .ref a0), (1, .ref a1), (2, .int a2)]) hx hb dX5_digits_1 rfl hl (by decide) rfl (fun ls hl => ?_)
  exact w2 6 M n a0 a1 a2 0 0 0 _ _ ls (Nat.le_of_ble_eq_true rfl) (Nat.le_of_ble_eq_true rfl) hH (lv_sub hl [1, 2, 3, 0] rfl) hf
set_option maxHeartbeats 4000000 in
theorem xX5_digits (l : Launch) (hnt : l.flags = flags0) (G : GT_) (M : Mem_) (n : Nat) (a0 : Nat) (a1 : Nat) (a2 : Int32) (xx1 : Nat) (M1 : Mem_) (n1 : Nat) (hf : fX5_digits M n a0 a1 a2 = some (.inl xx1, M1, n1)) : Cx_ G l yX5_digits (ws_ yX5_digits cX5_digits 4 none) ({ frames := 8, cells := 6, slots := 42, locals := 134 }) 6 42 [.ref a0, .ref a1, .int a2] M n (Px_ xx1) M1 n1 := by
  refine en_c (by decide) (Nat.le_of_ble_eq_true rfl) ?_
  intro p e s m below meth c had htab hx hb hr hlk hml hown hts hname hKn hH ls hl
  have hown : s.vm.findClass RX5 = some m.cls := hown
  have hl : lv_has ls 4 [(0, .ref a0), (1, .ref a1), (2, .int a2)] := hl
  have w2 : ∀ (fuel : Nat), ∀ (M : Mem_) (n : Nat) (x0 : Nat) (x1 : Nat) (x2 : Int32) (x3 : Int32) (k1 k2 : Nat) (H : Heap) (locs : List Loc) (ls : Array Slot), k1 + 1 * fuel ≤ 6 → k2 + 7 * fuel ≤ 42 → St_ G n M s H locs → lv_has ls 4 [(0, .ref x0), (1, .ref x1), (2, .int x2), (3, .int x3)] → fX5_digits_L2 fuel M n x0 x1 x2 x3 = some (.inl xx1, M1, n1) → W p l e ({ frames := 8, cells := 6, slots := 42, locals := 134 } : Room) s m ([.ref a0, .ref a1, .int a2] : List Value).toArray below meth c H locs k1 k2 (MT below (Qt_ G (Px_ xx1) M1 n1) ([.ref a0, .ref a1, .int a2] : List Value).toArray s 6 42 (fun q => G.1 ≤ q)) (F0 m 2 ls []) := by
    intro fuel
    induction fuel with
    | zero =>
      intro M n x0 x1 x2 x3 k1 k2 H locs ls hk1 hk2 hH hl hf
      cases hf
    | succ fuel ih =>
      intro M n x0 x1 x2 x3 k1 k2 H locs ls hk1 hk2 hH hl hf
      unfold fX5_digits_L2 at hf
      refine lv_iload_n hx hb dX5_digits_2 rfl (lv_at hl 3 rfl) ?_
      refine lv_iload_n hx hb dX5_digits_3 rfl (lv_at hl 2 rfl) ?_
      refine lv_icmp_ge (tgt := 22) hx hb dX5_digits_4 (by decide) (fun c15 => ?_) (fun c15 => ?_)
      · have hf := ip_ c15 hf
        cases hf
      · have hf := in_ c15 hf
        refine lv_aload_n hx hb dX5_digits_7 rfl (lv_at hl 1 rfl) ?_
        refine lv_aload_n hx hb dX5_digits_8 rfl (lv_at hl 0 rfl) ?_
        refine lv_iconst (v := 1) hx hb dX5_digits_9 (by decide) ?_
        obtain ⟨u1, eu1, hf⟩ := bs_ hf
        rcases bxs_ hf with ⟨xe3, M4, n5, e9, hf⟩ | ⟨r6, M7, n8, e9, hf⟩
        · cases hf
          refine rn_T ⟨hx, hb, hml, hown, hts⟩ hKn hH (xX5_number l hnt G M n x0 1 _ _ _ e9) (hts _ q264) (hts _ q266) (hts _ qs8) (hts _ q76) (sg_code hts q267) (lw_meth q267) kdX5_number rfl rfl ⟨(Nat.le_of_ble_eq_true rfl), (Nat.le_of_ble_eq_true rfl)⟩ (st_recv hKn hH eu1 rfl) rfl hl.1 (Nat.le_of_ble_eq_true rfl) dX5_digits_10 ⟨(show k1 + 1 ≤ 6 by omega), (show k2 + 7 ≤ 42 by omega)⟩ rfl (fun H locs x9 t9 hH ht9 hw9 hp9 => ?_)
          have hp9 : x9 = xx1 := hp9
          subst hp9
          refine Wx.widen (k := 6) (n := 42) (by omega) (by omega) ?_
          exact xt_out (pc := 10) hlk htab (by decide) hH (fun _ _ _ => rfl)
        · refine cl_i hH (rn_V ⟨hx, hb, hml, hown, hts⟩ hKn hH (mX5_number l hnt G M n x0 1 r6 M7 n8 e9) (cwV 1 hts (lw_V q264 q266 qs8 q76 q267) rfl rfl rfl ⟨rfl, kdX5_number⟩ ⟨(Nat.le_of_ble_eq_true rfl), (Nat.le_of_ble_eq_true rfl)⟩) eu1 rfl rfl hl.1 (Nat.le_of_ble_eq_true rfl) dX5_digits_10 ⟨(show k1 + 1 ≤ 6 by omega), (show k2 + 7 ≤ 42 by omega)⟩ rfl) (fun H locs hH => ?_)
          refine W.widen (k := k1 + 1) (n := k2 + 7) (by omega) (by omega) ?_
          obtain ⟨u11, eu11, hf⟩ := bs_ hf
          obtain ⟨M13, er12, hf⟩ := bs_ hf
          refine cl_v0 hH (rn_V ⟨hx, hb, hml, hown, hts⟩ hKn hH (mX6_tells l G M7 n8 x1 r6 M13 er12) (cwV 1 hts (lw_V q295 q296 q297 q77 q298) rfl rfl rfl ⟨rfl, kdX6_tells⟩ ⟨Nat.le_of_ble_eq_true rfl, Nat.le_of_ble_eq_true rfl⟩) eu11 rfl rfl hl.1 (Nat.le_of_ble_eq_true rfl) dX5_digits_13 ⟨(show k1 + 1 + 0 ≤ 6 by omega), (show k2 + 7 + 0 ≤ 42 by omega)⟩ rfl) (fun H locs hH => ?_)
          obtain ⟨v14, ev14⟩ : ∃ z : Int32, z = x3 + 1 := ⟨_, rfl⟩
          have hf := lu_ ev14 hf
          refine lv_iinc (v := v14) (lv' := [(3, .int v14), (0, .ref x0), (1, .ref x1), (2, .int x2)]) hx hb dX5_digits_16 hl (k := 3) rfl (by rw [ev14]; rfl) (by decide) rfl (fun ls hl => ?_)
          refine lv_goto (tgt := 2) hx hb dX5_digits_19 (by decide) ?_
          exact ih M13 n8 x0 x1 x2 v14 (k1 + 1) (k2 + 7) _ _ ls (by omega) (by omega) hH (lv_sub hl [1, 2, 3, 0] rfl) hf
  unfold fX5_digits at hf
  refine lv_iconst (v := 0) hx hb dX5_digits_0 (by decide) ?_
  refine lv_istore_n (lv' := [(3, .int 0), (0, .ref a0), (1, .ref a1), (2, .int a2)]) hx hb dX5_digits_1 rfl hl (by decide) rfl (fun ls hl => ?_)
  exact w2 6 M n a0 a1 a2 0 0 0 _ _ ls (Nat.le_of_ble_eq_true rfl) (Nat.le_of_ble_eq_true rfl) hH (lv_sub hl [1, 2, 3, 0] rfl) hf
def fX5_reads (M : Mem_) (n : Nat) (a0 : Nat) (a1 : Nat) : Option ((Nat ⊕ Unit) × Mem_ × Nat) :=
  (gI_ M a1 5 0).bind fun v1 =>
  if v1 = 98 then
    (ck_ M a0 4).bind fun u3 =>
    bx_ (fX5_digits M n a0 a1 2) (fun xe5 M6 n7 =>
      some (.inl xe5, M6, n7)
    ) (fun _ M9 n10 =>
      some (.inr (), M9, n10)
    )
  else
    if v1 = 100 then
      (ck_ M a0 4).bind fun u14 =>
      bx_ (fX5_digits M n a0 a1 1) (fun xe16 M17 n18 =>
        some (.inl xe16, M17, n18)
      ) (fun _ M20 n21 =>
        some (.inr (), M20, n21)
      )
    else
      if v1 = 102 then
        (ck_ M a0 4).bind fun u25 =>
        bx_ (fX5_digits M n a0 a1 2) (fun xe27 M28 n29 =>
          some (.inl xe27, M28, n29)
        ) (fun _ M31 n32 =>
          some (.inr (), M31, n32)
        )
      else
        if v1 = 104 then
          (ck_ M a0 4).bind fun u36 =>
          bx_ (fX5_digits M n a0 a1 2) (fun xe38 M39 n40 =>
            some (.inl xe38, M39, n40)
          ) (fun _ M42 n43 =>
            some (.inr (), M42, n43)
          )
        else
          if v1 = 108 then
            (ck_ M a0 4).bind fun u47 =>
            bx_ (fX5_digits M n a0 a1 1) (fun xe49 M50 n51 =>
              some (.inl xe49, M50, n51)
            ) (fun _ M53 n54 =>
              some (.inr (), M53, n54)
            )
          else
            if v1 = 112 then
              (ck_ M a0 4).bind fun u58 =>
              bx_ (fX5_digits M n a0 a1 3) (fun xe60 M61 n62 =>
                some (.inl xe60, M61, n62)
              ) (fun _ M64 n65 =>
                some (.inr (), M64, n65)
              )
            else
              if v1 = 116 then
                (ck_ M a0 4).bind fun u69 =>
                bx_ (fX5_number M n a0 1) (fun xe71 M72 n73 =>
                  some (.inl xe71, M72, n73)
                ) (fun r74 M75 n76 =>
                  (ck_ M75 a1 5).bind fun u79 =>
                  (fX6_tells M75 a1 r74).bind fun M81 =>
                  (ck_ M81 a0 4).bind fun u82 =>
                  bx_ (fX5_number M81 n76 a0 2) (fun xe84 M85 n86 =>
                    some (.inl xe84, M85, n86)
                  ) (fun r87 M88 n89 =>
                    (ck_ M88 a1 5).bind fun u92 =>
                    (fX6_tells M88 a1 r87).bind fun M94 =>
                    some (.inr (), M94, n89)
                  )
                )
              else
                if v1 = 120 then
                  (ck_ M a0 4).bind fun u96 =>
                  bx_ (fX5_digits M n a0 a1 2) (fun xe98 M99 n100 =>
                    some (.inl xe98, M99, n100)
                  ) (fun _ M102 n103 =>
                    some (.inr (), M102, n103)
                  )
                else
                  (gI_ M a0 4 1).bind fun v106 =>
                  lt_ ((v106 - 1)) fun v107 =>
                  (pF_ M a0 4 1 (.int v107)).bind fun M108 =>
                  (ck_ M108 a0 4).bind fun u109 =>
                  ba_ (fX5_broken M108 n a0) fun r110 M111 n112 =>
                  (gX_ M111 r110 6).bind fun v113 =>
                  some (.inl r110, M111, n112)
theorem kdX5_reads : yX5_reads.cls ≠ "java/lang/invoke/MethodHandle" ∧ yX5_reads.cls ≠ "java/lang/invoke/VarHandle" ∧ (parseMethodDescriptor yX5_reads.desc).map (fun d => d.parameters.length) = some 1 := by decide +kernel
set_option maxHeartbeats 4000000 in
theorem mX5_reads (l : Launch) (hnt : l.flags = flags0) (G : GT_) (M : Mem_) (n : Nat) (a0 : Nat) (a1 : Nat) (M1 : Mem_) (n1 : Nat) (hf : fX5_reads M n a0 a1 = some (.inr (), M1, n1)) : Ct_ G l yX5_reads (ws_ yX5_reads cX5_reads 2 none) ({ frames := 9, cells := 6, slots := 42, locals := 157 }) 6 42 [.ref a0, .ref a1] M n (none) M1 n1 := by
  refine en_ (by decide) (Nat.le_of_ble_eq_true rfl) ?_
  intro p e s m below meth c hx hb hr hlk hml hown hts hname hKn hH ls hl
  have hown : s.vm.findClass RX5 = some m.cls := hown
  have hl : lv_has ls 2 [(0, .ref a0), (1, .ref a1)] := hl
  unfold fX5_reads at hf
  generalize s.heap = H at hH ⊢
  refine lv_aload_n hx hb dX5_reads_0 rfl (lv_at hl 1 rfl) ?_
  obtain ⟨v1, ev1, hf⟩ := bs_ hf
  refine mg_gI hx hb hts hown hKn hH ev1 in_X6 rfl (by decide) (hts _ q239) (fun _ h9 => h9) dX5_reads_1 ?_
  by_cases c2 : v1 = 98
  · have hf := ip_ c2 hf
    refine sw_I (off := 117) (tgt := 121) hx hb dX5_reads_4 c2 (by decide) (by decide) (by decide) (by decide) ?_
    refine lv_aload_n hx hb dX5_reads_121 rfl (lv_at hl 0 rfl) ?_
    refine lv_aload_n hx hb dX5_reads_122 rfl (lv_at hl 1 rfl) ?_
    refine lv_iconst (v := 2) hx hb dX5_reads_123 (by decide) ?_
    obtain ⟨u3, eu3, hf⟩ := bs_ hf
    rcases bxs_ hf with ⟨xe5, M6, n7, e11, hf⟩ | ⟨r8, M9, n10, e11, hf⟩
    · cases hf
    · refine cl_v hH (rn_V ⟨hx, hb, hml, hown, hts⟩ hKn hH (mX5_digits l hnt G M n a0 a1 2  M9 n10 e11) (cwV 2 hts (lw_V q260 q262 qs7 q76 q263) rfl rfl rfl ⟨rfl, kdX5_digits⟩ ⟨(Nat.le_of_ble_eq_true rfl), (Nat.le_of_ble_eq_true rfl)⟩) eu3 rfl rfl hl.1 (Nat.le_of_ble_eq_true rfl) dX5_reads_124 ⟨(Nat.le_of_ble_eq_true rfl), (Nat.le_of_ble_eq_true rfl)⟩ rfl) (fun H locs hH => ?_)
      refine W.widen (k := 6) (n := 42) (Nat.le_of_ble_eq_true rfl) (Nat.le_of_ble_eq_true rfl) ?_
      refine lv_goto (tgt := 175) hx hb dX5_reads_127 (by decide) ?_
      cases hf
      refine W.widen (k := 6) (n := 42) (Nat.le_of_ble_eq_true rfl) (Nat.le_of_ble_eq_true rfl) ?_
      exact rt_v hx hb hr hlk hH dX5_reads_175
  · have hf := in_ c2 hf
    by_cases c13 : v1 = 100
    · have hf := ip_ c13 hf
      refine sw_I (off := 147) (tgt := 151) hx hb dX5_reads_4 c13 (by decide) (by decide) (by decide) (by decide) ?_
      refine lv_aload_n hx hb dX5_reads_151 rfl (lv_at hl 0 rfl) ?_
      refine lv_aload_n hx hb dX5_reads_152 rfl (lv_at hl 1 rfl) ?_
      refine lv_iconst (v := 1) hx hb dX5_reads_153 (by decide) ?_
      obtain ⟨u14, eu14, hf⟩ := bs_ hf
      rcases bxs_ hf with ⟨xe16, M17, n18, e22, hf⟩ | ⟨r19, M20, n21, e22, hf⟩
      · cases hf
      · refine cl_v hH (rn_V ⟨hx, hb, hml, hown, hts⟩ hKn hH (mX5_digits l hnt G M n a0 a1 1  M20 n21 e22) (cwV 2 hts (lw_V q260 q262 qs7 q76 q263) rfl rfl rfl ⟨rfl, kdX5_digits⟩ ⟨(Nat.le_of_ble_eq_true rfl), (Nat.le_of_ble_eq_true rfl)⟩) eu14 rfl rfl hl.1 (Nat.le_of_ble_eq_true rfl) dX5_reads_154 ⟨(Nat.le_of_ble_eq_true rfl), (Nat.le_of_ble_eq_true rfl)⟩ rfl) (fun H locs hH => ?_)
        refine W.widen (k := 6) (n := 42) (Nat.le_of_ble_eq_true rfl) (Nat.le_of_ble_eq_true rfl) ?_
        refine lv_goto (tgt := 175) hx hb dX5_reads_157 (by decide) ?_
        cases hf
        refine W.widen (k := 6) (n := 42) (Nat.le_of_ble_eq_true rfl) (Nat.le_of_ble_eq_true rfl) ?_
        exact rt_v hx hb hr hlk hH dX5_reads_175
    · have hf := in_ c13 hf
      by_cases c24 : v1 = 102
      · have hf := ip_ c24 hf
        refine sw_I (off := 117) (tgt := 121) hx hb dX5_reads_4 c24 (by decide) (by decide) (by decide) (by decide) ?_
        refine lv_aload_n hx hb dX5_reads_121 rfl (lv_at hl 0 rfl) ?_
        refine lv_aload_n hx hb dX5_reads_122 rfl (lv_at hl 1 rfl) ?_
        refine lv_iconst (v := 2) hx hb dX5_reads_123 (by decide) ?_
        obtain ⟨u25, eu25, hf⟩ := bs_ hf
        rcases bxs_ hf with ⟨xe27, M28, n29, e33, hf⟩ | ⟨r30, M31, n32, e33, hf⟩
        · cases hf
        · refine cl_v hH (rn_V ⟨hx, hb, hml, hown, hts⟩ hKn hH (mX5_digits l hnt G M n a0 a1 2  M31 n32 e33) (cwV 2 hts (lw_V q260 q262 qs7 q76 q263) rfl rfl rfl ⟨rfl, kdX5_digits⟩ ⟨(Nat.le_of_ble_eq_true rfl), (Nat.le_of_ble_eq_true rfl)⟩) eu25 rfl rfl hl.1 (Nat.le_of_ble_eq_true rfl) dX5_reads_124 ⟨(Nat.le_of_ble_eq_true rfl), (Nat.le_of_ble_eq_true rfl)⟩ rfl) (fun H locs hH => ?_)
          refine W.widen (k := 6) (n := 42) (Nat.le_of_ble_eq_true rfl) (Nat.le_of_ble_eq_true rfl) ?_
          refine lv_goto (tgt := 175) hx hb dX5_reads_127 (by decide) ?_
          cases hf
          refine W.widen (k := 6) (n := 42) (Nat.le_of_ble_eq_true rfl) (Nat.le_of_ble_eq_true rfl) ?_
          exact rt_v hx hb hr hlk hH dX5_reads_175
      · have hf := in_ c24 hf
        by_cases c35 : v1 = 104
        · have hf := ip_ c35 hf
          refine sw_I (off := 117) (tgt := 121) hx hb dX5_reads_4 c35 (by decide) (by decide) (by decide) (by decide) ?_
          refine lv_aload_n hx hb dX5_reads_121 rfl (lv_at hl 0 rfl) ?_
          refine lv_aload_n hx hb dX5_reads_122 rfl (lv_at hl 1 rfl) ?_
          refine lv_iconst (v := 2) hx hb dX5_reads_123 (by decide) ?_
          obtain ⟨u36, eu36, hf⟩ := bs_ hf
          rcases bxs_ hf with ⟨xe38, M39, n40, e44, hf⟩ | ⟨r41, M42, n43, e44, hf⟩
          · cases hf
          · refine cl_v hH (rn_V ⟨hx, hb, hml, hown, hts⟩ hKn hH (mX5_digits l hnt G M n a0 a1 2  M42 n43 e44) (cwV 2 hts (lw_V q260 q262 qs7 q76 q263) rfl rfl rfl ⟨rfl, kdX5_digits⟩ ⟨(Nat.le_of_ble_eq_true rfl), (Nat.le_of_ble_eq_true rfl)⟩) eu36 rfl rfl hl.1 (Nat.le_of_ble_eq_true rfl) dX5_reads_124 ⟨(Nat.le_of_ble_eq_true rfl), (Nat.le_of_ble_eq_true rfl)⟩ rfl) (fun H locs hH => ?_)
            refine W.widen (k := 6) (n := 42) (Nat.le_of_ble_eq_true rfl) (Nat.le_of_ble_eq_true rfl) ?_
            refine lv_goto (tgt := 175) hx hb dX5_reads_127 (by decide) ?_
            cases hf
            refine W.widen (k := 6) (n := 42) (Nat.le_of_ble_eq_true rfl) (Nat.le_of_ble_eq_true rfl) ?_
            exact rt_v hx hb hr hlk hH dX5_reads_175
        · have hf := in_ c35 hf
          by_cases c46 : v1 = 108
          · have hf := ip_ c46 hf
            refine sw_I (off := 147) (tgt := 151) hx hb dX5_reads_4 c46 (by decide) (by decide) (by decide) (by decide) ?_
            refine lv_aload_n hx hb dX5_reads_151 rfl (lv_at hl 0 rfl) ?_
            refine lv_aload_n hx hb dX5_reads_152 rfl (lv_at hl 1 rfl) ?_
            refine lv_iconst (v := 1) hx hb dX5_reads_153 (by decide) ?_
            obtain ⟨u47, eu47, hf⟩ := bs_ hf
            rcases bxs_ hf with ⟨xe49, M50, n51, e55, hf⟩ | ⟨r52, M53, n54, e55, hf⟩
            · cases hf
            · refine cl_v hH (rn_V ⟨hx, hb, hml, hown, hts⟩ hKn hH (mX5_digits l hnt G M n a0 a1 1  M53 n54 e55) (cwV 2 hts (lw_V q260 q262 qs7 q76 q263) rfl rfl rfl ⟨rfl, kdX5_digits⟩ ⟨(Nat.le_of_ble_eq_true rfl), (Nat.le_of_ble_eq_true rfl)⟩) eu47 rfl rfl hl.1 (Nat.le_of_ble_eq_true rfl) dX5_reads_154 ⟨(Nat.le_of_ble_eq_true rfl), (Nat.le_of_ble_eq_true rfl)⟩ rfl) (fun H locs hH => ?_)
              refine W.widen (k := 6) (n := 42) (Nat.le_of_ble_eq_true rfl) (Nat.le_of_ble_eq_true rfl) ?_
              refine lv_goto (tgt := 175) hx hb dX5_reads_157 (by decide) ?_
              cases hf
              refine W.widen (k := 6) (n := 42) (Nat.le_of_ble_eq_true rfl) (Nat.le_of_ble_eq_true rfl) ?_
              exact rt_v hx hb hr hlk hH dX5_reads_175
          · have hf := in_ c46 hf
            by_cases c57 : v1 = 112
            · have hf := ip_ c57 hf
              refine sw_I (off := 108) (tgt := 112) hx hb dX5_reads_4 c57 (by decide) (by decide) (by decide) (by decide) ?_
              refine lv_aload_n hx hb dX5_reads_112 rfl (lv_at hl 0 rfl) ?_
              refine lv_aload_n hx hb dX5_reads_113 rfl (lv_at hl 1 rfl) ?_
              refine lv_iconst (v := 3) hx hb dX5_reads_114 (by decide) ?_
              obtain ⟨u58, eu58, hf⟩ := bs_ hf
              rcases bxs_ hf with ⟨xe60, M61, n62, e66, hf⟩ | ⟨r63, M64, n65, e66, hf⟩
              · cases hf
              · refine cl_v hH (rn_V ⟨hx, hb, hml, hown, hts⟩ hKn hH (mX5_digits l hnt G M n a0 a1 3  M64 n65 e66) (cwV 2 hts (lw_V q260 q262 qs7 q76 q263) rfl rfl rfl ⟨rfl, kdX5_digits⟩ ⟨(Nat.le_of_ble_eq_true rfl), (Nat.le_of_ble_eq_true rfl)⟩) eu58 rfl rfl hl.1 (Nat.le_of_ble_eq_true rfl) dX5_reads_115 ⟨(Nat.le_of_ble_eq_true rfl), (Nat.le_of_ble_eq_true rfl)⟩ rfl) (fun H locs hH => ?_)
                refine W.widen (k := 6) (n := 42) (Nat.le_of_ble_eq_true rfl) (Nat.le_of_ble_eq_true rfl) ?_
                refine lv_goto (tgt := 175) hx hb dX5_reads_118 (by decide) ?_
                cases hf
                refine W.widen (k := 6) (n := 42) (Nat.le_of_ble_eq_true rfl) (Nat.le_of_ble_eq_true rfl) ?_
                exact rt_v hx hb hr hlk hH dX5_reads_175
            · have hf := in_ c57 hf
              by_cases c68 : v1 = 116
              · have hf := ip_ c68 hf
                refine sw_I (off := 126) (tgt := 130) hx hb dX5_reads_4 c68 (by decide) (by decide) (by decide) (by decide) ?_
                refine lv_aload_n hx hb dX5_reads_130 rfl (lv_at hl 1 rfl) ?_
                refine lv_aload_n hx hb dX5_reads_131 rfl (lv_at hl 0 rfl) ?_
                refine lv_iconst (v := 1) hx hb dX5_reads_132 (by decide) ?_
                obtain ⟨u69, eu69, hf⟩ := bs_ hf
                rcases bxs_ hf with ⟨xe71, M72, n73, e77, hf⟩ | ⟨r74, M75, n76, e77, hf⟩
                · cases hf
                · refine cl_i hH (rn_V ⟨hx, hb, hml, hown, hts⟩ hKn hH (mX5_number l hnt G M n a0 1 r74 M75 n76 e77) (cwV 1 hts (lw_V q264 q266 qs8 q76 q267) rfl rfl rfl ⟨rfl, kdX5_number⟩ ⟨(Nat.le_of_ble_eq_true rfl), (Nat.le_of_ble_eq_true rfl)⟩) eu69 rfl rfl hl.1 (Nat.le_of_ble_eq_true rfl) dX5_reads_133 ⟨(Nat.le_of_ble_eq_true rfl), (Nat.le_of_ble_eq_true rfl)⟩ rfl) (fun H locs hH => ?_)
                  refine W.widen (k := 1) (n := 7) (Nat.le_of_ble_eq_true rfl) (Nat.le_of_ble_eq_true rfl) ?_
                  obtain ⟨u79, eu79, hf⟩ := bs_ hf
                  obtain ⟨M81, er80, hf⟩ := bs_ hf
                  refine cl_v0 hH (rn_V ⟨hx, hb, hml, hown, hts⟩ hKn hH (mX6_tells l G M75 n76 a1 r74 M81 er80) (cwV 1 hts (lw_V q295 q296 q297 q77 q298) rfl rfl rfl ⟨rfl, kdX6_tells⟩ ⟨Nat.le_of_ble_eq_true rfl, Nat.le_of_ble_eq_true rfl⟩) eu79 rfl rfl hl.1 (Nat.le_of_ble_eq_true rfl) dX5_reads_136 ⟨(Nat.le_of_ble_eq_true rfl), (Nat.le_of_ble_eq_true rfl)⟩ rfl) (fun H locs hH => ?_)
                  refine lv_aload_n hx hb dX5_reads_139 rfl (lv_at hl 1 rfl) ?_
                  refine lv_aload_n hx hb dX5_reads_140 rfl (lv_at hl 0 rfl) ?_
                  refine lv_iconst (v := 2) hx hb dX5_reads_141 (by decide) ?_
                  obtain ⟨u82, eu82, hf⟩ := bs_ hf
                  rcases bxs_ hf with ⟨xe84, M85, n86, e90, hf⟩ | ⟨r87, M88, n89, e90, hf⟩
                  · cases hf
                  · refine cl_i hH (rn_V ⟨hx, hb, hml, hown, hts⟩ hKn hH (mX5_number l hnt G M81 n76 a0 2 r87 M88 n89 e90) (cwV 1 hts (lw_V q264 q266 qs8 q76 q267) rfl rfl rfl ⟨rfl, kdX5_number⟩ ⟨(Nat.le_of_ble_eq_true rfl), (Nat.le_of_ble_eq_true rfl)⟩) eu82 rfl rfl hl.1 (Nat.le_of_ble_eq_true rfl) dX5_reads_142 ⟨(Nat.le_of_ble_eq_true rfl), (Nat.le_of_ble_eq_true rfl)⟩ rfl) (fun H locs hH => ?_)
                    refine W.widen (k := 2) (n := 14) (Nat.le_of_ble_eq_true rfl) (Nat.le_of_ble_eq_true rfl) ?_
                    obtain ⟨u92, eu92, hf⟩ := bs_ hf
                    obtain ⟨M94, er93, hf⟩ := bs_ hf
                    refine cl_v0 hH (rn_V ⟨hx, hb, hml, hown, hts⟩ hKn hH (mX6_tells l G M88 n89 a1 r87 M94 er93) (cwV 1 hts (lw_V q295 q296 q297 q77 q298) rfl rfl rfl ⟨rfl, kdX6_tells⟩ ⟨Nat.le_of_ble_eq_true rfl, Nat.le_of_ble_eq_true rfl⟩) eu92 rfl rfl hl.1 (Nat.le_of_ble_eq_true rfl) dX5_reads_145 ⟨(Nat.le_of_ble_eq_true rfl), (Nat.le_of_ble_eq_true rfl)⟩ rfl) (fun H locs hH => ?_)
                    refine lv_goto (tgt := 175) hx hb dX5_reads_148 (by decide) ?_
                    cases hf
                    refine W.widen (k := 6) (n := 42) (Nat.le_of_ble_eq_true rfl) (Nat.le_of_ble_eq_true rfl) ?_
                    exact rt_v hx hb hr hlk hH dX5_reads_175
              · have hf := in_ c68 hf
                by_cases c95 : v1 = 120
                · have hf := ip_ c95 hf
                  refine sw_I (off := 117) (tgt := 121) hx hb dX5_reads_4 c95 (by decide) (by decide) (by decide) (by decide) ?_
                  refine lv_aload_n hx hb dX5_reads_121 rfl (lv_at hl 0 rfl) ?_
                  refine lv_aload_n hx hb dX5_reads_122 rfl (lv_at hl 1 rfl) ?_
                  refine lv_iconst (v := 2) hx hb dX5_reads_123 (by decide) ?_
                  obtain ⟨u96, eu96, hf⟩ := bs_ hf
                  rcases bxs_ hf with ⟨xe98, M99, n100, e104, hf⟩ | ⟨r101, M102, n103, e104, hf⟩
                  · cases hf
                  · refine cl_v hH (rn_V ⟨hx, hb, hml, hown, hts⟩ hKn hH (mX5_digits l hnt G M n a0 a1 2  M102 n103 e104) (cwV 2 hts (lw_V q260 q262 qs7 q76 q263) rfl rfl rfl ⟨rfl, kdX5_digits⟩ ⟨(Nat.le_of_ble_eq_true rfl), (Nat.le_of_ble_eq_true rfl)⟩) eu96 rfl rfl hl.1 (Nat.le_of_ble_eq_true rfl) dX5_reads_124 ⟨(Nat.le_of_ble_eq_true rfl), (Nat.le_of_ble_eq_true rfl)⟩ rfl) (fun H locs hH => ?_)
                    refine W.widen (k := 6) (n := 42) (Nat.le_of_ble_eq_true rfl) (Nat.le_of_ble_eq_true rfl) ?_
                    refine lv_goto (tgt := 175) hx hb dX5_reads_127 (by decide) ?_
                    cases hf
                    refine W.widen (k := 6) (n := 42) (Nat.le_of_ble_eq_true rfl) (Nat.le_of_ble_eq_true rfl) ?_
                    exact rt_v hx hb hr hlk hH dX5_reads_175
                · have hf := in_ c95 hf
                  refine sw_D (tgt := 160) hx hb dX5_reads_4 [(98, 117), (99, 156), (100, 147), (101, 156), (102, 117), (103, 156), (104, 117), (105, 156), (106, 156), (107, 156), (108, 147), (109, 156), (110, 156), (111, 156), (112, 108), (113, 156), (114, 156), (115, 156), (116, 126), (117, 156), (118, 156), (119, 156), (120, 117)] (by decide) (by decide) (by decide) ⟨Or.inr (lv_neT c2 (by decide)), Or.inl rfl, Or.inr (lv_neT c13 (by decide)), Or.inl rfl, Or.inr (lv_neT c24 (by decide)), Or.inl rfl, Or.inr (lv_neT c35 (by decide)), Or.inl rfl, Or.inl rfl, Or.inl rfl, Or.inr (lv_neT c46 (by decide)), Or.inl rfl, Or.inl rfl, Or.inl rfl, Or.inr (lv_neT c57 (by decide)), Or.inl rfl, Or.inl rfl, Or.inl rfl, Or.inr (lv_neT c68 (by decide)), Or.inl rfl, Or.inl rfl, Or.inl rfl, Or.inr (lv_neT c95 (by decide)), trivial⟩ (by decide) ?_
                  refine lv_aload_n hx hb dX5_reads_160 rfl (lv_at hl 0 rfl) ?_
                  refine lv_dup hx hb dX5_reads_161 rfl ?_
                  obtain ⟨v106, ev106, hf⟩ := bs_ hf
                  refine mg_gI hx hb hts hown hKn hH ev106 in_X5 rfl (by decide) (hts _ q214) (fun _ h9 => h9) dX5_reads_162 ?_
                  refine lv_iconst (v := 1) hx hb dX5_reads_165 (by decide) ?_
                  refine lv_isub hx hb dX5_reads_166 ?_
                  refine lv_topi (fun v107 ev107 => ?_)
                  have hf := lu_ ev107 hf
                  obtain ⟨M108, eM108, hf⟩ := bs_ hf
                  refine mg_pF hx hb hts hown hKn hH eM108 in_X5 tyX5_ok nmX5 rfl (by decide) (hts _ q214) (fun _ h9 => h9) rfl rfl rfl dX5_reads_167 (fun H locs hH => ?_)
                  refine lv_aload_n hx hb dX5_reads_170 rfl (lv_at hl 0 rfl) ?_
                  obtain ⟨u109, eu109, hf⟩ := bs_ hf
                  obtain ⟨r110, M111, n112, er110, hf⟩ := bas_ hf
                  refine cl_r hH (rn_V ⟨hx, hb, hml, hown, hts⟩ hKn hH (mX5_broken l hnt G M108 n a0 r110 M111 n112 er110) (cwV 0 hts (lw_V q269 q271 qs9 q76 q272) rfl rfl rfl ⟨rfl, kdX5_broken⟩ ⟨Nat.le_of_ble_eq_true rfl, Nat.le_of_ble_eq_true rfl⟩) eu109 rfl rfl hl.1 (Nat.le_of_ble_eq_true rfl) dX5_reads_171 ⟨(Nat.le_of_ble_eq_true rfl), (Nat.le_of_ble_eq_true rfl)⟩ rfl) (fun H locs hH => ?_)
                  refine W.widen (k := 1) (n := 7) (Nat.le_of_ble_eq_true rfl) (Nat.le_of_ble_eq_true rfl) ?_
                  obtain ⟨v113, ev113, hf⟩ := bs_ hf
                  cases hf
set_option maxHeartbeats 4000000 in
theorem xX5_reads (l : Launch) (hnt : l.flags = flags0) (G : GT_) (M : Mem_) (n : Nat) (a0 : Nat) (a1 : Nat) (xx1 : Nat) (M1 : Mem_) (n1 : Nat) (hf : fX5_reads M n a0 a1 = some (.inl xx1, M1, n1)) : Cx_ G l yX5_reads (ws_ yX5_reads cX5_reads 2 none) ({ frames := 9, cells := 6, slots := 42, locals := 157 }) 6 42 [.ref a0, .ref a1] M n (Px_ xx1) M1 n1 := by
  refine en_c (by decide) (Nat.le_of_ble_eq_true rfl) ?_
  intro p e s m below meth c had htab hx hb hr hlk hml hown hts hname hKn hH ls hl
  have hown : s.vm.findClass RX5 = some m.cls := hown
  have hl : lv_has ls 2 [(0, .ref a0), (1, .ref a1)] := hl
  unfold fX5_reads at hf
  generalize s.heap = H at hH ⊢
  refine lv_aload_n hx hb dX5_reads_0 rfl (lv_at hl 1 rfl) ?_
  obtain ⟨v1, ev1, hf⟩ := bs_ hf
  refine mg_gI hx hb hts hown hKn hH ev1 in_X6 rfl (by decide) (hts _ q239) (fun _ h9 => h9) dX5_reads_1 ?_
  by_cases c2 : v1 = 98
  · have hf := ip_ c2 hf
    refine sw_I (off := 117) (tgt := 121) hx hb dX5_reads_4 c2 (by decide) (by decide) (by decide) (by decide) ?_
    refine lv_aload_n hx hb dX5_reads_121 rfl (lv_at hl 0 rfl) ?_
    refine lv_aload_n hx hb dX5_reads_122 rfl (lv_at hl 1 rfl) ?_
    refine lv_iconst (v := 2) hx hb dX5_reads_123 (by decide) ?_
    obtain ⟨u3, eu3, hf⟩ := bs_ hf
    rcases bxs_ hf with ⟨xe5, M6, n7, e11, hf⟩ | ⟨r8, M9, n10, e11, hf⟩
    · cases hf
      refine rn_T ⟨hx, hb, hml, hown, hts⟩ hKn hH (xX5_digits l hnt G M n a0 a1 2 _ _ _ e11) (hts _ q260) (hts _ q262) (hts _ qs7) (hts _ q76) (sg_code hts q263) (lw_meth q263) kdX5_digits rfl rfl ⟨(Nat.le_of_ble_eq_true rfl), (Nat.le_of_ble_eq_true rfl)⟩ (st_recv hKn hH eu3 rfl) rfl hl.1 (Nat.le_of_ble_eq_true rfl) dX5_reads_124 ⟨(Nat.le_of_ble_eq_true rfl), (Nat.le_of_ble_eq_true rfl)⟩ rfl (fun H locs x9 t9 hH ht9 hw9 hp9 => ?_)
      have hp9 : x9 = xx1 := hp9
      subst hp9
      refine Wx.widen (k := 6) (n := 42) (Nat.le_of_ble_eq_true rfl) (Nat.le_of_ble_eq_true rfl) ?_
      exact xt_out (pc := 124) hlk htab (by decide) hH (fun _ _ _ => rfl)
    · refine cl_v hH (rn_V ⟨hx, hb, hml, hown, hts⟩ hKn hH (mX5_digits l hnt G M n a0 a1 2  M9 n10 e11) (cwV 2 hts (lw_V q260 q262 qs7 q76 q263) rfl rfl rfl ⟨rfl, kdX5_digits⟩ ⟨(Nat.le_of_ble_eq_true rfl), (Nat.le_of_ble_eq_true rfl)⟩) eu3 rfl rfl hl.1 (Nat.le_of_ble_eq_true rfl) dX5_reads_124 ⟨(Nat.le_of_ble_eq_true rfl), (Nat.le_of_ble_eq_true rfl)⟩ rfl) (fun H locs hH => ?_)
      refine W.widen (k := 6) (n := 42) (Nat.le_of_ble_eq_true rfl) (Nat.le_of_ble_eq_true rfl) ?_
      refine lv_goto (tgt := 175) hx hb dX5_reads_127 (by decide) ?_
      cases hf
  · have hf := in_ c2 hf
    by_cases c13 : v1 = 100
    · have hf := ip_ c13 hf
      refine sw_I (off := 147) (tgt := 151) hx hb dX5_reads_4 c13 (by decide) (by decide) (by decide) (by decide) ?_
      refine lv_aload_n hx hb dX5_reads_151 rfl (lv_at hl 0 rfl) ?_
      refine lv_aload_n hx hb dX5_reads_152 rfl (lv_at hl 1 rfl) ?_
      refine lv_iconst (v := 1) hx hb dX5_reads_153 (by decide) ?_
      obtain ⟨u14, eu14, hf⟩ := bs_ hf
      rcases bxs_ hf with ⟨xe16, M17, n18, e22, hf⟩ | ⟨r19, M20, n21, e22, hf⟩
      · cases hf
        refine rn_T ⟨hx, hb, hml, hown, hts⟩ hKn hH (xX5_digits l hnt G M n a0 a1 1 _ _ _ e22) (hts _ q260) (hts _ q262) (hts _ qs7) (hts _ q76) (sg_code hts q263) (lw_meth q263) kdX5_digits rfl rfl ⟨(Nat.le_of_ble_eq_true rfl), (Nat.le_of_ble_eq_true rfl)⟩ (st_recv hKn hH eu14 rfl) rfl hl.1 (Nat.le_of_ble_eq_true rfl) dX5_reads_154 ⟨(Nat.le_of_ble_eq_true rfl), (Nat.le_of_ble_eq_true rfl)⟩ rfl (fun H locs x9 t9 hH ht9 hw9 hp9 => ?_)
        have hp9 : x9 = xx1 := hp9
        subst hp9
        refine Wx.widen (k := 6) (n := 42) (Nat.le_of_ble_eq_true rfl) (Nat.le_of_ble_eq_true rfl) ?_
        exact xt_out (pc := 154) hlk htab (by decide) hH (fun _ _ _ => rfl)
      · refine cl_v hH (rn_V ⟨hx, hb, hml, hown, hts⟩ hKn hH (mX5_digits l hnt G M n a0 a1 1  M20 n21 e22) (cwV 2 hts (lw_V q260 q262 qs7 q76 q263) rfl rfl rfl ⟨rfl, kdX5_digits⟩ ⟨(Nat.le_of_ble_eq_true rfl), (Nat.le_of_ble_eq_true rfl)⟩) eu14 rfl rfl hl.1 (Nat.le_of_ble_eq_true rfl) dX5_reads_154 ⟨(Nat.le_of_ble_eq_true rfl), (Nat.le_of_ble_eq_true rfl)⟩ rfl) (fun H locs hH => ?_)
        refine W.widen (k := 6) (n := 42) (Nat.le_of_ble_eq_true rfl) (Nat.le_of_ble_eq_true rfl) ?_
        refine lv_goto (tgt := 175) hx hb dX5_reads_157 (by decide) ?_
        cases hf
    · have hf := in_ c13 hf
      by_cases c24 : v1 = 102
      · have hf := ip_ c24 hf
        refine sw_I (off := 117) (tgt := 121) hx hb dX5_reads_4 c24 (by decide) (by decide) (by decide) (by decide) ?_
        refine lv_aload_n hx hb dX5_reads_121 rfl (lv_at hl 0 rfl) ?_
        refine lv_aload_n hx hb dX5_reads_122 rfl (lv_at hl 1 rfl) ?_
        refine lv_iconst (v := 2) hx hb dX5_reads_123 (by decide) ?_
        obtain ⟨u25, eu25, hf⟩ := bs_ hf
        rcases bxs_ hf with ⟨xe27, M28, n29, e33, hf⟩ | ⟨r30, M31, n32, e33, hf⟩
        · cases hf
          refine rn_T ⟨hx, hb, hml, hown, hts⟩ hKn hH (xX5_digits l hnt G M n a0 a1 2 _ _ _ e33) (hts _ q260) (hts _ q262) (hts _ qs7) (hts _ q76) (sg_code hts q263) (lw_meth q263) kdX5_digits rfl rfl ⟨(Nat.le_of_ble_eq_true rfl), (Nat.le_of_ble_eq_true rfl)⟩ (st_recv hKn hH eu25 rfl) rfl hl.1 (Nat.le_of_ble_eq_true rfl) dX5_reads_124 ⟨(Nat.le_of_ble_eq_true rfl), (Nat.le_of_ble_eq_true rfl)⟩ rfl (fun H locs x9 t9 hH ht9 hw9 hp9 => ?_)
          have hp9 : x9 = xx1 := hp9
          subst hp9
          refine Wx.widen (k := 6) (n := 42) (Nat.le_of_ble_eq_true rfl) (Nat.le_of_ble_eq_true rfl) ?_
          exact xt_out (pc := 124) hlk htab (by decide) hH (fun _ _ _ => rfl)
        · refine cl_v hH (rn_V ⟨hx, hb, hml, hown, hts⟩ hKn hH (mX5_digits l hnt G M n a0 a1 2  M31 n32 e33) (cwV 2 hts (lw_V q260 q262 qs7 q76 q263) rfl rfl rfl ⟨rfl, kdX5_digits⟩ ⟨(Nat.le_of_ble_eq_true rfl), (Nat.le_of_ble_eq_true rfl)⟩) eu25 rfl rfl hl.1 (Nat.le_of_ble_eq_true rfl) dX5_reads_124 ⟨(Nat.le_of_ble_eq_true rfl), (Nat.le_of_ble_eq_true rfl)⟩ rfl) (fun H locs hH => ?_)
          refine W.widen (k := 6) (n := 42) (Nat.le_of_ble_eq_true rfl) (Nat.le_of_ble_eq_true rfl) ?_
          refine lv_goto (tgt := 175) hx hb dX5_reads_127 (by decide) ?_
          cases hf
      · have hf := in_ c24 hf
        by_cases c35 : v1 = 104
        · have hf := ip_ c35 hf
          refine sw_I (off := 117) (tgt := 121) hx hb dX5_reads_4 c35 (by decide) (by decide) (by decide) (by decide) ?_
          refine lv_aload_n hx hb dX5_reads_121 rfl (lv_at hl 0 rfl) ?_
          refine lv_aload_n hx hb dX5_reads_122 rfl (lv_at hl 1 rfl) ?_
          refine lv_iconst (v := 2) hx hb dX5_reads_123 (by decide) ?_
          obtain ⟨u36, eu36, hf⟩ := bs_ hf
          rcases bxs_ hf with ⟨xe38, M39, n40, e44, hf⟩ | ⟨r41, M42, n43, e44, hf⟩
          · cases hf
            refine rn_T ⟨hx, hb, hml, hown, hts⟩ hKn hH (xX5_digits l hnt G M n a0 a1 2 _ _ _ e44) (hts _ q260) (hts _ q262) (hts _ qs7) (hts _ q76) (sg_code hts q263) (lw_meth q263) kdX5_digits rfl rfl ⟨(Nat.le_of_ble_eq_true rfl), (Nat.le_of_ble_eq_true rfl)⟩ (st_recv hKn hH eu36 rfl) rfl hl.1 (Nat.le_of_ble_eq_true rfl) dX5_reads_124 ⟨(Nat.le_of_ble_eq_true rfl), (Nat.le_of_ble_eq_true rfl)⟩ rfl (fun H locs x9 t9 hH ht9 hw9 hp9 => ?_)
            have hp9 : x9 = xx1 := hp9
            subst hp9
            refine Wx.widen (k := 6) (n := 42) (Nat.le_of_ble_eq_true rfl) (Nat.le_of_ble_eq_true rfl) ?_
            exact xt_out (pc := 124) hlk htab (by decide) hH (fun _ _ _ => rfl)
          · refine cl_v hH (rn_V ⟨hx, hb, hml, hown, hts⟩ hKn hH (mX5_digits l hnt G M n a0 a1 2  M42 n43 e44) (cwV 2 hts (lw_V q260 q262 qs7 q76 q263) rfl rfl rfl ⟨rfl, kdX5_digits⟩ ⟨(Nat.le_of_ble_eq_true rfl), (Nat.le_of_ble_eq_true rfl)⟩) eu36 rfl rfl hl.1 (Nat.le_of_ble_eq_true rfl) dX5_reads_124 ⟨(Nat.le_of_ble_eq_true rfl), (Nat.le_of_ble_eq_true rfl)⟩ rfl) (fun H locs hH => ?_)
            refine W.widen (k := 6) (n := 42) (Nat.le_of_ble_eq_true rfl) (Nat.le_of_ble_eq_true rfl) ?_
            refine lv_goto (tgt := 175) hx hb dX5_reads_127 (by decide) ?_
            cases hf
        · have hf := in_ c35 hf
          by_cases c46 : v1 = 108
          · have hf := ip_ c46 hf
            refine sw_I (off := 147) (tgt := 151) hx hb dX5_reads_4 c46 (by decide) (by decide) (by decide) (by decide) ?_
            refine lv_aload_n hx hb dX5_reads_151 rfl (lv_at hl 0 rfl) ?_
            refine lv_aload_n hx hb dX5_reads_152 rfl (lv_at hl 1 rfl) ?_
            refine lv_iconst (v := 1) hx hb dX5_reads_153 (by decide) ?_
            obtain ⟨u47, eu47, hf⟩ := bs_ hf
            rcases bxs_ hf with ⟨xe49, M50, n51, e55, hf⟩ | ⟨r52, M53, n54, e55, hf⟩
            · cases hf
              refine rn_T ⟨hx, hb, hml, hown, hts⟩ hKn hH (xX5_digits l hnt G M n a0 a1 1 _ _ _ e55) (hts _ q260) (hts _ q262) (hts _ qs7) (hts _ q76) (sg_code hts q263) (lw_meth q263) kdX5_digits rfl rfl ⟨(Nat.le_of_ble_eq_true rfl), (Nat.le_of_ble_eq_true rfl)⟩ (st_recv hKn hH eu47 rfl) rfl hl.1 (Nat.le_of_ble_eq_true rfl) dX5_reads_154 ⟨(Nat.le_of_ble_eq_true rfl), (Nat.le_of_ble_eq_true rfl)⟩ rfl (fun H locs x9 t9 hH ht9 hw9 hp9 => ?_)
              have hp9 : x9 = xx1 := hp9
              subst hp9
              refine Wx.widen (k := 6) (n := 42) (Nat.le_of_ble_eq_true rfl) (Nat.le_of_ble_eq_true rfl) ?_
              exact xt_out (pc := 154) hlk htab (by decide) hH (fun _ _ _ => rfl)
            · refine cl_v hH (rn_V ⟨hx, hb, hml, hown, hts⟩ hKn hH (mX5_digits l hnt G M n a0 a1 1  M53 n54 e55) (cwV 2 hts (lw_V q260 q262 qs7 q76 q263) rfl rfl rfl ⟨rfl, kdX5_digits⟩ ⟨(Nat.le_of_ble_eq_true rfl), (Nat.le_of_ble_eq_true rfl)⟩) eu47 rfl rfl hl.1 (Nat.le_of_ble_eq_true rfl) dX5_reads_154 ⟨(Nat.le_of_ble_eq_true rfl), (Nat.le_of_ble_eq_true rfl)⟩ rfl) (fun H locs hH => ?_)
              refine W.widen (k := 6) (n := 42) (Nat.le_of_ble_eq_true rfl) (Nat.le_of_ble_eq_true rfl) ?_
              refine lv_goto (tgt := 175) hx hb dX5_reads_157 (by decide) ?_
              cases hf
          · have hf := in_ c46 hf
            by_cases c57 : v1 = 112
            · have hf := ip_ c57 hf
              refine sw_I (off := 108) (tgt := 112) hx hb dX5_reads_4 c57 (by decide) (by decide) (by decide) (by decide) ?_
              refine lv_aload_n hx hb dX5_reads_112 rfl (lv_at hl 0 rfl) ?_
              refine lv_aload_n hx hb dX5_reads_113 rfl (lv_at hl 1 rfl) ?_
              refine lv_iconst (v := 3) hx hb dX5_reads_114 (by decide) ?_
              obtain ⟨u58, eu58, hf⟩ := bs_ hf
              rcases bxs_ hf with ⟨xe60, M61, n62, e66, hf⟩ | ⟨r63, M64, n65, e66, hf⟩
              · cases hf
                refine rn_T ⟨hx, hb, hml, hown, hts⟩ hKn hH (xX5_digits l hnt G M n a0 a1 3 _ _ _ e66) (hts _ q260) (hts _ q262) (hts _ qs7) (hts _ q76) (sg_code hts q263) (lw_meth q263) kdX5_digits rfl rfl ⟨(Nat.le_of_ble_eq_true rfl), (Nat.le_of_ble_eq_true rfl)⟩ (st_recv hKn hH eu58 rfl) rfl hl.1 (Nat.le_of_ble_eq_true rfl) dX5_reads_115 ⟨(Nat.le_of_ble_eq_true rfl), (Nat.le_of_ble_eq_true rfl)⟩ rfl (fun H locs x9 t9 hH ht9 hw9 hp9 => ?_)
                have hp9 : x9 = xx1 := hp9
                subst hp9
                refine Wx.widen (k := 6) (n := 42) (Nat.le_of_ble_eq_true rfl) (Nat.le_of_ble_eq_true rfl) ?_
                exact xt_out (pc := 115) hlk htab (by decide) hH (fun _ _ _ => rfl)
              · refine cl_v hH (rn_V ⟨hx, hb, hml, hown, hts⟩ hKn hH (mX5_digits l hnt G M n a0 a1 3  M64 n65 e66) (cwV 2 hts (lw_V q260 q262 qs7 q76 q263) rfl rfl rfl ⟨rfl, kdX5_digits⟩ ⟨(Nat.le_of_ble_eq_true rfl), (Nat.le_of_ble_eq_true rfl)⟩) eu58 rfl rfl hl.1 (Nat.le_of_ble_eq_true rfl) dX5_reads_115 ⟨(Nat.le_of_ble_eq_true rfl), (Nat.le_of_ble_eq_true rfl)⟩ rfl) (fun H locs hH => ?_)
                refine W.widen (k := 6) (n := 42) (Nat.le_of_ble_eq_true rfl) (Nat.le_of_ble_eq_true rfl) ?_
                refine lv_goto (tgt := 175) hx hb dX5_reads_118 (by decide) ?_
                cases hf
            · have hf := in_ c57 hf
              by_cases c68 : v1 = 116
              · have hf := ip_ c68 hf
                refine sw_I (off := 126) (tgt := 130) hx hb dX5_reads_4 c68 (by decide) (by decide) (by decide) (by decide) ?_
                refine lv_aload_n hx hb dX5_reads_130 rfl (lv_at hl 1 rfl) ?_
                refine lv_aload_n hx hb dX5_reads_131 rfl (lv_at hl 0 rfl) ?_
                refine lv_iconst (v := 1) hx hb dX5_reads_132 (by decide) ?_
                obtain ⟨u69, eu69, hf⟩ := bs_ hf
                rcases bxs_ hf with ⟨xe71, M72, n73, e77, hf⟩ | ⟨r74, M75, n76, e77, hf⟩
                · cases hf
                  refine rn_T ⟨hx, hb, hml, hown, hts⟩ hKn hH (xX5_number l hnt G M n a0 1 _ _ _ e77) (hts _ q264) (hts _ q266) (hts _ qs8) (hts _ q76) (sg_code hts q267) (lw_meth q267) kdX5_number rfl rfl ⟨(Nat.le_of_ble_eq_true rfl), (Nat.le_of_ble_eq_true rfl)⟩ (st_recv hKn hH eu69 rfl) rfl hl.1 (Nat.le_of_ble_eq_true rfl) dX5_reads_133 ⟨(Nat.le_of_ble_eq_true rfl), (Nat.le_of_ble_eq_true rfl)⟩ rfl (fun H locs x9 t9 hH ht9 hw9 hp9 => ?_)
                  have hp9 : x9 = xx1 := hp9
                  subst hp9
                  refine Wx.widen (k := 6) (n := 42) (Nat.le_of_ble_eq_true rfl) (Nat.le_of_ble_eq_true rfl) ?_
                  exact xt_out (pc := 133) hlk htab (by decide) hH (fun _ _ _ => rfl)
                · refine cl_i hH (rn_V ⟨hx, hb, hml, hown, hts⟩ hKn hH (mX5_number l hnt G M n a0 1 r74 M75 n76 e77) (cwV 1 hts (lw_V q264 q266 qs8 q76 q267) rfl rfl rfl ⟨rfl, kdX5_number⟩ ⟨(Nat.le_of_ble_eq_true rfl), (Nat.le_of_ble_eq_true rfl)⟩) eu69 rfl rfl hl.1 (Nat.le_of_ble_eq_true rfl) dX5_reads_133 ⟨(Nat.le_of_ble_eq_true rfl), (Nat.le_of_ble_eq_true rfl)⟩ rfl) (fun H locs hH => ?_)
                  refine W.widen (k := 1) (n := 7) (Nat.le_of_ble_eq_true rfl) (Nat.le_of_ble_eq_true rfl) ?_
                  obtain ⟨u79, eu79, hf⟩ := bs_ hf
                  obtain ⟨M81, er80, hf⟩ := bs_ hf
                  refine cl_v0 hH (rn_V ⟨hx, hb, hml, hown, hts⟩ hKn hH (mX6_tells l G M75 n76 a1 r74 M81 er80) (cwV 1 hts (lw_V q295 q296 q297 q77 q298) rfl rfl rfl ⟨rfl, kdX6_tells⟩ ⟨Nat.le_of_ble_eq_true rfl, Nat.le_of_ble_eq_true rfl⟩) eu79 rfl rfl hl.1 (Nat.le_of_ble_eq_true rfl) dX5_reads_136 ⟨(Nat.le_of_ble_eq_true rfl), (Nat.le_of_ble_eq_true rfl)⟩ rfl) (fun H locs hH => ?_)
                  refine lv_aload_n hx hb dX5_reads_139 rfl (lv_at hl 1 rfl) ?_
                  refine lv_aload_n hx hb dX5_reads_140 rfl (lv_at hl 0 rfl) ?_
                  refine lv_iconst (v := 2) hx hb dX5_reads_141 (by decide) ?_
                  obtain ⟨u82, eu82, hf⟩ := bs_ hf
                  rcases bxs_ hf with ⟨xe84, M85, n86, e90, hf⟩ | ⟨r87, M88, n89, e90, hf⟩
                  · cases hf
                    refine rn_T ⟨hx, hb, hml, hown, hts⟩ hKn hH (xX5_number l hnt G M81 n76 a0 2 _ _ _ e90) (hts _ q264) (hts _ q266) (hts _ qs8) (hts _ q76) (sg_code hts q267) (lw_meth q267) kdX5_number rfl rfl ⟨(Nat.le_of_ble_eq_true rfl), (Nat.le_of_ble_eq_true rfl)⟩ (st_recv hKn hH eu82 rfl) rfl hl.1 (Nat.le_of_ble_eq_true rfl) dX5_reads_142 ⟨(Nat.le_of_ble_eq_true rfl), (Nat.le_of_ble_eq_true rfl)⟩ rfl (fun H locs x9 t9 hH ht9 hw9 hp9 => ?_)
                    have hp9 : x9 = xx1 := hp9
                    subst hp9
                    refine Wx.widen (k := 6) (n := 42) (Nat.le_of_ble_eq_true rfl) (Nat.le_of_ble_eq_true rfl) ?_
                    exact xt_out (pc := 142) hlk htab (by decide) hH (fun _ _ _ => rfl)
                  · refine cl_i hH (rn_V ⟨hx, hb, hml, hown, hts⟩ hKn hH (mX5_number l hnt G M81 n76 a0 2 r87 M88 n89 e90) (cwV 1 hts (lw_V q264 q266 qs8 q76 q267) rfl rfl rfl ⟨rfl, kdX5_number⟩ ⟨(Nat.le_of_ble_eq_true rfl), (Nat.le_of_ble_eq_true rfl)⟩) eu82 rfl rfl hl.1 (Nat.le_of_ble_eq_true rfl) dX5_reads_142 ⟨(Nat.le_of_ble_eq_true rfl), (Nat.le_of_ble_eq_true rfl)⟩ rfl) (fun H locs hH => ?_)
                    refine W.widen (k := 2) (n := 14) (Nat.le_of_ble_eq_true rfl) (Nat.le_of_ble_eq_true rfl) ?_
                    obtain ⟨u92, eu92, hf⟩ := bs_ hf
                    obtain ⟨M94, er93, hf⟩ := bs_ hf
                    refine cl_v0 hH (rn_V ⟨hx, hb, hml, hown, hts⟩ hKn hH (mX6_tells l G M88 n89 a1 r87 M94 er93) (cwV 1 hts (lw_V q295 q296 q297 q77 q298) rfl rfl rfl ⟨rfl, kdX6_tells⟩ ⟨Nat.le_of_ble_eq_true rfl, Nat.le_of_ble_eq_true rfl⟩) eu92 rfl rfl hl.1 (Nat.le_of_ble_eq_true rfl) dX5_reads_145 ⟨(Nat.le_of_ble_eq_true rfl), (Nat.le_of_ble_eq_true rfl)⟩ rfl) (fun H locs hH => ?_)
                    refine lv_goto (tgt := 175) hx hb dX5_reads_148 (by decide) ?_
                    cases hf
              · have hf := in_ c68 hf
                by_cases c95 : v1 = 120
                · have hf := ip_ c95 hf
                  refine sw_I (off := 117) (tgt := 121) hx hb dX5_reads_4 c95 (by decide) (by decide) (by decide) (by decide) ?_
                  refine lv_aload_n hx hb dX5_reads_121 rfl (lv_at hl 0 rfl) ?_
                  refine lv_aload_n hx hb dX5_reads_122 rfl (lv_at hl 1 rfl) ?_
                  refine lv_iconst (v := 2) hx hb dX5_reads_123 (by decide) ?_
                  obtain ⟨u96, eu96, hf⟩ := bs_ hf
                  rcases bxs_ hf with ⟨xe98, M99, n100, e104, hf⟩ | ⟨r101, M102, n103, e104, hf⟩
                  · cases hf
                    refine rn_T ⟨hx, hb, hml, hown, hts⟩ hKn hH (xX5_digits l hnt G M n a0 a1 2 _ _ _ e104) (hts _ q260) (hts _ q262) (hts _ qs7) (hts _ q76) (sg_code hts q263) (lw_meth q263) kdX5_digits rfl rfl ⟨(Nat.le_of_ble_eq_true rfl), (Nat.le_of_ble_eq_true rfl)⟩ (st_recv hKn hH eu96 rfl) rfl hl.1 (Nat.le_of_ble_eq_true rfl) dX5_reads_124 ⟨(Nat.le_of_ble_eq_true rfl), (Nat.le_of_ble_eq_true rfl)⟩ rfl (fun H locs x9 t9 hH ht9 hw9 hp9 => ?_)
                    have hp9 : x9 = xx1 := hp9
                    subst hp9
                    refine Wx.widen (k := 6) (n := 42) (Nat.le_of_ble_eq_true rfl) (Nat.le_of_ble_eq_true rfl) ?_
                    exact xt_out (pc := 124) hlk htab (by decide) hH (fun _ _ _ => rfl)
                  · refine cl_v hH (rn_V ⟨hx, hb, hml, hown, hts⟩ hKn hH (mX5_digits l hnt G M n a0 a1 2  M102 n103 e104) (cwV 2 hts (lw_V q260 q262 qs7 q76 q263) rfl rfl rfl ⟨rfl, kdX5_digits⟩ ⟨(Nat.le_of_ble_eq_true rfl), (Nat.le_of_ble_eq_true rfl)⟩) eu96 rfl rfl hl.1 (Nat.le_of_ble_eq_true rfl) dX5_reads_124 ⟨(Nat.le_of_ble_eq_true rfl), (Nat.le_of_ble_eq_true rfl)⟩ rfl) (fun H locs hH => ?_)
                    refine W.widen (k := 6) (n := 42) (Nat.le_of_ble_eq_true rfl) (Nat.le_of_ble_eq_true rfl) ?_
                    refine lv_goto (tgt := 175) hx hb dX5_reads_127 (by decide) ?_
                    cases hf
                · have hf := in_ c95 hf
                  refine sw_D (tgt := 160) hx hb dX5_reads_4 [(98, 117), (99, 156), (100, 147), (101, 156), (102, 117), (103, 156), (104, 117), (105, 156), (106, 156), (107, 156), (108, 147), (109, 156), (110, 156), (111, 156), (112, 108), (113, 156), (114, 156), (115, 156), (116, 126), (117, 156), (118, 156), (119, 156), (120, 117)] (by decide) (by decide) (by decide) ⟨Or.inr (lv_neT c2 (by decide)), Or.inl rfl, Or.inr (lv_neT c13 (by decide)), Or.inl rfl, Or.inr (lv_neT c24 (by decide)), Or.inl rfl, Or.inr (lv_neT c35 (by decide)), Or.inl rfl, Or.inl rfl, Or.inl rfl, Or.inr (lv_neT c46 (by decide)), Or.inl rfl, Or.inl rfl, Or.inl rfl, Or.inr (lv_neT c57 (by decide)), Or.inl rfl, Or.inl rfl, Or.inl rfl, Or.inr (lv_neT c68 (by decide)), Or.inl rfl, Or.inl rfl, Or.inl rfl, Or.inr (lv_neT c95 (by decide)), trivial⟩ (by decide) ?_
                  refine lv_aload_n hx hb dX5_reads_160 rfl (lv_at hl 0 rfl) ?_
                  refine lv_dup hx hb dX5_reads_161 rfl ?_
                  obtain ⟨v106, ev106, hf⟩ := bs_ hf
                  refine mg_gI hx hb hts hown hKn hH ev106 in_X5 rfl (by decide) (hts _ q214) (fun _ h9 => h9) dX5_reads_162 ?_
                  refine lv_iconst (v := 1) hx hb dX5_reads_165 (by decide) ?_
                  refine lv_isub hx hb dX5_reads_166 ?_
                  refine lv_topi (fun v107 ev107 => ?_)
                  have hf := lu_ ev107 hf
                  obtain ⟨M108, eM108, hf⟩ := bs_ hf
                  refine mg_pF hx hb hts hown hKn hH eM108 in_X5 tyX5_ok nmX5 rfl (by decide) (hts _ q214) (fun _ h9 => h9) rfl rfl rfl dX5_reads_167 (fun H locs hH => ?_)
                  refine lv_aload_n hx hb dX5_reads_170 rfl (lv_at hl 0 rfl) ?_
                  obtain ⟨u109, eu109, hf⟩ := bs_ hf
                  obtain ⟨r110, M111, n112, er110, hf⟩ := bas_ hf
                  refine cl_r hH (rn_V ⟨hx, hb, hml, hown, hts⟩ hKn hH (mX5_broken l hnt G M108 n a0 r110 M111 n112 er110) (cwV 0 hts (lw_V q269 q271 qs9 q76 q272) rfl rfl rfl ⟨rfl, kdX5_broken⟩ ⟨Nat.le_of_ble_eq_true rfl, Nat.le_of_ble_eq_true rfl⟩) eu109 rfl rfl hl.1 (Nat.le_of_ble_eq_true rfl) dX5_reads_171 ⟨(Nat.le_of_ble_eq_true rfl), (Nat.le_of_ble_eq_true rfl)⟩ rfl) (fun H locs hH => ?_)
                  refine W.widen (k := 1) (n := 7) (Nat.le_of_ble_eq_true rfl) (Nat.le_of_ble_eq_true rfl) ?_
                  obtain ⟨v113, ev113, hf⟩ := bs_ hf
                  cases hf
                  refine W.widen (k := 6) (n := 42) (Nat.le_of_ble_eq_true rfl) (Nat.le_of_ble_eq_true rfl) ?_
                  refine wx_athrow hx hb dX5_reads_174 ?_
                  exact xt_out (pc := 174) hlk htab (by decide) hH (fun _ _ _ => rfl)
def fX5_statement (M : Mem_) (n : Nat) (a0 : Nat) : Option ((Nat ⊕ Nat) × Mem_ × Nat) :=
  lt_ (ms_ M n (eO_ 5 [.int 0, .int 0, .null, .int 0])) fun M1 =>
  (ck_ M1 a0 4).bind fun u2 =>
  (fX5_sign M1 a0).bind fun r3 =>
  (gI_ M1 a0 4 1).bind fun v4 =>
  bw_ (fX6_init M1 (n + 1) n r3 v4) fun M6 n7 =>
  (gI_ M6 a0 4 1).bind fun v8 =>
  lt_ ((v8 + 1)) fun v9 =>
  (pF_ M6 a0 4 1 (.int v9)).bind fun M10 =>
  (ck_ M10 a0 4).bind fun u11 =>
  bx_ (fX5_reads M10 n7 a0 n) (fun xe13 M14 n15 =>
    some (.inl xe13, M14, n15)
  ) (fun _ M17 n18 =>
    (ck_ M17 a0 4).bind fun u21 =>
    (fX5_sign M17 a0).bind fun r22 =>
    if r22 = 59 then
      (gI_ M17 a0 4 1).bind fun v23 =>
      lt_ ((v23 + 1)) fun v24 =>
      (pF_ M17 a0 4 1 (.int v24)).bind fun M25 =>
      some (.inr n, M25, n18)
    else
      (ck_ M17 a0 4).bind fun u26 =>
      ba_ (fX5_broken M17 n18 a0) fun r27 M28 n29 =>
      (gX_ M28 r27 6).bind fun v30 =>
      some (.inl r27, M28, n29)
  )
theorem kdX5_statement : yX5_statement.cls ≠ "java/lang/invoke/MethodHandle" ∧ yX5_statement.cls ≠ "java/lang/invoke/VarHandle" ∧ (parseMethodDescriptor yX5_statement.desc).map (fun d => d.parameters.length) = some 0 := by decide +kernel
set_option maxHeartbeats 4000000 in
theorem mX5_statement (l : Launch) (hnt : l.flags = flags0) (G : GT_) (M : Mem_) (n : Nat) (a0 : Nat) (r : Nat) (M1 : Mem_) (n1 : Nat) (hf : fX5_statement M n a0 = some (.inr r, M1, n1)) : Ct_ G l yX5_statement (ws_ yX5_statement cX5_statement 2 (some (.object "SideBySide$Told"))) ({ frames := 10, cells := 9, slots := 56, locals := 178 }) 9 56 [.ref a0] M n (some (.ref r)) M1 n1 := by
  refine en_ (by decide) (Nat.le_of_ble_eq_true rfl) ?_
  intro p e s m below meth c hx hb hr hlk hml hown hts hname hKn hH ls hl
  have hown : s.vm.findClass RX5 = some m.cls := hown
  have hl : lv_has ls 2 [(0, .ref a0)] := hl
  unfold fX5_statement at hf
  generalize s.heap = H at hH ⊢
  refine mg_new (ci := 5) hx hb hts hown hKn hH in_X6 tyX6_ok (hts _ q228) (hts _ q229) (hts _ q77) rfl (Nat.le_of_ble_eq_true rfl) (Nat.le_of_ble_eq_true rfl) dX5_statement_0 (fun H hH => ?_)
  obtain ⟨M1, eM1⟩ : ∃ z : Mem_, z = ms_ M n (eO_ 5 [.int 0, .int 0, .null, .int 0]) := ⟨_, rfl⟩
  have hf := lu_ eM1 hf
  have hH := st_eq eM1 hH
  refine W.widen (k := 1) (n := 4) (Nat.le_of_ble_eq_true rfl) (Nat.le_of_ble_eq_true rfl) ?_
  refine lv_dup hx hb dX5_statement_3 rfl ?_
  refine lv_aload_n hx hb dX5_statement_4 rfl (lv_at hl 0 rfl) ?_
  obtain ⟨u2, eu2, hf⟩ := bs_ hf
  obtain ⟨r3, er3, hf⟩ := bs_ hf
  refine cl_i0 hH (rn_V ⟨hx, hb, hml, hown, hts⟩ hKn hH (mX5_sign l G M1 (n + 1) a0 r3 er3) (cwV 0 hts (lw_V q230 q232 qs5 q76 q233) rfl rfl rfl ⟨rfl, kdX5_sign⟩ ⟨Nat.le_of_ble_eq_true rfl, Nat.le_of_ble_eq_true rfl⟩) eu2 rfl rfl hl.1 (Nat.le_of_ble_eq_true rfl) dX5_statement_5 ⟨(Nat.le_of_ble_eq_true rfl), (Nat.le_of_ble_eq_true rfl)⟩ rfl) (fun H locs hH => ?_)
  refine lv_aload_n hx hb dX5_statement_8 rfl (lv_at hl 0 rfl) ?_
  obtain ⟨v4, ev4, hf⟩ := bs_ hf
  refine mg_gI hx hb hts hown hKn hH ev4 in_X5 rfl (by decide) (hts _ q214) (fun _ h9 => h9) dX5_statement_9 ?_
  obtain ⟨M6, n7, er5, hf⟩ := bws_ hf
  refine cl_v hH (rn_I ⟨hx, hb, hml, hown, hts⟩ hKn hH (mX6_init l G M1 (n + 1) n r3 v4 M6 n7 er5) (cwI 2 hts (lw_meth q236) rfl rfl rfl (hts _ q77) (hts _ q234) (hts _ q235) rfl kdX6_init ⟨Nat.le_of_ble_eq_true rfl, Nat.le_of_ble_eq_true rfl⟩) rfl hl.1 (Nat.le_of_ble_eq_true rfl) dX5_statement_12 ⟨(Nat.le_of_ble_eq_true rfl), (Nat.le_of_ble_eq_true rfl)⟩ rfl) (fun H locs hH => ?_)
  refine W.widen (k := 2) (n := 7) (Nat.le_of_ble_eq_true rfl) (Nat.le_of_ble_eq_true rfl) ?_
  refine lv_astore_n (lv' := [(1, .ref n), (0, .ref a0)]) hx hb dX5_statement_15 rfl hl (by decide) rfl (fun ls hl => ?_)
  refine lv_aload_n hx hb dX5_statement_16 rfl (lv_at hl 1 rfl) ?_
  refine lv_dup hx hb dX5_statement_17 rfl ?_
  obtain ⟨v8, ev8, hf⟩ := bs_ hf
  refine mg_gI hx hb hts hown hKn hH ev8 in_X5 rfl (by decide) (hts _ q214) (fun _ h9 => h9) dX5_statement_18 ?_
  refine lv_iconst (v := 1) hx hb dX5_statement_21 (by decide) ?_
  refine lv_iadd hx hb dX5_statement_22 ?_
  refine lv_topi (fun v9 ev9 => ?_)
  have hf := lu_ ev9 hf
  obtain ⟨M10, eM10, hf⟩ := bs_ hf
  refine mg_pF hx hb hts hown hKn hH eM10 in_X5 tyX5_ok nmX5 rfl (by decide) (hts _ q214) (fun _ h9 => h9) rfl rfl rfl dX5_statement_23 (fun H locs hH => ?_)
  refine lv_aload_n hx hb dX5_statement_26 rfl (lv_at hl 1 rfl) ?_
  refine lv_aload_n hx hb dX5_statement_27 rfl (lv_at hl 0 rfl) ?_
  obtain ⟨u11, eu11, hf⟩ := bs_ hf
  rcases bxs_ hf with ⟨xe13, M14, n15, e19, hf⟩ | ⟨r16, M17, n18, e19, hf⟩
  · cases hf
  · refine cl_v hH (rn_V ⟨hx, hb, hml, hown, hts⟩ hKn hH (mX5_reads l hnt G M10 n7 a0 n  M17 n18 e19) (cwV 1 hts (lw_V q256 q258 qs6 q76 q259) rfl rfl rfl ⟨rfl, kdX5_reads⟩ ⟨(Nat.le_of_ble_eq_true rfl), (Nat.le_of_ble_eq_true rfl)⟩) eu11 rfl rfl hl.1 (Nat.le_of_ble_eq_true rfl) dX5_statement_28 ⟨(Nat.le_of_ble_eq_true rfl), (Nat.le_of_ble_eq_true rfl)⟩ rfl) (fun H locs hH => ?_)
    refine W.widen (k := 8) (n := 49) (Nat.le_of_ble_eq_true rfl) (Nat.le_of_ble_eq_true rfl) ?_
    refine lv_aload_n hx hb dX5_statement_31 rfl (lv_at hl 1 rfl) ?_
    obtain ⟨u21, eu21, hf⟩ := bs_ hf
    obtain ⟨r22, er22, hf⟩ := bs_ hf
    refine cl_i0 hH (rn_V ⟨hx, hb, hml, hown, hts⟩ hKn hH (mX5_sign l G M17 n18 a0 r22 er22) (cwV 0 hts (lw_V q230 q232 qs5 q76 q233) rfl rfl rfl ⟨rfl, kdX5_sign⟩ ⟨Nat.le_of_ble_eq_true rfl, Nat.le_of_ble_eq_true rfl⟩) eu21 rfl rfl hl.1 (Nat.le_of_ble_eq_true rfl) dX5_statement_32 ⟨(Nat.le_of_ble_eq_true rfl), (Nat.le_of_ble_eq_true rfl)⟩ rfl) (fun H locs hH => ?_)
    refine lv_bipush (v := 59) hx hb dX5_statement_35 (by decide) ?_
    refine lv_icmp_eq (tgt := 45) hx hb dX5_statement_37 (by decide) (fun c31 => ?_) (fun c31 => ?_)
    · have hf := ip_ c31 hf
      refine lv_aload_n hx hb dX5_statement_45 rfl (lv_at hl 1 rfl) ?_
      refine lv_dup hx hb dX5_statement_46 rfl ?_
      obtain ⟨v23, ev23, hf⟩ := bs_ hf
      refine mg_gI hx hb hts hown hKn hH ev23 in_X5 rfl (by decide) (hts _ q214) (fun _ h9 => h9) dX5_statement_47 ?_
      refine lv_iconst (v := 1) hx hb dX5_statement_50 (by decide) ?_
      refine lv_iadd hx hb dX5_statement_51 ?_
      refine lv_topi (fun v24 ev24 => ?_)
      have hf := lu_ ev24 hf
      obtain ⟨M25, eM25, hf⟩ := bs_ hf
      refine mg_pF hx hb hts hown hKn hH eM25 in_X5 tyX5_ok nmX5 rfl (by decide) (hts _ q214) (fun _ h9 => h9) rfl rfl rfl dX5_statement_52 (fun H locs hH => ?_)
      refine lv_aload_n hx hb dX5_statement_55 rfl (lv_at hl 0 rfl) ?_
      cases hf
      refine W.widen (k := 9) (n := 56) (Nat.le_of_ble_eq_true rfl) (Nat.le_of_ble_eq_true rfl) ?_
      exact rt_a hx hb hr (Or.inl ⟨_, rfl⟩) hlk hH dX5_statement_56
    · have hf := in_ c31 hf
      refine lv_aload_n hx hb dX5_statement_40 rfl (lv_at hl 1 rfl) ?_
      obtain ⟨u26, eu26, hf⟩ := bs_ hf
      obtain ⟨r27, M28, n29, er27, hf⟩ := bas_ hf
      refine cl_r hH (rn_V ⟨hx, hb, hml, hown, hts⟩ hKn hH (mX5_broken l hnt G M17 n18 a0 r27 M28 n29 er27) (cwV 0 hts (lw_V q269 q271 qs9 q76 q272) rfl rfl rfl ⟨rfl, kdX5_broken⟩ ⟨Nat.le_of_ble_eq_true rfl, Nat.le_of_ble_eq_true rfl⟩) eu26 rfl rfl hl.1 (Nat.le_of_ble_eq_true rfl) dX5_statement_41 ⟨(Nat.le_of_ble_eq_true rfl), (Nat.le_of_ble_eq_true rfl)⟩ rfl) (fun H locs hH => ?_)
      refine W.widen (k := 9) (n := 56) (Nat.le_of_ble_eq_true rfl) (Nat.le_of_ble_eq_true rfl) ?_
      obtain ⟨v30, ev30, hf⟩ := bs_ hf
      cases hf
set_option maxHeartbeats 4000000 in
theorem xX5_statement (l : Launch) (hnt : l.flags = flags0) (G : GT_) (M : Mem_) (n : Nat) (a0 : Nat) (xx1 : Nat) (M1 : Mem_) (n1 : Nat) (hf : fX5_statement M n a0 = some (.inl xx1, M1, n1)) : Cx_ G l yX5_statement (ws_ yX5_statement cX5_statement 2 (some (.object "SideBySide$Told"))) ({ frames := 10, cells := 9, slots := 56, locals := 178 }) 9 56 [.ref a0] M n (Px_ xx1) M1 n1 := by
  refine en_c (by decide) (Nat.le_of_ble_eq_true rfl) ?_
  intro p e s m below meth c had htab hx hb hr hlk hml hown hts hname hKn hH ls hl
  have hown : s.vm.findClass RX5 = some m.cls := hown
  have hl : lv_has ls 2 [(0, .ref a0)] := hl
  unfold fX5_statement at hf
  generalize s.heap = H at hH ⊢
  refine mg_new (ci := 5) hx hb hts hown hKn hH in_X6 tyX6_ok (hts _ q228) (hts _ q229) (hts _ q77) rfl (Nat.le_of_ble_eq_true rfl) (Nat.le_of_ble_eq_true rfl) dX5_statement_0 (fun H hH => ?_)
  obtain ⟨M1, eM1⟩ : ∃ z : Mem_, z = ms_ M n (eO_ 5 [.int 0, .int 0, .null, .int 0]) := ⟨_, rfl⟩
  have hf := lu_ eM1 hf
  have hH := st_eq eM1 hH
  refine W.widen (k := 1) (n := 4) (Nat.le_of_ble_eq_true rfl) (Nat.le_of_ble_eq_true rfl) ?_
  refine lv_dup hx hb dX5_statement_3 rfl ?_
  refine lv_aload_n hx hb dX5_statement_4 rfl (lv_at hl 0 rfl) ?_
  obtain ⟨u2, eu2, hf⟩ := bs_ hf
  obtain ⟨r3, er3, hf⟩ := bs_ hf
  refine cl_i0 hH (rn_V ⟨hx, hb, hml, hown, hts⟩ hKn hH (mX5_sign l G M1 (n + 1) a0 r3 er3) (cwV 0 hts (lw_V q230 q232 qs5 q76 q233) rfl rfl rfl ⟨rfl, kdX5_sign⟩ ⟨Nat.le_of_ble_eq_true rfl, Nat.le_of_ble_eq_true rfl⟩) eu2 rfl rfl hl.1 (Nat.le_of_ble_eq_true rfl) dX5_statement_5 ⟨(Nat.le_of_ble_eq_true rfl), (Nat.le_of_ble_eq_true rfl)⟩ rfl) (fun H locs hH => ?_)
  refine lv_aload_n hx hb dX5_statement_8 rfl (lv_at hl 0 rfl) ?_
  obtain ⟨v4, ev4, hf⟩ := bs_ hf
  refine mg_gI hx hb hts hown hKn hH ev4 in_X5 rfl (by decide) (hts _ q214) (fun _ h9 => h9) dX5_statement_9 ?_
  obtain ⟨M6, n7, er5, hf⟩ := bws_ hf
  refine cl_v hH (rn_I ⟨hx, hb, hml, hown, hts⟩ hKn hH (mX6_init l G M1 (n + 1) n r3 v4 M6 n7 er5) (cwI 2 hts (lw_meth q236) rfl rfl rfl (hts _ q77) (hts _ q234) (hts _ q235) rfl kdX6_init ⟨Nat.le_of_ble_eq_true rfl, Nat.le_of_ble_eq_true rfl⟩) rfl hl.1 (Nat.le_of_ble_eq_true rfl) dX5_statement_12 ⟨(Nat.le_of_ble_eq_true rfl), (Nat.le_of_ble_eq_true rfl)⟩ rfl) (fun H locs hH => ?_)
  refine W.widen (k := 2) (n := 7) (Nat.le_of_ble_eq_true rfl) (Nat.le_of_ble_eq_true rfl) ?_
  refine lv_astore_n (lv' := [(1, .ref n), (0, .ref a0)]) hx hb dX5_statement_15 rfl hl (by decide) rfl (fun ls hl => ?_)
  refine lv_aload_n hx hb dX5_statement_16 rfl (lv_at hl 1 rfl) ?_
  refine lv_dup hx hb dX5_statement_17 rfl ?_
  obtain ⟨v8, ev8, hf⟩ := bs_ hf
  refine mg_gI hx hb hts hown hKn hH ev8 in_X5 rfl (by decide) (hts _ q214) (fun _ h9 => h9) dX5_statement_18 ?_
  refine lv_iconst (v := 1) hx hb dX5_statement_21 (by decide) ?_
  refine lv_iadd hx hb dX5_statement_22 ?_
  refine lv_topi (fun v9 ev9 => ?_)
  have hf := lu_ ev9 hf
  obtain ⟨M10, eM10, hf⟩ := bs_ hf
  refine mg_pF hx hb hts hown hKn hH eM10 in_X5 tyX5_ok nmX5 rfl (by decide) (hts _ q214) (fun _ h9 => h9) rfl rfl rfl dX5_statement_23 (fun H locs hH => ?_)
  refine lv_aload_n hx hb dX5_statement_26 rfl (lv_at hl 1 rfl) ?_
  refine lv_aload_n hx hb dX5_statement_27 rfl (lv_at hl 0 rfl) ?_
  obtain ⟨u11, eu11, hf⟩ := bs_ hf
  rcases bxs_ hf with ⟨xe13, M14, n15, e19, hf⟩ | ⟨r16, M17, n18, e19, hf⟩
  · cases hf
    refine rn_T ⟨hx, hb, hml, hown, hts⟩ hKn hH (xX5_reads l hnt G M10 n7 a0 n _ _ _ e19) (hts _ q256) (hts _ q258) (hts _ qs6) (hts _ q76) (sg_code hts q259) (lw_meth q259) kdX5_reads rfl rfl ⟨(Nat.le_of_ble_eq_true rfl), (Nat.le_of_ble_eq_true rfl)⟩ (st_recv hKn hH eu11 rfl) rfl hl.1 (Nat.le_of_ble_eq_true rfl) dX5_statement_28 ⟨(Nat.le_of_ble_eq_true rfl), (Nat.le_of_ble_eq_true rfl)⟩ rfl (fun H locs x9 t9 hH ht9 hw9 hp9 => ?_)
    have hp9 : x9 = xx1 := hp9
    subst hp9
    refine Wx.widen (k := 9) (n := 56) (Nat.le_of_ble_eq_true rfl) (Nat.le_of_ble_eq_true rfl) ?_
    exact xt_out (pc := 28) hlk htab (by decide) hH (fun _ _ _ => rfl)
  · refine cl_v hH (rn_V ⟨hx, hb, hml, hown, hts⟩ hKn hH (mX5_reads l hnt G M10 n7 a0 n  M17 n18 e19) (cwV 1 hts (lw_V q256 q258 qs6 q76 q259) rfl rfl rfl ⟨rfl, kdX5_reads⟩ ⟨(Nat.le_of_ble_eq_true rfl), (Nat.le_of_ble_eq_true rfl)⟩) eu11 rfl rfl hl.1 (Nat.le_of_ble_eq_true rfl) dX5_statement_28 ⟨(Nat.le_of_ble_eq_true rfl), (Nat.le_of_ble_eq_true rfl)⟩ rfl) (fun H locs hH => ?_)
    refine W.widen (k := 8) (n := 49) (Nat.le_of_ble_eq_true rfl) (Nat.le_of_ble_eq_true rfl) ?_
    refine lv_aload_n hx hb dX5_statement_31 rfl (lv_at hl 1 rfl) ?_
    obtain ⟨u21, eu21, hf⟩ := bs_ hf
    obtain ⟨r22, er22, hf⟩ := bs_ hf
    refine cl_i0 hH (rn_V ⟨hx, hb, hml, hown, hts⟩ hKn hH (mX5_sign l G M17 n18 a0 r22 er22) (cwV 0 hts (lw_V q230 q232 qs5 q76 q233) rfl rfl rfl ⟨rfl, kdX5_sign⟩ ⟨Nat.le_of_ble_eq_true rfl, Nat.le_of_ble_eq_true rfl⟩) eu21 rfl rfl hl.1 (Nat.le_of_ble_eq_true rfl) dX5_statement_32 ⟨(Nat.le_of_ble_eq_true rfl), (Nat.le_of_ble_eq_true rfl)⟩ rfl) (fun H locs hH => ?_)
    refine lv_bipush (v := 59) hx hb dX5_statement_35 (by decide) ?_
    refine lv_icmp_eq (tgt := 45) hx hb dX5_statement_37 (by decide) (fun c31 => ?_) (fun c31 => ?_)
    · have hf := ip_ c31 hf
      refine lv_aload_n hx hb dX5_statement_45 rfl (lv_at hl 1 rfl) ?_
      refine lv_dup hx hb dX5_statement_46 rfl ?_
      obtain ⟨v23, ev23, hf⟩ := bs_ hf
      refine mg_gI hx hb hts hown hKn hH ev23 in_X5 rfl (by decide) (hts _ q214) (fun _ h9 => h9) dX5_statement_47 ?_
      refine lv_iconst (v := 1) hx hb dX5_statement_50 (by decide) ?_
      refine lv_iadd hx hb dX5_statement_51 ?_
      refine lv_topi (fun v24 ev24 => ?_)
      have hf := lu_ ev24 hf
      obtain ⟨M25, eM25, hf⟩ := bs_ hf
      refine mg_pF hx hb hts hown hKn hH eM25 in_X5 tyX5_ok nmX5 rfl (by decide) (hts _ q214) (fun _ h9 => h9) rfl rfl rfl dX5_statement_52 (fun H locs hH => ?_)
      refine lv_aload_n hx hb dX5_statement_55 rfl (lv_at hl 0 rfl) ?_
      cases hf
    · have hf := in_ c31 hf
      refine lv_aload_n hx hb dX5_statement_40 rfl (lv_at hl 1 rfl) ?_
      obtain ⟨u26, eu26, hf⟩ := bs_ hf
      obtain ⟨r27, M28, n29, er27, hf⟩ := bas_ hf
      refine cl_r hH (rn_V ⟨hx, hb, hml, hown, hts⟩ hKn hH (mX5_broken l hnt G M17 n18 a0 r27 M28 n29 er27) (cwV 0 hts (lw_V q269 q271 qs9 q76 q272) rfl rfl rfl ⟨rfl, kdX5_broken⟩ ⟨Nat.le_of_ble_eq_true rfl, Nat.le_of_ble_eq_true rfl⟩) eu26 rfl rfl hl.1 (Nat.le_of_ble_eq_true rfl) dX5_statement_41 ⟨(Nat.le_of_ble_eq_true rfl), (Nat.le_of_ble_eq_true rfl)⟩ rfl) (fun H locs hH => ?_)
      refine W.widen (k := 9) (n := 56) (Nat.le_of_ble_eq_true rfl) (Nat.le_of_ble_eq_true rfl) ?_
      obtain ⟨v30, ev30, hf⟩ := bs_ hf
      cases hf
      refine W.widen (k := 9) (n := 56) (Nat.le_of_ble_eq_true rfl) (Nat.le_of_ble_eq_true rfl) ?_
      refine wx_athrow hx hb dX5_statement_44 ?_
      exact xt_out (pc := 44) hlk htab (by decide) hH (fun _ _ _ => rfl)
def fX5_whole_L2 : Nat → Mem_ → Nat → Nat → Nat → Int32 → Option ((Nat ⊕ Int32) × Mem_ × Nat)
  | 0, _, _, _, _, _ => none
  | fuel + 1, M, n, x0, x1, x2 =>
    (ck_ M x0 4).bind fun u1 =>
    bx_ (fX5_statement M n x0) (fun xe3 M4 n5 =>
      some (.inl xe3, M4, n5)
    ) (fun r6 M7 n8 =>
      (ck_ M7 r6 5).bind fun u12 =>
      (sQ_ M7 x1 4 x2 (some r6)).bind fun M11 =>
      lt_ (x2 + 1) fun v13 =>
      (gI_ M11 x0 4 1).bind fun v14 =>
      (gR_ M11 x0 4 0).bind fun v15 =>
      (lI_ M11 v15 1).bind fun v16 =>
      if v14 < v16 then
        fX5_whole_L2 fuel M11 n8 x0 x1 v13
      else
        some (.inr v13, M11, n8)
    )
def fX5_whole (M : Mem_) (n : Nat) (a0 : Nat) (a1 : Nat) : Option ((Nat ⊕ Int32) × Mem_ × Nat) :=
  fX5_whole_L2 102 M n a0 a1 0
theorem kdX5_whole : yX5_whole.cls ≠ "java/lang/invoke/MethodHandle" ∧ yX5_whole.cls ≠ "java/lang/invoke/VarHandle" ∧ (parseMethodDescriptor yX5_whole.desc).map (fun d => d.parameters.length) = some 1 := by decide +kernel
set_option maxHeartbeats 4000000 in
theorem mX5_whole (l : Launch) (hnt : l.flags = flags0) (G : GT_) (M : Mem_) (n : Nat) (a0 : Nat) (a1 : Nat) (r : Int32) (M1 : Mem_) (n1 : Nat) (hf : fX5_whole M n a0 a1 = some (.inr r, M1, n1)) : Ct_ G l yX5_whole (ws_ yX5_whole cX5_whole 3 (some .int)) ({ frames := 11, cells := 918, slots := 5712, locals := 199 }) 918 5712 [.ref a0, .ref a1] M n (some (.int r)) M1 n1 := by
  refine en_ (by decide) (Nat.le_of_ble_eq_true rfl) ?_
  intro p e s m below meth c hx hb hr hlk hml hown hts hname hKn hH ls hl
  have hown : s.vm.findClass RX5 = some m.cls := hown
  have hl : lv_has ls 3 [(0, .ref a0), (1, .ref a1)] := hl
  have w2 : ∀ (fuel : Nat), ∀ (M : Mem_) (n : Nat) (x0 : Nat) (x1 : Nat) (x2 : Int32) (k1 k2 : Nat) (H : Heap) (locs : List Loc) (ls : Array Slot), k1 + 9 * fuel ≤ 918 → k2 + 56 * fuel ≤ 5712 → St_ G n M s H locs → lv_has ls 3 [(0, .ref x0), (1, .ref x1), (2, .int x2)] → fX5_whole_L2 fuel M n x0 x1 x2 = some (.inr r, M1, n1) → W p l e ({ frames := 11, cells := 918, slots := 5712, locals := 199 } : Room) s m ([.ref a0, .ref a1] : List Value).toArray below meth c H locs k1 k2 (MQ below (Qc_ G (some (.int r)) M1 n1) ([.ref a0, .ref a1] : List Value).toArray s 918 5712 (fun q => G.1 ≤ q)) (F0 m 2 ls []) := by
    intro fuel
    induction fuel with
    | zero =>
      intro M n x0 x1 x2 k1 k2 H locs ls hk1 hk2 hH hl hf
      cases hf
    | succ fuel ih =>
      intro M n x0 x1 x2 k1 k2 H locs ls hk1 hk2 hH hl hf
      unfold fX5_whole_L2 at hf
      refine lv_aload_n hx hb dX5_whole_2 rfl (lv_at hl 1 rfl) ?_
      refine lv_iload_n hx hb dX5_whole_3 rfl (lv_at hl 2 rfl) ?_
      refine lv_aload_n hx hb dX5_whole_4 rfl (lv_at hl 0 rfl) ?_
      obtain ⟨u1, eu1, hf⟩ := bs_ hf
      rcases bxs_ hf with ⟨xe3, M4, n5, e9, hf⟩ | ⟨r6, M7, n8, e9, hf⟩
      · cases hf
      · refine cl_r hH (rn_V ⟨hx, hb, hml, hown, hts⟩ hKn hH (mX5_statement l hnt G M n x0 r6 M7 n8 e9) (cwV 0 hts (lw_V q224 q226 qs4 q76 q227) rfl rfl rfl ⟨rfl, kdX5_statement⟩ ⟨(Nat.le_of_ble_eq_true rfl), (Nat.le_of_ble_eq_true rfl)⟩) eu1 rfl rfl hl.1 (Nat.le_of_ble_eq_true rfl) dX5_whole_5 ⟨(show k1 + 9 ≤ 918 by omega), (show k2 + 56 ≤ 5712 by omega)⟩ rfl) (fun H locs hH => ?_)
        refine W.widen (k := k1 + 9) (n := k2 + 56) (by omega) (by omega) ?_
        obtain ⟨u12, eu12, hf⟩ := bs_ hf
        obtain ⟨M11, eM11, hf⟩ := bs_ hf
        refine mg_ast hx hb hKn hH rfl (any_ck hKn hH eu12 rfl) eM11 dX5_whole_8 (fun H locs hH => ?_)
        obtain ⟨v13, ev13⟩ : ∃ z : Int32, z = x2 + 1 := ⟨_, rfl⟩
        have hf := lu_ ev13 hf
        refine lv_iinc (v := v13) (lv' := [(2, .int v13), (0, .ref x0), (1, .ref x1)]) hx hb dX5_whole_9 hl (k := 2) rfl (by rw [ev13]; rfl) (by decide) rfl (fun ls hl => ?_)
        refine lv_aload_n hx hb dX5_whole_12 rfl (lv_at hl 1 rfl) ?_
        obtain ⟨v14, ev14, hf⟩ := bs_ hf
        refine mg_gI hx hb hts hown hKn hH ev14 in_X5 rfl (by decide) (hts _ q214) (fun _ h9 => h9) dX5_whole_13 ?_
        refine lv_aload_n hx hb dX5_whole_16 rfl (lv_at hl 1 rfl) ?_
        obtain ⟨v15, ev15, hf⟩ := bs_ hf
        refine mg_gR hx hb hts hown hKn hH ev15 in_X5 rfl (by decide) (hts _ q213) (fun _ h9 => h9) dX5_whole_17 ?_
        obtain ⟨v16, ev16, hf⟩ := bs_ hf
        refine mg_len1 hx hb hKn hH ev16 dX5_whole_20 ?_
        refine lv_icmp_lt (tgt := 2) hx hb dX5_whole_21 (by decide) (fun c17 => ?_) (fun c17 => ?_)
        · have hf := ip_ c17 hf
          exact ih M11 n8 x0 x1 v13 (k1 + 9) (k2 + 56) _ _ ls (by omega) (by omega) hH (lv_sub hl [1, 2, 0] rfl) hf
        · have hf := in_ c17 hf
          refine lv_iload_n hx hb dX5_whole_24 rfl (lv_at hl 0 rfl) ?_
          cases hf
          refine W.widen (k := 918) (n := 5712) (by omega) (by omega) ?_
          exact rt_i hx hb hr hlk hH dX5_whole_25
  unfold fX5_whole at hf
  refine lv_iconst (v := 0) hx hb dX5_whole_0 (by decide) ?_
  refine lv_istore_n (lv' := [(2, .int 0), (0, .ref a0), (1, .ref a1)]) hx hb dX5_whole_1 rfl hl (by decide) rfl (fun ls hl => ?_)
  exact w2 102 M n a0 a1 0 0 0 _ _ ls (Nat.le_of_ble_eq_true rfl) (Nat.le_of_ble_eq_true rfl) hH (lv_sub hl [1, 2, 0] rfl) hf
set_option maxHeartbeats 4000000 in
theorem xX5_whole (l : Launch) (hnt : l.flags = flags0) (G : GT_) (M : Mem_) (n : Nat) (a0 : Nat) (a1 : Nat) (xx1 : Nat) (M1 : Mem_) (n1 : Nat) (hf : fX5_whole M n a0 a1 = some (.inl xx1, M1, n1)) : Cx_ G l yX5_whole (ws_ yX5_whole cX5_whole 3 (some .int)) ({ frames := 11, cells := 918, slots := 5712, locals := 199 }) 918 5712 [.ref a0, .ref a1] M n (Px_ xx1) M1 n1 := by
  refine en_c (by decide) (Nat.le_of_ble_eq_true rfl) ?_
  intro p e s m below meth c had htab hx hb hr hlk hml hown hts hname hKn hH ls hl
  have hown : s.vm.findClass RX5 = some m.cls := hown
  have hl : lv_has ls 3 [(0, .ref a0), (1, .ref a1)] := hl
  have w2 : ∀ (fuel : Nat), ∀ (M : Mem_) (n : Nat) (x0 : Nat) (x1 : Nat) (x2 : Int32) (k1 k2 : Nat) (H : Heap) (locs : List Loc) (ls : Array Slot), k1 + 9 * fuel ≤ 918 → k2 + 56 * fuel ≤ 5712 → St_ G n M s H locs → lv_has ls 3 [(0, .ref x0), (1, .ref x1), (2, .int x2)] → fX5_whole_L2 fuel M n x0 x1 x2 = some (.inl xx1, M1, n1) → W p l e ({ frames := 11, cells := 918, slots := 5712, locals := 199 } : Room) s m ([.ref a0, .ref a1] : List Value).toArray below meth c H locs k1 k2 (MT below (Qt_ G (Px_ xx1) M1 n1) ([.ref a0, .ref a1] : List Value).toArray s 918 5712 (fun q => G.1 ≤ q)) (F0 m 2 ls []) := by
    intro fuel
    induction fuel with
    | zero =>
      intro M n x0 x1 x2 k1 k2 H locs ls hk1 hk2 hH hl hf
      cases hf
    | succ fuel ih =>
      intro M n x0 x1 x2 k1 k2 H locs ls hk1 hk2 hH hl hf
      unfold fX5_whole_L2 at hf
      refine lv_aload_n hx hb dX5_whole_2 rfl (lv_at hl 1 rfl) ?_
      refine lv_iload_n hx hb dX5_whole_3 rfl (lv_at hl 2 rfl) ?_
      refine lv_aload_n hx hb dX5_whole_4 rfl (lv_at hl 0 rfl) ?_
      obtain ⟨u1, eu1, hf⟩ := bs_ hf
      rcases bxs_ hf with ⟨xe3, M4, n5, e9, hf⟩ | ⟨r6, M7, n8, e9, hf⟩
      · cases hf
        refine rn_T ⟨hx, hb, hml, hown, hts⟩ hKn hH (xX5_statement l hnt G M n x0 _ _ _ e9) (hts _ q224) (hts _ q226) (hts _ qs4) (hts _ q76) (sg_code hts q227) (lw_meth q227) kdX5_statement rfl rfl ⟨(Nat.le_of_ble_eq_true rfl), (Nat.le_of_ble_eq_true rfl)⟩ (st_recv hKn hH eu1 rfl) rfl hl.1 (Nat.le_of_ble_eq_true rfl) dX5_whole_5 ⟨(show k1 + 9 ≤ 918 by omega), (show k2 + 56 ≤ 5712 by omega)⟩ rfl (fun H locs x9 t9 hH ht9 hw9 hp9 => ?_)
        have hp9 : x9 = xx1 := hp9
        subst hp9
        refine Wx.widen (k := 918) (n := 5712) (by omega) (by omega) ?_
        exact xt_out (pc := 5) hlk htab (by decide) hH (fun _ _ _ => rfl)
      · refine cl_r hH (rn_V ⟨hx, hb, hml, hown, hts⟩ hKn hH (mX5_statement l hnt G M n x0 r6 M7 n8 e9) (cwV 0 hts (lw_V q224 q226 qs4 q76 q227) rfl rfl rfl ⟨rfl, kdX5_statement⟩ ⟨(Nat.le_of_ble_eq_true rfl), (Nat.le_of_ble_eq_true rfl)⟩) eu1 rfl rfl hl.1 (Nat.le_of_ble_eq_true rfl) dX5_whole_5 ⟨(show k1 + 9 ≤ 918 by omega), (show k2 + 56 ≤ 5712 by omega)⟩ rfl) (fun H locs hH => ?_)
        refine W.widen (k := k1 + 9) (n := k2 + 56) (by omega) (by omega) ?_
        obtain ⟨u12, eu12, hf⟩ := bs_ hf
        obtain ⟨M11, eM11, hf⟩ := bs_ hf
        refine mg_ast hx hb hKn hH rfl (any_ck hKn hH eu12 rfl) eM11 dX5_whole_8 (fun H locs hH => ?_)
        obtain ⟨v13, ev13⟩ : ∃ z : Int32, z = x2 + 1 := ⟨_, rfl⟩
        have hf := lu_ ev13 hf
        refine lv_iinc (v := v13) (lv' := [(2, .int v13), (0, .ref x0), (1, .ref x1)]) hx hb dX5_whole_9 hl (k := 2) rfl (by rw [ev13]; rfl) (by decide) rfl (fun ls hl => ?_)
        refine lv_aload_n hx hb dX5_whole_12 rfl (lv_at hl 1 rfl) ?_
        obtain ⟨v14, ev14, hf⟩ := bs_ hf
        refine mg_gI hx hb hts hown hKn hH ev14 in_X5 rfl (by decide) (hts _ q214) (fun _ h9 => h9) dX5_whole_13 ?_
        refine lv_aload_n hx hb dX5_whole_16 rfl (lv_at hl 1 rfl) ?_
        obtain ⟨v15, ev15, hf⟩ := bs_ hf
        refine mg_gR hx hb hts hown hKn hH ev15 in_X5 rfl (by decide) (hts _ q213) (fun _ h9 => h9) dX5_whole_17 ?_
        obtain ⟨v16, ev16, hf⟩ := bs_ hf
        refine mg_len1 hx hb hKn hH ev16 dX5_whole_20 ?_
        refine lv_icmp_lt (tgt := 2) hx hb dX5_whole_21 (by decide) (fun c17 => ?_) (fun c17 => ?_)
        · have hf := ip_ c17 hf
          exact ih M11 n8 x0 x1 v13 (k1 + 9) (k2 + 56) _ _ ls (by omega) (by omega) hH (lv_sub hl [1, 2, 0] rfl) hf
        · have hf := in_ c17 hf
          refine lv_iload_n hx hb dX5_whole_24 rfl (lv_at hl 0 rfl) ?_
          cases hf
  unfold fX5_whole at hf
  refine lv_iconst (v := 0) hx hb dX5_whole_0 (by decide) ?_
  refine lv_istore_n (lv' := [(2, .int 0), (0, .ref a0), (1, .ref a1)]) hx hb dX5_whole_1 rfl hl (by decide) rfl (fun ls hl => ?_)
  exact w2 102 M n a0 a1 0 0 0 _ _ ls (Nat.le_of_ble_eq_true rfl) (Nat.le_of_ble_eq_true rfl) hH (lv_sub hl [1, 2, 0] rfl) hf
