/-! System.arraycopy of two rows beyond an end, as a row -/
set_option maxRecDepth 100000
/-- whether a copy goes beyond an end -/
def oC_ (M : Mem_) (a0 t : Nat) (sp : Int32) (a : Nat) (dp k : Int32) : Option Bool := (ai_ M a0 t).bind fun x => (ai_ M a t).bind fun y => if x.1 ≤ 1000 ∧ y.1 ≤ 1000 then some (decide (sp < 0 ∨ dp < 0 ∨ k < 0 ∨ x.1 < sp.toNatClampNeg + k.toNatClampNeg ∨ y.1 < dp.toNatClampNeg + k.toNatClampNeg)) else none
theorem oC_spec {M : Mem_} {a0 t a : Nat} {sp dp k : Int32} {b : Bool} (h : oC_ M a0 t sp a dp k = some b) : ∃ n0 f n1 g, M a0 = some (eI_ t n0 f) ∧ M a = some (eI_ t n1 g) ∧ n0 ≤ 1000 ∧ n1 ≤ 1000 ∧ b = decide (sp < 0 ∨ dp < 0 ∨ k < 0 ∨ n0 < sp.toNatClampNeg + k.toNatClampNeg ∨ n1 < dp.toNatClampNeg + k.toNatClampNeg) := by
  obtain ⟨x, h1, h⟩ := bs_ h
  obtain ⟨y, h2, h⟩ := bs_ h
  split at h
  · rename_i w
    cases h
    exact ⟨x.1, x.2, y.1, y.2, ai_spec h1, ai_spec h2, w.1, w.2, rfl⟩
  · cases h
theorem cp_bad {sp dp k : Int32} {n0 n1 : Nat} (h : sp < 0 ∨ dp < 0 ∨ k < 0 ∨ n0 < sp.toNatClampNeg + k.toNatClampNeg ∨ n1 < dp.toNatClampNeg + k.toNatClampNeg) : cpB sp dp k n0 n1 := by
  by_cases h1 : sp < 0
  · exact .inl h1
  by_cases h2 : dp < 0
  · exact .inr (.inl h2)
  by_cases h3 : k < 0
  · exact .inr (.inr (.inl h3))
  have e1 := toNatClampNeg_of_not_neg32 sp h1
  have e2 := toNatClampNeg_of_not_neg32 dp h2
  have e3 := toNatClampNeg_of_not_neg32 k h3
  rcases h with z | z | z | z | z
  · exact absurd z h1
  · exact absurd z h2
  · exact absurd z h3
  · exact .inr (.inr (.inr (.inl (by omega))))
  · exact .inr (.inr (.inr (.inr (by omega))))
theorem cp_kn {t : Nat} (ht : t < 3) : cpK (tT_ t) := by
  match t, ht with
  | 0, _ => show ("int" : String).toList.length ≤ 5; decide
  | 1, _ => show ("byte" : String).toList.length ≤ 5; decide
  | 2, _ => show ("short" : String).toList.length ≤ 5; decide
section XCP
variable {p : Program} {l : Launch} {e : Env} {R : Room} {s : State} {m : MethodId} {args : Array Value} {below : List Frame} {meth : Method} {c : Code} {H : Heap} {locs : List Loc} {cells slots : Nat} {Q : State → Prop}
variable {cc : ByteArray} {pc : Nat} {ls : Array Slot} {rest : List Value} {G : GT_} {n : Nat} {M : Mem_}
theorem wx_cp (hexec : p.tables.exec = Jvm.exec) (hb : c.code = cc) (hnt : l.flags = flags0) (hml : c.maxLocals = ls.size) {own : String} {index : Nat} (hown : s.vm.findClass own = some m.cls) (hlink : (Cond.methodLink own index arraycopyName).before args s = true) (hnat : (Cond.native arraycopyName).before args s = true) (hstat : (Cond.static arraycopyName).before args s = true) (hini : (Cond.initialized "java/lang/System").before args s = true)
    (hts : ∀ w ∈ lw_all, w.before args s = true) (hK : Kn_ G s) (hH : St_ G n M s H locs) {a0 a t : Nat} (ht3 : t < 3) {sp dp k : Int32} (hv : oC_ M a0 t sp a dp k = some true)
    (hF : 8 < R.frames) (hLo : (rest.map fun v => v.category).sum + 10240 ≤ R.locals) (hC : cells + 3 ≤ R.cells) (hS : slots + 1000 ≤ R.slots) (hdg : decode cc pc = .ok (.invokestatic index, 3))
    (kk : ∀ (H1 : Heap) (locs1 : List Loc), St_ G (n + 3) M s H1 locs1 → (∃ ce : Cell, H1[n + 2]? = some ce ∧ ce.vm.isStatics = false ∧ s.vm.findClass "java/lang/ArrayIndexOutOfBoundsException" = some ce.cls) → Wx p l e R s m args below meth c H1 locs1 (cells + 3) (slots + 1000) Q (F0 m pc ls rest) (n + 2)) :
    W p l e R s m args below meth c H locs cells slots Q (F0 m pc ls (.int k :: .int dp :: .ref a :: .int sp :: .ref a0 :: rest)) := by
  obtain ⟨n0, f, n1, g, he0, he1, z0, z1, hbad⟩ := oC_spec hv
  have hbad := cp_bad (of_decide_eq_true hbad.symm)
  have hA : ∀ (N : Nat) (z : Nat → Value), s.isArrayOf (arrV (G.2.2.1 t) N z) (tT_ t) := by
    match t, ht3 with
    | 0, _ => exact (hK.1.2 0 _ rfl).1
    | 1, _ => exact (hK.1.2 1 _ rfl).1
    | 2, _ => exact (hK.1.2 2 _ rfl).1
  have hprim : refKind (tT_ t) = false := by
    match t, ht3 with
    | 0, _ => rfl
    | 1, _ => rfl
    | 2, _ => rfl
  intro T hT X
  have hc0 : H[a0]? = some (vp_cell (G.2.2.1 t) (n0, .inl f)) := (hH.1 a0 _ he0).1
  have hc1 : H[a]? = some (vp_cell (G.2.2.1 t) (n1, .inl g)) := (hH.1 a _ he1).1
  obtain ⟨-, k0, hk0, cm0, hkk0⟩ := hA n0 (fun j => .int (f j))
  obtain ⟨-, k1, hk1, cm1, hkk1⟩ := hA n1 (fun j => .int (g j))
  obtain ⟨r, kS, methS, hnS, hmS, hkS, N⟩ := NativeOf.of_static hnat hstat (ps := [.object "java/lang/Object", .int, .object "java/lang/Object", .int, .int]) (ret := none) (by decide +kernel)
  have hinitS : kS.init = .initialized := Cond.initialized_spec (findClass_of_methodNamed hnS) hkS hini
  obtain ⟨vm', X', step⟩ := X.invokestatic hexec hown hlink hnS hmS N.static hkS hinitS (by decide) (g := F0 m pc ls (.int k :: .int dp :: .ref a :: .int sp :: .ref a0 :: rest)) rfl (argsL := [.ref a0, .int sp, .ref a, .int dp, .int k]) (rest := rest) (by rw [N.sig]; rfl) rfl (by rw [hb]; exact hdg)
  have hA' : s.vm.Alike vm' := X'.warmed.alike
  obtain ⟨kS', N'⟩ := N.alike hA'
  obtain ⟨k0', hk0', e0⟩ := hA'.2.2 _ _ hk0
  obtain ⟨k1', hk1', e1⟩ := hA'.2.2 _ _ hk1
  have hseen : seenByNative methS #[.ref a0, .int sp, .ref a, .int dp, .int k] = #[.ref a0, .int sp, .ref a, .int dp, .int k] := by
    simp [seenByNative, N.static, N.sig, narrow]
  have q0 : (vp_cell (G.2.2.1 t) (n0, .inl f)).slots.size = n0 := by
    show (arrV _ n0 (fun j => .int (f j))).slots.size = _
    exact arrV_size _ _ _
  have q1 : (vp_cell (G.2.2.1 t) (n1, .inl g)).slots.size = n1 := by
    show (arrV _ n1 (fun j => .int (g j))).slots.size = _
    exact arrV_size _ _ _
  obtain ⟨w, hw1, hw2⟩ := cp_out (e := e) (s := ((T.setVm vm').setTop (F0 m pc ls rest)).pushFrame (.native { method := r, args := seenByNative methS #[.ref a0, .int sp, .ref a, .int dp, .int k], locked := none })) (src := a0) (dst := a) (sp := sp) (dp := dp) (n := k)
    (cs := vp_cell (G.2.2.1 t) (n0, .inl f)) (cd := vp_cell (G.2.2.1 t) (n1, .inl g)) (ks := k0') (kd := k1') (sComp := cm0) (dComp := cm1) (sType := tT_ t) (dType := tT_ t)
    (show T.heap[a0]? = _ by rw [hT]; exact hc0) (show T.heap[a]? = _ by rw [hT]; exact hc1) (fun _ h => by cases h) (fun _ h => by cases h) hk0' hk1' (by rw [e0]; exact hkk0) (by rw [e1]; exact hkk1) (by simp [hprim]) (cp_kn ht3) (cp_kn ht3) (by rw [q0]; exact z0) (by rw [q1]; exact z1) (by rw [q0, q1]; exact hbad)
  have hsz : (T.setVm vm').heap.size = n := by rw [← hH.2.1, ← hT]; rfl
  have hB := cp_sz hw1
  obtain ⟨T1, L, X2, g1, g2, g3, g4, g5⟩ := xn_cp (nf := { method := r, args := seenByNative methS #[.ref a0, .int sp, .ref a, .int dp, .int k], locked := none }) rfl rfl rfl X' hexec (Launch.traces_off hnt X.admits) (cls := "java/lang/ArrayIndexOutOfBoundsException") (names := ["java/lang/IndexOutOfBoundsException", "java/lang/RuntimeException", "java/lang/Exception"]) (text := "arraycopy: " ++ w) (by decide +kernel) (by decide +kernel) (by decide) (by decide) (xr_all xa_idx hts hK) (q0 := G.1) hH.2.2.2.2.2 hK.2.2.2.2.2.2.2.2.1.zq (cp_mod w)
    (by rw [Launch.admits_arrayLengthLimit X.admits]; omega) (by rw [Launch.admits_maxHeapBytes X.admits]; show ¬ (stringBytes (stringToUtf16 ("arraycopy: " ++ w))).size * 1 > _; omega) (g := F0 m pc ls rest) rfl hml.symm hF (by show 2 * 0 + (rest.map fun v => v.category).sum + 10240 ≤ _; omega) (by decide) hC (by omega)
  rw [hsz] at g1 g2 g3 g4 g5
  have X3 := stand_widen X2 (Nat.le_refl _) (show slots + ((stringBytes (stringToUtf16 ("arraycopy: " ++ w))).size + 4 + 6) ≤ slots + 1000 by omega)
  obtain ⟨t9, a1, b1⟩ := kk T1.heap (locs ++ L) (hH.more (k := 3) g2 (fun q hq => by rw [g3 q hq, ← hT]; rfl) (fun q hq => by rw [g1 q hq]; omega)) g4 T1 rfl X3
  refine ⟨t9, step t9 fun acts => ?_, b1⟩
  refine nat_throw (g := F0 m pc ls rest) X'.here acts N'.cls N'.meth N'.boot N'.native N'.noCode N'.noLock (row := arraycopyRow) (by rw [N'.className, N'.name, N'.desc]; exact arraycopy_row p) (by rw [N'.className, N'.name]; exact X'.notFull (g := F0 m pc ls rest) hml.symm (vars := nativeFrameWords "java/lang/System" "arraycopy" 5) (by omega) (by show 2 * 0 + (rest.map fun v => v.category).sum + (5 + 2 + 11) ≤ _; omega)) (cls := "java/lang/ArrayIndexOutOfBoundsException") (text := "arraycopy: " ++ w) (fun E hE => ?_) (g5 t9 a1)
  rw [arraycopyRow_sem, hseen]
  rw [hseen] at hw2 hE
  exact hw2 _ E _ _ hE
end XCP
