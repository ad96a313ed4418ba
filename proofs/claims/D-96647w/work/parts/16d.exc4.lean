/-! the machine's exceptions over the memory: rows -/
set_option maxRecDepth 100000
/-- words that aren't in the list, but follow -/
def xD_ : List (MethodName × ByteArray × Nat) := [(Bundle.init0 "java/lang/Throwable", LibCode.Throwable.Init0.code, 1), (Bundle.initS "java/lang/Throwable", LibCode.Throwable.InitS.code, 2), (Bundle.init0 "java/lang/Exception", Bundle.five, 1), (Bundle.initS "java/lang/Exception", Bundle.six, 2), (Bundle.init0 "java/lang/RuntimeException", Bundle.five, 1), (Bundle.initS "java/lang/RuntimeException", Bundle.six, 2), (Bundle.initS "java/lang/IndexOutOfBoundsException", Bundle.six, 2)]
theorem xD_in : ∀ q ∈ xD_, Cond.instanceMethod q.1 ∈ lw_all ∧ Cond.code q.1 q.2.1 q.2.2 none ∈ lw_all := by decide +kernel
abbrev xR_ (a : Cond) : Prop := a ∈ lw_all ∨ a ∈ [.isRef (.static Bundle.tN "UNASSIGNED_STACK" Bundle.steD), .isRef (.static Bundle.tN "SUPPRESSED_SENTINEL" Bundle.listD), .laysStatic Bundle.tN "UNASSIGNED_STACK" Bundle.steD, .laysStatic Bundle.tN "SUPPRESSED_SENTINEL" Bundle.listD] ∨ (∃ q ∈ xD_, a = .declares q.1) ∨ ∃ C ∈ [("java/lang/ClassCastException", "java/lang/ClassCastException"), ("java/lang/NegativeArraySizeException", "java/lang/NegativeArraySizeException"), ("java/lang/ArrayIndexOutOfBoundsException", "java/lang/ArrayIndexOutOfBoundsException"), ("java/lang/NullPointerException", "java/lang/NullPointerException")], a = .castable C.1 C.2
theorem xa_cce : ∀ a ∈ Bundle.messageArmAtoms "java/lang/ClassCastException" ["java/lang/RuntimeException", "java/lang/Exception"], xR_ a := by decide +kernel
theorem xa_nas : ∀ a ∈ Bundle.messageArmAtoms "java/lang/NegativeArraySizeException" ["java/lang/RuntimeException", "java/lang/Exception"], xR_ a := by decide +kernel
theorem xa_idx : ∀ a ∈ Bundle.messageArmAtoms "java/lang/ArrayIndexOutOfBoundsException" ["java/lang/IndexOutOfBoundsException", "java/lang/RuntimeException", "java/lang/Exception"], xR_ a := by decide +kernel
theorem xa_npe : ∀ a ∈ Bundle.npeArmAtoms 8, xR_ a ∨ a = .castable Bundle.rN Bundle.tN := by decide +kernel
theorem dc_of {args : Array Value} {s : State} {y : MethodName} {b : ByteArray} {k : Nat} (h1 : (Cond.instanceMethod y).before args s = true) (h2 : (Cond.code y b k none).before args s = true) : (Cond.declares y).before args s = true := by
  obtain ⟨mk, meth, hn, hm, hst, hab⟩ := Cond.instanceMethod_spec h1
  obtain ⟨meth', c', hm', -, -, -, -, -, -, hsig⟩ := Cond.code_spec hn h2
  cases hm.symm.trans hm'
  simp [Cond.before, Cond.holds, Cond.value, hn, hm, hst, hsig]
theorem cs_of {args : Array Value} {s : State} {C D : String} (h : Cs_ C D s) : (Cond.castable C D).before args s = true := by
  obtain ⟨c, t, h1, h2, h3⟩ := h
  simp [Cond.before, Cond.holds, Cond.value, h1, h2, h3]
section XRW
variable {p : Program} {l : Launch} {e : Env} {R : Room} {s : State} {m : MethodId} {args : Array Value} {below : List Frame} {meth : Method} {c : Code} {H : Heap} {locs : List Loc} {cells slots : Nat} {Q : State → Prop}
variable {cc : ByteArray} {pc : Nat} {ls : Array Slot} {rest st : List Value} {G : GT_} {n : Nat} {M : Mem_}
theorem xr_all {L : List Cond} (ha : ∀ a ∈ L, xR_ a) (hts : ∀ w ∈ lw_all, w.before args s = true) (hK : Kn_ G s) : ∀ a ∈ L, a.before args s = true := by
  intro a h
  rcases ha a h with h | h | ⟨q, hq, rfl⟩ | ⟨C, hC, rfl⟩
  · exact hts a h
  · simp only [List.mem_cons, List.not_mem_nil, or_false] at h
    rcases h with rfl | rfl | rfl | rfl
    · exact hK.2.2.2.2.2.2.2.2.1.isRef
    · exact hK.2.2.2.2.2.2.2.2.2.1.isRef
    · exact hK.2.2.2.2.2.2.2.2.1.lays
    · exact hK.2.2.2.2.2.2.2.2.2.1.lays
  · exact dc_of (hts _ (xD_in q hq).1) (hts _ (xD_in q hq).2)
  · exact cs_of (hK.2.2.2.1 C ((by decide +kernel : ∀ C ∈ [("java/lang/ClassCastException", "java/lang/ClassCastException"), ("java/lang/NegativeArraySizeException", "java/lang/NegativeArraySizeException"), ("java/lang/ArrayIndexOutOfBoundsException", "java/lang/ArrayIndexOutOfBoundsException"), ("java/lang/NullPointerException", "java/lang/NullPointerException")], C ∈ kC_) C hC))
theorem xr_npe (hts : ∀ w ∈ lw_all, w.before args s = true) (hK : Kn_ G s) : ∀ a ∈ Bundle.npeArmAtoms 8, a.before args s = true := by
  intro a h
  rcases xa_npe a h with h1 | h1
  · exact xr_all (L := [a]) (fun b hb => by rw [List.mem_singleton.mp hb]; exact h1) hts hK a List.mem_cons_self
  · rw [h1]; exact cs_of (hK.2.2.2.1 (Bundle.rN, Bundle.tN) (by decide +kernel))
/-- new cells beyond what is known -/
theorem St_.more {H1 : Heap} {L : List Loc} {k : Nat} (hH : St_ G n M s H locs) (z : H1.size = n + k) (o1 : ∀ q, q < n → H1[q]? = H[q]?) (hL : ∀ q ∈ L, n ≤ q.base) : St_ G (n + k) M s H1 (locs ++ L) := by
  obtain ⟨h1, h2, h3, h4⟩ := hH
  refine ⟨fun b x hb => ⟨(h1 b x hb).1.kept (o1 b (by rw [← h2]; exact (h1 b x hb).1.lt)), (h1 b x hb).2⟩, z, by omega, ⟨by have := h4.1; omega, fun q g1 g2 => (o1 q (by have := h4.1; omega)).trans (h4.2.1 q g1 g2), fun q hq => ?_⟩⟩
  rcases List.mem_append.mp hq with h | h
  · exact h4.2.2 q h
  · exact Nat.le_trans h3 (hL q h)
/-- an instruction at which the machine makes an exception with a message -/
theorem wx_msg {g : JFrame} {cls : String} {names : List String} {B : Nat} (hexec : p.tables.exec = Jvm.exec) (hnt : l.flags = flags0) (hcls : Bundle.fit cls = true) (hnames : ∀ n ∈ names, Bundle.fit n = true) (hsoe : (cls == "java/lang/StackOverflowError") = false) (hoom : (cls == "java/lang/OutOfMemoryError") = false)
    (ha : ∀ a ∈ Bundle.messageArmAtoms cls names, xR_ a) (hts : ∀ w ∈ lw_all, w.before args s = true) (hK : Kn_ G s) (hH : St_ G n M s H locs) (hsize : ls.size = c.maxLocals) (hB2 : B ≤ 100000)
    (hF : names.length + 4 < R.frames) (hLo : (st.map fun v => v.category).sum + 10240 ≤ R.locals) (hsh : 13 * names.length + 55 ≤ 10240) (hC : cells + 3 ≤ R.cells) (hS : slots + B ≤ R.slots)
    (hstep : ∀ T : State, T.heap = H → Stand p l e R s m args below meth c T locs cells slots → ∃ (vm' : Vm) (text : String), (text == notModelled) = false ∧ (stringBytes (stringToUtf16 text)).size + 10 ≤ B ∧ Stand p l e R s m args below meth c (T.setVm vm') locs cells slots ∧ ∀ target, Steps p.tables e below (((T.setVm vm').setTop (F0 m pc ls st)).pushFrame (.throwNew cls (some text) none)) target → Steps p.tables e below (T.setTop g) target)
    (kk : ∀ (H1 : Heap) (locs1 : List Loc), St_ G (n + 3) M s H1 locs1 → (∃ ce : Cell, H1[n + 2]? = some ce ∧ ce.vm.isStatics = false ∧ s.vm.findClass cls = some ce.cls) → Wx p l e R s m args below meth c H1 locs1 (cells + 3) (slots + B) Q (F0 m pc ls st) (n + 2)) :
    W p l e R s m args below meth c H locs cells slots Q g := by
  intro T hT X
  obtain ⟨vm', text, h1, h2, X1, hst⟩ := hstep T hT X
  have hsz : (T.setVm vm').heap.size = n := by rw [← hH.2.1, ← hT]; rfl
  obtain ⟨T1, L, X2, g1, g2, g3, g4, g5⟩ := xm_core X1 hexec (Launch.traces_off hnt X.admits) hcls hnames hsoe hoom (xr_all ha hts hK) (q0 := G.1) hH.2.2.2.2.2 hK.2.2.2.2.2.2.2.2.1.zq h1
    (by rw [Launch.admits_arrayLengthLimit X.admits]; omega) (by rw [Launch.admits_maxHeapBytes X.admits]; show ¬ (stringBytes (stringToUtf16 text)).size * 1 > _; omega) (g := F0 m pc ls st) rfl hsize hF (by show 2 * 0 + (st.map fun v => v.category).sum + 10240 ≤ _; omega) hsh hC (by omega)
  rw [hsz] at g1 g2 g3 g4 g5
  have X3 := stand_widen X2 (Nat.le_refl _) (show slots + ((stringBytes (stringToUtf16 text)).size + 4 + 6) ≤ slots + B by omega)
  obtain ⟨t, a1, b1⟩ := kk T1.heap (locs ++ L) (hH.more (k := 3) g2 (fun q hq => by rw [g3 q hq, ← hT]; rfl) (fun q hq => by rw [g1 q hq]; omega)) g4 T1 rfl X3
  exact ⟨t, hst t (g5 t a1), b1⟩
/-- an instruction at which the machine makes a NullPointerException -/
theorem wx_npe {g : JFrame} (hexec : p.tables.exec = Jvm.exec) (hnt : l.flags = flags0) (hts : ∀ w ∈ lw_all, w.before args s = true) (hK : Kn_ G s) (hH : St_ G n M s H locs) (hsize : ls.size = c.maxLocals)
    (hF : 7 < R.frames) (hLo : (st.map fun v => v.category).sum + 10240 ≤ R.locals) (hC : cells + 1 ≤ R.cells) (hS : slots + 8 ≤ R.slots)
    (hstep : ∀ T : State, T.heap = H → Stand p l e R s m args below meth c T locs cells slots → ∃ (vm' : Vm), Stand p l e R s m args below meth c (T.setVm vm') locs cells slots ∧ ∀ target, Steps p.tables e below (((T.setVm vm').setTop (F0 m pc ls st)).pushFrame (.throwNew "java/lang/NullPointerException" none none)) target → Steps p.tables e below (T.setTop g) target)
    (kk : ∀ (H1 : Heap) (locs1 : List Loc), St_ G (n + 1) M s H1 locs1 → (∃ ce : Cell, H1[n]? = some ce ∧ ce.vm.isStatics = false ∧ s.vm.findClass "java/lang/NullPointerException" = some ce.cls) → Wx p l e R s m args below meth c H1 locs1 (cells + 1) (slots + 8) Q (F0 m pc ls st) n) :
    W p l e R s m args below meth c H locs cells slots Q g := by
  intro T hT X
  obtain ⟨vm', X1, hst⟩ := hstep T hT X
  have hsz : (T.setVm vm').heap.size = n := by rw [← hH.2.1, ← hT]; rfl
  obtain ⟨T1, L, X2, g1, g2, g3, g4, g5⟩ := xn_core X1 hexec (Launch.traces_off hnt X.admits) (xr_npe hts hK) (q0 := G.1) hH.2.2.2.2.2 hK.2.2.2.2.2.2.2.2.1.zq (g := F0 m pc ls st) rfl hsize hF (by show 2 * 0 + (st.map fun v => v.category).sum + 10240 ≤ _; omega) hC hS
  rw [hsz] at g1 g2 g3 g4 g5
  obtain ⟨t, a1, b1⟩ := kk T1.heap (locs ++ L) (hH.more (k := 1) g2 (fun q hq => by rw [g3 q hq, ← hT]; rfl) (fun q hq => by rw [g1 q hq]; exact Nat.le_refl _)) g4 T1 rfl X2
  exact ⟨t, hst t (g5 t a1), b1⟩
/-- arrays: beyond the end -/
def oI_ (M : Mem_) (a t : Nat) (i : Int32) : Option Bool := (ai_ M a t).bind fun x => if x.1 ≤ 1000 then some (decide (i < 0 ∨ x.1 ≤ i.toNatClampNeg)) else none
theorem oI_spec {M : Mem_} {a t : Nat} {i : Int32} (h : oI_ M a t i = some true) : ∃ N f, M a = some (eI_ t N f) ∧ N ≤ 1000 ∧ (i < 0 ∨ N ≤ i.toNatClampNeg) := by
  obtain ⟨x, h1, h2⟩ := bs_ h
  cases x with
  | mk N f =>
    split at h2
    · rename_i w
      refine ⟨N, f, ai_spec h1, w, ?_⟩
      simpa using h2
    · cases h2
theorem xr_arr {t : Nat} (ht : t < 3) (hK : Kn_ G s) (N : Nat) (z : Nat → Value) : ∃ ty, s.isArrayOf (arrV (G.2.2.1 t) N z) ty := by
  match t, ht with
  | 0, _ => exact ⟨_, (hK.1.2 0 _ rfl).1 N z⟩
  | 1, _ => exact ⟨_, (hK.1.2 1 _ rfl).1 N z⟩
  | 2, _ => exact ⟨_, (hK.1.2 2 _ rfl).1 N z⟩
def ixt_ (i : Int32) (N : Nat) : String := toString "Index " ++ toString i ++ toString " out of bounds for length " ++ toString N
theorem xr_txt (i : Int32) (N : Nat) (hN : N < 2 ^ 31) : ((ixt_ i N) == notModelled) = false ∧ (stringBytes (stringToUtf16 (ixt_ i N))).size + 10 ≤ 1000 := by
  exact ⟨index_text_modelled i N, Nat.le_trans (Nat.add_le_add_right (index_text_bytes i hN) 10) (by decide)⟩
/-- what the six array instructions share, beyond the end -/
theorem wx_idx {a t : Nat} {i : Int32} {g : JFrame} (hexec : p.tables.exec = Jvm.exec) (hnt : l.flags = flags0) (hts : ∀ w ∈ lw_all, w.before args s = true) (hK : Kn_ G s) (hH : St_ G n M s H locs) (hsize : ls.size = c.maxLocals) (ht : t < 3) (ho : oI_ M a t i = some true)
    (hF : 7 < R.frames) (hLo : (st.map fun v => v.category).sum + 10240 ≤ R.locals) (hC : cells + 3 ≤ R.cells) (hS : slots + 1000 ≤ R.slots)
    (hstep : ∀ (T : State) (cell : Cell) (ty : FieldType), T.heap[a]? = some cell → s.isArrayOf cell ty → (i < 0 ∨ cell.slots.size ≤ i.toNatClampNeg) → Stand p l e R s m args below meth c T locs cells slots → ∀ target, Steps p.tables e below ((T.setTop (F0 m pc ls st)).pushFrame (.throwNew "java/lang/ArrayIndexOutOfBoundsException" (some (ixt_ i cell.slots.size)) none)) target → Steps p.tables e below (T.setTop g) target)
    (kk : ∀ (H1 : Heap) (locs1 : List Loc), St_ G (n + 3) M s H1 locs1 → (∃ ce : Cell, H1[n + 2]? = some ce ∧ ce.vm.isStatics = false ∧ s.vm.findClass "java/lang/ArrayIndexOutOfBoundsException" = some ce.cls) → Wx p l e R s m args below meth c H1 locs1 (cells + 3) (slots + 1000) Q (F0 m pc ls st) (n + 2)) :
    W p l e R s m args below meth c H locs cells slots Q g := by
  obtain ⟨N, f, he, hN, hout⟩ := oI_spec ho
  have h1 : H[a]? = some (arrV (G.2.2.1 t) N (fun j => .int (f j))) := (hH.1 a _ he).1
  obtain ⟨ty, hty⟩ := xr_arr ht hK N (fun j => .int (f j))
  refine wx_msg (B := 1000) hexec hnt (by decide +kernel) (by decide +kernel) (by decide) (by decide) xa_idx hts hK hH hsize (by decide) hF hLo (by decide) hC hS (fun T hT X => ?_) kk
  obtain ⟨q1, q2⟩ := xr_txt i N (by omega)
  refine ⟨T.vm, _, q1, q2, X, fun target hs => ?_⟩
  refine hstep T (arrV (G.2.2.1 t) N (fun j => .int (f j))) ty (by rw [hT]; exact h1) hty (by rw [arrV_size]; exact hout) X target ?_
  rw [arrV_size]
  exact hs
/-- newarray of a negative length -/
theorem wx_neg {atype : ArrayType} {i : Int32} (hexec : p.tables.exec = Jvm.exec) (hb : c.code = cc) (hnt : l.flags = flags0) (hts : ∀ w ∈ lw_all, w.before args s = true) (hK : Kn_ G s) (hH : St_ G n M s H locs) (hsize : ls.size = c.maxLocals) (hi : i < 0)
    (hF : 6 < R.frames) (hLo : (rest.map fun v => v.category).sum + 10240 ≤ R.locals) (hC : cells + 3 ≤ R.cells) (hS : slots + 1000 ≤ R.slots) (hdg : decode cc pc = .ok (.newarray atype, 2))
    (kk : ∀ (H1 : Heap) (locs1 : List Loc), St_ G (n + 3) M s H1 locs1 → (∃ ce : Cell, H1[n + 2]? = some ce ∧ ce.vm.isStatics = false ∧ s.vm.findClass "java/lang/NegativeArraySizeException" = some ce.cls) → Wx p l e R s m args below meth c H1 locs1 (cells + 3) (slots + 1000) Q (F0 m pc ls rest) (n + 2)) :
    W p l e R s m args below meth c H locs cells slots Q (F0 m pc ls (.int i :: rest)) := by
  refine wx_msg (B := 1000) hexec hnt (by decide +kernel) (by decide +kernel) (by decide) (by decide) xa_nas hts hK hH hsize (by decide) hF hLo (by decide) hC hS (fun T hT X => ?_) kk
  refine ⟨T.vm, _, negative_text_modelled hi, by have := negative_text_bytes i; omega, X, fun target hs => ?_⟩
  exact X.newarrayNegative hexec (g := F0 m pc ls (.int i :: rest)) rfl hi rfl (by rw [hb]; exact hdg) target hs
end XRW
