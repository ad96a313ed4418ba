/-! own exceptions: made, their constructors, read -/
set_option maxRecDepth 100000
/-- the constructors' chain, from an invokespecial in the method's own frame -/
def xcA_ (own : String) (ic : Nat) (cls top : String) (names : List String) : List Cond :=
  Bundle.throwableAtoms ++ Bundle.chain0Atoms top names ++
  [.methodLink own ic (Bundle.init0 top), .selects cls Bundle.tFill0 Bundle.tFill0, .selects cls Bundle.tFill Bundle.tFill,
   .lays cls Bundle.tN "cause" "Ljava/lang/Throwable;", .lays cls Bundle.tN "stackTrace" Bundle.steD, .lays cls Bundle.tN "suppressedExceptions" Bundle.listD,
   .isRef (.static Bundle.tN "UNASSIGNED_STACK" Bundle.steD), .isRef (.static Bundle.tN "SUPPRESSED_SENTINEL" Bundle.listD),
   .fieldLink Bundle.tN 198 Bundle.tN "backtrace" "Ljava/lang/Object;", .lays Bundle.tN Bundle.tN "backtrace" "Ljava/lang/Object;", .lays cls Bundle.tN "backtrace" "Ljava/lang/Object;"]
section XOC
variable {p : Program} {l : Launch} {e : Env} {R : Room} {s : State} {m₀ : MethodId} {args : Array Value} {below : List Frame} {meth : Method} {c : Code} {T' : State} {locs : List Loc} {cells slots : Nat}
set_option maxHeartbeats 2000000 in
theorem xc_core (X : Stand p l e R s m₀ args below meth c T' locs cells slots) (hexec : p.tables.exec = Jvm.exec) (htr : e.platform.stackTraces = false) {own cls top : String} {names : List String} {ic : Nat}
    (hown : s.vm.findClass own = some m₀.cls) (htop : Bundle.fit top = true) (hnames : ∀ n ∈ names, Bundle.fit n = true) (h : ∀ a ∈ xcA_ own ic cls top names, a.before args s = true)
    {q0 : Nat} (hlocs : ∀ x ∈ locs, q0 ≤ x.base) (hz : va_Zq Bundle.tN "UNASSIGNED_STACK" Bundle.steD (fun q => q0 ≤ q) s s.heap)
    {a : Addr} {cX : ClassId} {kX : Class} (hfound : s.vm.findClass cls = some cX) (hk : s.vm.classes[cX]? = some kX) (hord : kX.kind = .ordinary) (hcell : T'.heap[a]? = some (freshCell cX kX)) (hnew : q0 ≤ a)
    {g : JFrame} (hg : g.method = m₀) (hsize : g.locals.size = c.maxLocals) {rest : List Value} (hstack : g.stack = .ref a :: rest)
    (hd6 : decode c.code g.pc = .ok (.invokespecial ic, 3))
    (hRframes : names.length + 3 < R.frames) (hRlocals : 2 * g.monitorRoom + (rest.map fun v => v.category).sum + (13 * (names.length + 1) + 41) ≤ R.locals) :
    ∃ (T1 : State) (L : List Loc) (cell1 : Cell), Stand p l e R s m₀ args below meth c T1 (locs ++ L) cells slots ∧ (∀ q ∈ L, q.base = a) ∧ T1.heap.size = T'.heap.size ∧ (∀ q, q ≠ a → T1.heap[q]? = T'.heap[q]?) ∧
      T1.heap[a]? = some cell1 ∧ cell1.vm = .none ∧ cell1.cls = cX ∧ cell1.slots.size = kX.instanceTypes.size ∧
      ∀ target, Steps p.tables e below (T1.setTop { g with stack := rest, pc := g.pc + 3 }) target → Steps p.tables e below (T'.setTop g) target := by
  have howns : e.platform.frameOwnsMonitors = true := by rw [X.admits.platform]
  have hfin : e.platform.finalization = false := by rw [X.admits.platform]
  have hpl : e.platform.magicAccessors = ({} : Platform).magicAccessors := by rw [X.admits.platform]
  have at_ : ∀ x, x ∈ xcA_ own ic cls top names → x.holds args s none s [] = true := fun x hx => h x hx
  obtain ⟨T, Z, L, LZ, Y⟩ := ThrowableC.of_atoms (args := args) howns hfin hpl (fun x hx => h x (by simp [xcA_, hx]))
  obtain ⟨P1, Ps, hlen, L1, hL, hP1m, hlink1, hlink⟩ := Bundle.chain0 (args := args) hpl Y.init0 names top htop hnames (fun x hx => h x (by simp [xcA_, hx]))
  have hsel : ∀ (y : MethodName) (mm : MethodId), s.methodNamed? y = some mm → (y.cls ≠ "java/lang/invoke/MethodHandle" ∧ y.cls ≠ "java/lang/invoke/VarHandle") → (Cond.selects cls y y).holds args s none s [] = true → selectMethod e.platform s.vm cX mm = .method mm := by
    intro y mm hy hne hs
    obtain ⟨c2, r2, m2, q1, q2, q3, q4, -⟩ := Cond.selects_spec hs
    cases q1.symm.trans hfound
    cases q2.symm.trans (State.methodFound?_of_named hy hne)
    cases q3.symm.trans hy
    rw [Launch.admits_selectMethod X.admits]; exact q4
  have hsel0 := hsel _ _ Y.fill0 (by decide) (at_ (.selects cls Bundle.tFill0 Bundle.tFill0) (by simp [xcA_]))
  have hselF := hsel _ _ Y.fill (by decide) (at_ (.selects cls Bundle.tFill Bundle.tFill) (by simp [xcA_]))
  obtain ⟨cellS0, hcS0, hiss⟩ := Y.statics
  obtain ⟨u0, hu0⟩ := Cond.staticRefV Y.unassigned L.unassignedStatic L.statics hcS0 hiss (at_ (.isRef (.static Bundle.tN "UNASSIGNED_STACK" Bundle.steD)) (by simp [xcA_]))
  obtain ⟨sen, hsen⟩ := Cond.staticRefV Y.sentinel L.sentinelStatic L.statics hcS0 hiss (at_ (.isRef (.static Bundle.tN "SUPPRESSED_SENTINEL" Bundle.listD)) (by simp [xcA_]))
  obtain ⟨ci198, i198, fB, hk198, hg198, ha198, hsB, -, hnB, htB, hffB⟩ := Cond.ownField (t := .object "java/lang/Object") Y.found L.cls (by decide +kernel) (at_ (.fieldLink Bundle.tN 198 Bundle.tN "backtrace" "Ljava/lang/Object;") (by simp [xcA_])) (at_ (.lays Bundle.tN Bundle.tN "backtrace" "Ljava/lang/Object;") (by simp [xcA_])) e.platform hpl
  obtain ⟨cellS, hcS', heS, -, hkeep⟩ := X.same.2.2.2.2.2 T.aS cellS0 hcS0
  have hcellS : T'.heap[T.aS]? = some cellS := hcS'
  have haS : ¬ q0 ≤ T.aS := by
    rcases hz with hz | ⟨t, hz⟩
    · obtain ⟨cf, kf, fi, f, a, cell, z1, -, -, z4, -, -, -, z8⟩ := hz
      cases z1.symm.trans Y.unassigned
      cases z4.symm.trans L.statics
      exact z8
    · obtain ⟨cf, kf, fi, f, a, cell, z1, -, -, z4, -, -, -, z8⟩ := hz
      cases z1.symm.trans Y.unassigned
      cases z4.symm.trans L.statics
      exact z8
  have hout' : ∀ i, (⟨T.aS, i⟩ : Loc) ∉ locs := fun i hmem => haS (hlocs _ hmem)
  have hknownS : cellS.vm ≠ .unknown := by
    rw [heS]; intro hu
    rw [show cellS0.vm = .unknown from hu] at hiss
    cases hiss
  have hneS : T.aS ≠ a := fun q => haS (by rw [q]; exact hnew)
  obtain ⟨tyC, dC, hdC, hdnC⟩ := Cond.laysAt hfound hk Y.cause (at_ (.lays cls Bundle.tN "cause" "Ljava/lang/Throwable;") (by simp [xcA_]))
  obtain ⟨tyS, dS, hdS, hdnS⟩ := Cond.laysAt hfound hk Y.stack (at_ (.lays cls Bundle.tN "stackTrace" Bundle.steD) (by simp [xcA_]))
  obtain ⟨tyP, dP, hdP, hdnP⟩ := Cond.laysAt hfound hk Y.supp (at_ (.lays cls Bundle.tN "suppressedExceptions" Bundle.listD) (by simp [xcA_]))
  obtain ⟨tyB, dB, hdB, hdnB⟩ := Cond.laysAt hfound hk hffB (at_ (.lays cls Bundle.tN "backtrace" "Ljava/lang/Object;") (by simp [xcA_]))
  have bC := Cond.laysApart hdB hdC hdnB hdnC (by rw [hnB, Y.causeName]; decide)
  have bS := Cond.laysApart hdB hdS hdnB hdnS (by rw [hnB, Y.stackName]; decide)
  have bP := Cond.laysApart hdB hdP hdnB hdnP (by rw [hnB, Y.suppName]; decide)
  have hskip : SkipFacts T e.platform s (fun u => u) u0 ((preparedCellV T.toThrowableT (freshCell cX kX) a u0 sen).withEntry T'.cur) :=
    ⟨{ ci198 := ci198, i198 := i198, fBack := fB }, ⟨hk198, hg198, ha198, hsB⟩, by
      have := fresh_default (c := cX) tyB
      rw [htB] at this
      simpa [preparedCellV, Cell.setSlot, Cell.withEntry, Array.getElem?_setIfInBounds, bC, bS, bP, bC.symm, bS.symm, bP.symm, defaultValue] using this, fun _ _ => rfl⟩
  obtain ⟨tm, methC, cdC, kC, vm₁, hnC, -, -, -, -, -, -, -, hW₁, st1⟩ := Steps.initCold (tb := p.tables) (e := e) (below := below) (s := s) (U := T') X.here hexec X.warmed hpl hown (t := Bundle.init0 top) rfl rfl (Bundle.fit_spec htop).2
    (at_ (.methodLink own ic (Bundle.init0 top)) (by simp [xcA_])) (h (.instanceMethod (Bundle.init0 top)) (by cases names <;> simp [xcA_, Bundle.chain0Atoms, Bundle.passAtoms])) (bytes := Bundle.five) (maxL := 1) (h (.code (Bundle.init0 top) Bundle.five 1 none) (by cases names <;> simp [xcA_, Bundle.chain0Atoms, Bundle.passAtoms]))
    (f := g) hg (a := a) (rest := rest) hstack hd6
  cases hnC.symm.trans hP1m
  have X₁ := X.noted hW₁
  obtain ⟨vm₂, X₂, st2⟩ := X₁.ctorPlainOffV hexec (g := { g with stack := rest }) hg hsize T L Z LZ (P1 :: Ps)
    (fun P hP => by rcases List.mem_cons.mp hP with rfl | hP; exact L1; exact hL P hP) ⟨hlink1, hlink⟩ (u0 := u0) (sen := sen) (self := a) (cell := freshCell cX kX) (cellS := cellS)
    hcell (fun _ => by simp) (by simp) rfl rfl hsel0 hselF hcellS hneS hknownS (by rw [hkeep _ (hout' _)]; exact hu0) (by rw [hkeep _ (hout' _)]; exact hsen)
    (Takes.of_laid hk hord tyC (by rw [Y.causeType]; rfl)) (Takes.of_laid hk hord tyS (by rw [Y.stackType]; exact fits_refV_array _ u0)) (Takes.of_laid hk hord tyP (by rw [Y.suppType]; exact fits_refV_object _ sen)) Y.objLocals hskip htr [] hd6
    (by simp only [List.length_cons, hlen]; omega) (by simp only [List.length_cons, hlen]; exact hRlocals)
  have hlt : a < ((T'.setVm vm₁).setVm vm₂).heap.size := (Array.getElem?_eq_some_iff.mp hcell).1
  have hU := heapAt_setCell_self (s := (T'.setVm vm₁).setVm vm₂) ((preparedCellV T.toThrowableT (freshCell cX kX) a u0 sen).setSlot T.fStack.slot u0.v) hlt
  refine ⟨_, _, _, X₂, ?_, ?_, ?_, hU, rfl, rfl, ?_, fun target ht => st1 _ (fun acts => ?_)⟩
  · intro q hq
    simp only [List.mem_cons, List.not_mem_nil, or_false] at hq
    rcases hq with rfl | rfl | rfl | rfl <;> rfl
  · show (((T'.setVm vm₁).setVm vm₂).setCell a _).heap.size = _
    rw [size_setCell]
    rfl
  · intro q hq
    rw [heapAt_setCell_ne _ (fun z => hq z.symm)]
    rfl
  · simp [preparedCellV, Cell.setSlot]
  · rw [doInvoke_state]
    exact st2 _ ht
end XOC
theorem xc_brk : ∀ a ∈ xcA_ "SideBySide$Broken" 1 "SideBySide$Broken" "java/lang/Exception" [], xR_ a := by decide +kernel
theorem xc_tos : ∀ a ∈ xcA_ "SideBySide$Tossed" 1 "SideBySide$Tossed" "java/lang/RuntimeException" ["java/lang/Exception"], xR_ a := by decide +kernel
/-- the class and its own number -/
def gX_ (M : Mem_) (a ci : Nat) : Option Int32 := match M a with
  | some (.inr (.inr (.inr (.inr (.inl (c, v)))))) => if c = ci then some v else none
  | _ => none
def xI_ (M : Mem_) (a ci : Nat) (v : Int32) : Option Mem_ := match M a with
  | some (.inr (.inr (.inr (.inr (.inr c))))) => if c = ci then some (ms_ M a (eX_ ci v)) else none
  | _ => none
theorem gX_spec {M : Mem_} {a ci : Nat} {v : Int32} (h : gX_ M a ci = some v) : M a = some (eX_ ci v) := by
  unfold gX_ at h
  split at h
  · rename_i c w e
    split at h
    · rename_i hc
      cases h
      rw [e, hc]
    · cases h
  · cases h
theorem xI_spec {M M' : Mem_} {a ci : Nat} {v : Int32} (h : xI_ M a ci v = some M') : M a = some (eN_ ci) ∧ M' = ms_ M a (eX_ ci v) := by
  unfold xI_ at h
  split at h
  · rename_i c e
    split at h
    · rename_i hc
      cases h
      rw [e, hc]
      exact ⟨rfl, rfl⟩
    · cases h
  · cases h
section XOM
variable {p : Program} {l : Launch} {e : Env} {R : Room} {s : State} {m : MethodId} {args : Array Value} {below : List Frame} {meth : Method} {c : Code} {H : Heap} {locs : List Loc} {cells slots : Nat} {Q : State → Prop}
variable {cc : ByteArray} {pc : Nat} {ls : Array Slot} {rest : List Value} {G : GT_} {n a : Nat} {M : Mem_}
theorem mg_newx {own C : String} {T : u_T} {N ci index : Nat} (hexec : p.tables.exec = Jvm.exec) (hb : c.code = cc) (hts : ∀ w ∈ lw_all, w.before args s = true) (hown : s.vm.findClass own = some m.cls) (hK : Kn_ G s) (hH : St_ G n M s H locs) (hcl : (Cond.classLink own index C).before args s = true) (hinst : (Cond.instantiable C N).before args s = true) (hini : (Cond.initialized C).before args s = true) (hc : vwCl[ci]? = some (C, T, N)) (hcells : cells + 1 ≤ R.cells) (hslots : slots + N ≤ R.slots) (hdg : decode cc pc = .ok (.new index, 3))
    (kk : ∀ (H1 : Heap), St_ G (n + 1) (ms_ M n (eN_ ci)) s H1 locs → W p l e R s m args below meth c H1 locs (cells + 1) (slots + N) Q (F0 m (pc + 3) ls (.ref n :: rest))) : W p l e R s m args below meth c H locs cells slots Q (F0 m pc ls rest) := by
  have hKn := hK.1.1 ci _ hc
  have hci : ci < 16 := (List.getElem?_eq_some_iff.mp hc).1
  refine W.newcK hexec hb hown hcl hinst hini rfl hdg hcells hslots hKn.2.1 hH.2.1 fun H1 kC hkC e1 z1 o1 => ?_
  refine kk H1 (hH.push ?_ (by rw [z1, hH.2.1]) (fun q hq => o1 q (by rw [← hH.2.1]; exact hq)))
  show H1[n]? = some _
  rw [e1, ← hK.2.2.2.2.2.2.2.1 ci kC hci hkC]
  rfl
theorem mg_gX (hexec : p.tables.exec = Jvm.exec) (hb : c.code = cc) {own ref C : String} {T : u_T} {N ci index : Nat} (hts : ∀ w ∈ lw_all, w.before args s = true) (hown : s.vm.findClass own = some m.cls) (hK : Kn_ G s) (hH : St_ G n M s H locs) {v : Int32} (hv : gX_ M a ci = some v) (hin : ∀ w ∈ u_ws C T N, w ∈ lw_all) (hc : vwCl[ci]? = some (C, T, N)) (hk : 6 < N) (hlink : (Cond.fieldLink own index ref (T 6).2.1 (T 6).2.2.1).before args s = true) (hsame : ∀ x, s.fieldFound? (T 6).1 (T 6).2.1 (T 6).2.2.1 = some x → s.fieldFound? ref (T 6).2.1 (T 6).2.2.1 = some x) (hdg : decode cc pc = .ok (.getfield index, 3))
    (kk : W p l e R s m args below meth c H locs cells slots Q (F0 m (pc + 3) ls (.int v :: rest))) : W p l e R s m args below meth c H locs cells slots Q (F0 m pc ls (.ref a :: rest)) := by
  obtain ⟨fs, h1, h2, h3⟩ := (hH.1 a _ (gX_spec hv)).1
  have hP : va_P G.2.1 vwCl [(a, .inr (ci, fs))] H := by
    intro k q hk
    have hz : k < 1 := (List.getElem?_eq_some_iff.mp hk).1
    rw [show k = 0 by omega] at hk
    cases hk
    exact h3
  exact va_get (ws := [(a, .inr (ci, fs))]) hexec hb hts hin hown hK.1 hP 0 rfl hc 6 hk hlink hsame h2 hdg kk
theorem gX_cls {ci : Nat} {v : Int32} {r : vw_C} (hK : Kn_ G s) (hH : St_ G n M s H locs) (hv : gX_ M a ci = some v) (hc : vwCl[ci]? = some r) : ∃ cell : Cell, H[a]? = some cell ∧ cell.vm.isStatics = false ∧ s.vm.findClass r.1 = some cell.cls := by
  obtain ⟨fs, h1, h2, h3⟩ := (hH.1 a _ (gX_spec hv)).1
  have hP : va_P G.2.1 vwCl [(a, .inr (ci, fs))] H := by
    intro k q hk
    have hz : k < 1 := (List.getElem?_eq_some_iff.mp hk).1
    rw [show k = 0 by omega] at hk
    cases hk
    exact h3
  exact va_recv (q0 := 0) hK.1 hP hc rfl
/-- the call of the super constructor -/
theorem mg_xsup (hexec : p.tables.exec = Jvm.exec) (hb : c.code = cc) (hnt : l.flags = flags0) {own C top : String} {names : List String} {T : u_T} {ci ic : Nat} (hts : ∀ w ∈ lw_all, w.before args s = true) (hown : s.vm.findClass own = some m.cls) (hK : Kn_ G s) (hH : St_ G n M s H locs) (hsize : ls.size = c.maxLocals) (hv : M a = some (eN_ ci)) (hin : ∀ w ∈ u_ws C T 7, w ∈ lw_all) {ty : Nat → FieldType} (hty : ∀ k, k < 7 → parseFieldDescriptor (T k).2.2.1 = some (ty k)) (hc : vwCl[ci]? = some (C, T, 7)) (htop : Bundle.fit top = true) (hnames : ∀ n ∈ names, Bundle.fit n = true) (ha : ∀ a ∈ xcA_ own ic C top names, xR_ a)
    (hF : names.length + 3 < R.frames) (hLo : (rest.map fun v => v.category).sum + (13 * (names.length + 1) + 41) ≤ R.locals) (hdg : decode cc pc = .ok (.invokespecial ic, 3))
    (kk : ∀ (H1 : Heap) (locs1 : List Loc) (fs : List Value), fs.length = 7 → St_ G n (ms_ M a (eO_ ci fs)) s H1 locs1 → W p l e R s m args below meth c H1 locs1 cells slots Q (F0 m (pc + 3) ls rest)) : W p l e R s m args below meth c H locs cells slots Q (F0 m pc ls (.ref a :: rest)) := by
  intro T0 hT X
  obtain ⟨hfr, hge⟩ := hH.1 a _ hv
  have hKn := hK.1.1 ci _ hc
  have hci : ci < 16 := (List.getElem?_eq_some_iff.mp hc).1
  obtain ⟨hfc, kX, hkX, hord⟩ := hKn.2
  have hit := hK.2.2.2.2.2.2.2.1 ci kX hci hkX
  have hcell : H[a]? = some (freshCell (G.2.1.1 ci) kX) := by
    have : H[a]? = some { cls := G.2.1.1 ci, slots := (G.2.2.2 ci).map defaultValue, vm := .none } := hfr
    rw [this, ← hit]
  have hborn := u_born (H := H) ty hts hin hKn hkX (show H[a]? = some (blank (G.2.1.1 ci) kX) from hcell) hty
  obtain ⟨T1, L, cell1, X1, g1, g2, g3, g4, g5, g6, g7, g8⟩ := xc_core X hexec (Launch.traces_off hnt X.admits) hown htop hnames (xr_all ha hts hK) (q0 := G.1) hH.2.2.2.2.2 hK.2.2.2.2.2.2.2.2.1.zq hfc hkX hord (by rw [hT]; exact hcell) hge (g := F0 m pc ls (.ref a :: rest)) rfl hsize rfl (by rw [hb]; exact hdg) hF (by show 2 * 0 + (rest.map fun v => v.category).sum + _ ≤ _; omega)
  obtain ⟨cellB, b1, b2, b3, b4⟩ := hborn
  have hbb : cellB = freshCell (G.2.1.1 ci) kX := Option.some.inj (b1.symm.trans hcell)
  have hslot : ∀ k, k < 7 → G.2.1.2 ci k < cell1.slots.size := fun k hk => by
    have h0 := (Array.getElem?_eq_some_iff.mp (b4 k hk)).1
    rw [hbb] at h0
    rw [g7]
    simpa using h0
  refine (fun (r : ∃ t, Steps p.tables e below (T1.setTop (F0 m (pc + 3) ls rest)) t ∧ Q t) => ?_) (kk T1.heap (locs ++ L) ((List.range 7).map fun k => (cell1.slots[G.2.1.2 ci k]?).getD .null) (by simp) (hH.run (e := eO_ ci ((List.range 7).map fun k => (cell1.slots[G.2.1.2 ci k]?).getD .null)) hv ?_ (by rw [g2, hT]) (fun q hq => by rw [g3 q hq, hT]) g1) T1 rfl X1)
  · obtain ⟨t, a1, q1⟩ := r
    exact ⟨t, g8 t a1, q1⟩
  · refine ⟨_, hc, cell1, g4, g6, g5, fun k hk => ?_⟩
    have hk : k < 7 := hk
    have h1 := hslot k hk
    show cell1.slots[G.2.1.2 ci k]? = some (vp_V _ k)
    rw [Array.getElem?_eq_getElem h1]
    simp [vp_V, hk, h1]
end XOM
