/-! exceptions that the machine makes: up to the point where they are being thrown over the method's own frame (the library's laws end outside the method) -/
set_option maxRecDepth 100000
section XMC
variable {p : Program} {l : Launch} {e : Env} {R : Room} {s : State} {m₀ : MethodId} {args : Array Value} {below : List Frame} {meth : Method} {c : Code} {T' : State} {locs : List Loc} {cells slots : Nat}
theorem xu_ {T1 : State} {gg g : JFrame} {a : Addr} (hfr : T1.frames = .java gg :: below) : (T1.setTop g).pushFrame (.throwing a) = T1.setFrames (.throwing a :: .java g :: below) := by
  rw [State.pushFrame, State.frames_setTop _ hfr, State.setTop_of_frames _ hfr, State.setFrames_setFrames]
set_option maxHeartbeats 2000000 in
theorem xm_core (X : Stand p l e R s m₀ args below meth c T' locs cells slots) (hexec : p.tables.exec = Jvm.exec) (htr : e.platform.stackTraces = false) {cls : String} {names : List String} {text : String}
    (hcls : Bundle.fit cls = true) (hnames : ∀ n ∈ names, Bundle.fit n = true) (hsoe : (cls == "java/lang/StackOverflowError") = false) (hoom : (cls == "java/lang/OutOfMemoryError") = false)
    (h : ∀ a ∈ Bundle.messageArmAtoms cls names, a.before args s = true)
    {q0 : Nat} (hlocs : ∀ x ∈ locs, q0 ≤ x.base) (hz : va_Zq Bundle.tN "UNASSIGNED_STACK" Bundle.steD (fun q => q0 ≤ q) s s.heap)
    (htext : (text == notModelled) = false) (hlimit : ¬ (stringBytes (stringToUtf16 text)).size > e.platform.arrayLengthLimit) (hheap : ¬ (stringBytes (stringToUtf16 text)).size * componentBytes .byte > e.platform.maxHeapBytes)
    {g : JFrame} (hg : g.method = m₀) (hsize : g.locals.size = c.maxLocals)
    (hRframes : names.length + 4 < R.frames) (hRlocals : 2 * g.monitorRoom + (g.stack.map fun v => v.category).sum + 10240 ≤ R.locals) (hshort : 13 * names.length + 55 ≤ 10240)
    (hRcells : cells + 3 ≤ R.cells) (hRslots : slots + ((stringBytes (stringToUtf16 text)).size + 4 + 6) ≤ R.slots) :
    ∃ (T1 : State) (L : List Loc), Stand p l e R s m₀ args below meth c T1 (locs ++ L) (cells + 3) (slots + ((stringBytes (stringToUtf16 text)).size + 4 + 6)) ∧ (∀ q ∈ L, q.base = T'.heap.size + 2) ∧ T1.heap.size = T'.heap.size + 3 ∧ (∀ q, q < T'.heap.size → T1.heap[q]? = T'.heap[q]?) ∧
      (∃ ce : Cell, T1.heap[T'.heap.size + 2]? = some ce ∧ ce.vm.isStatics = false ∧ s.vm.findClass cls = some ce.cls) ∧
      ∀ target, Steps p.tables e below ((T1.setTop g).pushFrame (.throwing (T'.heap.size + 2))) target → Steps p.tables e below ((T'.setTop g).pushFrame (.throwNew cls (some text) none)) target := by
  have howns : e.platform.frameOwnsMonitors = true := by rw [X.admits.platform]
  have hfin : e.platform.finalization = false := by rw [X.admits.platform]
  have hpl : e.platform.magicAccessors = ({} : Platform).magicAccessors := by rw [X.admits.platform]
  have at_ : ∀ x, x ∈ Bundle.messageArmAtoms cls names → x.holds args s none s [] = true := fun x hx => h x hx
  obtain ⟨T, Z0, L, -, Y⟩ := ThrowableC.of_atoms (args := args) howns hfin hpl (fun x hx => h x (by simp [Bundle.messageArmAtoms, hx]))
  obtain ⟨Z, M, LZ, LM, hnZ⟩ := Init0T.ofS_atoms (args := args) hpl L Y (fun x hx => h x (by simp [Bundle.messageArmAtoms, hx]))
  obtain ⟨P1, Ps, hlen, L1, hL, hP1m, hlink1, hlink⟩ := Bundle.chainS (args := args) hpl hnZ names cls hcls hnames (fun x hx => h x (by simp [Bundle.messageArmAtoms, hx]))
  obtain ⟨Zs, LZs, hn4, hfitv, hfitc⟩ := StringT.of_atoms (args := args) (fun x hx => h x (by simp [Bundle.messageArmAtoms, hx]))
  have hfound : s.vm.findClass cls = some P1.m.cls := findClass_of_methodNamed hP1m
  obtain ⟨c1, kX, hc1, hk, hord, -, -, hn6⟩ := Cond.instantiable_spec (at_ (.instantiable cls 6) (by simp [Bundle.messageArmAtoms]))
  cases hc1.symm.trans hfound
  have hinit := Cond.initialized_spec hfound hk (at_ (.initialized cls) (by simp [Bundle.messageArmAtoms]))
  have hctor : kX.findMethod "<init>" "(Ljava/lang/String;)V" = some P1.m.idx := findMethod_of_methodNamed hP1m hk
  have hsel : ∀ (y : MethodName) (mm : MethodId), s.methodNamed? y = some mm → (y.cls ≠ "java/lang/invoke/MethodHandle" ∧ y.cls ≠ "java/lang/invoke/VarHandle") → (Cond.selects cls y y).holds args s none s [] = true → selectMethod e.platform s.vm P1.m.cls mm = .method mm := by
    intro y mm hy hne hs
    obtain ⟨c2, r2, m2, q1, q2, q3, q4, -⟩ := Cond.selects_spec hs
    cases q1.symm.trans hfound
    cases q2.symm.trans (State.methodFound?_of_named hy hne)
    cases q3.symm.trans hy
    rw [Launch.admits_selectMethod X.admits]; exact q4
  have hsel0 := hsel _ _ Y.fill0 (by decide) (at_ (.selects cls Bundle.tFill0 Bundle.tFill0) (by simp [Bundle.messageArmAtoms]))
  have hselF := hsel _ _ Y.fill (by decide) (at_ (.selects cls Bundle.tFill Bundle.tFill) (by simp [Bundle.messageArmAtoms]))
  obtain ⟨cellS0, hcS0, hiss⟩ := Y.statics
  obtain ⟨u0, hu0⟩ := Cond.staticRefV Y.unassigned L.unassignedStatic L.statics hcS0 hiss (at_ (.isRef (.static Bundle.tN "UNASSIGNED_STACK" Bundle.steD)) (by simp [Bundle.messageArmAtoms]))
  obtain ⟨sen, hsen⟩ := Cond.staticRefV Y.sentinel L.sentinelStatic L.statics hcS0 hiss (at_ (.isRef (.static Bundle.tN "SUPPRESSED_SENTINEL" Bundle.listD)) (by simp [Bundle.messageArmAtoms]))
  obtain ⟨ci198, i198, fB, hk198, hg198, ha198, hsB, -, hnB, htB, hffB⟩ := Cond.ownField (t := .object "java/lang/Object") Y.found L.cls (by decide +kernel) (at_ (.fieldLink Bundle.tN 198 Bundle.tN "backtrace" "Ljava/lang/Object;") (by simp [Bundle.messageArmAtoms])) (at_ (.lays Bundle.tN Bundle.tN "backtrace" "Ljava/lang/Object;") (by simp [Bundle.messageArmAtoms])) e.platform hpl
  obtain ⟨cellS, hcS', heS, -, hkeep⟩ := X.same.2.2.2.2.2 T.aS cellS0 hcS0
  have hcellS : T'.heap[T.aS]? = some cellS := hcS'
  have haS : ¬ q0 ≤ T.aS := by
    rcases hz with hz | ⟨t, hz⟩
    · obtain ⟨cf, kf, fi, f, a, cell, z1, -, -, z4, -, -, -, z8⟩ := hz
      cases z1.symm.trans Y.unassigned
      cases z4.symm.trans L.statics
      exact z8
    · obtain ⟨cf, kf, fi, f, a, cell, z1, -, -, z4, -, -, -, z8⟩ := hz
      cases z1.symm.trans Y.unassigned
      cases z4.symm.trans L.statics
      exact z8
  have hout' : ∀ i, (⟨T.aS, i⟩ : Loc) ∉ locs := fun i hmem => haS (hlocs _ hmem)
  have hknownS : cellS.vm ≠ .unknown := by
    rw [heS]; intro hu
    rw [show cellS0.vm = .unknown from hu] at hiss
    cases hiss
  obtain ⟨iM, hffM⟩ := Y.msg
  obtain ⟨tyC, dC, hdC, hdnC⟩ := Cond.laysAt hfound hk Y.cause (at_ (.lays cls Bundle.tN "cause" "Ljava/lang/Throwable;") (by simp [Bundle.messageArmAtoms]))
  obtain ⟨tyS, dS, hdS, hdnS⟩ := Cond.laysAt hfound hk Y.stack (at_ (.lays cls Bundle.tN "stackTrace" Bundle.steD) (by simp [Bundle.messageArmAtoms]))
  obtain ⟨tyP, dP, hdP, hdnP⟩ := Cond.laysAt hfound hk Y.supp (at_ (.lays cls Bundle.tN "suppressedExceptions" Bundle.listD) (by simp [Bundle.messageArmAtoms]))
  obtain ⟨tyM, dM, hdM, hdnM⟩ := Cond.laysAt hfound hk hffM (at_ (.lays cls Bundle.tN "detailMessage" "Ljava/lang/String;") (by simp [Bundle.messageArmAtoms]))
  obtain ⟨tyB, dB, hdB, hdnB⟩ := Cond.laysAt hfound hk hffB (at_ (.lays cls Bundle.tN "backtrace" "Ljava/lang/Object;") (by simp [Bundle.messageArmAtoms]))
  have bC := Cond.laysApart hdB hdC hdnB hdnC (by rw [hnB, Y.causeName]; decide)
  have bS := Cond.laysApart hdB hdS hdnB hdnS (by rw [hnB, Y.stackName]; decide)
  have bP := Cond.laysApart hdB hdP hdnB hdnP (by rw [hnB, Y.suppName]; decide)
  have hskip : SkipFacts T e.platform s (fun u => u) u0 ((preparedCellV T.toThrowableT (freshCell P1.m.cls kX) (T'.heap.size + 2) u0 sen).withEntry T'.cur) :=
    ⟨{ ci198 := ci198, i198 := i198, fBack := fB }, ⟨hk198, hg198, ha198, hsB⟩, by
      have := fresh_default (c := P1.m.cls) tyB
      rw [htB] at this
      simpa [preparedCellV, Cell.setSlot, Cell.withEntry, Array.getElem?_setIfInBounds, bC, bS, bP, bC.symm, bS.symm, bP.symm, defaultValue] using this, fun _ _ => rfl⟩
  have hA : At T' g.method c below := by rw [hg]; exact X.here
  obtain ⟨hbeyond, hfreeW⟩ := X.vmMayThrow hsize (.throwNew cls (some text) none) (fun f hf => by cases hf) rfl hRlocals
  have hfr' : T'.frames.length + Ps.length + 4 < (e.platform.stackLimits T'.me).1 := by have := X.framesAbove hRframes; omega
  have hwd' : (stackUse (.java g :: T'.frames.tail)).2 + 13 * Ps.length + 55 ≤ (e.platform.stackLimits T'.me).2 := by have := X.stackAbove hsize (K := 13 * Ps.length + 55) (by omega); omega
  have hslots : T'.slotsUsed + (stringBytes (stringToUtf16 text)).size + Zs.kS.instanceTypes.size + kX.instanceTypes.size ≤ e.platform.maxSlots := by have := X.slotsAbove hRslots; omega
  obtain ⟨vm', hW', st⟩ := Steps.vmThrowsMessageColdByV p (s₀ := s) (S := T') (g := g) hA hexec T L Z LZ M LM X.warmed (t := T'.cur) rfl Zs LZs P1 L1 Ps hL hlink1 hlink hsoe hoom hfound hk hinit hord hctor
    (Launch.admits_hotImplicitExceptions X.admits) hbeyond hfreeW htext hlimit hheap (X.cellsAbove hRcells) hslots (hfitv _) (hfitc _)
    (Nn := fun u => u) heapOnly_id (fun _ _ => rfl) (fun _ => rfl) (fun u x y => setCell_twice _ _ _ _) (fun _ => Nat.le_refl _) (cN := ((preparedCellV T.toThrowableT (freshCell P1.m.cls kX) (T'.heap.size + 2) u0 sen).withEntry T'.cur))
    hsel0 hcellS hknownS (by rw [hkeep _ (hout' _)]; exact hu0) (Takes.of_laid hk hord tyS (by rw [Y.stackType]; exact fits_refV_array _ u0)) (fun _ hu => hu) (fun _ hu => hu) rfl rfl rfl (by simp [preparedCellV, Cell.setSlot, Cell.withEntry]) hskip (fun _ _ hA hW _ hroom _ hrest => L.nativeOff p htr hA hW hroom hrest) hselF (by rw [hkeep _ (hout' _)]; exact hsen)
    (Takes.of_laid hk hord tyC (by rw [Y.causeType]; rfl)) (Takes.of_laid hk hord tyP (by rw [Y.suppType]; exact fits_refV_object _ sen)) (Takes.of_laid hk hord tyM (by rw [Y.msgType]; rfl)) Y.objLocals rfl hfr' hwd'
  rw [plainBareV_eq T.toThrowableT (T'.heap.size + 2) u0 sen (.ref (T'.heap.size + 1)) T'.cur rfl rfl] at st
  obtain ⟨-, -, w3, w4, w5, -, -⟩ := withThrown_facts e.platform T' Zs text P1.m.cls kX
  have X3 := ((X.pushed (bytesOf Zs.cB (stringToUtf16 text))).pushed (stringAt Zs.cS Zs.kS Zs.fv Zs.fc (stringToUtf16 text) T'.heap.size)).pushed (freshCell P1.m.cls kX)
  rw [← withString_eq] at X3
  have X4 := X3.noted hW'
  have ha : (T'.heap.size + 2) < ((withThrown T' Zs text P1.m.cls kX).setVm vm').heap.size := by show _ < (withThrown T' Zs text P1.m.cls kX).heap.size; rw [w3]; omega
  have hcell : ((withThrown T' Zs text P1.m.cls kX).setVm vm').heap[(T'.heap.size + 2)]? = some (freshCell P1.m.cls kX) := w4
  have X5 := ((((X4.stored hcell T.fCause.slot (.ref (T'.heap.size + 2))).storedAgain ha T.fStack.slot u0.v).storedAgain ha T.fSupp.slot sen.v).storedAgain ha T.fStack.slot u0.v).storedAgain ha T.fMsg.slot (.ref (T'.heap.size + 1))
  have b1 : (bytesOf Zs.cB (stringToUtf16 text)).slots.size = (stringBytes (stringToUtf16 text)).size := by
    rw [(Cell.writeAll_facts _ _).2.2]; simp [bytes0]
  have b2 : (stringAt Zs.cS Zs.kS Zs.fv Zs.fc (stringToUtf16 text) T'.heap.size).slots.size = 4 := by simp [string0, Cell.setSlot, hn4]
  have b3 : (Array.map defaultValue kX.instanceTypes).size = 6 := by simp [hn6]
  have hU := heapAt_setCell_self (s := (withThrown T' Zs text P1.m.cls kX).setVm vm') (plainBareV T.toThrowableT (freshCell P1.m.cls kX) (T'.heap.size + 2) u0 sen (.ref (T'.heap.size + 1))) ha
  obtain ⟨g₁, hfrM⟩ := X5.frames_eq
  simp only [List.append_assoc, List.cons_append, List.nil_append] at X5
  refine ⟨_, _, stand_widen X5 (Nat.le_refl _) (by omega), ?_, ?_, ?_, ⟨_, hU, rfl, hfound⟩, fun target ht => st _ ?_⟩
  · intro q hq
    simp only [List.mem_cons, List.not_mem_nil, or_false] at hq
    rcases hq with rfl | rfl | rfl | rfl | rfl <;> rfl
  · show (((withThrown T' Zs text P1.m.cls kX).setVm vm').setCell (T'.heap.size + 2) _).heap.size = _
    rw [size_setCell]
    exact w3
  · intro q hq
    have hne : T'.heap.size + 2 ≠ q := by omega
    rw [heapAt_setCell_ne _ hne]
    exact w5 q hq
  · rw [xu_ hfrM] at ht
    rw [X.tail]
    exact ht
end XMC
