/-! the exception over the native's frame, within a method's walk -/
set_option maxRecDepth 100000
section XNC
variable {p : Program} {l : Launch} {e : Env} {R : Room} {s : State} {m₀ : MethodId} {args : Array Value} {below : List Frame} {meth : Method} {c : Code} {T' : State} {locs : List Loc} {cells slots : Nat}
theorem xn_push {T1 : State} {gg g : JFrame} {x y : Frame} (hfr : T1.frames = .java gg :: below) : ((T1.setTop g).pushFrame x).pushFrame y = T1.setFrames (y :: x :: .java g :: below) := by
  have hcur : T1.cur < T1.threads.size := State.cur_lt_of_frames hfr
  have h1 : (T1.setTop g).pushFrame x = T1.setFrames (x :: .java g :: below) := by
    rw [State.pushFrame, State.frames_setTop _ hfr, State.setTop_of_frames _ hfr, State.setFrames_setFrames]
  rw [h1, State.pushFrame, State.frames_setFrames _ hcur, State.setFrames_setFrames]
theorem xn_may {T1 : State} {gg g : JFrame} {nf : NFrame} {cls : String} {t : Option String} {pl : Platform} {N : Nat} (hfr : T1.frames = .java gg :: below) (hnw : nf.words = 0)
    (h : pl.stackBeyond (((((T1.setTop g).pushFrame (.throwNew cls t none)).threads[T1.cur]?).map (·.stackBytes)).getD 0) ((T1.setTop g).pushFrame (.throwNew cls t none)).frames = false ∧ N ≤ pl.stackFree (((((T1.setTop g).pushFrame (.throwNew cls t none)).threads[T1.cur]?).map (·.stackBytes)).getD 0) ((T1.setTop g).pushFrame (.throwNew cls t none)).frames) :
    pl.stackBeyond T1.me.stackBytes (.throwNew cls t none :: .native nf :: .java g :: below) = false ∧ N ≤ pl.stackFree T1.me.stackBytes (.throwNew cls t none :: .native nf :: .java g :: below) := by
  have hcur : T1.cur < T1.threads.size := State.cur_lt_of_frames hfr
  have h1 : (T1.setTop g).pushFrame (.throwNew cls t none) = T1.setFrames (.throwNew cls t none :: .java g :: below) := by
    rw [State.pushFrame, State.frames_setTop _ hfr, State.setTop_of_frames _ hfr, State.setFrames_setFrames]
  have hb : ((((T1.setFrames (.throwNew cls t none :: .java g :: below)).threads[T1.cur]?).map (·.stackBytes)).getD 0) = T1.me.stackBytes := by
    rw [← State.stackBytes_setFrames T1 (.throwNew cls t none :: .java g :: below)]
    exact State.stackBytes_me (T1.setFrames (.throwNew cls t none :: .java g :: below))
  rw [h1, hb, State.frames_setFrames _ hcur] at h
  have u : (stackUse (.throwNew cls t none :: .native nf :: .java g :: below)).2 = (stackUse (.throwNew cls t none :: .java g :: below)).2 := by
    rw [stackUse_light (.throwNew cls t none) (.native nf :: .java g :: below) (fun f hf => by cases hf) rfl, stackUse_light (.native nf) _ (fun f hf => by cases hf) hnw, stackUse_light (.throwNew cls t none) (.java g :: below) (fun f hf => by cases hf) rfl]
  unfold Platform.stackBeyond Platform.stackFree at h ⊢
  rw [u]
  exact h
set_option maxHeartbeats 16000000 in
theorem xn_cp {nf : NFrame} (hnw : nf.words = 0) (hna : nf.awaiting = false) (hnl : nf.locked = none) (X : Stand p l e R s m₀ args below meth c T' locs cells slots) (hexec : p.tables.exec = Jvm.exec) (htr : e.platform.stackTraces = false) {cls : String} {names : List String} {text : String}
    (hcls : Bundle.fit cls = true) (hnames : ∀ n ∈ names, Bundle.fit n = true) (hsoe : (cls == "java/lang/StackOverflowError") = false) (hoom : (cls == "java/lang/OutOfMemoryError") = false)
    (h : ∀ a ∈ Bundle.messageArmAtoms cls names, a.before args s = true)
    {q0 : Nat} (hlocs : ∀ x ∈ locs, q0 ≤ x.base) (hz : va_Zq Bundle.tN "UNASSIGNED_STACK" Bundle.steD (fun q => q0 ≤ q) s s.heap)
    (htext : (text == notModelled) = false) (hlimit : ¬ (stringBytes (stringToUtf16 text)).size > e.platform.arrayLengthLimit) (hheap : ¬ (stringBytes (stringToUtf16 text)).size * componentBytes .byte > e.platform.maxHeapBytes)
    {g : JFrame} (hg : g.method = m₀) (hsize : g.locals.size = c.maxLocals)
    (hRframes : names.length + 5 < R.frames) (hRlocals : 2 * g.monitorRoom + (g.stack.map fun v => v.category).sum + 10240 ≤ R.locals) (hshort : 13 * names.length + 55 ≤ 10240)
    (hRcells : cells + 3 ≤ R.cells) (hRslots : slots + ((stringBytes (stringToUtf16 text)).size + 4 + 6) ≤ R.slots) :
    ∃ (T1 : State) (L : List Loc), Stand p l e R s m₀ args below meth c T1 (locs ++ L) (cells + 3) (slots + ((stringBytes (stringToUtf16 text)).size + 4 + 6)) ∧ (∀ q ∈ L, q.base = T'.heap.size + 2) ∧ T1.heap.size = T'.heap.size + 3 ∧ (∀ q, q < T'.heap.size → T1.heap[q]? = T'.heap[q]?) ∧
      (∃ ce : Cell, T1.heap[T'.heap.size + 2]? = some ce ∧ ce.vm.isStatics = false ∧ s.vm.findClass cls = some ce.cls) ∧
      ∀ target, Steps p.tables e below ((T1.setTop g).pushFrame (.throwing (T'.heap.size + 2))) target → Steps p.tables e below (((T'.setTop g).pushFrame (.native nf)).pushFrame (.throwNew cls (some text) none)) target := by
  have howns : e.platform.frameOwnsMonitors = true := by rw [X.admits.platform]
  have hfin : e.platform.finalization = false := by rw [X.admits.platform]
  have hpl : e.platform.magicAccessors = ({} : Platform).magicAccessors := by rw [X.admits.platform]
  have at_ : ∀ x, x ∈ Bundle.messageArmAtoms cls names → x.holds args s none s [] = true := fun x hx => h x hx
  obtain ⟨T, Z0, L, -, Y⟩ := ThrowableC.of_atoms (args := args) howns hfin hpl (fun x hx => h x (by simp [Bundle.messageArmAtoms, hx]))
  obtain ⟨Z, M, LZ, LM, hnZ⟩ := Init0T.ofS_atoms (args := args) hpl L Y (fun x hx => h x (by simp [Bundle.messageArmAtoms, hx]))
  obtain ⟨P1, Ps, hlen, L1, hL, hP1m, hlink1, hlink⟩ := Bundle.chainS (args := args) hpl hnZ names cls hcls hnames (fun x hx => h x (by simp [Bundle.messageArmAtoms, hx]))
  obtain ⟨Zs, LZs, hn4, hfitv, hfitc⟩ := StringT.of_atoms (args := args) (fun x hx => h x (by simp [Bundle.messageArmAtoms, hx]))
  have hfound : s.vm.findClass cls = some P1.m.cls := findClass_of_methodNamed hP1m
  obtain ⟨c1, kX, hc1, hk, hord, -, -, hn6⟩ := Cond.instantiable_spec (at_ (.instantiable cls 6) (by simp [Bundle.messageArmAtoms]))
  cases hc1.symm.trans hfound
  have hinit := Cond.initialized_spec hfound hk (at_ (.initialized cls) (by simp [Bundle.messageArmAtoms]))
  have hctor : kX.findMethod "<init>" "(Ljava/lang/String;)V" = some P1.m.idx := findMethod_of_methodNamed hP1m hk
  have hsel : ∀ (y : MethodName) (mm : MethodId), s.methodNamed? y = some mm → (y.cls ≠ "java/lang/invoke/MethodHandle" ∧ y.cls ≠ "java/lang/invoke/VarHandle") → (Cond.selects cls y y).holds args s none s [] = true → selectMethod e.platform s.vm P1.m.cls mm = .method mm := by
    intro y mm hy hne hs
    obtain ⟨c2, r2, m2, q1, q2, q3, q4, -⟩ := Cond.selects_spec hs
    cases q1.symm.trans hfound
    cases q2.symm.trans (State.methodFound?_of_named hy hne)
    cases q3.symm.trans hy
    rw [Launch.admits_selectMethod X.admits]; exact q4
  have hsel0 := hsel _ _ Y.fill0 (by decide) (at_ (.selects cls Bundle.tFill0 Bundle.tFill0) (by simp [Bundle.messageArmAtoms]))
  have hselF := hsel _ _ Y.fill (by decide) (at_ (.selects cls Bundle.tFill Bundle.tFill) (by simp [Bundle.messageArmAtoms]))
  obtain ⟨cellS0, hcS0, hiss⟩ := Y.statics
  obtain ⟨u0, hu0⟩ := Cond.staticRefV Y.unassigned L.unassignedStatic L.statics hcS0 hiss (at_ (.isRef (.static Bundle.tN "UNASSIGNED_STACK" Bundle.steD)) (by simp [Bundle.messageArmAtoms]))
  obtain ⟨sen, hsen⟩ := Cond.staticRefV Y.sentinel L.sentinelStatic L.statics hcS0 hiss (at_ (.isRef (.static Bundle.tN "SUPPRESSED_SENTINEL" Bundle.listD)) (by simp [Bundle.messageArmAtoms]))
  obtain ⟨ci198, i198, fB, hk198, hg198, ha198, hsB, -, hnB, htB, hffB⟩ := Cond.ownField (t := .object "java/lang/Object") Y.found L.cls (by decide +kernel) (at_ (.fieldLink Bundle.tN 198 Bundle.tN "backtrace" "Ljava/lang/Object;") (by simp [Bundle.messageArmAtoms])) (at_ (.lays Bundle.tN Bundle.tN "backtrace" "Ljava/lang/Object;") (by simp [Bundle.messageArmAtoms])) e.platform hpl
  obtain ⟨cellS, hcS', heS, -, hkeep⟩ := X.same.2.2.2.2.2 T.aS cellS0 hcS0
  have hcellS : T'.heap[T.aS]? = some cellS := hcS'
  have haS : ¬ q0 ≤ T.aS := by
    rcases hz with hz | ⟨t, hz⟩
    · obtain ⟨cf, kf, fi, f, a, cell, z1, -, -, z4, -, -, -, z8⟩ := hz
      cases z1.symm.trans Y.unassigned
      cases z4.symm.trans L.statics
      exact z8
    · obtain ⟨cf, kf, fi, f, a, cell, z1, -, -, z4, -, -, -, z8⟩ := hz
      cases z1.symm.trans Y.unassigned
      cases z4.symm.trans L.statics
      exact z8
  have hout' : ∀ i, (⟨T.aS, i⟩ : Loc) ∉ locs := fun i hmem => haS (hlocs _ hmem)
  have hknownS : cellS.vm ≠ .unknown := by
    rw [heS]; intro hu
    rw [show cellS0.vm = .unknown from hu] at hiss
    cases hiss
  obtain ⟨iM, hffM⟩ := Y.msg
  obtain ⟨tyC, dC, hdC, hdnC⟩ := Cond.laysAt hfound hk Y.cause (at_ (.lays cls Bundle.tN "cause" "Ljava/lang/Throwable;") (by simp [Bundle.messageArmAtoms]))
  obtain ⟨tyS, dS, hdS, hdnS⟩ := Cond.laysAt hfound hk Y.stack (at_ (.lays cls Bundle.tN "stackTrace" Bundle.steD) (by simp [Bundle.messageArmAtoms]))
  obtain ⟨tyP, dP, hdP, hdnP⟩ := Cond.laysAt hfound hk Y.supp (at_ (.lays cls Bundle.tN "suppressedExceptions" Bundle.listD) (by simp [Bundle.messageArmAtoms]))
  obtain ⟨tyM, dM, hdM, hdnM⟩ := Cond.laysAt hfound hk hffM (at_ (.lays cls Bundle.tN "detailMessage" "Ljava/lang/String;") (by simp [Bundle.messageArmAtoms]))
  obtain ⟨tyB, dB, hdB, hdnB⟩ := Cond.laysAt hfound hk hffB (at_ (.lays cls Bundle.tN "backtrace" "Ljava/lang/Object;") (by simp [Bundle.messageArmAtoms]))
  have bC := Cond.laysApart hdB hdC hdnB hdnC (by rw [hnB, Y.causeName]; decide)
  have bS := Cond.laysApart hdB hdS hdnB hdnS (by rw [hnB, Y.stackName]; decide)
  have bP := Cond.laysApart hdB hdP hdnB hdnP (by rw [hnB, Y.suppName]; decide)
  have hskip : SkipFacts T e.platform s (fun u => u) u0 ((preparedCellV T.toThrowableT (freshCell P1.m.cls kX) (T'.heap.size + 2) u0 sen).withEntry T'.cur) :=
    ⟨{ ci198 := ci198, i198 := i198, fBack := fB }, ⟨hk198, hg198, ha198, hsB⟩, by
      have := fresh_default (c := P1.m.cls) tyB
      rw [htB] at this
      simpa [preparedCellV, Cell.setSlot, Cell.withEntry, Array.getElem?_setIfInBounds, bC, bS, bP, bC.symm, bS.symm, bP.symm, defaultValue] using this, fun _ _ => rfl⟩
  obtain ⟨g₉, hfr9⟩ := X.frames_eq
  have hcur9 : T'.cur < T'.threads.size := State.cur_lt_of_frames hfr9
  have hgo9 : T'.goesOn := ⟨X.here.running, X.here.runnable, X.here.alone⟩
  obtain ⟨hbeyond, hfreeW⟩ := xn_may hfr9 hnw (X.vmMayThrow hsize (.throwNew cls (some text) none) (fun f hf => by cases hf) rfl hRlocals)
  have hfr' : (Frame.native nf :: Frame.java g :: below).length + Ps.length + 4 < (e.platform.stackLimits T'.me).1 := by
    have := X.framesAbove hRframes
    rw [hfr9] at this
    simp only [List.length_cons] at this ⊢
    omega
  have hwd' : (stackUse (.native nf :: .java g :: below)).2 + 13 * Ps.length + 55 ≤ (e.platform.stackLimits T'.me).2 := by
    have := X.stackAbove hsize (K := 13 * Ps.length + 55) (by omega)
    rw [X.tail] at this
    rw [stackUse_light (.native nf) _ (fun f hf => by cases hf) hnw]
    show (stackUse (.java g :: below)).2 + 13 * Ps.length + 55 ≤ _
    omega
  have hslots : T'.slotsUsed + (stringBytes (stringToUtf16 text)).size + Zs.kS.instanceTypes.size + kX.instanceTypes.size ≤ e.platform.maxSlots := by have := X.slotsAbove hRslots; omega
  obtain ⟨kX', hk', he'⟩ := X.warmed.alike.2.2 _ _ hk
  have hty : kX'.instanceTypes = kX.instanceTypes := by rw [he']
  obtain ⟨kS', kB', LZ', htyS⟩ := LZs.warmer X.warmed.alike
  have hsame : withThrown T' { Zs with kS := kS', kB := kB' } text P1.m.cls kX' = withThrown T' Zs text P1.m.cls kX := by
    rw [← withThrown_warmer T' Zs (kB' := kB') htyS text P1.m.cls kX]
    show (withString T' _ _ _ _ _ _).pushCell { cls := P1.m.cls, slots := kX'.instanceTypes.map defaultValue, vm := .none } = (withString T' _ _ _ _ _ _).pushCell { cls := P1.m.cls, slots := kX.instanceTypes.map defaultValue, vm := .none }
    rw [hty]
  have hfs9 : T'.fitsSlot = s.fitsSlot := (show T'.fitsSlot = (s.setVm T'.vm).fitsSlot from rfl).trans (State.fitsSlot_setVm X.warmed.alike)
  obtain ⟨v1, v2, -, v4, v5, -, v7⟩ := withThrown_facts e.platform T' Zs text P1.m.cls kX
  have hltS : T.aS < T'.heap.size := (Array.getElem?_eq_some_iff.mp hcellS).1
  have hWcur : (withThrown T' Zs text P1.m.cls kX).cur = T'.cur := by simp [withThrown, withString]
  obtain ⟨vm', hW', st0⟩ := th_run (below := below) (fs := .native nf :: .java g :: below) p (e := e) (s₀ := s) (W := withThrown T' Zs text P1.m.cls kX) hgo9 hcur9 ⟨[.native nf, .java g], rfl⟩ hexec T L Z LZ M LM (by rw [v1]; exact X.warmed)
    (self := T'.heap.size + 2) (str := T'.heap.size + 1) (u0 := u0) (sen := sen) v4 (by intro k hk'; cases hk') (by intro hk'; cases hk') rfl hsel0 ((v5 _ hltS).trans hcellS) (Nat.ne_of_lt (Nat.lt_of_lt_of_le hltS (Nat.le_add_right _ 2))) hknownS (by rw [hkeep _ (hout' _)]; exact hu0) (Takes.of_laid hk hord tyS (by rw [Y.stackType]; exact fits_refV_array _ u0))
    (by rw [hWcur]; exact hskip) (fun _ _ hA hW _ hroom _ hrest => L.nativeOff p htr hA hW hroom hrest) hselF (by rw [hkeep _ (hout' _)]; exact hsen)
    (Takes.of_laid hk hord tyC (by rw [Y.causeType]; rfl)) (Takes.of_laid hk hord tyP (by rw [Y.suppType]; exact fits_refV_object _ sen)) (Takes.of_laid hk hord tyM (by rw [Y.msgType]; rfl)) Y.objLocals (by simp [preparedCellV, Cell.setSlot, Cell.withEntry])
    P1 L1 Ps hL hlink1 hlink (lim := e.platform.stackLimits T'.me) v7 hfr' hwd'
  rw [hWcur] at st0
  have hgoU : ∀ (vm : Vm) (a : Addr) (x : Cell), (((withThrown T' Zs text P1.m.cls kX).setVm vm).setCell a x).goesOn := fun _ _ _ => hgo9
  have hcurU : ∀ (vm : Vm) (a : Addr) (x : Cell), (((withThrown T' Zs text P1.m.cls kX).setVm vm).setCell a x).cur < (((withThrown T' Zs text P1.m.cls kX).setVm vm).setCell a x).threads.size := fun _ _ _ => hcur9
  have st : ∀ target, Steps p.tables e below ((((withThrown T' Zs text P1.m.cls kX).setVm vm').setCell (T'.heap.size + 2) ((((preparedCellV T.toThrowableT (freshCell P1.m.cls kX) (T'.heap.size + 2) u0 sen).withEntry T'.cur).setSlot T.fStack.slot u0.v).left.setSlot T.fMsg.slot (.ref (T'.heap.size + 1)))).setFrames (.throwing (T'.heap.size + 2) :: .java g :: T'.frames.tail)) target → Steps p.tables e below (((T'.setTop g).pushFrame (.native nf)).pushFrame (.throwNew cls (some text) none)) target := by
    intro target ht
    rw [X.tail] at ht
    rw [xn_push hfr9]
    refine th_start (fs := .native nf :: .java g :: below) hgo9 hcur9 ⟨[.native nf, .java g], rfl⟩ { Zs with kS := kS', kB := kB' } LZ' (cX := P1.m.cls) (kX := kX') (i := P1.m.idx) hsoe hoom (by rw [X.warmed.alike.findClass]; exact hfound) hk' (by rw [he']; exact hinit) (by rw [he']; exact hord) (Launch.admits_hotImplicitExceptions X.admits)
      hbeyond hfreeW htext (by rw [he']; exact hctor) hlimit hheap (X.cellsAbove hRcells) (by show T'.slotsUsed + _ + kS'.instanceTypes.size + kX'.instanceTypes.size ≤ _; rw [htyS, hty]; exact hslots) (by rw [hfs9]; exact hfitv _) (by rw [hfs9]; exact hfitc _) ?_
    rw [hsame]
    refine st0 target (th_off (hgoU _ _ _) (hcurU _ _ _) ⟨[.java g], rfl⟩ hna hnl ht)
  rw [plainBareV_eq T.toThrowableT (T'.heap.size + 2) u0 sen (.ref (T'.heap.size + 1)) T'.cur rfl rfl] at st
  obtain ⟨-, -, w3, w4, w5, -, -⟩ := withThrown_facts e.platform T' Zs text P1.m.cls kX
  have X3 := ((X.pushed (bytesOf Zs.cB (stringToUtf16 text))).pushed (stringAt Zs.cS Zs.kS Zs.fv Zs.fc (stringToUtf16 text) T'.heap.size)).pushed (freshCell P1.m.cls kX)
  rw [← withString_eq] at X3
  have X4 := X3.noted hW'
  have ha : (T'.heap.size + 2) < ((withThrown T' Zs text P1.m.cls kX).setVm vm').heap.size := by show _ < (withThrown T' Zs text P1.m.cls kX).heap.size; rw [w3]; omega
  have hcell : ((withThrown T' Zs text P1.m.cls kX).setVm vm').heap[(T'.heap.size + 2)]? = some (freshCell P1.m.cls kX) := w4
  have X5 := ((((X4.stored hcell T.fCause.slot (.ref (T'.heap.size + 2))).storedAgain ha T.fStack.slot u0.v).storedAgain ha T.fSupp.slot sen.v).storedAgain ha T.fStack.slot u0.v).storedAgain ha T.fMsg.slot (.ref (T'.heap.size + 1))
  have b1 : (bytesOf Zs.cB (stringToUtf16 text)).slots.size = (stringBytes (stringToUtf16 text)).size := by
    rw [(Cell.writeAll_facts _ _).2.2]; simp [bytes0]
  have b2 : (stringAt Zs.cS Zs.kS Zs.fv Zs.fc (stringToUtf16 text) T'.heap.size).slots.size = 4 := by simp [string0, Cell.setSlot, hn4]
  have b3 : (Array.map defaultValue kX.instanceTypes).size = 6 := by simp [hn6]
  have hU := heapAt_setCell_self (s := (withThrown T' Zs text P1.m.cls kX).setVm vm') (plainBareV T.toThrowableT (freshCell P1.m.cls kX) (T'.heap.size + 2) u0 sen (.ref (T'.heap.size + 1))) ha
  obtain ⟨g₁, hfrM⟩ := X5.frames_eq
  simp only [List.append_assoc, List.cons_append, List.nil_append] at X5
  refine ⟨_, _, stand_widen X5 (Nat.le_refl _) (by omega), ?_, ?_, ?_, ⟨_, hU, rfl, hfound⟩, fun target ht => st _ ?_⟩
  · intro q hq
    simp only [List.mem_cons, List.not_mem_nil, or_false] at hq
    rcases hq with rfl | rfl | rfl | rfl | rfl <;> rfl
  · show (((withThrown T' Zs text P1.m.cls kX).setVm vm').setCell (T'.heap.size + 2) _).heap.size = _
    rw [size_setCell]
    exact w3
  · intro q hq
    have hne : T'.heap.size + 2 ≠ q := by omega
    rw [heapAt_setCell_ne _ hne]
    exact w5 q hq
  · rw [xu_ hfrM] at ht
    rw [X.tail]
    exact ht
end XNC
