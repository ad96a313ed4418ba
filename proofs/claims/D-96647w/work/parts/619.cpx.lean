/-! an exception with a message, made over any frames -/
set_option maxRecDepth 100000
section TH
variable {below fs : List Frame}
theorem th_fr {W : State} {x : Frame} (hcur : W.cur < W.threads.size) : (W.setFrames (x :: fs)).frames = x :: fs := State.frames_setFrames _ hcur
/-- the note becomes an object, its constructor is invoked -/
theorem th_start {tb : Tables} {e : Env} {U target : State} (hgo : U.goesOn) (hcur : U.cur < U.threads.size) (hfs : ∃ mid, fs = mid ++ below) (Z : StringT) (LZ : Z.Laid U.vm) {cls t : String} {cX : ClassId} {kX : Class} {i : Nat}
    (hsoe : (cls == "java/lang/StackOverflowError") = false) (hoom : (cls == "java/lang/OutOfMemoryError") = false) (hfound : U.vm.findClass cls = some cX) (hk : U.vm.classes[cX]? = some kX) (hinit : kX.init = .initialized) (hord : kX.kind = .ordinary) (hhot : e.platform.hotImplicitExceptions = false)
    (hbeyond : e.platform.stackBeyond U.me.stackBytes (.throwNew cls (some t) none :: fs) = false) (hfree : e.platform.vmThrowRoom ≤ e.platform.stackFree U.me.stackBytes (.throwNew cls (some t) none :: fs))
    (hm : (t == notModelled) = false) (hctor : kX.findMethod "<init>" "(Ljava/lang/String;)V" = some i) (hlimit : ¬ (stringBytes (stringToUtf16 t)).size > e.platform.arrayLengthLimit) (hheap : ¬ (stringBytes (stringToUtf16 t)).size * componentBytes .byte > e.platform.maxHeapBytes)
    (hcells : U.heap.size + 3 ≤ e.platform.maxCells) (hslots : U.slotsUsed + (stringBytes (stringToUtf16 t)).size + Z.kS.instanceTypes.size + kX.instanceTypes.size ≤ e.platform.maxSlots)
    (hfitv : U.fitsSlot Z.cS .none Z.fv.slot (.ref U.heap.size) = true) (hfitc : U.fitsSlot Z.cS .none Z.fc.slot (.int (stringCoder (stringToUtf16 t))) = true)
    (hrest : Steps tb e below (doInvoke e ((withThrown U Z t cX kX).setFrames (.thenThrow (U.heap.size + 2) :: fs)) [] ⟨cX, i⟩ #[.ref (U.heap.size + 2), .ref (U.heap.size + 1)]).1 target) :
    Steps tb e below (U.setFrames (.throwNew cls (some t) none :: fs)) target := by
  obtain ⟨mid, hmid⟩ := hfs
  have hf := th_fr (fs := fs) (x := .throwNew cls (some t) none) hcur
  have hB : (((U.setFrames (.throwNew cls (some t) none :: fs)).threads[(U.setFrames (.throwNew cls (some t) none :: fs)).cur]?).map (·.stackBytes)).getD 0 = U.me.stackBytes := by
    rw [State.stackBytes_me, State.stackBytes_setFrames]
  refine Steps.head ⟨hgo.1, by simpa using hgo.2.1, by simpa using hgo.2.2⟩ ⟨.throwNew cls (some t) none :: mid, by rw [hf, hmid]; rfl, by simp, by simp⟩ ?_
  rw [stepThread_throwNew hf, stepThrowNew_message (s := U.setFrames (.throwNew cls (some t) none :: fs)) (rest := fs) (c := cX) (k := kX) (i := i) Z LZ hsoe hoom hfound hk hinit hord hhot (by rw [hB, hf]; exact hbeyond) (by rw [hB, hf]; exact hfree) hm hctor hlimit hheap hcells hslots hfitv hfitc,
    withThrown_setFrames, State.setFrames_setFrames]
  exact hrest
/-- the constructor runs and returns; the object is being thrown over the same frames -/
theorem th_run (p : Program) {e : Env} {s₀ W : State} (hgo : W.goesOn) (hcur : W.cur < W.threads.size) (hfs : ∃ mid, fs = mid ++ below) (hexec : p.tables.exec = Jvm.exec)
    (T : ThrowableC) (L : T.Links e.platform s₀) (Z : Init0T) (LZ : Z.LaidS T.toThrowableT) (M : MsgC) (LM : M.Links T e.platform s₀) (hW : s₀.WarmedH W.vm) {self str : Addr} {u0 sen : RefV} {cell cellS : Cell}
    (hcell : W.heap[self]? = some cell) (hobj : ∀ k, cell.vm ≠ .statics k) (hknown : cell.vm ≠ .unknown) (hfree : cell.monitor.owner = none)
    (hsel0 : selectMethod e.platform s₀.vm cell.cls T.fill0 = .method T.fill0) (hcellS : W.heap[T.aS]? = some cellS) (hneS : T.aS ≠ self) (hknownS : cellS.vm ≠ .unknown) (hvU : cellS.slots[T.fUnassigned.slot]? = some u0.v) (htS : Takes s₀ cell T.fStack u0.v)
    (hskip : SkipFacts T e.platform s₀ (fun u => u) u0 ((preparedCellV T.toThrowableT cell self u0 sen).withEntry W.cur))
    (hnat : u0.v ≠ .null → ∀ u : State, At u T.fill T.codeFill below → s₀.WarmedH u.vm → u.heap[self]? = some ((preparedCellV T.toThrowableT cell self u0 sen).withEntry W.cur) →
      e.platform.stackFull (((u.setTop (fillJ T.fill self 16 [])).threads[(u.setTop (fillJ T.fill self 16 [])).cur]?).getD { frames := [] }) (u.setTop (fillJ T.fill self 16 [])).frames (nativeFrameWords "java/lang/Throwable" "fillInStackTrace" 2) = false → ∀ t' : State,
      Steps p.tables e below (u.setTop (fillJ T.fill self 19 [.ref self])) t' → Steps p.tables e below (doInvoke e (u.setTop (fillJ T.fill self 16 [])) [] T.fill0 #[.ref self, .int 0]).1 t')
    (hselF : selectMethod e.platform s₀.vm cell.cls T.fill = .method T.fill) (hvSen : cellS.slots[T.fSentinel.slot]? = some sen.v)
    (htC : Takes s₀ cell T.fCause (.ref self)) (htP : Takes s₀ cell T.fSupp sen.v) (htM : Takes s₀ cell T.fMsg (.ref str)) (hobjLocals : T.codeObj.maxLocals = 1)
    (hNsize : ((preparedCellV T.toThrowableT cell self u0 sen).withEntry W.cur).slots.size = cell.slots.size)
    (P1 : PassC) (L1 : P1.LinksS e.platform s₀) (Ps : List PassC) (hL : ∀ P, P ∈ Ps → P.LinksS e.platform s₀) (hlink1 : P1.sup = firstOf (Z.m T.toThrowableT) (Ps.map (·.toPassT))) (hlink : PassesOn (Z.m T.toThrowableT) (Ps.map (·.toPassT)))
    {lim : Nat × Nat} (hlim : e.platform.stackLimits W.me = lim) (hframes : fs.length + Ps.length + 4 < lim.1) (hwords : (stackUse fs).2 + 13 * Ps.length + 55 ≤ lim.2) :
    ∃ vm', s₀.WarmedH vm' ∧ ∀ target, Steps p.tables e below (((W.setVm vm').setCell self ((((preparedCellV T.toThrowableT cell self u0 sen).withEntry W.cur).setSlot T.fStack.slot u0.v).left.setSlot T.fMsg.slot (.ref str))).setFrames (.throwing self :: fs)) target →
      Steps p.tables e below (doInvoke e (W.setFrames (.thenThrow self :: fs)) [] P1.m #[.ref self, .ref str]).1 target := by
  obtain ⟨mid, hmid⟩ := hfs
  have hfN := th_fr (fs := fs) (x := .thenThrow self) hcur
  have hlimN : e.platform.stackLimits (W.setFrames (.thenThrow self :: fs)).me = lim := by rw [State.stackLimits_setFrames]; exact hlim
  have hroom := roomAbove (pl := e.platform) (u := W.setFrames (.thenThrow self :: fs)) (vars := 2) (pushed := [.thenThrow self]) (base := fs) (free := 13 * Ps.length + 55) (lim := lim) hfN hlimN
    (by simp only [List.length_cons, List.length_nil]; omega) (by omega) (by rw [stackUse_light _ _ (fun f hf => by cases hf) rfl, stackUse_nil]; show 0 + 2 + 11 ≤ _; omega)
  have hcurN : (W.setFrames (.thenThrow self :: fs)).cur < (W.setFrames (.thenThrow self :: fs)).threads.size := State.cur_lt_of_frames hfN
  have hgoN : (W.setFrames (.thenThrow self :: fs)).goesOn := ⟨hgo.1, by simpa using hgo.2.1, by simpa using hgo.2.2⟩
  have hmW := hW.methodAt L1.method
  have hI : At ((W.setFrames (.thenThrow self :: fs)).pushFrame (.java (passJ P1.m self (.ref str) 0 []))) P1.m P1.code below := At.pushOn _ hgoN hcurN ⟨.thenThrow self :: mid, by rw [hfN, hmid]; rfl⟩ hmW L1.code (hW.plainAt L1.plain)
  have hfI : ((W.setFrames (.thenThrow self :: fs)).pushFrame (.java (passJ P1.m self (.ref str) 0 []))).frames = .java (passJ P1.m self (.ref str) 0 []) :: .thenThrow self :: fs := (State.frames_setFrames _ hcurN).trans (by rw [hfN])
  have hlimI : e.platform.stackLimits ((W.setFrames (.thenThrow self :: fs)).pushFrame (.java (passJ P1.m self (.ref str) 0 []))).me = lim := by rw [State.stackLimits_pushFrame]; exact hlimN
  obtain ⟨vm1, hW1, st1⟩ := Steps.invokeInitCold (tb := p.tables) (e := e) (s₀ := s₀) (U := (W.setFrames (.thenThrow self :: fs)).pushFrame (.java (passJ P1.m self (.ref str) 0 []))) (f := passJ P1.m self (.ref str) 2 [.ref str, .ref self]) (args := [.ref str]) (rest := []) (a := self) hI hexec L1.at2 hW L1.links L1.right L1.notHandle L1.cls L1.file L1.pool
    L1.supClass L1.supMethod L1.supName L1.supStatic L1.supAbstract L1.supFound L1.supParams.symm rfl
  obtain ⟨vm2, hW2, st2⟩ := Steps.initThrowableSColdByV p (V := ((W.setFrames (.thenThrow self :: fs)).pushFrame (.java (passJ P1.m self (.ref str) 0 []))).setVm vm1) (g := passJ P1.m self (.ref str) 2 []) (c := P1.code) (self := self) (hI.setVm (hW.alike.symm.trans hW1.alike)) hexec T L Z LZ M LM hW1 (t := W.cur) rfl
    heapOnly_id (fun _ _ => rfl) (fun _ => rfl) (fun u x y => setCell_twice _ _ _ _) (fun _ => Nat.le_refl _) (msg := .ref str) rfl hcell hobj hknown hfree hsel0 hcellS hneS hknownS hvU htS (cN := (preparedCellV T.toThrowableT cell self u0 sen).withEntry W.cur) (fun _ hu => hu) (fun _ hu => hu) rfl rfl rfl hNsize hskip hnat hselF hvSen htC htP htM hobjLocals Ps hL hlink
    (ig := .invokespecial P1.index) (len := 3) [] (lim := lim) hlimI
    (by show ((W.setFrames (.thenThrow self :: fs)).pushFrame (.java (passJ P1.m self (.ref str) 0 []))).frames.length + Ps.length + 2 < lim.1
        rw [hfI]; simp only [List.length_cons]; omega)
    (by show (stackUse (.java (passJ P1.m self (.ref str) 2 []) :: ((W.setFrames (.thenThrow self :: fs)).pushFrame (.java (passJ P1.m self (.ref str) 0 []))).frames.tail)).2 + 13 * Ps.length + 42 ≤ lim.2
        rw [hfI, List.tail_cons, stackUse_java, stackUse_light _ _ (fun f hf => by cases hf) rfl]
        show (stackUse fs).2 + (2 + 11 + 2 * 0 + operandWords []) + 13 * Ps.length + 42 ≤ lim.2
        simp only [operandWords, List.foldl_nil]
        omega)
    L1.at2
  refine ⟨vm2, hW2, fun target hrest => ?_⟩
  rw [(doInvoke_java (s := W.setFrames (.thenThrow self :: fs)) (e := e) (acts := []) (args := #[.ref self, .ref str]) (meth := P1.meth) (code := P1.code) hmW L1.code L1.locks (by rw [L1.locals]; exact hroom)).1, L1.locals]
  show Steps p.tables e below ((W.setFrames (.thenThrow self :: fs)).pushFrame (.java (passJ P1.m self (.ref str) 0 []))) target
  rw [← State.setTop_self (s := (W.setFrames (.thenThrow self :: fs)).pushFrame (.java (passJ P1.m self (.ref str) 0 []))) (State.topJava?_of_frames hfI)]
  jvm_step hI [hexec, L1.at0, Value.isRef]
  jvm_step hI [hexec, L1.at1, Value.isRef]
  refine st1 target ?_
  rw [hlink1]
  refine st2 target ?_
  have hB : At (((((W.setFrames (.thenThrow self :: fs)).pushFrame (.java (passJ P1.m self (.ref str) 0 []))).setVm vm1).setVm vm2).setCell self ((((preparedCellV T.toThrowableT cell self u0 sen).withEntry W.cur).setSlot T.fStack.slot u0.v).left.setSlot T.fMsg.slot (.ref str))) P1.m P1.code below := (At.setCell_iff _ _).mpr (hI.setVm (vm' := vm2) (hW.alike.symm.trans hW2.alike))
  jvm_step hB [hexec, L1.at5, return_.wp_sem]
  intro acts2
  rw [ret_to (t := ((((W.setFrames (.thenThrow self :: fs)).pushFrame (.java (passJ P1.m self (.ref str) 0 []))).setVm vm1).setVm vm2).setCell self ((((preparedCellV T.toThrowableT cell self u0 sen).withEntry W.cur).setSlot T.fStack.slot u0.v).left.setSlot T.fMsg.slot (.ref str))) (f := passJ P1.m self (.ref str) 5 []) (f₀ := passJ P1.m self (.ref str) 0 []) (below := .thenThrow self :: fs) (fs := .thenThrow self :: fs) (meth := P1.meth) hfI (hW2.methodAt L1.method) L1.locks rfl rfl rfl acts2]
  rw [State.pushFrame, State.setFrames_setFrames, State.setFrames_setVm, State.setFrames_setVm, State.setVm_twice, State.setCell_setFrames, State.setFrames_setFrames]
  have hf1 : (((W.setVm vm2).setCell self ((((preparedCellV T.toThrowableT cell self u0 sen).withEntry W.cur).setSlot T.fStack.slot u0.v).left.setSlot T.fMsg.slot (.ref str))).setFrames (.thenThrow self :: fs)).frames = .thenThrow self :: fs := th_fr (W := (W.setVm vm2).setCell self _) hcur
  show Steps p.tables e below (((W.setVm vm2).setCell self ((((preparedCellV T.toThrowableT cell self u0 sen).withEntry W.cur).setSlot T.fStack.slot u0.v).left.setSlot T.fMsg.slot (.ref str))).setFrames (.thenThrow self :: fs)) target
  refine Steps.head ⟨hgo.1, by simpa using hgo.2.1, by simpa using hgo.2.2⟩ ⟨.thenThrow self :: mid, by rw [hf1, hmid]; rfl, by simp, by simp⟩ ?_
  rw [stepThread_thenThrow hf1]
  show Steps p.tables e below ((((W.setVm vm2).setCell self _).setFrames (.thenThrow self :: fs)).setFrames (.throwing self :: fs)) target
  rw [State.setFrames_setFrames]
  exact hrest
/-- the native's frame is left -/
theorem th_off {tb : Tables} {e : Env} {U target : State} {nf : NFrame} {r : List Frame} {a : Addr} (hgo : U.goesOn) (hcur : U.cur < U.threads.size) (hr : ∃ mid, r = mid ++ below) (hna : nf.awaiting = false) (hnl : nf.locked = none)
    (hrest : Steps tb e below (U.setFrames (.throwing a :: r)) target) : Steps tb e below (U.setFrames (.throwing a :: .native nf :: r)) target := by
  obtain ⟨mid, hmid⟩ := hr
  have hf := th_fr (fs := .native nf :: r) (x := .throwing a) hcur
  refine Steps.head ⟨hgo.1, by simpa using hgo.2.1, by simpa using hgo.2.2⟩ ⟨.throwing a :: .native nf :: mid, by rw [hf, hmid]; rfl, by simp, by simp⟩ ?_
  rw [stepThread_throwing hf]
  have e1 : (stepThrowing e (U.setFrames (.throwing a :: .native nf :: r)) a (.native nf :: r)).1 = U.setFrames (.throwing a :: r) := by
    simp only [stepThrowing, hna, hnl, leaveIfLocked, vmDo]
    show ((U.setFrames (.throwing a :: .native nf :: r)).setFrames (.throwing a :: r)) = _
    rw [State.setFrames_setFrames]
  rw [e1]
  exact hrest
end TH
