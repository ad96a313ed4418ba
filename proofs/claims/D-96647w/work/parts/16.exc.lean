/-! exceptions: the search for a handler (the catch types resolved or not), caught, gone out; contracts of what throws -/
set_option maxRecDepth 100000
section XFH
variable {E : CtlPost} {e : Env} {d : Bool} {acts : List Action} {s : State} {f : JFrame} {a : Addr} {Q : Handler → Pre}
theorem fh_cold {x : ExceptionTableEntry} {t : List ExceptionTableEntry} {c : ClassId} {cell : Cell} {vm' : Vm} (hx : covers x f.pc = true) (h0 : x.catchType ≠ 0)
    (hg : (Jvm.resolveClass f.method.cls x.catchType).Gives e.toSetting s.vm (.ok c) vm') (hsz : vm'.classes.size ≤ s.vm.classes.size) (hcell : s.heap[a]? = some cell) (hobj : ∀ k, cell.vm ≠ .statics k)
    (hk : ∃ k, vm'.classes[cell.cls]? = some k) (hc : ∃ k, vm'.classes[c]? = some k) :
    wp (findHandler.go f a (x :: t)) Q E e d acts s ↔ if vm'.assignable cell.cls c = true then Q (.found x.handlerPc) d acts (s.setVm vm') else wp (findHandler.go f a t) Q E e d acts (s.setVm vm') := by
  simp only [covers] at hx
  obtain ⟨ha, ht⟩ := hg.op (op := VmOp.resolveClass f.method.cls x.catchType) rfl
  cases hfit : vm'.assignable cell.cls c <;>
    simp [findHandler.go, hx, h0, ha, ht, hsz, hcell, hobj, hk, hc, hfit, VmOp.dirties, VmOp.acts]
end XFH
/-- the first handler that covers the pc and whose catch type fits -/
def hs_ (pc : Nat) (ok : Nat → Bool) : List (Nat × Nat × Nat × Nat) → Option Nat
  | [] => none
  | q :: r => if q.1 ≤ pc ∧ pc < q.2.1 then (if ok q.2.2.2 = true then some q.2.2.1 else hs_ pc ok r) else hs_ pc ok r
def hr_ (o : Option Nat) : Handler := match o with
  | some h => .found h
  | none => .none
/-- what the tables say of the handlers that cover the pc, for an exception of the class C -/
def hd_ (s : State) (args : Array Value) (own C : String) (pc : Nat) (ok : Nat → Bool) : List (Nat × Nat × Nat × Nat) → Prop
  | [] => True
  | q :: r => ((q.1 ≤ pc ∧ pc < q.2.1) → q.2.2.2 ≠ 0 ∧ ∃ nm : String, (Cond.classLink own q.2.2.2 nm).before args s = true ∧ ((ok q.2.2.2 = true ∧ Cs_ C nm s) ∨ (ok q.2.2.2 = false ∧ va_Nc C nm s))) ∧ hd_ s args own C pc ok r
theorem st_catch {e : Env} {s : State} {a : Addr} {f : JFrame} {r : List Frame} {pc : Nat} {vm' : Vm} (hfind : ∀ (Q : Handler → Pre) (E : CtlPost) (d : Bool) (acts : List Action), wp (findHandler f a) Q E e d acts s ↔ Q (.found pc) d acts (s.setVm vm')) :
    (stepThrowing e s a (.java f :: r)).Is ((s.setVm vm').setFrames (.java { f with pc := pc, stack := [.ref a] } :: r)) [] := by
  simp only [stepThrowing, searchFrame, vmDo]
  generalize hr : Sem.go _ e false [] s = res
  obtain ⟨as, rfl, ha⟩ := Sem.eq_ok_of hr (a := Handler.found pc) (s' := s.setVm vm') (acts' := []) (by simp [hfind _ _ _ _])
  exact ⟨rfl, ha⟩
section XST
variable {p : Program} {l : Launch} {e : Env} {R : Room} {s : State} {m : MethodId} {args : Array Value} {below : List Frame} {meth : Method} {c : Code} {H : Heap} {locs : List Loc} {cells slots : Nat} {Q : State → Prop}
variable {cc : ByteArray} {pc : Nat} {ls : Array Slot} {rest st0 : List Value} {G : GT_} {n n1 : Nat} {M M1 : Mem_} {mc ms : Nat}
theorem xs_go {T : State} (X : Stand p l e R s m args below meth c T locs cells slots) {own C : String} (hown : s.vm.findClass own = some m.cls) {g : JFrame} (hg : g.method = m) {a : Addr} {cell : Cell} (hobj : cell.vm.isStatics = false) (hcls : s.vm.findClass C = some cell.cls) {ok : Nat → Bool} :
    ∀ (hh : List (Nat × Nat × Nat × Nat)), hd_ s args own C g.pc ok hh → ∀ S0 : State, S0.heap[a]? = some cell → s.WarmedH S0.vm →
      ∃ vm', s.WarmedH vm' ∧ ∀ (Q : Handler → Pre) (E : CtlPost) (d : Bool) (acts : List Action), wp (findHandler.go g a (tableOf hh)) Q E e d acts S0 ↔ Q (hr_ (hs_ g.pc ok hh)) d acts (S0.setVm vm')
  | [], _, S0, hcell, hW => ⟨S0.vm, hW, fun Q E d acts => by
      show wp (findHandler.go g a []) Q E e d acts S0 ↔ _
      rw [W.findHandler_go_nil]
      rfl⟩
  | q :: r, hd, S0, hcell, hW => by
    have hpl : e.platform.magicAccessors = ({} : Platform).magicAccessors := by rw [X.admits.platform]
    by_cases hcov : q.1 ≤ g.pc ∧ g.pc < q.2.1
    · obtain ⟨h0, nm, hlink, hok⟩ := hd.1 hcov
      obtain ⟨cT, hcT, hcl⟩ := Cond.classLink_spec hown hlink e.platform hpl
      obtain ⟨dk, _, _, kt, hdk, _, _, _, _, hkt, _, hopen⟩ := hcl.here
      have hcl₀ := hW.classLinks hcl
      have hW' : s.WarmedH (S0.vm.noted m.cls q.2.2.2 (.cls cT)) := hW.noted hdk hopen (State.rightAt_cls hcl)
      obtain ⟨ks, hks, -⟩ := Vm.findClass_spec hcls
      obtain ⟨ks', hks', -⟩ := hW'.alike.2.2 _ _ hks
      obtain ⟨kt', hkt', -⟩ := hW'.alike.2.2 _ _ hkt
      have hsz : (S0.vm.noted m.cls q.2.2.2 (.cls cT)).classes.size ≤ S0.vm.classes.size := by
        rw [hW'.alike.2.1, hW.alike.2.1]
        exact Nat.le_refl _
      have key : ∀ (Q : Handler → Pre) (E : CtlPost) (d : Bool) (acts : List Action), wp (findHandler.go g a (tableOf (q :: r))) Q E e d acts S0 ↔ if (S0.vm.noted m.cls q.2.2.2 (.cls cT)).assignable cell.cls cT = true then Q (.found q.2.2.1) d acts (S0.setVm (S0.vm.noted m.cls q.2.2.2 (.cls cT))) else wp (findHandler.go g a (tableOf r)) Q E e d acts (S0.setVm (S0.vm.noted m.cls q.2.2.2 (.cls cT))) := by
        intro Q E d acts
        subst hg
        exact fh_cold (x := ⟨q.1, q.2.1, q.2.2.1, q.2.2.2⟩) (by simp [covers, hcov.1, hcov.2]) h0 (resolveClass_links e.toSetting hcl₀) hsz hcell (VmData.noStatics_of hobj) ⟨ks', hks'⟩ ⟨kt', hkt'⟩
      rcases hok with ⟨h1, c0, t0, f1, f2, f3⟩ | ⟨h1, c0, t0, f1, f2, f3⟩
      · cases f1.symm.trans hcls
        cases f2.symm.trans hcT
        have hasg : (S0.vm.noted m.cls q.2.2.2 (.cls cT)).assignable cell.cls cT = true := by rw [hW'.alike.assignable]; exact f3
        refine ⟨_, hW', fun Q E d acts => (key Q E d acts).trans ?_⟩
        rw [if_pos hasg]
        simp only [hs_, if_pos hcov, if_pos h1, hr_]
      · cases f1.symm.trans hcls
        cases f2.symm.trans hcT
        have hasg : ¬ (S0.vm.noted m.cls q.2.2.2 (.cls cT)).assignable cell.cls cT = true := by rw [hW'.alike.assignable, f3]; decide
        obtain ⟨vm', hW2, hf⟩ := xs_go X hown hg hobj hcls r hd.2 (S0.setVm (S0.vm.noted m.cls q.2.2.2 (.cls cT))) hcell hW'
        refine ⟨vm', hW2, fun Q E d acts => (key Q E d acts).trans ?_⟩
        rw [if_neg hasg, hf]
        have h1' : ¬ ok q.2.2.2 = true := by rw [h1]; decide
        simp only [hs_, if_pos hcov, if_neg h1']
        exact Iff.rfl
    · obtain ⟨vm', hW2, hf⟩ := xs_go X hown hg hobj hcls r hd.2 S0 hcell hW
      refine ⟨vm', hW2, fun Q E d acts => ?_⟩
      have hsk : covers (⟨q.1, q.2.1, q.2.2.1, q.2.2.2⟩ : ExceptionTableEntry) g.pc = false := by
        simp only [covers, Bool.and_eq_false_iff, decide_eq_false_iff_not]
        by_cases h1 : q.1 ≤ g.pc
        · exact Or.inr fun h2 => hcov ⟨h1, h2⟩
        · exact Or.inl h1
      show wp (findHandler.go g a (⟨q.1, q.2.1, q.2.2.1, q.2.2.2⟩ :: tableOf r)) Q E e d acts S0 ↔ _
      rw [W.findHandler_go_skip hsk, hf]
      simp only [hs_, if_neg hcov]
/-- an exception 'a' is being thrown over the method's frame g -/
def Wx (p : Program) (l : Launch) (e : Env) (R : Room) (s : State) (m : MethodId) (args : Array Value) (below : List Frame) (meth : Method) (c : Code) (H : Heap) (locs : List Loc) (cells slots : Nat) (Q : State → Prop) (g : JFrame) (a : Addr) : Prop :=
  ∀ T : State, T.heap = H → Stand p l e R s m args below meth c T locs cells slots → ∃ t, Steps p.tables e below ((T.setTop g).pushFrame (.throwing a)) t ∧ Q t
theorem Wx.widen {g : JFrame} {a : Addr} {k n : Nat} (h1 : cells ≤ k) (h2 : slots ≤ n) (kk : Wx p l e R s m args below meth c H locs k n Q g a) : Wx p l e R s m args below meth c H locs cells slots Q g a := fun T hT X => kk T hT (stand_widen X h1 h2)
/-- caught -/
theorem wx_catch {own C : String} (hown : s.vm.findClass own = some m.cls) {hh : List (Nat × Nat × Nat × Nat)} (htab : c.exceptionTable.toList = tableOf hh) {ok : Nat → Bool} {st : List Value} (hd : hd_ s args own C pc ok hh) {h a : Nat} (hs : hs_ pc ok hh = some h)
    (hcl : ∃ cell : Cell, H[a]? = some cell ∧ cell.vm.isStatics = false ∧ s.vm.findClass C = some cell.cls)
    (kk : W p l e R s m args below meth c H locs cells slots Q (F0 m h ls [.ref a])) : Wx p l e R s m args below meth c H locs cells slots Q (F0 m pc ls st) a := by
  intro T hT X
  obtain ⟨cell, h1, h2, h3⟩ := hcl
  obtain ⟨vm', hW', hf⟩ := xs_go (e := e) X (g := F0 m pc ls st) hown rfl (a := a) h2 h3 hh hd ((T.setTop (F0 m pc ls st)).pushFrame (.throwing a)) (by rw [Stand.throwing_heap, hT]; exact h1) (by rw [Stand.throwing_vm]; exact X.warmed)
  have hfind : ∀ (Q : Handler → Pre) (E : CtlPost) (d : Bool) (acts : List Action), wp (findHandler (F0 m pc ls st) a) Q E e d acts ((T.setTop (F0 m pc ls st)).pushFrame (.throwing a)) ↔ Q (.found h) d acts (((T.setTop (F0 m pc ls st)).pushFrame (.throwing a)).setVm vm') := by
    intro Q E d acts
    rw [W.findHandler_eq (meth := meth) (code := c) (by rw [Stand.throwing_vm]; exact X.method') X.code, htab, hf]
    show Q (hr_ (hs_ pc ok hh)) d acts _ ↔ _
    rw [hs]
    exact Iff.rfl
  obtain ⟨t, a1, b1⟩ := kk (T.setVm vm') hT (X.noted hW')
  refine ⟨t, ?_, b1⟩
  obtain ⟨hgo, hw⟩ := At.throwing (g := F0 m pc ls st) X.here a
  refine Steps.head hgo hw ?_
  rw [stepThread_throwing (frames_entered X.here.top _), (st_catch hfind).1]
  obtain ⟨g₀, hr⟩ := X.frames_eq
  have hr' : (T.setVm vm').frames = .java g₀ :: below := hr
  show Steps p.tables e below (((((T.setVm vm').setTop (F0 m pc ls st)).pushFrame (.throwing a))).setFrames (.java (F0 m h ls [.ref a]) :: T.frames.tail)) t
  rw [State.pushFrame, State.setFrames_setFrames, State.setTop_of_frames _ hr', State.setFrames_setFrames]
  rw [State.setTop_of_frames _ hr'] at a1
  rw [hr]
  exact a1
/-- athrow -/
theorem wx_athrow (hexec : p.tables.exec = Jvm.exec) (hb : c.code = cc) {a : Nat} (hdg : decode cc pc = .ok (.athrow, 1)) (kk : Wx p l e R s m args below meth c H locs cells slots Q (F0 m pc ls rest) a) : W p l e R s m args below meth c H locs cells slots Q (F0 m pc ls (.ref a :: rest)) := by
  intro T hT X
  obtain ⟨t, a1, b1⟩ := kk T hT X
  refine ⟨t, ?_, b1⟩
  jvm_step X.here [X.here.top, hexec, hb, hdg, athrow.wp_sem]
  exact a1
/-- a contract of a method that throws -/
def Ft_ (s : State) (t : State) (mc ms : Nat) (free : Addr → Prop) : Prop := ∃ L : List Loc, s.WarmedH t.vm ∧ s.sameButNew ({ t with vm := s.vm } : State) L mc ms ∧ ∀ q ∈ L, free q.base
def Qm_ (Qc : Array Value → State → Outcome → State → Prop) (mc ms : Nat) (free : Addr → Prop) : Array Value → State → Outcome → State → Prop := fun a st o t => Qc a st o t ∧ (∃ x, o = .threw x) ∧ Ft_ st t mc ms free
def Mt_ (l : Launch) (y : MethodName) (ws : List Cond) (rm : Room) (Pc : Array Value → State → Prop) (Qc : Array Value → State → Outcome → State → Prop) (mc ms : Nat) (free : Addr → Prop) : Prop :=
  MetFree l y (headSpec ws rm) Pc (fun _ _ _ _ _ => True) (Qm_ Qc mc ms free)
def MT (below : List Frame) (Qc : Array Value → State → Outcome → State → Prop) (a : Array Value) (s : State) (mc ms : Nat) (free : Addr → Prop) : State → Prop := fun t =>
  ∃ o, t.status = .running ∧ Ended t below o ∧ Qm_ Qc mc ms free a s o t
/-- gone out -/
theorem wx_out {Qc : Array Value → State → Outcome → State → Prop} {free : Addr → Prop} {st : List Value} {a : Nat} (hlocks : meth.locks = false) {hh : List (Nat × Nat × Nat × Nat)} (htab : c.exceptionTable.toList = tableOf hh) (hout : hs_ pc (fun _ => true) hh = none)
    (hq : ∀ t : State, t.heap = H → s.WarmedH t.vm → Qc args s (.threw a) t) (hf : ∀ q ∈ locs, free q.base) : Wx p l e R s m args below meth c H locs cells slots (MT below Qc args s cells slots free) (F0 m pc ls st) a := by
  intro T hT X
  have hcov : ∀ x ∈ c.exceptionTable.toList, covers x pc = false := by
    rw [htab]
    clear htab
    induction hh with
    | nil => intro x hx; cases hx
    | cons q r ih =>
      simp only [hs_] at hout
      split at hout
      · cases hout
      · rename_i hcv
        intro x hx
        rcases List.mem_cons.mp hx with e1 | e1
        · rw [e1]
          simp only [covers, Bool.and_eq_false_iff, decide_eq_false_iff_not]
          by_cases h1 : q.1 ≤ pc
          · exact Or.inr fun h2 => hcv ⟨h1, h2⟩
          · exact Or.inl h1
        · exact ih hout x e1
  obtain ⟨h1, h2, h3, h4, h5⟩ := X.leaveThrown a (g := F0 m pc ls st) rfl rfl rfl hcov hlocks
  exact ⟨_, h1, .threw a, h2, h3, hq _ hT h4, ⟨a, rfl⟩, locs, h4, h5, hf⟩
end XST
section XEN
variable {l : Launch} {G : GT_} {n : Nat} {M : Mem_} {av : List Value}
/-- entry, without handlers -/
theorem en_c {Qm : Array Value → State → Outcome → State → Prop} {y : MethodName} {cc : ByteArray} {nL : Nat} {ret : Option FieldType} {rm : Room} (hy : plainName y.cls = true) (hlen : (lg_sl av).length ≤ nL)
    (body : ∀ (p : Program) (e : Env) (s : State) (m : MethodId) (below : List Frame) (meth : Method) (c : Code), l.admits e → c.exceptionTable.toList = tableOf [] → p.tables.exec = Jvm.exec → c.code = cc → meth.sig.returnType = ret → meth.locks = false → c.maxLocals = nL → s.vm.findClass y.cls = some m.cls → (∀ w ∈ lw_all, w.before av.toArray s = true) → meth.name = y.name → Kn_ G s → St_ G n M s s.heap [] → ∀ ls : Array Slot, lv_has ls nL (lv_args 0 av) →
      W p l e rm s m av.toArray below meth c s.heap [] 0 0 (fun t => ∃ o, t.status = .running ∧ Ended t below o ∧ Qm av.toArray s o t) (F0 m 0 ls [])) : MetFree l y (headSpec (ws_ y cc nL ret) rm) (Pc_ G n M av) (fun _ _ _ _ _ => True) Qm := by
  refine MetFree.of_bodyS (code := cc) (maxLocals := nL) (ret := ret) hy ?_ ?_
  · intro args s m h hn
    obtain ⟨meth, c, h1, h2, h3, h4, h5, h6, -, -⟩ := Cond.code_spec hn (atoms_spec (ws := ws_ y cc nL ret) h _ List.mem_cons_self)
    exact ⟨meth, c, h1, h2, h3, h4, h5, h6⟩
  · intro p e s m args below meth c s₁ B hml hv _
    obtain ⟨rfl, hsz, hb, hP, hK⟩ := hv
    have hts := atoms_spec (ws := ws_ y cc nL ret) B.pre
    have hem : c.exceptionTable.toList = tableOf [] := by
      have h0 := B.noHandlers (hts _ List.mem_cons_self)
      have h1 : c.exceptionTable.size = 0 := by simpa [Array.isEmpty] using h0
      exact List.eq_nil_of_length_eq_zero (by simpa using h1)
    have hts : ∀ w ∈ lw_all, w.before _ s = true := fun w h => hts w (List.mem_cons_of_mem _ h)
    have hl := lv_entry av (n := nL) hlen
    have hh0 : s₁.heap = s.heap := by rw [B.state]; rfl
    obtain ⟨t, a1, o, b1, b2, b3⟩ := body p e s m below meth c B.admits hem B.exec B.bytes B.returns B.notSynchronized hml (findClass_of_methodNamed B.named) hts (name_of_methodNamed B.named B.method).1 hK ⟨hP, hsz, hb, va_S.rf⟩ _ hl s₁ hh0 (Stand.of_body B)
    refine ⟨t, o, ?_, b1, b2, b3⟩
    rw [lg_entry_eq]
    exact a1
/-- entry, with handlers -/
theorem en_h {Qm : Array Value → State → Outcome → State → Prop} {y : MethodName} {cc : ByteArray} {nL : Nat} {ret : Option FieldType} {hh : List (Nat × Nat × Nat × Nat)} {rm : Room} (hy : plainName y.cls = true) (hlen : (lg_sl av).length ≤ nL)
    (body : ∀ (p : Program) (e : Env) (s : State) (m : MethodId) (below : List Frame) (meth : Method) (c : Code), l.admits e → c.exceptionTable.toList = tableOf hh → p.tables.exec = Jvm.exec → c.code = cc → meth.sig.returnType = ret → meth.locks = false → c.maxLocals = nL → s.vm.findClass y.cls = some m.cls → (∀ w ∈ lw_all, w.before av.toArray s = true) → meth.name = y.name → Kn_ G s → St_ G n M s s.heap [] → ∀ ls : Array Slot, lv_has ls nL (lv_args 0 av) →
      W p l e rm s m av.toArray below meth c s.heap [] 0 0 (fun t => ∃ o, t.status = .running ∧ Ended t below o ∧ Qm av.toArray s o t) (F0 m 0 ls [])) : MetFree l y (headSpec (wsW_ y cc nL ret hh) rm) (Pc_ G n M av) (fun _ _ _ _ _ => True) Qm := by
  refine MetFree.of_bodyS (code := cc) (maxLocals := nL) (ret := ret) hy ?_ ?_
  · intro args s m h hn
    obtain ⟨m9, meth, c, hn9, h1, h2, h3, h4, -, h5, h6, -⟩ := Cond.codeWith_spec (atoms_spec (ws := wsW_ y cc nL ret hh) h _ List.mem_cons_self)
    cases hn.symm.trans hn9
    exact ⟨meth, c, h1, h2, h3, h4, h5, h6⟩
  · intro p e s m args below meth c s₁ B hml hv _
    obtain ⟨rfl, hsz, hb, hP, hK⟩ := hv
    have hts := atoms_spec (ws := wsW_ y cc nL ret hh) B.pre
    have hem : c.exceptionTable.toList = tableOf hh := by
      obtain ⟨m9, meth9, c9, hn9, h1, h2, -, -, h4, -⟩ := Cond.codeWith_spec (hts _ List.mem_cons_self)
      cases B.named.symm.trans hn9
      cases B.method.symm.trans h1
      cases (Stand.of_body B).code.symm.trans h2
      rw [← h4, table_eq]
    have hts : ∀ w ∈ lw_all, w.before _ s = true := fun w h => hts w (List.mem_cons_of_mem _ h)
    have hl := lv_entry av (n := nL) hlen
    have hh0 : s₁.heap = s.heap := by rw [B.state]; rfl
    obtain ⟨t, a1, o, b1, b2, b3⟩ := body p e s m below meth c B.admits hem B.exec B.bytes B.returns B.notSynchronized hml (findClass_of_methodNamed B.named) hts (name_of_methodNamed B.named B.method).1 hK ⟨hP, hsz, hb, va_S.rf⟩ _ hl s₁ hh0 (Stand.of_body B)
    refine ⟨t, o, ?_, b1, b2, b3⟩
    rw [lg_entry_eq]
    exact a1
end XEN
