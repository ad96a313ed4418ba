/-! calls of methods with handlers, of methods that throw -/
set_option maxRecDepth 100000
def Qt_ (G : GT_) (P : Nat → State → Prop) (M1 : Mem_) (n1 : Nat) : Array Value → State → Outcome → State → Prop := fun _ st oc t => ∃ x : Nat, oc = .threw x ∧ P x t ∧ t.heap.size = n1 ∧ Rp_ G M1 t.heap ∧ va_F (fun q => G.1 ≤ q) st t
/-- the object thrown is the one at x0 -/
def Px_ (x0 : Nat) : Nat → State → Prop := fun x _ => x = x0
/-- the object thrown is of the class C -/
def Pk_ (C : String) : Nat → State → Prop := fun x t => ∃ cell : Cell, t.heap[x]? = some cell ∧ cell.vm.isStatics = false ∧ t.vm.findClass C = some cell.cls
abbrev Cx_ (G : GT_) (l : Launch) (y : MethodName) (ws : List Cond) (rm : Room) (mc ms : Nat) (av : List Value) (M : Mem_) (n : Nat) (P : Nat → State → Prop) (M1 : Mem_) (n1 : Nat) : Prop := Mt_ l y ws rm (Pc_ G n M av) (Qt_ G P M1 n1) mc ms (fun q => G.1 ≤ q)
theorem cc_of {M : Mem_} {a t tag : Nat} (h : tg_ M a = some t) (hc : t = tag) : cc_ M a tag = some () := by simp [cc_, h, hc]
section XCL
variable {p : Program} {l : Launch} {e : Env} {R : Room} {s : State} {m : MethodId} {args : Array Value} {below : List Frame} {meth : Method} {c : Code} {H : Heap} {locs : List Loc} {cells slots : Nat} {Q : State → Prop}
variable {cc : ByteArray} {pc : Nat} {ls : Array Slot} {rest st0 : List Value} {G : GT_} {n n1 : Nat} {M M1 : Mem_} {mc ms : Nat}
/-- the signature of a method by its code's word -/
theorem sg_code {y : MethodName} {bytes : ByteArray} {maxL : Nat} {ret : Option FieldType} (hts : ∀ w ∈ lw_all, w.before args s = true) (hcm : Cond.code y bytes maxL ret ∈ lw_all) : ∃ mk methY cY, s.methodNamed? y = some mk ∧ s.vm.method? mk = some methY ∧ methY.code = some cY ∧ cY.maxLocals = maxL ∧ parseMethodDescriptor y.desc = some methY.sig := by
  obtain ⟨mk, hn⟩ := Cond.code_named (hts _ hcm)
  obtain ⟨methY, cY, h1, h2, -, h4, -, -, -, h5⟩ := Cond.code_spec hn (hts _ hcm)
  exact ⟨mk, methY, cY, hn, h1, h2, h4, h5⟩
theorem sg_with {y : MethodName} {bytes : ByteArray} {maxL : Nat} {ret : Option FieldType} {hh : List (Nat × Nat × Nat × Nat)} (hts : ∀ w ∈ lw_all, w.before args s = true) (hcm : Cond.codeWith y bytes maxL ret hh ∈ lw_all) : ∃ mk methY cY, s.methodNamed? y = some mk ∧ s.vm.method? mk = some methY ∧ methY.code = some cY ∧ cY.maxLocals = maxL ∧ parseMethodDescriptor y.desc = some methY.sig := by
  obtain ⟨mk, methY, cY, hn, h1, h2, -, h4, -, -, -, h5⟩ := Cond.codeWith_spec (hts _ hcm)
  exact ⟨mk, methY, cY, hn, h1, h2, h4, h5⟩
/-- invokevirtual up to the callee's start -/
theorem iv_ {T : State} (X : Stand p l e R s m args below meth c T locs cells slots) (hexec : p.tables.exec = Jvm.exec) {own C : String} {index k : Nat} {y : MethodName} {mk : MethodId} {methM : Method}
    (hown : s.vm.findClass own = some m.cls) (hlink : (Cond.methodLink own index y).before args s = true) (hinst : (Cond.instanceMethod y).before args s = true) (hsel : (Cond.selects C y y).before args s = true) (hy : y.cls ≠ "java/lang/invoke/MethodHandle" ∧ y.cls ≠ "java/lang/invoke/VarHandle")
    (hn : s.methodNamed? y = some mk) (hm : s.vm.method? mk = some methM) (hsig : parseMethodDescriptor y.desc = some methM.sig) (hlx : (parseMethodDescriptor y.desc).map (fun d => d.parameters.length) = some k)
    {b : Addr} {cellB : Cell} (hcell : T.heap[b]? = some cellB) (hobj : cellB.vm.isStatics = false) (hcls : s.vm.findClass C = some cellB.cls)
    {g : JFrame} (hg : g.method = m) {argsL rest : List Value} (hlen : argsL.length = k) (hstack : g.stack = argsL.reverse ++ .ref b :: rest) (hdg : decode c.code g.pc = .ok (.invokevirtual index, 3)) :
    ∃ vm₁, Stand p l e R s m args below meth c (T.setVm vm₁) locs cells slots ∧ ∀ target, (∀ acts, Steps p.tables e below (doInvoke e ((T.setVm vm₁).setTop { g with stack := rest }) acts mk (.ref b :: argsL).toArray).1 target) → Steps p.tables e below (T.setTop g) target := by
  obtain ⟨mk', methM', hnamed, hmethM, hstM, habM⟩ := Cond.instanceMethod_spec hinst
  cases hn.symm.trans hnamed
  cases hm.symm.trans hmethM
  obtain ⟨c2, r2, m2, q1, q2, q3, q4, kP, hkP, hkPi⟩ := Cond.selects_spec hsel
  cases hcls.symm.trans q1
  cases (State.methodFound?_of_named hn hy).symm.trans q2
  cases hn.symm.trans q3
  have hselP : selectMethod e.platform s.vm cellB.cls mk = .method mk := by rw [Launch.admits_selectMethod X.admits]; exact q4
  exact X.invokevirtual hexec hown hlink hn hm hstM hkP hkPi hy (a := b) (cell := cellB) hcell
    (fun z h => by rw [h] at hobj; cases hobj) hselP hm habM hkP hkPi (g := g) hg (argsL := argsL) (rest := rest) (by rw [hsig] at hlx; exact hlen.trans (Option.some.inj hlx).symm) hstack hdg
/-- a call of a method with handlers that returns -/
theorem rn_VW {y : MethodName} {bytes : ByteArray} {maxL nL k index ci b : Nat} {ret : Option FieldType} {hh : List (Nat × Nat × Nat × Nat)} {rm : Room} {own C : String} {T : u_T} {N : Nat} {As : List Value} {v : Option Value} {u : Unit} (S : CallFix p m c cc nL s args lw_all own) (hK : Kn_ G s) (hH : St_ G n M s H locs) (hM : Ct_ G l y (wsW_ y bytes maxL ret hh) rm mc ms (.ref b :: As) M n v M1 n1)
    (hlink : (Cond.methodLink own index y).before args s = true) (hinst : (Cond.instanceMethod y).before args s = true) (hsel : (Cond.selects C y y).before args s = true) (hini : (Cond.initialized y.cls).before args s = true) (hcm : Cond.codeWith y bytes maxL ret hh ∈ lw_all)
    (hd : y.cls ≠ "java/lang/invoke/MethodHandle" ∧ y.cls ≠ "java/lang/invoke/VarHandle" ∧ (parseMethodDescriptor y.desc).map (fun d => d.parameters.length) = some k) (hrc : rm.cells = mc) (hrs : rm.slots = ms) (hR : rm.frames + 1 ≤ R.frames ∧ 8 + (maxL + 11) + rm.locals ≤ R.locals)
    (hk : ck_ M b ci = some u) (hc : vwCl[ci]? = some (C, T, N)) (hn : As.length = k) (hsize : ls.size = nL) (hW : (rest.map fun v => v.category).sum ≤ 8) (hdg : decode cc pc = .ok (.invokevirtual index, 3)) (hf : cells + mc ≤ R.cells ∧ slots + ms ≤ R.slots) (hst : st0 = As.reverse ++ .ref b :: rest) :
    va_Run p l e R s m args below meth c H locs cells slots mc ms (F0 m pc ls st0) rest (Qc_ G v M1 n1 (Value.ref b :: As).toArray) (fun q => G.1 ≤ q) := by
  obtain ⟨hx, hb, hml, ho, hts⟩ := S
  have hBk : Back l R p e below s args y 3 8 (PreOf R mc ms (Pc_ G n M (.ref b :: As))) (PostOf (Qc_ G v M1 n1) mc ms (fun q => G.1 ≤ q)) := va_backW (hh := hh) (bytes := bytes) (maxL := maxL) (ret := ret) hM pc_blind hrc hrs hR.1 hR.2 (pay_in hts (lw_methW hcm)) List.mem_cons_self (fun a' U hW => word_at hW (Or.inl (by first | rfl | simp [Cond.onTables, Cond.keeps, Cond.steady])) hini)
  obtain ⟨cellB, hcB, hoB, hclB⟩ := st_recv hK hH hk hc
  obtain ⟨mk, methY, cY, hnm, hmY, -, -, hsig⟩ := sg_with hts hcm
  intro T hT X
  obtain ⟨vm₁, X₁, hstep₁⟩ := iv_ X hx ho hlink hinst hsel ⟨hd.1, hd.2.1⟩ hnm hmY hsig hd.2.2 (by rw [hT]; exact hcB) hoB hclB (g := F0 m pc ls st0) rfl hn hst (by rw [hb]; exact hdg)
  obtain ⟨v', ⟨U', l2, c2, s2⟩, X', ⟨g', mk', t, L, e1, e2, hq, h1, hL, h2, h3⟩, hsteps⟩ := hBk m meth c ⟨T.setVm vm₁, locs, cells, slots⟩ { F0 m pc ls st0 with stack := rest } (.invokevirtual index) mk (Value.ref b :: As).toArray X₁ rfl (hsize.trans hml.symm) (by rw [hb]; exact hdg) (lv_room hW) (X₁.named hnm) ⟨hf.1, hf.2, pc_at hK hH (T.setVm vm₁) hT X₁.warmed⟩
  dsimp only [Pt.U, Pt.locs, Pt.cells, Pt.slots] at X' e1 e2 h1 h2 h3 hsteps
  subst h1; subst h2; subst h3
  exact ⟨v', (T.setVm vm₁).calling g' mk' (Value.ref b :: As).toArray, t, U', L, hT, X', hL, e1, e2, hq, fun target h => hstep₁ _ fun acts => by rw [doInvoke_state]; exact hsteps.trans h⟩
/-- a call that throws -/
theorem rn_T {ws : List Cond} {y : MethodName} {maxL nL k index b : Nat} {rm : Room} {own C : String} {As : List Value} {P : Nat → State → Prop} (S : CallFix p m c cc nL s args lw_all own) (hK : Kn_ G s) (hH : St_ G n M s H locs) (hM : Cx_ G l y ws rm mc ms (.ref b :: As) M n P M1 n1)
    (hlink : (Cond.methodLink own index y).before args s = true) (hinst : (Cond.instanceMethod y).before args s = true) (hsel : (Cond.selects C y y).before args s = true) (hini : (Cond.initialized y.cls).before args s = true)
    (hsg : ∃ mk methY cY, s.methodNamed? y = some mk ∧ s.vm.method? mk = some methY ∧ methY.code = some cY ∧ cY.maxLocals = maxL ∧ parseMethodDescriptor y.desc = some methY.sig) (hws : GoodIn lw_all ws)
    (hd : y.cls ≠ "java/lang/invoke/MethodHandle" ∧ y.cls ≠ "java/lang/invoke/VarHandle" ∧ (parseMethodDescriptor y.desc).map (fun d => d.parameters.length) = some k) (hrc : rm.cells = mc) (hrs : rm.slots = ms) (hR : rm.frames + 1 ≤ R.frames ∧ 8 + (maxL + 11) + rm.locals ≤ R.locals)
    (hrecv : ∃ cell : Cell, H[b]? = some cell ∧ cell.vm.isStatics = false ∧ s.vm.findClass C = some cell.cls) (hn : As.length = k) (hsize : ls.size = nL) (hW : (rest.map fun v => v.category).sum ≤ 8) (hdg : decode cc pc = .ok (.invokevirtual index, 3)) (hf : cells + mc ≤ R.cells ∧ slots + ms ≤ R.slots) (hst : st0 = As.reverse ++ .ref b :: rest)
    (kk : ∀ (H1 : Heap) (locs1 : List Loc) (x : Nat) (t : State), St_ G n1 M1 s H1 locs1 → t.heap = H1 → s.WarmedH t.vm → P x t → Wx p l e R s m args below meth c H1 locs1 (cells + mc) (slots + ms) Q (F0 m pc ls rest) x) :
    W p l e R s m args below meth c H locs cells slots Q (F0 m pc ls st0) := by
  obtain ⟨hx, hb, hml, ho, hts⟩ := S
  obtain ⟨cellB, hcB, hoB, hclB⟩ := hrecv
  obtain ⟨mk, methY, cY, hnm, hmY, hcY, hlY, hsig⟩ := hsg
  intro T hT X
  obtain ⟨vm₁, X₁, hstep₁⟩ := iv_ X hx ho hlink hinst hsel ⟨hd.1, hd.2.1⟩ hnm hmY hsig hd.2.2 (by rw [hT]; exact hcB) hoB hclB (g := F0 m pc ls st0) rfl hn hst (by rw [hb]; exact hdg)
  have hA : At (T.setVm vm₁) m c below := X₁.here
  have hdg' : decode c.code (F0 m pc ls rest).pc = .ok (.invokevirtual index, 3) := by rw [hb]; exact hdg
  have hnU := X₁.named hnm
  obtain ⟨kY, hkY, -⟩ := className_of_methodNamed hnU
  have hiniU : (Cond.initialized y.cls).before args (T.setVm vm₁) = true := word_at X₁.warmed (Or.inl (by first | rfl | simp [Cond.onTables, Cond.keeps, Cond.steady])) hini
  have hinitY : kY.init = .initialized := Cond.initialized_spec (findClass_of_methodNamed hnU) hkY hiniU
  have hmU : (T.setVm vm₁).vm.method? mk = some methY := by
    rw [X₁.warmed.alike.method?]
    exact hmY
  have happ : (headSpec ws rm).appliesLoose y e.platform ((T.setVm vm₁).calling (F0 m pc ls rest) mk (Value.ref b :: As).toArray) = true :=
    Spec.appliesLoose_calling (g := F0 m pc ls rest) hA hdg' hnU hkY hinitY
      (X₁.room_calling (g := F0 m pc ls rest) (R' := rm) (hsize.trans hml.symm) hmU hcY hR.1 (by rw [hlY]; have := hR.2; show 2 * 0 + (rest.map fun v => v.category).sum + (maxL + 11) + rm.locals ≤ R.locals; omega) (by rw [hrc]; exact hf.1) (by rw [hrs]; exact hf.2)) (atoms_intro fun w hw => pay_in hts hws w hw _ _ X₁.warmed)
  obtain ⟨mid, hmid⟩ := hA.above
  have hfr : ((T.setVm vm₁).setTop (F0 m pc ls rest)).frames = (.java (F0 m pc ls rest) :: mid) ++ below := by rw [State.frames_setTop' _ hA.top, hmid]; rfl
  obtain ⟨o, s₂, hsteps, -, hend, hq⟩ := Steps.callFree hM p X.admits X.cas X.clock (acts := []) hfr happ (pc_blind _ _ _ _ (pc_at hK hH (T.setVm vm₁) hT X₁.warmed)) trivial
  obtain ⟨⟨x, rfl, hPx, hz, hRp, hfF⟩, -, L, hW₂, hsame, hLf⟩ := hq
  rw [State.frames_setTop' _ hA.top, X₁.tail] at hend
  obtain ⟨T', X', hWT, -, ht⟩ := X₁.outOfThrown (g := F0 m pc ls rest) rfl hend hW₂ hsame
  have hh2 : T'.heap = s₂.heap := by rw [ht, Stand.throwing_heap]
  have hfF : va_F (fun q => G.1 ≤ q) (T.setVm vm₁) s₂ := hfF
  have hsz0 : (T.setVm vm₁).heap.size = n := by rw [← hH.2.1, ← hT]; rfl
  have hst' : St_ G n1 M1 s T'.heap (locs ++ L) := ⟨by rw [hh2]; exact hRp, by rw [hh2]; exact hz, by
      have g1 := hH.2.2.1
      have g2 := hfF.1
      rw [hsz0, hz] at g2
      omega, ⟨by rw [hh2]; exact Nat.le_trans hH.2.2.2.1 (by rw [← hT]; exact hfF.1), fun q g1 g2 => by
        rw [hh2, hfF.2 q (by show q < T.heap.size; rw [hT]; exact Nat.lt_of_lt_of_le g1 hH.2.2.2.1) g2]
        show T.heap[q]? = _
        rw [hT]; exact hH.2.2.2.2.1 q g1 g2, fun q hq => by
      rcases List.mem_append.mp hq with h | h
      · exact hH.2.2.2.2.2 q h
      · exact hLf q h⟩⟩
  have hvm2 : s.WarmedH s₂.vm := by
    have : T'.vm = s₂.vm := by rw [ht, Stand.throwing_vm]
    rw [← this]; exact X'.warmed
  obtain ⟨t, a1, b1⟩ := kk T'.heap (locs ++ L) x s₂ hst' hh2.symm hvm2 hPx T' rfl X'
  refine ⟨t, hstep₁ _ fun acts => ?_, b1⟩
  rw [doInvoke_state]
  refine hsteps.trans ?_
  rw [ht]
  exact a1
/-- what is thrown goes out -/
theorem xt_out {P : Nat → State → Prop} {st : List Value} {x : Nat} {hh : List (Nat × Nat × Nat × Nat)} (hlocks : meth.locks = false) (htab : c.exceptionTable.toList = tableOf hh) (hout : hs_ pc (fun _ => true) hh = none) (hH : St_ G n1 M1 s H locs) (hP : ∀ t : State, t.heap = H → s.WarmedH t.vm → P x t) : Wx p l e R s m args below meth c H locs cells slots (MT below (Qt_ G P M1 n1) args s cells slots (fun q => G.1 ≤ q)) (F0 m pc ls st) x :=
  wx_out hlocks htab hout (fun t ht hW => ⟨x, rfl, hP t ht hW, by rw [ht]; exact hH.2.1, by rw [ht]; exact hH.1, hH.2.2.2.F ht⟩) hH.2.2.2.2.2
theorem pk_moved {C : String} {x : Nat} {t u : State} (hP : Pk_ C x t) (hh : u.heap = t.heap) (ht : s.WarmedH t.vm) (hu : s.WarmedH u.vm) : Pk_ C x u := by
  obtain ⟨cell, h1, h2, h3⟩ := hP
  exact ⟨cell, by rw [hh]; exact h1, h2, by rw [hu.alike.findClass, ← ht.alike.findClass]; exact h3⟩
theorem pk_cls {C : String} {x : Nat} {t : State} (hP : Pk_ C x t) (hh : t.heap = H) (ht : s.WarmedH t.vm) : ∃ cell : Cell, H[x]? = some cell ∧ cell.vm.isStatics = false ∧ s.vm.findClass C = some cell.cls := by
  obtain ⟨cell, h1, h2, h3⟩ := hP
  exact ⟨cell, by rw [← hh]; exact h1, h2, by rw [← ht.alike.findClass]; exact h3⟩
end XCL
