/-! the two default methods: a call's way through them, without a contract (their interfaces aren't known to be initialised) -/
set_option maxRecDepth 100000
section BKL
variable {p : Program} {l : Launch} {e : Env} {R : Room} {s : State} {sargs : Array Value} {below : List Frame} {G : GT_} {n : Nat} {M : Mem_}
theorem bk_leaf {y : MethodName} {cc : ByteArray} {maxL : Nat} {av : List Value} {v : Int32} (hpn : plainName y.cls = true) (hcode : (Cond.code y cc maxL (some .int)).before sargs s = true) (hexec : p.tables.exec = Jvm.exec) (hfr : 1 ≤ R.frames) (hlo : 8 + (maxL + 11) ≤ R.locals)
    (body : ∀ (U : State) (mk : MethodId) (cM : Code) (methM : Method) (below2 : List Frame) (g : JFrame) (f₀ : JFrame) (r : List Frame) (cg : Code) (ig : Instr), At U mk cM below2 → cM.code = cc → U.frames = .java f₀ :: .java g :: r → U.vm.method? mk = some methM → methM.locks = false → methM.sig.returnType = some .int → U.code? g.method = some cg → decode cg.code g.pc = .ok (ig, 3) →
      Steps p.tables e below2 (U.setTop (entryFrame mk av.toArray maxL)) ((U.setFrames (.java g :: r)).setTop { g with pc := g.pc + 3, stack := [.int v] ++ g.stack })) :
    Back l R p e below s sargs y 3 8 (PreOf R 0 0 (Pc_ G n M av)) (PostOf (Qc_ G (some (.int v)) M n) 0 0 (fun q => G.1 ≤ q)) := by
  intro m meth c A g ig mk a X hg hsize hdg hW hn hp
  obtain ⟨-, -, rfl, hsz, hgn, hR, hK⟩ := hp
  have hcU : (Cond.code y cc maxL (some .int)).before av.toArray A.U = true := word_at X.warmed (Or.inl (by first | rfl | simp [Cond.onTables, Cond.keeps, Cond.steady])) hcode
  obtain ⟨methM, cM, hmM, hcM, hbM, hlM, hrM, hlockM, -, -⟩ := Cond.code_spec hn hcU
  have hroom := X.notFull (g := g) (vars := cM.maxLocals) hsize hfr (by rw [hlM]; omega)
  refine ⟨some (.int v), A, X, ⟨g, mk, A.U, [], rfl, rfl, ⟨rfl, hsz, hR, ⟨Nat.le_refl _, fun q _ _ => rfl⟩⟩, by simp, (fun q hq => absurd hq List.not_mem_nil), rfl, rfl⟩, ?_⟩
  subst hg
  rw [doInvoke_enter (g := g) X.here.top [] hmM hcM hlockM hroom]
  have hfe := frames_entered (s := A.U) (g := g) X.here.top (.java (entryFrame mk av.toArray cM.maxLocals))
  have hpl : A.U.plainMethod mk := State.plainMethod.of_named (s := A.U) (plainFor_of_name hpn) hn hmM
  have hAt := X.here.enter av.toArray hmM hcM hpl
  rw [hlM] at hAt hfe ⊢
  have hcg : ((A.U.setTop g).pushFrame (.java (entryFrame mk av.toArray maxL))).code? g.method = some c := by
    have := X.here.code
    rw [State.code?_eq] at this ⊢
    simpa [State.pushFrame, State.setFrames] using this
  have := body _ mk cM methM below g _ _ c ig hAt hbM hfe (by simpa [State.pushFrame, State.setFrames] using hmM) hlockM hrM hcg hdg
  rw [setFrames_entered X.here.top] at this
  rwa [State.setTop_setTop] at this
end BKL
section BKT
variable {p : Program} {l : Launch} {e : Env} {R : Room} {s : State} {sargs : Array Value} {below : List Frame} {G : GT_} {n : Nat} {M : Mem_}
theorem bk_tires {b : Nat} (hts : ∀ w ∈ lw_all, w.before sargs s = true) (hexec : p.tables.exec = Jvm.exec) (hfr : 1 ≤ R.frames) (hlo : 20 ≤ R.locals) : Back l R p e below s sargs yX18_tires 3 8 (PreOf R 0 0 (Pc_ G n M [.ref b])) (PostOf (Qc_ G (some (.int 1)) M n) 0 0 (fun q => G.1 ≤ q)) := by
  refine bk_leaf (cc := cX18_tires) (maxL := 1) (by decide) (hts _ q488) hexec hfr hlo ?_
  intro U mk cM methM below2 g f₀ r cg ig hAt hb hfr2 hm hlk hrt hcg hdg
  rw [lg_entry_eq]
  generalize (lg_sl ([.ref b] : List Value) ++ List.replicate (1 - (lg_sl ([.ref b] : List Value)).length) Slot.unset).toArray = ls
  refine Steps.trans (s₂ := U.setTop (F0 mk 1 ls [.int 1])) ?_ ?_
  · jvm_step hAt [hAt.top, hexec, hb, dX18_tires_0]
    exact Steps.refl _
  · jvm_step hAt [hAt.top, hexec, hb, dX18_tires_1, hm, hrt, narrow]
    (try refine ⟨rfl, ?_⟩); (try refine ⟨rfl, ?_⟩)
    first | (intro acts; rw [doReturn_leave (f := F0 mk 1 ls []) acts hfr2 hm hlk rfl rfl hcg hdg]) | rw [doReturn_leave (f := F0 mk 1 ls []) _ hfr2 hm hlk rfl rfl hcg hdg]
    exact Steps.refl _
theorem bk_falls {b : Nat} {a1 a2 : Int32} (hts : ∀ w ∈ lw_all, w.before sargs s = true) (hexec : p.tables.exec = Jvm.exec) (hfr : 1 ≤ R.frames) (hlo : 22 ≤ R.locals) : Back l R p e below s sargs yX17_falls 3 8 (PreOf R 0 0 (Pc_ G n M [.ref b, .int a1, .int a2])) (PostOf (Qc_ G (some (.int a1)) M n) 0 0 (fun q => G.1 ≤ q)) := by
  refine bk_leaf (cc := cX17_falls) (maxL := 3) (by decide) (hts _ q451) hexec hfr hlo ?_
  intro U mk cM methM below2 g f₀ r cg ig hAt hb hfr2 hm hlk hrt hcg hdg
  rw [lg_entry_eq]
  have hl := lv_entry ([.ref b, .int a1, .int a2]) (n := 3) (Nat.le_of_ble_eq_true rfl)
  generalize (lg_sl ([.ref b, .int a1, .int a2] : List Value) ++ List.replicate (3 - (lg_sl ([.ref b, .int a1, .int a2] : List Value)).length) Slot.unset).toArray = ls at hl ⊢
  have hl : lv_has ls 3 [(0, .ref b), (1, .int a1), (2, .int a2)] := hl
  have h1 : ls[1]? = some (.val (.int a1)) := lv_at hl 1 rfl
  refine Steps.trans (s₂ := U.setTop (F0 mk 1 ls [.int a1])) ?_ ?_
  · jvm_step hAt [hAt.top, hexec, hb, dX17_falls_0, h1]
    exact Steps.refl _
  · jvm_step hAt [hAt.top, hexec, hb, dX17_falls_1, hm, hrt, narrow]
    (try refine ⟨rfl, ?_⟩); (try refine ⟨rfl, ?_⟩)
    first | (intro acts; rw [doReturn_leave (f := F0 mk 1 ls []) acts hfr2 hm hlk rfl rfl hcg hdg]) | rw [doReturn_leave (f := F0 mk 1 ls []) _ hfr2 hm hlk rfl rfl hcg hdg]
    exact Steps.refl _
end BKT
