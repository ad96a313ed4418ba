/-! super calls -/
set_option maxRecDepth 100000
theorem lw_SU {own : String} {idx : Nat} {y : MethodName} {b : ByteArray} {L : Nat} {r : Option FieldType} (h1 : Cond.methodLink own idx y ∈ lw_all) (h2 : Cond.sameMethod y.cls y.cls y.name y.desc ∈ lw_all) (h3 : Cond.superclass own y.cls ∈ lw_all) (h4 : Cond.instanceMethod y ∈ lw_all) (h5 : Cond.initialized y.cls ∈ lw_all) (h6 : Cond.code y b L r ∈ lw_all) : GoodIn lw_all (va_wsSU own idx y (ws_ y b L r)) := by
  refine lw_app ?_ (lw_meth h6)
  intro w hw
  simp only [List.mem_cons, List.not_mem_nil, or_false] at hw
  rcases hw with e | e | e | e | e
  · rw [e]; exact h1
  · rw [e]; exact h2
  · rw [e]; exact h3
  · rw [e]; exact h4
  · rw [e]; exact h5
section MGU
variable {p : Program} {l : Launch} {e : Env} {R : Room} {s : State} {m : MethodId} {args : Array Value} {below : List Frame} {meth : Method} {c : Code} {H : Heap} {locs : List Loc} {cells slots : Nat} {Q : State → Prop}
variable {cc : ByteArray} {pc : Nat} {ls : Array Slot} {rest st0 : List Value} {G : GT_} {a n n1 : Nat} {M M1 : Mem_} {mc ms : Nat}
theorem rn_SU {y : MethodName} {bytes : ByteArray} {maxL nL k index b kd : Nat} {ret : Option FieldType} {ws : List Cond} {rm : Room} {own : String} {As : List Value} {v : Option Value} (S : CallFix p m c cc nL s args lw_all own) (hK : Kn_ G s) (hH : St_ G n M s H locs) (hM : Ct_ G l y ws rm mc ms (.ref b :: As) M n v M1 n1) (cw : va_CS R s args own index y bytes maxL ret ws rm mc ms k) (hk : kd_ M b = some kd) (hn : As.length = k) (hsize : ls.size = nL) (hW : (rest.map fun v => v.category).sum ≤ 8) (hdg : decode cc pc = .ok (.invokespecial index, 3)) (hf : cells + mc ≤ R.cells ∧ slots + ms ≤ R.slots) (hst : st0 = As.reverse ++ .ref b :: rest) :
    va_Run p l e R s m args below meth c H locs cells slots mc ms (F0 m pc ls st0) rest (Qc_ G v M1 n1 (Value.ref b :: As).toArray) (fun q => G.1 ≤ q) := by
  obtain ⟨h1, f, h2⟩ := kd_spec hk
  obtain ⟨T, g1, -⟩ := vw_stroke h1
  exact va_runSU (C := kS_ kd) (hK.1.1 _ _ g1).2 S hM cw ⟨pc_blind, kd_recv hK hH hk, fun U hU hW => pc_at hK hH U hU hW⟩ rfl hn hsize hst (lv_room hW) hdg hf
theorem vs_up {T : State} (X : Stand p l e R s m args below meth c T locs cells slots) (hexec : p.tables.exec = Jvm.exec)
    {own owner : String} {index : Nat} {x : MethodName} (hown : s.vm.findClass own = some m.cls) (hlink : (Cond.methodLink own index x).before args s = true)
    (hsame : (Cond.sameMethod x.cls owner x.name x.desc).before args s = true)
    {r0 : MethodId} {r : Method} (hn : s.methodNamed? ⟨owner, x.name, x.desc⟩ = some r0) (hrm : s.vm.method? r0 = some r) (hstatic : r.isStatic = false) (habs : r.isAbstract = false) (hnoinit : x.name ≠ "<init>")
    {dk : Class} {cn : ClassId} (hd : s.vm.classes[m.cls]? = some dk) (hnid : dk.isInterface = false) (hcn : s.vm.findClass x.cls = some cn) (hsuper : dk.super = some cn) (hfound0 : ∀ ck : Class, s.vm.classes[cn]? = some ck → ck.isInterface = false → s.vm.lookupUp cn x.name x.desc = some r0 → lookupSpecial s.vm cn x.name x.desc = .method r0)
    {a : Addr} {cell : Cell} {kcell : Class} (hcell : T.heap[a]? = some cell) (hobj : ∀ c, cell.vm ≠ .statics c) (hkcell : s.vm.classes[cell.cls]? = some kcell)
    {g : JFrame} (hg : g.method = m) {argsL rest : List Value} (hlen : argsL.length = r.sig.parameters.length) (hstack : g.stack = argsL.reverse ++ .ref a :: rest)
    (hdg : decode c.code g.pc = .ok (.invokespecial index, 3)) :
    ∃ vm', Stand p l e R s m args below meth c (T.setVm vm') locs cells slots ∧
      ∀ target, Steps p.tables e below (doInvoke e ((T.setVm vm').setTop { g with stack := rest }) [] r0 (.ref a :: argsL).toArray).1 target → Steps p.tables e below (T.setTop g) target := by
  have hpl : e.platform.magicAccessors = ({} : Platform).magicAccessors := by rw [X.admits.platform]
  obtain ⟨cn', ck, r1, hcn', hck, hni, hf, hn1⟩ := Cond.sameMethod_found hsame
  cases hn.symm.trans hn1
  cases hcn.symm.trans hcn'
  obtain ⟨ci, hl, hright⟩ := Cond.methodLink_specUp hown hcn hck hni hf hlink e.platform hpl (by rw [X.admits.platform])
  obtain ⟨kr, hkr, -⟩ := className_of_methodNamed hn
  obtain ⟨hrn, hrd⟩ := name_of_methodNamed hn hrm
  obtain ⟨dk₀, cfile, nt, _, _, ck₀, _, _, hd₀, hcf, hcp, -, -, -, hc₀, -, hpoly, -⟩ := hl.here
  cases hd.symm.trans hd₀
  cases hck.symm.trans hc₀
  have hup : s.vm.lookupUp cn x.name x.desc = some r0 := ((State.methodFound?_class hcn hck hni hpoly r0).mp hf).1
  have hfd := hfound0 ck hck hni hup
  subst hg
  obtain ⟨vm', hW', st⟩ := Steps.invokeSuperColdArgs (tb := p.tables) (e := e) (s₀ := s) (U := T) (f := g) (args := argsL) (rest := rest) (a := a) (cell := cell) (m := r0) X.here hexec hdg X.warmed hl hright hd hcf hcp hrm hck
    (by rw [hrn]; simp [hnoinit]) hstatic (by rw [hrn, hrd, hsuper]; simpa using hfd) hnid hkr habs hlen hstack hcell hobj hkcell
  exact ⟨vm', X.noted hW', st⟩
/-- super.m() that lands in a default method -/
theorem rn_SD {x y : MethodName} {bytes : ByteArray} {maxL nL k index b kd : Nat} {ret : Option FieldType} {own owner : String} {As : List Value} {v : Option Value} (S : CallFix p m c cc nL s args lw_all own) (hK : Kn_ G s) (hH : St_ G n M s H locs) (hBk : Back l R p e below s args y 3 8 (PreOf R mc ms (Pc_ G n M (.ref b :: As))) (PostOf (Qc_ G v M1 n1) mc ms (fun q => G.1 ≤ q)))
    (hy : y = ⟨owner, x.name, x.desc⟩) (hno : x.name ≠ "<init>") (hlink : (Cond.methodLink own index x).before args s = true) (hsame : (Cond.sameMethod x.cls owner x.name x.desc).before args s = true) (hsup : (Cond.superclass own x.cls).before args s = true)
    (hsel : Ld_ x.cls x y s) (hinst : (Cond.instanceMethod y).before args s = true) (hcm : Cond.code y bytes maxL ret ∈ lw_all)
    (hlx : (parseMethodDescriptor y.desc).map (fun d => d.parameters.length) = some k) (hk : kd_ M b = some kd) (hn : As.length = k) (hsize : ls.size = nL) (hW : (rest.map fun v => v.category).sum ≤ 8) (hdg : decode cc pc = .ok (.invokespecial index, 3)) (hf : cells + mc ≤ R.cells ∧ slots + ms ≤ R.slots) (hst : st0 = As.reverse ++ .ref b :: rest) :
    va_Run p l e R s m args below meth c H locs cells slots mc ms (F0 m pc ls st0) rest (Qc_ G v M1 n1 (Value.ref b :: As).toArray) (fun q => G.1 ≤ q) := by
  obtain ⟨hx, hb, hml, ho, hts⟩ := S
  obtain ⟨cellB, hcB, hoB, hclB⟩ := kd_recv hK hH hk
  obtain ⟨kB, hkB, -⟩ := Vm.findClass_spec hclB
  obtain ⟨mk, methM, hnamed, hmethM, hstM, habM⟩ := Cond.instanceMethod_spec hinst
  obtain ⟨methM', cM, hmethM', -, -, -, -, -, -, hsigM⟩ := Cond.code_spec hnamed (hts _ hcm)
  cases hmethM.symm.trans hmethM'
  obtain ⟨ps, dk, kp, hps, hdk, hkp, hsuper, -, -, hnid⟩ := Cond.superclass_spec ho hsup
  obtain ⟨c2, r2, m2, rm2, q1, q2, q3, qm, q4, ⟨kP, hkP, hkPi⟩, hnr, hpv⟩ := ld_spec hsel
  cases hps.symm.trans q1
  cases hnamed.symm.trans q3
  have hny : s.methodNamed? ⟨owner, x.name, x.desc⟩ = some mk := by rw [← hy]; exact hnamed
  obtain ⟨cn', ck, r1, hcn', hck, hni, hf1, hn1⟩ := Cond.sameMethod_found hsame
  cases hny.symm.trans hn1
  cases hf1.symm.trans q2
  obtain ⟨hrn, hrd⟩ := name_of_methodNamed hny hmethM
  cases hmethM.symm.trans qm
  intro T hT X
  obtain ⟨vm₁, X₁, hstep₁⟩ := vs_up X hx ho hlink hsame hny hmethM hstM habM hno hdk hnid hps hsuper (fun ck hck hni hup => ls_default hck hni hmethM hstM hrn hrd hup q4 hkP hkPi hpv) (a := b) (cell := cellB) (by rw [hT]; exact hcB)
    (fun z h => by rw [h] at hoB; cases hoB) hkB (g := F0 m pc ls st0) rfl (argsL := As) (rest := rest) (by
      rw [hsigM] at hlx
      exact hn.trans (Option.some.inj hlx).symm) hst (by rw [hb]; exact hdg)
  obtain ⟨v', ⟨U', l2, c2, s2⟩, X', ⟨g', mk', t, L, e1, e2, hq, h1, hL, h2, h3⟩, hsteps⟩ := hBk m meth c ⟨T.setVm vm₁, locs, cells, slots⟩ { F0 m pc ls st0 with stack := rest } (.invokespecial index) mk (Value.ref b :: As).toArray X₁ rfl (hsize.trans hml.symm) (by rw [hb]; exact hdg) (lv_room hW) (X₁.named hnamed) ⟨hf.1, hf.2, pc_at hK hH (T.setVm vm₁) hT X₁.warmed⟩
  dsimp only [Pt.U, Pt.locs, Pt.cells, Pt.slots] at X' e1 e2 h1 h2 h3 hsteps
  subst h1; subst h2; subst h3
  exact ⟨v', (T.setVm vm₁).calling g' mk' (Value.ref b :: As).toArray, t, U', L, hT, X', hL, e1, e2, hq, fun target h => hstep₁ _ (by rw [doInvoke_state]; exact hsteps.trans h)⟩
end MGU
/-! a stroke's figure is written by Stroke's constructor, whatever the stroke's class -/
def pG_ (M : Mem_) (a : Nat) (v : Int32) : Option Mem_ := (sk_ M a).bind fun q => some (ms_ M a (eO_ (7 + q.1) [.int v]))
section MGP
variable {p : Program} {l : Launch} {e : Env} {R : Room} {s : State} {m : MethodId} {args : Array Value} {below : List Frame} {meth : Method} {c : Code} {H : Heap} {locs : List Loc} {cells slots : Nat} {Q : State → Prop}
variable {cc : ByteArray} {pc : Nat} {ls : Array Slot} {rest : List Value} {G : GT_} {a n : Nat} {M : Mem_}
theorem mg_pG (hexec : p.tables.exec = Jvm.exec) (hb : c.code = cc) {index : Nat} (hts : ∀ w ∈ lw_all, w.before args s = true) (hown : s.vm.findClass "SideBySide$Stroke" = some m.cls) (hK : Kn_ G s) (hH : St_ G n M s H locs) {v : Int32} {M' : Mem_} (hv : pG_ M a v = some M') (hlink : (Cond.fieldLink "SideBySide$Stroke" index "SideBySide$Stroke" "figure" "I").before args s = true) (hname : meth.name = "<init>") (hdg : decode cc pc = .ok (.putfield index, 3))
    (kk : ∀ (H1 : Heap) (locs1 : List Loc), St_ G n M' s H1 locs1 → W p l e R s m args below meth c H1 locs1 cells slots Q (F0 m (pc + 3) ls rest)) : W p l e R s m args below meth c H locs cells slots Q (F0 m pc ls (.int v :: .ref a :: rest)) := by
  obtain ⟨⟨k, f⟩, h1, h2⟩ := bs_ hv
  obtain ⟨hk, he⟩ := sk_spec h1
  cases h2
  have hpf : pF_ M a (7 + k) 0 (.int v) = some (ms_ M a (eO_ (7 + k) [.int v])) := by
    have : fo_ M a (7 + k) = some [.int f] := by simp [fo_, he]
    simp [pF_, this]
  have hk : k < 8 := hk
  match k, hk, hpf with
  | 0, _, hpf => exact mg_pFF hexec hb hts hown hK hH hpf in_X8 tyX8_ok nmX8 rfl (by decide) hlink (fun _ h9 => h9) rfl hname rfl rfl rfl hdg kk
  | 1, _, hpf => exact mg_pFF hexec hb hts hown hK hH hpf in_X9 tyX9_ok nmX9 rfl (by decide) hlink (fun _ h9 => h9) rfl hname rfl rfl rfl hdg kk
  | 2, _, hpf => exact mg_pFF hexec hb hts hown hK hH hpf in_X10 tyX10_ok nmX10 rfl (by decide) hlink (fun _ h9 => h9) rfl hname rfl rfl rfl hdg kk
  | 3, _, hpf => exact mg_pFF hexec hb hts hown hK hH hpf in_X11 tyX11_ok nmX11 rfl (by decide) hlink (fun _ h9 => h9) rfl hname rfl rfl rfl hdg kk
  | 4, _, hpf => exact mg_pFF hexec hb hts hown hK hH hpf in_X12 tyX12_ok nmX12 rfl (by decide) hlink (fun _ h9 => h9) rfl hname rfl rfl rfl hdg kk
  | 5, _, hpf => exact mg_pFF hexec hb hts hown hK hH hpf in_X13 tyX13_ok nmX13 rfl (by decide) hlink (fun _ h9 => h9) rfl hname rfl rfl rfl hdg kk
  | 6, _, hpf => exact mg_pFF hexec hb hts hown hK hH hpf in_X14 tyX14_ok nmX14 rfl (by decide) hlink (fun _ h9 => h9) rfl hname rfl rfl rfl hdg kk
  | 7, _, hpf => exact mg_pFF hexec hb hts hown hK hH hpf in_X15 tyX15_ok nmX15 rfl (by decide) hlink (fun _ h9 => h9) rfl hname rfl rfl rfl hdg kk
end MGP
