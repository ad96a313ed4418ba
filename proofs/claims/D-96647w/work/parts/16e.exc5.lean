/-! ClassCastException; own exceptions' constructors -/
set_option maxRecDepth 100000
theorem fc_facts {vm : Vm} {nm : String} {c : ClassId} {k : Class} (h : vm.findClass nm = some c) (hk : vm.classes[c]? = some k) : k.name = nm ∧ k.hidden = none ∧ k.loader = none := by
  obtain ⟨hlt, hp, _⟩ := Array.findIdx?_eq_some_iff_getElem.mp h
  have : vm.classes[c] = k := by simpa [hlt] using hk
  rw [this] at hp
  simp only [Bool.and_eq_true, Option.isNone_iff_eq_none, beq_iff_eq] at hp
  exact ⟨hp.1.1.1, hp.1.1.2, hp.2⟩
theorem sh_len {k : Class} {nm : String} (h1 : k.name = nm) (h2 : k.hidden = none) : k.shown.toList.length = nm.toList.length := by
  unfold Class.shown
  rw [h2]
  simp [dotted, turned, h1]
theorem hm_len {s : State} {k : Class} (hr : modulesRight_1 s = true) (hl : k.loader = none) (hp : packageOf k.name = "") : (s.vm.home k).toList.length ≤ 38 := by
  have hall : ∀ m ∈ s.vm.modules, (m.loader.isSome || m.name == "java.base" || !(castPackages_1.any fun p => m.packages.contains p)) = true := by
    unfold modulesRight_1 at hr
    exact fun m hm => List.all_eq_true.mp hr m hm
  have hname : ∀ m, s.vm.moduleOf k = some m → m.name = "java.base" := by
    intro m hm
    unfold Vm.moduleOf at hm
    split at hm
    · have := List.find?_some hm
      simpa using this
    · have h1 := List.find?_some hm
      have h2 := hall m (List.mem_of_find?_eq_some hm)
      rw [hp, hl] at h1
      simp only [Bool.and_eq_true, beq_iff_eq] at h1
      have h3 : m.loader.isSome = false := by rw [h1.1]; rfl
      have h4 : (castPackages_1.any fun p => m.packages.contains p) = true := by
        simp only [castPackages_1, List.any_cons, h1.2, Bool.true_or]
      rw [h3, h4] at h2
      simpa using h2
  unfold Vm.home
  rw [hl]
  cases hm : s.vm.moduleOf k with
  | none =>
    show ("unnamed module" ++ " of loader " ++ "'bootstrap'").toList.length ≤ 38
    decide
  | some m =>
    show ("module " ++ m.name ++ " of loader " ++ "'bootstrap'").toList.length ≤ 38
    rw [hname m hm]
    decide
theorem hs_len {s : State} {a b : Class} {A B : String} (hr : modulesRight_1 s = true) (a1 : a.name = A) (a2 : a.hidden = none) (a3 : a.loader = none) (a4 : packageOf A = "") (a5 : A.toList.length ≤ 20) (b1 : b.name = B) (b2 : b.hidden = none) (b3 : b.loader = none) (b4 : packageOf B = "") (b5 : B.toList.length ≤ 20) : (s.vm.homes a b).toList.length ≤ 140 := by
  have h1 := sh_len a1 a2
  have h2 := sh_len b1 b2
  have h3 := hm_len hr a3 (by rw [a1]; exact a4)
  have h4 := hm_len hr b3 (by rw [b1]; exact b4)
  unfold Vm.homes
  split
  · show (toString a.shown ++ toString " and " ++ toString b.shown ++ toString " are in " ++ toString (s.vm.home a)).toList.length ≤ 140
    simp only [String.toList_append, List.length_append]
    have e1 : (toString " and ").toList.length = 5 := by decide
    have e2 : (toString " are in ").toList.length = 8 := by decide
    have e3 : (toString a.shown) = a.shown := rfl
    have e4 : (toString b.shown) = b.shown := rfl
    have e5 : (toString (s.vm.home a)) = s.vm.home a := rfl
    rw [e3, e4, e5]
    omega
  · show (toString a.shown ++ toString " is in " ++ toString (s.vm.home a) ++ toString "; " ++ toString b.shown ++ toString " is in " ++ toString (s.vm.home b)).toList.length ≤ 140
    simp only [String.toList_append, List.length_append]
    have e1 : (toString " is in ").toList.length = 7 := by decide
    have e2 : (toString "; ").toList.length = 2 := by decide
    have e3 : (toString a.shown) = a.shown := rfl
    have e4 : (toString b.shown) = b.shown := rfl
    have e5 : (toString (s.vm.home a)) = s.vm.home a := rfl
    have e6 : (toString (s.vm.home b)) = s.vm.home b := rfl
    rw [e3, e4, e5, e6]
    omega
theorem cce_txt {s : State} {a b : Class} {A B : String} (hr : modulesRight_1 s = true) (a1 : a.name = A) (a2 : a.hidden = none) (a3 : a.loader = none) (a4 : packageOf A = "") (a5 : A.toList.length ≤ 20) (b1 : b.name = B) (b2 : b.hidden = none) (b3 : b.loader = none) (b4 : packageOf B = "") (b5 : B.toList.length ≤ 20) : ((checkcast.message s.vm a b) == notModelled) = false ∧ (stringBytes (stringToUtf16 (checkcast.message s.vm a b))).size + 10 ≤ 1000 := by
  have h1 := sh_len a1 a2
  have h2 := sh_len b1 b2
  have h3 := hs_len hr a1 a2 a3 a4 a5 b1 b2 b3 b4 b5
  have hm : checkcast.message s.vm a b = toString "class " ++ toString a.shown ++ toString " cannot be cast to class " ++ toString b.shown ++ toString " (" ++ toString (s.vm.homes a b) ++ toString ")" := rfl
  constructor
  · rw [beq_eq_false_iff_ne]
    intro h
    have g1 := congrArg String.toList h
    rw [hm] at g1
    simp only [String.toList_append] at g1
    have g2 : (toString "class ").toList = 'c' :: "lass ".toList := by decide
    have g4 : notModelled.toList = '\u0000' :: " a message that is not modelled".toList := by decide
    rw [g2, g4] at g1
    simp at g1
  · have q1 := stringBytes_size_le (stringToUtf16 (checkcast.message s.vm a b))
    have q2 := utf16_size_le (checkcast.message s.vm a b)
    have q3 : (checkcast.message s.vm a b).toList.length ≤ 230 := by
      rw [hm]
      simp only [String.toList_append, List.length_append]
      have e1 : (toString "class ").toList.length = 6 := by decide
      have e2 : (toString " cannot be cast to class ").toList.length = 25 := by decide
      have e3 : (toString " (").toList.length = 2 := by decide
      have e4 : (toString ")").toList.length = 1 := by decide
      have e5 : (toString a.shown) = a.shown := rfl
      have e6 : (toString b.shown) = b.shown := rfl
      have e7 : (toString (s.vm.homes a b)) = s.vm.homes a b := rfl
      rw [e5, e6, e7]
      omega
    omega
theorem pk_ : ∀ C ∈ ["[I", "[B", "[S", "SideBySide$Stroke", "SideBySide$Smash", "SideBySide$Drop", "SideBySide$Lift", "SideBySide$Push", "SideBySide$Flick", "SideBySide$Between", "SideBySide$Wander"], packageOf C = "" ∧ C.toList.length ≤ 20 := by decide +kernel
theorem tg_cls2 {G : GT_} {n a t : Nat} {M : Mem_} {s : State} {H : Heap} {locs : List Loc} (hK : Kn_ G s) (hH : St_ G n M s H locs) (h : tg_ M a = some t) : ∃ (cell : Cell) (C : String), H[a]? = some cell ∧ s.vm.findClass C = some cell.cls ∧ packageOf C = "" ∧ C.toList.length ≤ 20 := by
  rcases tg_spec h with ⟨ht, N, f, he⟩ | ⟨rfl, ⟨k, fg⟩, hx⟩
  · have h1 : H[a]? = some (vp_cell (G.2.2.1 t) (N, .inl f)) := (hH.1 a _ he).1
    have h2 : s.vm.findClass (cN_ t) = some (G.2.2.1 t) := by
      rw [← tg_nm ht]
      match t, ht with
      | 0, _ => exact (hK.1.2 0 _ rfl).2
      | 1, _ => exact (hK.1.2 1 _ rfl).2
      | 2, _ => exact (hK.1.2 2 _ rfl).2
    refine ⟨_, cN_ t, h1, h2, ?_⟩
    match t, ht with
    | 0, _ => exact pk_ "[I" (by decide)
    | 1, _ => exact pk_ "[B" (by decide)
    | 2, _ => exact pk_ "[S" (by decide)
  · have hk : kd_ M a = some k := by simp [kd_, hx]
    obtain ⟨cell, g1, g2, g3⟩ := kd_recv hK hH hk
    have hk8 := (kd_spec hk).1
    refine ⟨cell, kS_ k, g1, g3, ?_⟩
    match k, hk8 with
    | 0, _ => exact pk_ "SideBySide$Stroke" (by decide)
    | 1, _ => exact pk_ "SideBySide$Smash" (by decide)
    | 2, _ => exact pk_ "SideBySide$Drop" (by decide)
    | 3, _ => exact pk_ "SideBySide$Lift" (by decide)
    | 4, _ => exact pk_ "SideBySide$Push" (by decide)
    | 5, _ => exact pk_ "SideBySide$Flick" (by decide)
    | 6, _ => exact pk_ "SideBySide$Between" (by decide)
    | 7, _ => exact pk_ "SideBySide$Wander" (by decide)
section XCC
variable {p : Program} {l : Launch} {e : Env} {R : Room} {s : State} {m : MethodId} {args : Array Value} {below : List Frame} {meth : Method} {c : Code} {H : Heap} {locs : List Loc} {cells slots : Nat} {Q : State → Prop}
variable {cc : ByteArray} {pc : Nat} {ls : Array Slot} {rest : List Value} {G : GT_} {n a : Nat} {M : Mem_}
theorem cc_no {T : State} (X : Stand p l e R s m args below meth c T locs cells slots) (hexec : p.tables.exec = Jvm.exec)
    {own name : String} {index : Nat} (hown : s.vm.findClass own = some m.cls) (hlink : (Cond.classLink own index name).before args s = true)
    {a : Addr} {cell : Cell} {cT : ClassId} {ks : Class} (hcell : T.heap[a]? = some cell) (hobj : cell.vm.isStatics = false) (hks : s.vm.classes[cell.cls]? = some ks) (hcT : s.vm.findClass name = some cT) (hasg : s.vm.assignable cell.cls cT = false)
    {g : JFrame} (hg : g.method = m) {rest : List Value} (hstack : g.stack = .ref a :: rest) (hdg : decode c.code g.pc = .ok (.checkcast index, 3)) :
    ∃ (vm' : Vm) (ks' kt' : Class), s.WarmedH vm' ∧ vm'.classes[cell.cls]? = some ks' ∧ vm'.classes[cT]? = some kt' ∧ Stand p l e R s m args below meth c (T.setVm vm') locs cells slots ∧
      ∀ target, Steps p.tables e below (((T.setVm vm').setTop g).pushFrame (.throwNew "java/lang/ClassCastException" (some (checkcast.message vm' ks' kt')) none)) target → Steps p.tables e below (T.setTop g) target := by
  have hpl : e.platform.magicAccessors = ({} : Platform).magicAccessors := by rw [X.admits.platform]
  obtain ⟨c', hc', hcl⟩ := Cond.classLink_spec hown hlink e.platform hpl
  cases hcT.symm.trans hc'
  obtain ⟨dk, _, _, kt, hd, _, _, _, _, hkt, _, hopen⟩ := hcl.here
  have hcl₀ := X.warmed.classLinks hcl
  have hW' : s.WarmedH (T.vm.noted m.cls index (.cls cT)) := X.warmed.noted hd hopen (State.rightAt_cls hcl)
  obtain ⟨ks', hks', -⟩ := hW'.alike.2.2 _ _ hks
  obtain ⟨kt', hkt', -⟩ := hW'.alike.2.2 _ _ hkt
  refine ⟨_, ks', kt', hW', hks', hkt', X.noted hW', fun target hrest => ?_⟩
  subst hg
  jvm_step X.here [hexec, hdg, checkcast.wp_cold (e := e) (s := T) (f := g) X.here.top hstack (resolveClass_links e.toSetting hcl₀) hcl₀.ready,
    checkcast.wp_ready (e := e) (s := T.setVm (T.vm.noted g.method.cls index (.cls cT))) (f := g) X.here.top hcl₀.ready hstack]
  refine ⟨cell, hcell, VmData.noStatics_of hobj, ks', hks', kt', hkt', ?_⟩
  have h1 : (T.vm.noted g.method.cls index (Resolved.cls cT)).assignable cell.cls cT = false := by rw [hW'.alike.assignable]; exact hasg
  simp only [h1]
  exact hrest
/-- a checkcast that fails -/
theorem mg_castx (hexec : p.tables.exec = Jvm.exec) (hb : c.code = cc) (hnt : l.flags = flags0) {own : String} {index t tag : Nat} (hown : s.vm.findClass own = some m.cls) (ht4 : tag < 4) (hlink : (Cond.classLink own index (cN_ tag)).before args s = true) (hts : ∀ w ∈ lw_all, w.before args s = true) (hK : Kn_ G s) (hH : St_ G n M s H locs) (hsize : ls.size = c.maxLocals) (hv : tg_ M a = some t) (hne : ¬ t = tag)
    (hF : 6 < R.frames) (hLo : ((Value.ref a :: rest).map fun v => v.category).sum + 10240 ≤ R.locals) (hC : cells + 3 ≤ R.cells) (hS : slots + 1000 ≤ R.slots) (hdg : decode cc pc = .ok (.checkcast index, 3))
    (kk : ∀ (H1 : Heap) (locs1 : List Loc), St_ G (n + 3) M s H1 locs1 → (∃ ce : Cell, H1[n + 2]? = some ce ∧ ce.vm.isStatics = false ∧ s.vm.findClass "java/lang/ClassCastException" = some ce.cls) → Wx p l e R s m args below meth c H1 locs1 (cells + 3) (slots + 1000) Q (F0 m pc ls (.ref a :: rest)) (n + 2)) :
    W p l e R s m args below meth c H locs cells slots Q (F0 m pc ls (.ref a :: rest)) := by
  refine wx_msg (B := 1000) hexec hnt (by decide +kernel) (by decide +kernel) (by decide) (by decide) xa_cce hts hK hH hsize (by decide) hF hLo (by decide) hC hS (fun T hT X => ?_) kk
  obtain ⟨cell, C, h1, h2, h3, -, h6⟩ := tg_cls hK hH hv
  obtain ⟨cell2, C2, g1, g2, g3, g4⟩ := tg_cls2 hK hH hv
  cases h1.symm.trans g1
  obtain ⟨c0, t0, f1, f2, f3⟩ := h6 tag ht4 (fun q => hne q.symm)
  cases h3.symm.trans f1
  obtain ⟨ks, hks, -⟩ := Vm.findClass_spec h3
  obtain ⟨vm', ks', kt', hW', q1, q2, X', st⟩ := cc_no X hexec hown hlink (by rw [hT]; exact h1) h2 hks f2 f3 (g := F0 m pc ls (.ref a :: rest)) rfl rfl (by rw [hb]; exact hdg)
  have hr : modulesRight_1 (T.setVm vm') = true := by
    have := (hK.2.2.2.2.2.2.2.moved (U := (s.setVm vm')) hW'.alike (fun _ _ _ => rfl)).2.2.2
    exact this
  have b1 := fc_facts (vm := vm') (nm := C2) (c := cell.cls) (by rw [hW'.alike.findClass]; exact g2) q1
  have b2 := fc_facts (vm := vm') (nm := cN_ tag) (c := t0) (by rw [hW'.alike.findClass]; exact f2) q2
  have hb2 : packageOf (cN_ tag) = "" ∧ (cN_ tag).toList.length ≤ 20 := by
    match tag, ht4 with
    | 0, _ => exact pk_ "[I" (by decide)
    | 1, _ => exact pk_ "[B" (by decide)
    | 2, _ => exact pk_ "[S" (by decide)
    | 3, _ => exact pk_ "SideBySide$Stroke" (by decide)
  obtain ⟨e1, e2⟩ := cce_txt (s := T.setVm vm') hr b1.1 b1.2.1 b1.2.2 g3 g4 b2.1 b2.2.1 b2.2.2 hb2.1 hb2.2
  exact ⟨vm', _, e1, e2, X', st⟩
end XCC
