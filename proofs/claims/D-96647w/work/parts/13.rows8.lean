/-! strokes: field, calls -/
set_option maxRecDepth 100000
/-- the names of the stroke classes by kind -/
def kS_ : Nat → String := fun k => match k with
  | 0 => "SideBySide$Stroke"
  | 1 => "SideBySide$Smash"
  | 2 => "SideBySide$Drop"
  | 3 => "SideBySide$Lift"
  | 4 => "SideBySide$Push"
  | 5 => "SideBySide$Flick"
  | 6 => "SideBySide$Between"
  | _ => "SideBySide$Wander"
def gF_ (M : Mem_) (a : Nat) : Option Int32 := (sk_ M a).bind fun q => some q.2
def kd_ (M : Mem_) (a : Nat) : Option Nat := (sk_ M a).bind fun q => some q.1
theorem gF_spec {M : Mem_} {a : Nat} {v : Int32} (h : gF_ M a = some v) : ∃ k, k < 8 ∧ M a = some (eO_ (7 + k) [.int v]) := by
  obtain ⟨x, h1, h2⟩ := bs_ h
  cases h2
  exact ⟨x.1, sk_spec h1⟩
theorem kd_spec {M : Mem_} {a k : Nat} (h : kd_ M a = some k) : k < 8 ∧ ∃ f, M a = some (eO_ (7 + k) [.int f]) := by
  obtain ⟨x, h1, h2⟩ := bs_ h
  cases h2
  exact ⟨(sk_spec h1).1, x.2, (sk_spec h1).2⟩
theorem vw_stroke {k : Nat} (hk : k < 8) : ∃ T : u_T, vwCl[7 + k]? = some (kS_ k, T, 1) ∧ T 0 = ("SideBySide$Stroke", "figure", "I", true) ∧ (∀ w ∈ u_ws (kS_ k) T 1, w ∈ lw_all) := by
  match k, hk with
  | 0, _ => exact ⟨TX8, rfl, rfl, in_X8⟩
  | 1, _ => exact ⟨TX9, rfl, rfl, in_X9⟩
  | 2, _ => exact ⟨TX10, rfl, rfl, in_X10⟩
  | 3, _ => exact ⟨TX11, rfl, rfl, in_X11⟩
  | 4, _ => exact ⟨TX12, rfl, rfl, in_X12⟩
  | 5, _ => exact ⟨TX13, rfl, rfl, in_X13⟩
  | 6, _ => exact ⟨TX14, rfl, rfl, in_X14⟩
  | 7, _ => exact ⟨TX15, rfl, rfl, in_X15⟩
theorem kd_recv {G : GT_} {n k b : Nat} {M : Mem_} {s : State} {H : Heap} {locs : List Loc} (hK : Kn_ G s) (hH : St_ G n M s H locs) (hk : kd_ M b = some k) : ∃ cell : Cell, H[b]? = some cell ∧ cell.vm.isStatics = false ∧ s.vm.findClass (kS_ k) = some cell.cls := by
  obtain ⟨h1, f, h2⟩ := kd_spec hk
  obtain ⟨T, g1, -⟩ := vw_stroke h1
  exact va_recv (q := (kS_ k, T, 1)) (q0 := 0) hK.1 (hH.1.one h2) g1 rfl
section MGF
variable {p : Program} {l : Launch} {e : Env} {R : Room} {s : State} {m : MethodId} {args : Array Value} {below : List Frame} {meth : Method} {c : Code} {H : Heap} {locs : List Loc} {cells slots : Nat} {Q : State → Prop}
variable {cc : ByteArray} {pc : Nat} {ls : Array Slot} {rest st0 : List Value} {G : GT_} {a n n1 : Nat} {M M1 : Mem_} {mc ms : Nat}
theorem mg_gF (hexec : p.tables.exec = Jvm.exec) (hb : c.code = cc) {own ref : String} {index : Nat} (hts : ∀ w ∈ lw_all, w.before args s = true) (hown : s.vm.findClass own = some m.cls) (hK : Kn_ G s) (hH : St_ G n M s H locs) {v : Int32} (hv : gF_ M a = some v) (hlink : (Cond.fieldLink own index ref "figure" "I").before args s = true) (hsame : ∀ x, s.fieldFound? "SideBySide$Stroke" "figure" "I" = some x → s.fieldFound? ref "figure" "I" = some x) (hdg : decode cc pc = .ok (.getfield index, 3))
    (kk : W p l e R s m args below meth c H locs cells slots Q (F0 m (pc + 3) ls (.int v :: rest))) : W p l e R s m args below meth c H locs cells slots Q (F0 m pc ls (.ref a :: rest)) := by
  obtain ⟨k, hk, he⟩ := gF_spec hv
  obtain ⟨T, g1, g2, g3⟩ := vw_stroke hk
  exact va_get (T := T) (ws := [(a, .inr (7 + k, [.int v]))]) hexec hb hts g3 hown hK.1 (hH.1.one he) 0 rfl g1 0 (by decide) (by rw [g2]; exact hlink) (by rw [g2]; exact hsame) rfl hdg kk
/-- a call that lands in a class's own method -/
theorem rn_U {x y : MethodName} {bytes : ByteArray} {maxL nL k index b : Nat} {ret : Option FieldType} {rm : Room} {own C owner : String} {As : List Value} {v : Option Value} (S : CallFix p m c cc nL s args lw_all own) (hK : Kn_ G s) (hH : St_ G n M s H locs) (hM : Ct_ G l y (ws_ y bytes maxL ret) rm mc ms (.ref b :: As) M n v M1 n1)
    (hlink : (Cond.methodLink own index x).before args s = true) (hsame : (Cond.sameMethod x.cls owner x.name x.desc).before args s = true) (hd0 : va_Decl s ⟨owner, x.name, x.desc⟩) (howner : owner ≠ "java/lang/invoke/MethodHandle" ∧ owner ≠ "java/lang/invoke/VarHandle")
    (hsel : (Cond.selects C ⟨owner, x.name, x.desc⟩ y).before args s = true) (hinst : (Cond.instanceMethod y).before args s = true) (hini : (Cond.initialized y.cls).before args s = true) (hcm : Cond.code y bytes maxL ret ∈ lw_all) (hrc : rm.cells = mc) (hrs : rm.slots = ms) (hR : rm.frames + 1 ≤ R.frames ∧ 8 + (maxL + 11) + rm.locals ≤ R.locals)
    (hlx : (parseMethodDescriptor x.desc).map (fun d => d.parameters.length) = some k) (hrecv : ∃ cell : Cell, H[b]? = some cell ∧ cell.vm.isStatics = false ∧ s.vm.findClass C = some cell.cls) (hn : As.length = k) (hsize : ls.size = nL) (hW : (rest.map fun v => v.category).sum ≤ 8) (hdg : decode cc pc = .ok (.invokevirtual index, 3)) (hf : cells + mc ≤ R.cells ∧ slots + ms ≤ R.slots) (hst : st0 = As.reverse ++ .ref b :: rest) :
    va_Run p l e R s m args below meth c H locs cells slots mc ms (F0 m pc ls st0) rest (Qc_ G v M1 n1 (Value.ref b :: As).toArray) (fun q => G.1 ≤ q) := by
  obtain ⟨hx, hb, hml, ho, hts⟩ := S
  have hBk : Back l R p e below s args y 3 8 (PreOf R mc ms (Pc_ G n M (.ref b :: As))) (PostOf (Qc_ G v M1 n1) mc ms (fun q => G.1 ≤ q)) := back_of (bytes := bytes) (maxL := maxL) (ret := ret) hM pc_blind hrc hrs hR.1 hR.2 (pay_in hts (lw_meth hcm)) List.mem_cons_self (fun a' U hW => word_at hW (Or.inl (by first | rfl | simp [Cond.onTables, Cond.keeps, Cond.steady])) hini)
  obtain ⟨cellB, hcB, hoB, hclB⟩ := hrecv
  intro T hT X
  obtain ⟨v', vm₁, ⟨U', l2, c2, s2⟩, hW₁, X', ⟨g', mk, t, L, e1, e2, hq, h1, hL, h2, h3⟩, st⟩ := vu_call X hx (C := C) (owner := owner) (bytes := bytes) (maxL := maxL) (ret := ret) ho hlink hsame hd0 howner hsel hinst (hts _ hcm) hBk (by rw [hT]; exact hcB) hoB hclB (g := F0 m pc ls st0) rfl (hsize.trans hml.symm) (argsL := As) (rest := rest) (fun sig h => by rw [h] at hlx; exact hn.trans (Option.some.inj hlx).symm) hst (lv_room hW) (by rw [hb]; exact hdg)
    (fun vm₁ hW₁ => ⟨hf.1, hf.2, pc_at hK hH (T.setVm vm₁) hT hW₁⟩)
  dsimp only [Pt.U, Pt.locs, Pt.cells, Pt.slots] at X' e1 e2 h1 h2 h3 st
  subst h1; subst h2; subst h3
  exact ⟨v', (T.setVm vm₁).calling g' mk (Value.ref b :: As).toArray, t, U', L, hT, X', hL, e1, e2, hq, st⟩
/-- a call that lands in a default method -/
theorem rn_D {x y : MethodName} {nL k index b : Nat} {own C owner : String} {As : List Value} {v : Option Value} (S : CallFix p m c cc nL s args lw_all own) (hK : Kn_ G s) (hH : St_ G n M s H locs) (hBk : Back l R p e below s args y 3 8 (PreOf R mc ms (Pc_ G n M (.ref b :: As))) (PostOf (Qc_ G v M1 n1) mc ms (fun q => G.1 ≤ q)))
    (hlink : (Cond.methodLink own index x).before args s = true) (hsame : (Cond.sameMethod x.cls owner x.name x.desc).before args s = true) (hd0 : va_Decl s ⟨owner, x.name, x.desc⟩) (howner : owner ≠ "java/lang/invoke/MethodHandle" ∧ owner ≠ "java/lang/invoke/VarHandle")
    (hsel : Ld_ C x y s) (hinst : (Cond.instanceMethod y).before args s = true)
    (hlx : (parseMethodDescriptor x.desc).map (fun d => d.parameters.length) = some k) (hrecv : ∃ cell : Cell, H[b]? = some cell ∧ cell.vm.isStatics = false ∧ s.vm.findClass C = some cell.cls) (hn : As.length = k) (hsize : ls.size = nL) (hW : (rest.map fun v => v.category).sum ≤ 8) (hdg : decode cc pc = .ok (.invokevirtual index, 3)) (hf : cells + mc ≤ R.cells ∧ slots + ms ≤ R.slots) (hst : st0 = As.reverse ++ .ref b :: rest) :
    va_Run p l e R s m args below meth c H locs cells slots mc ms (F0 m pc ls st0) rest (Qc_ G v M1 n1 (Value.ref b :: As).toArray) (fun q => G.1 ≤ q) := by
  obtain ⟨hx, hb, hml, ho, hts⟩ := S
  obtain ⟨cellB, hcB, hoB, hclB⟩ := hrecv
  intro T hT X
  obtain ⟨v', vm₁, ⟨U', l2, c2, s2⟩, hW₁, X', ⟨g', mk, t, L, e1, e2, hq, h1, hL, h2, h3⟩, st⟩ := vd_call X hx (C := C) (owner := owner) ho hlink hsame hd0 howner hsel hinst hBk (by rw [hT]; exact hcB) hoB hclB (g := F0 m pc ls st0) rfl (hsize.trans hml.symm) (argsL := As) (rest := rest) (fun sig h => by rw [h] at hlx; exact hn.trans (Option.some.inj hlx).symm) hst (lv_room hW) (by rw [hb]; exact hdg)
    (fun vm₁ hW₁ => ⟨hf.1, hf.2, pc_at hK hH (T.setVm vm₁) hT hW₁⟩)
  dsimp only [Pt.U, Pt.locs, Pt.cells, Pt.slots] at X' e1 e2 h1 h2 h3 st
  subst h1; subst h2; subst h3
  exact ⟨v', (T.setVm vm₁).calling g' mk (Value.ref b :: As).toArray, t, U', L, hT, X', hL, e1, e2, hq, st⟩
end MGF
