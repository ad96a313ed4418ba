/-! rows for the methods that throw or have handlers -/
set_option maxRecDepth 100000
def bx_ {α δ : Type} (o : Option ((Nat ⊕ α) × Mem_ × Nat)) (k1 : Nat → Mem_ → Nat → Option δ) (k2 : α → Mem_ → Nat → Option δ) : Option δ := o.bind fun x => match x.1 with
  | .inl c => k1 c x.2.1 x.2.2
  | .inr r => k2 r x.2.1 x.2.2
theorem bxs_ {α δ : Type} {o : Option ((Nat ⊕ α) × Mem_ × Nat)} {k1 : Nat → Mem_ → Nat → Option δ} {k2 : α → Mem_ → Nat → Option δ} {z : δ} (h : bx_ o k1 k2 = some z) : (∃ c M n, o = some (.inl c, M, n) ∧ k1 c M n = some z) ∨ (∃ r M n, o = some (.inr r, M, n) ∧ k2 r M n = some z) := by
  obtain ⟨x, h1, h2⟩ := bs_ h
  obtain ⟨x1, x2, x3⟩ := x
  cases x1 with
  | inl c => exact Or.inl ⟨c, x2, x3, h1, h2⟩
  | inr r => exact Or.inr ⟨r, x2, x3, h1, h2⟩
def exN_ (k : Nat) : String := if k = 1 then "java/lang/IllegalArgumentException" else "java/lang/IllegalStateException"
theorem xc_iae : ∀ a ∈ xcA_ "SideBySide" 370 "java/lang/IllegalArgumentException" "java/lang/IllegalArgumentException" ["java/lang/RuntimeException", "java/lang/Exception"], xR_ a := by decide +kernel
theorem xc_ise : ∀ a ∈ xcA_ "SideBySide" 375 "java/lang/IllegalStateException" "java/lang/IllegalStateException" ["java/lang/RuntimeException", "java/lang/Exception"], xR_ a := by decide +kernel
def sL_ (M : Mem_) (a : Nat) (i : Int32) (v : Int64) : Option Mem_ := match M a with
  | some (.inr (.inr (.inr (.inl (N, f))))) => if i < 0 ∨ N ≤ i.toNatClampNeg then none else some (ms_ M a (eL_ N (vp_updL f i.toNatClampNeg v)))
  | _ => none
theorem sL_spec {M M' : Mem_} {a : Nat} {i : Int32} {v : Int64} (h : sL_ M a i v = some M') : ∃ N f, M a = some (eL_ N f) ∧ vp_in i N ∧ M' = ms_ M a (eL_ N (vp_updL f i.toNatClampNeg v)) := by
  unfold sL_ at h
  split at h
  · rename_i N f e
    split at h
    · cases h
    · rename_i w
      cases h
      exact ⟨N, f, e, w, rfl⟩
  · cases h
section XP8
variable {p : Program} {l : Launch} {e : Env} {R : Room} {s : State} {m : MethodId} {args : Array Value} {below : List Frame} {meth : Method} {c : Code} {H : Heap} {locs : List Loc} {cells slots : Nat} {Q : State → Prop}
variable {cc : ByteArray} {pc : Nat} {ls : Array Slot} {rest st0 : List Value} {G : GT_} {n n1 a : Nat} {M M1 : Mem_} {mc ms : Nat} {ar : Array Value}
theorem cl_w {v0 : Value} (hH : St_ G n M s H locs) (hr : va_Run p l e R s m args below meth c H locs cells slots mc ms (F0 m pc ls st0) rest (Qc_ G (some v0) M1 n1 ar) (fun q => G.1 ≤ q))
    (kk : ∀ (H1 : Heap) (locs1 : List Loc), St_ G n1 M1 s H1 locs1 → W p l e R s m args below meth c H1 locs1 (cells + mc) (slots + ms) Q (F0 m (pc + 3) ls (v0 :: rest))) : W p l e R s m args below meth c H locs cells slots Q (F0 m pc ls st0) := by
  intro T hT X
  obtain ⟨v, st₀, t, T', L, h0, X', hL, e1, e2, ⟨hv, hz, hp, hf⟩, st⟩ := hr T hT X
  cases hv
  obtain ⟨t2, a1, b1⟩ := kk T'.heap (locs ++ L) ⟨by rw [e1]; exact hp, by rw [e1]; exact hz, by
      have g1 := hH.2.2.1
      have g2 := hf.1
      rw [h0, hH.2.1, hz] at g2
      omega, ⟨by rw [e1]; exact Nat.le_trans hH.2.2.2.1 (by rw [← h0]; exact hf.1), fun q g1 g2 => by rw [e1, hf.2 q (by rw [h0]; exact Nat.lt_of_lt_of_le g1 hH.2.2.2.1) g2, h0]; exact hH.2.2.2.2.1 q g1 g2, fun q hq => by
      rcases List.mem_append.mp hq with h | h
      · exact hH.2.2.2.2.2 q h
      · exact hL q h⟩⟩ T' rfl X'
  exact ⟨t2, st t2 a1, b1⟩
theorem rn_more {mc2 ms2 : Nat} {Qa : State → Outcome → State → Prop} {g : JFrame} {free : Addr → Prop} (h1 : mc ≤ mc2) (h2 : ms ≤ ms2) (hr : va_Run p l e R s m args below meth c H locs cells slots mc ms g rest Qa free) : va_Run p l e R s m args below meth c H locs cells slots mc2 ms2 g rest Qa free := by
  intro T hT X
  obtain ⟨v, st₀, t, T', L, h0, X', hL, e1, e2, hq, st⟩ := hr T hT X
  exact ⟨v, st₀, t, T', L, h0, stand_widen X' (by omega) (by omega), hL, e1, e2, hq, st⟩
theorem rt_o {o : Option Nat} {ty : FieldType} (hexec : p.tables.exec = Jvm.exec) (hb : c.code = cc) (hr : meth.sig.returnType = some ty) (hrt : (∃ n, ty = .object n) ∨ ∃ t, ty = .array t) (hlocks : meth.locks = false) (hH : St_ G n1 M1 s H locs) (hdg : decode cc pc = .ok (.areturn, 1)) : W p l e R s m args below meth c H locs cells slots (MQ below (Qc_ G (some (va_rf o)) M1 n1) args s cells slots (fun q => G.1 ≤ q)) (F0 m pc ls [va_rf o]) := by
  cases o with
  | none => exact W.aret hexec hb hr hrt (Or.inl rfl) (fun t ht _ => ⟨rfl, by rw [ht]; exact hH.2.1, by rw [ht]; exact hH.1, hH.2.2.2.F ht⟩) hH.2.2.2.2.2 hdg hlocks
  | some r => exact W.aret hexec hb hr hrt (Or.inr ⟨r, rfl⟩) (fun t ht _ => ⟨rfl, by rw [ht]; exact hH.2.1, by rw [ht]; exact hH.1, hH.2.2.2.F ht⟩) hH.2.2.2.2.2 hdg hlocks
theorem mg_bast (hexec : p.tables.exec = Jvm.exec) (hb : c.code = cc) (hK : Kn_ G s) (hH : St_ G n M s H locs) {i x : Int32} {M' : Mem_} (hv : sI_ M a 1 i (vp_nar .byte x) = some M') (hdg : decode cc pc = .ok (.bastore, 1))
    (kk : ∀ (H1 : Heap) (locs1 : List Loc), St_ G n M' s H1 locs1 → W p l e R s m args below meth c H1 locs1 cells slots Q (F0 m (pc + 1) ls rest)) : W p l e R s m args below meth c H locs cells slots Q (F0 m pc ls (.int x :: .int i :: .ref a :: rest)) := by
  obtain ⟨N, f, he, hin, rfl⟩ := sI_spec hv
  refine W.bast hexec hb (hH.1 a _ he).1 ((hK.1.2 1 _ rfl).1 N (fun j => .int (f j))) (fun q => by cases q) (by show ¬ (i < 0 ∨ (arrV _ _ _).slots.size ≤ _); rw [arrV_size]; exact hin) rfl rfl hdg fun H1 e1 z oq => ?_
  refine kk H1 _ (hH.put he ?_ z oq)
  show H1[a]? = some (vp_cell _ _)
  rw [e1]
  show some ((vp_cell _ _).setSlot _ _) = _
  rw [vp_cell_i, vp_cell_i, arrV_store]
  congr 2
  funext q
  by_cases hq : q = i.toNatClampNeg
  · subst hq
    simp [updV, upd, vp_nar, narrow]
  · simp [updV, upd, hq]
theorem mg_sast (hexec : p.tables.exec = Jvm.exec) (hb : c.code = cc) (hK : Kn_ G s) (hH : St_ G n M s H locs) {i x : Int32} {M' : Mem_} (hv : sI_ M a 2 i (vp_nar .short x) = some M') (hdg : decode cc pc = .ok (.sastore, 1))
    (kk : ∀ (H1 : Heap) (locs1 : List Loc), St_ G n M' s H1 locs1 → W p l e R s m args below meth c H1 locs1 cells slots Q (F0 m (pc + 1) ls rest)) : W p l e R s m args below meth c H locs cells slots Q (F0 m pc ls (.int x :: .int i :: .ref a :: rest)) := by
  obtain ⟨N, f, he, hin, rfl⟩ := sI_spec hv
  refine W.sast hexec hb (hH.1 a _ he).1 ((hK.1.2 2 _ rfl).1 N (fun j => .int (f j))) (fun q => by cases q) (by show ¬ (i < 0 ∨ (arrV _ _ _).slots.size ≤ _); rw [arrV_size]; exact hin) rfl rfl hdg fun H1 e1 z oq => ?_
  refine kk H1 _ (hH.put he ?_ z oq)
  show H1[a]? = some (vp_cell _ _)
  rw [e1]
  show some ((vp_cell _ _).setSlot _ _) = _
  rw [vp_cell_i, vp_cell_i, arrV_store]
  congr 2
  funext q
  by_cases hq : q = i.toNatClampNeg
  · subst hq
    simp [updV, upd, vp_nar, narrow]
  · simp [updV, upd, hq]
/-- an array of a length that is not known ahead: at most 100 -/
theorem mg_newv (hexec : p.tables.exec = Jvm.exec) (hb : c.code = cc) (hK : Kn_ G s) (hH : St_ G n M s H locs) {atype : ArrayType} (t : Nat) (ht3 : t < 3) (hat : newarray.typeOf atype = tT_ t) (harr : (Cond.arrayClass (tT_ t)).before args s = true) {i : Int32} (hn : ¬ i < 0) (hN : i.toNatClampNeg ≤ 100) (hcells : cells + 1 ≤ R.cells) (hslots : slots + 100 ≤ R.slots) (hdg : decode cc pc = .ok (.newarray atype, 2))
    (kk : ∀ (H1 : Heap), St_ G (n + 1) (ms_ M n (eI_ t i.toNatClampNeg (fun _ => 0))) s H1 locs → W p l e R s m args below meth c H1 locs (cells + 1) (slots + 100) Q (F0 m (pc + 2) ls (.ref n :: rest))) : W p l e R s m args below meth c H locs cells slots Q (F0 m pc ls (.int i :: rest)) :=
  mg_newa hexec hb hK hH t ht3 hat harr hn rfl (by omega) hcells (by omega) hdg (fun H1 h1 => W.widen (Nat.le_refl _) (by omega) (kk H1 h1))
theorem pk_mk {C : String} {x : Nat} {t : State} (hcl : ∃ ce : Cell, H[x]? = some ce ∧ ce.vm.isStatics = false ∧ s.vm.findClass C = some ce.cls) (ht : t.heap = H) (hw : s.WarmedH t.vm) : Pk_ C x t := by
  obtain ⟨ce, h1, h2, h3⟩ := hcl
  exact ⟨ce, by rw [ht]; exact h1, h2, by rw [hw.alike.findClass]; exact h3⟩
theorem mg_last (hexec : p.tables.exec = Jvm.exec) (hb : c.code = cc) (hK : Kn_ G s) (hH : St_ G n M s H locs) {i : Int32} {x : Int64} {M' : Mem_} (hv : sL_ M a i x = some M') (hdg : decode cc pc = .ok (.lastore, 1))
    (kk : ∀ (H1 : Heap) (locs1 : List Loc), St_ G n M' s H1 locs1 → W p l e R s m args below meth c H1 locs1 cells slots Q (F0 m (pc + 1) ls rest)) : W p l e R s m args below meth c H locs cells slots Q (F0 m pc ls (.long x :: .int i :: .ref a :: rest)) := by
  obtain ⟨N, f, he, hin, rfl⟩ := sL_spec hv
  refine W.last hexec hb (hH.1 a _ he).1 ((hK.1.2 6 _ rfl).1 N (fun j => .long (f j))) (fun q => by cases q) (by show ¬ (i < 0 ∨ (arrV _ _ _).slots.size ≤ _); rw [arrV_size]; exact hin) rfl rfl hdg fun H1 e1 z oq => ?_
  refine kk H1 _ (hH.put he ?_ z oq)
  show H1[a]? = some (vp_cell _ _)
  rw [e1]
  show some ((vp_cell _ _).setSlot _ _) = _
  rw [vp_cell_l, vp_cell_l, arrV_store]
  congr 2
  funext q
  by_cases hq : q = i.toNatClampNeg
  · subst hq
    simp [updV, vp_updL]
  · simp [updV, vp_updL, hq]
/-- new X(); throw -/
theorem mg_thr {own C : String} {names : List String} {index ic : Nat} (hexec : p.tables.exec = Jvm.exec) (hb : c.code = cc) (hnt : l.flags = flags0) (hts : ∀ w ∈ lw_all, w.before args s = true) (hown : s.vm.findClass own = some m.cls) (hK : Kn_ G s) (hH : St_ G n M s H locs) (hsize : ls.size = c.maxLocals) (hcl : (Cond.classLink own index C).before args s = true) (hinst : (Cond.instantiable C 6).before args s = true) (hini : (Cond.initialized C).before args s = true) (hC : Bundle.fit C = true) (hnames : ∀ n ∈ names, Bundle.fit n = true) (ha : ∀ a ∈ xcA_ own ic C C names, xR_ a)
    (hF : names.length + 3 < R.frames) (hLo : (rest.map fun v => v.category).sum + 1 + (13 * (names.length + 1) + 41) ≤ R.locals) (hcells : cells + 1 ≤ R.cells) (hslots : slots + 6 ≤ R.slots)
    (hd0 : decode cc pc = .ok (.new index, 3)) (hd3 : decode cc (pc + 3) = .ok (.dup, 1)) (hd4 : decode cc (pc + 4) = .ok (.invokespecial ic, 3)) (hd7 : decode cc (pc + 7) = .ok (.athrow, 1))
    (kk : ∀ (H1 : Heap) (locs1 : List Loc), St_ G (n + 1) M s H1 locs1 → (∃ ce : Cell, H1[n]? = some ce ∧ ce.vm.isStatics = false ∧ s.vm.findClass C = some ce.cls) → Wx p l e R s m args below meth c H1 locs1 (cells + 1) (slots + 6) Q (F0 m (pc + 7) ls rest) n) : W p l e R s m args below meth c H locs cells slots Q (F0 m pc ls rest) := by
  obtain ⟨cX, kX, hcX, hkX, hord, -, -, hn6⟩ := Cond.instantiable_spec hinst
  refine W.newcK hexec hb hown hcl hinst hini rfl hd0 hcells hslots hcX hH.2.1 fun H1 kC hkC e1 z1 o1 => ?_
  cases hkX.symm.trans hkC
  refine lv_dup (pc := pc + 3) hexec hb hd3 rfl ?_
  intro T0 hT X
  obtain ⟨T1, L, cell1, X1, g1, g2, g3, g4, g5, g6, g7, g8⟩ := xc_core X hexec (Launch.traces_off hnt X.admits) hown hC hnames (xr_all ha hts hK) (q0 := G.1) hH.2.2.2.2.2 hK.2.2.2.2.2.2.2.2.1.zq hcX hkX hord (a := n) (by rw [hT]; exact e1) hH.2.2.1 (g := F0 m (pc + 4) ls (.ref n :: .ref n :: rest)) rfl hsize rfl (by rw [hb]; exact hd4) hF (by
      show 2 * 0 + (1 + (rest.map fun v => v.category).sum) + _ ≤ _
      omega)
  have hst : St_ G (n + 1) M s T1.heap (locs ++ L) := hH.more (k := 1) (by rw [g2, hT, z1]) (fun q hq => by rw [g3 q (Nat.ne_of_lt hq), hT]; exact o1 q hq) (fun q hq => by rw [g1 q hq]; exact Nat.le_refl _)
  obtain ⟨t, a1, b1⟩ := wx_athrow (pc := pc + 7) (a := n) (rest := rest) hexec hb hd7 (kk T1.heap (locs ++ L) hst ⟨cell1, g4, by rw [g5]; rfl, by rw [g6]; exact hcX⟩) T1 rfl X1
  exact ⟨t, g8 t a1, b1⟩
end XP8
/-! the constructors of Broken and Tossed -/
theorem st_X {G : GT_} {n a ci : Nat} {M : Mem_} {s : State} {H : Heap} {locs : List Loc} {fs : List Value} {v : Int32} (hlen : fs.length = 7) (h6 : fs[6]? = some (.int v)) {e0 : Ent_} (hH : St_ G n (ms_ (ms_ M a e0) a (eO_ ci fs)) s H locs) : St_ G n (ms_ M a (eX_ ci v)) s H locs := by
  obtain ⟨h1, h2, h3, h4⟩ := hH
  refine ⟨fun b x hb => ?_, h2, h3, h4⟩
  by_cases hba : b = a
  · subst hba
    have hx : eX_ ci v = x := by simpa [ms_] using hb
    subst hx
    have h0 := h1 b (eO_ ci fs) (by simp [ms_])
    exact ⟨⟨fs, hlen, h6, h0.1⟩, h0.2⟩
  · refine h1 b x ?_
    simp only [ms_, hba, if_false] at hb ⊢
    exact hb
def fX7_init (M : Mem_) (a0 : Nat) (a1 : Int32) : Option Mem_ := xI_ M a0 6 a1
def fX16_init (M : Mem_) (a0 : Nat) (a1 : Int32) : Option Mem_ := xI_ M a0 15 a1
theorem kdX7_init : yX7_init.cls ≠ "java/lang/invoke/MethodHandle" ∧ yX7_init.cls ≠ "java/lang/invoke/VarHandle" ∧ (parseMethodDescriptor yX7_init.desc).map (fun d => d.parameters.length) = some 1 := by decide +kernel
theorem kdX16_init : yX16_init.cls ≠ "java/lang/invoke/MethodHandle" ∧ yX16_init.cls ≠ "java/lang/invoke/VarHandle" ∧ (parseMethodDescriptor yX16_init.desc).map (fun d => d.parameters.length) = some 1 := by decide +kernel
set_option maxHeartbeats 4000000 in
theorem mX7_init (l : Launch) (hnt : l.flags = flags0) (G : GT_) (M : Mem_) (n : Nat) (a0 : Nat) (a1 : Int32) (M1 : Mem_) (hf : fX7_init M a0 a1 = some M1) : Ct_ G l yX7_init (ws_ yX7_init cX7_init 2 none) ({ frames := 5, cells := 0, slots := 0, locals := 70 }) 0 0 [.ref a0, .int a1] M n none M1 n := by
  refine en_ (by decide) (Nat.le_of_ble_eq_true rfl) ?_
  intro p e s m below meth c hx hb hr hlk hml hown hts hname hKn hH ls hl
  have hown : s.vm.findClass RX7 = some m.cls := hown
  have hl : lv_has ls 2 [(0, .ref a0), (1, .int a1)] := hl
  obtain ⟨he, rfl⟩ := xI_spec hf
  refine lv_aload_n hx hb dX7_init_0 rfl (lv_at hl 0 rfl) ?_
  refine mg_xsup (own := "SideBySide$Broken") (C := "SideBySide$Broken") (top := "java/lang/Exception") (names := []) (ci := 6) hx hb hnt hts hown hKn hH (hl.1.trans hml.symm) he in_X7 tyX7_ok rfl (by decide +kernel) (by decide +kernel) xc_brk (Nat.le_of_ble_eq_true rfl) (Nat.le_of_ble_eq_true rfl) dX7_init_1 (fun H locs fs hfs hH => ?_)
  refine lv_aload_n hx hb dX7_init_4 rfl (lv_at hl 0 rfl) ?_
  refine lv_iload_n hx hb dX7_init_5 rfl (lv_at hl 1 rfl) ?_
  have hp : pF_ (ms_ M a0 (eO_ 6 fs)) a0 6 6 (.int a1) = some (ms_ (ms_ M a0 (eO_ 6 fs)) a0 (eO_ 6 (fs.set 6 (.int a1)))) := by simp [pF_, fo_, ms_, hfs]
  refine mg_pFF hx hb hts hown hKn hH hp in_X7 tyX7_ok nmX7 rfl (by decide) (hts _ q289) (fun _ h9 => h9) rfl hname rfl rfl rfl dX7_init_6 (fun H locs hH => ?_)
  exact rt_v hx hb hr hlk (st_X (by simp [hfs]) (by simp [hfs]) hH) dX7_init_9
set_option maxHeartbeats 4000000 in
theorem mX16_init (l : Launch) (hnt : l.flags = flags0) (G : GT_) (M : Mem_) (n : Nat) (a0 : Nat) (a1 : Int32) (M1 : Mem_) (hf : fX16_init M a0 a1 = some M1) : Ct_ G l yX16_init (ws_ yX16_init cX16_init 2 none) ({ frames := 5, cells := 0, slots := 0, locals := 70 }) 0 0 [.ref a0, .int a1] M n none M1 n := by
  refine en_ (by decide) (Nat.le_of_ble_eq_true rfl) ?_
  intro p e s m below meth c hx hb hr hlk hml hown hts hname hKn hH ls hl
  have hown : s.vm.findClass RX16 = some m.cls := hown
  have hl : lv_has ls 2 [(0, .ref a0), (1, .int a1)] := hl
  obtain ⟨he, rfl⟩ := xI_spec hf
  refine lv_aload_n hx hb dX16_init_0 rfl (lv_at hl 0 rfl) ?_
  refine mg_xsup (own := "SideBySide$Tossed") (C := "SideBySide$Tossed") (top := "java/lang/RuntimeException") (names := ["java/lang/Exception"]) (ci := 15) hx hb hnt hts hown hKn hH (hl.1.trans hml.symm) he in_X16 tyX16_ok rfl (by decide +kernel) (by decide +kernel) xc_tos (Nat.le_of_ble_eq_true rfl) (Nat.le_of_ble_eq_true rfl) dX16_init_1 (fun H locs fs hfs hH => ?_)
  refine lv_aload_n hx hb dX16_init_4 rfl (lv_at hl 0 rfl) ?_
  refine lv_iload_n hx hb dX16_init_5 rfl (lv_at hl 1 rfl) ?_
  have hp : pF_ (ms_ M a0 (eO_ 15 fs)) a0 15 6 (.int a1) = some (ms_ (ms_ M a0 (eO_ 15 fs)) a0 (eO_ 15 (fs.set 6 (.int a1)))) := by simp [pF_, fo_, ms_, hfs]
  refine mg_pFF hx hb hts hown hKn hH hp in_X16 tyX16_ok nmX16 rfl (by decide) (hts _ q1102) (fun _ h9 => h9) rfl hname rfl rfl rfl dX16_init_6 (fun H locs hH => ?_)
  exact rt_v hx hb hr hlk (st_X (by simp [hfs]) (by simp [hfs]) hH) dX16_init_9
