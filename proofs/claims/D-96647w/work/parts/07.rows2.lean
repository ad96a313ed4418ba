/-! ROWS OF THE MACHINE OVER THE MEMORY -/
set_option maxRecDepth 100000
section MGR
variable {p : Program} {l : Launch} {e : Env} {R : Room} {s : State} {m : MethodId} {args : Array Value} {below : List Frame} {meth : Method} {c : Code} {H : Heap} {locs : List Loc} {cells slots : Nat} {Q : State → Prop}
variable {cc : ByteArray} {pc : Nat} {ls : Array Slot} {rest : List Value} {G : GT_} {a n : Nat} {M : Mem_}
theorem mg_gI (hexec : p.tables.exec = Jvm.exec) (hb : c.code = cc) {own ref C : String} {T : u_T} {N ci index : Nat} (hts : ∀ w ∈ lw_all, w.before args s = true) (hown : s.vm.findClass own = some m.cls) (hK : Kn_ G s) (hH : St_ G n M s H locs) {v : Int32} {k : Nat} (hv : gI_ M a ci k = some v) (hin : ∀ w ∈ u_ws C T N, w ∈ lw_all) (hc : vwCl[ci]? = some (C, T, N)) (hk : k < N) (hlink : (Cond.fieldLink own index ref (T k).2.1 (T k).2.2.1).before args s = true) (hsame : ∀ x, s.fieldFound? (T k).1 (T k).2.1 (T k).2.2.1 = some x → s.fieldFound? ref (T k).2.1 (T k).2.2.1 = some x) (hdg : decode cc pc = .ok (.getfield index, 3))
    (kk : W p l e R s m args below meth c H locs cells slots Q (F0 m (pc + 3) ls (.int v :: rest))) : W p l e R s m args below meth c H locs cells slots Q (F0 m pc ls (.ref a :: rest)) := by
  obtain ⟨fs, h1, h2⟩ := gI_spec hv
  exact va_get (ws := [(a, .inr (ci, fs))]) hexec hb hts hin hown hK.1 (hH.1.one h1) 0 rfl hc k hk hlink hsame h2 hdg kk
theorem mg_gR (hexec : p.tables.exec = Jvm.exec) (hb : c.code = cc) {own ref C : String} {T : u_T} {N ci index : Nat} (hts : ∀ w ∈ lw_all, w.before args s = true) (hown : s.vm.findClass own = some m.cls) (hK : Kn_ G s) (hH : St_ G n M s H locs) {v : Nat} {k : Nat} (hv : gR_ M a ci k = some v) (hin : ∀ w ∈ u_ws C T N, w ∈ lw_all) (hc : vwCl[ci]? = some (C, T, N)) (hk : k < N) (hlink : (Cond.fieldLink own index ref (T k).2.1 (T k).2.2.1).before args s = true) (hsame : ∀ x, s.fieldFound? (T k).1 (T k).2.1 (T k).2.2.1 = some x → s.fieldFound? ref (T k).2.1 (T k).2.2.1 = some x) (hdg : decode cc pc = .ok (.getfield index, 3))
    (kk : W p l e R s m args below meth c H locs cells slots Q (F0 m (pc + 3) ls (.ref v :: rest))) : W p l e R s m args below meth c H locs cells slots Q (F0 m pc ls (.ref a :: rest)) := by
  obtain ⟨fs, h1, h2⟩ := gR_spec hv
  exact va_get (ws := [(a, .inr (ci, fs))]) hexec hb hts hin hown hK.1 (hH.1.one h1) 0 rfl hc k hk hlink hsame h2 hdg kk
theorem mg_gN (hexec : p.tables.exec = Jvm.exec) (hb : c.code = cc) {own ref C : String} {T : u_T} {N ci index : Nat} (hts : ∀ w ∈ lw_all, w.before args s = true) (hown : s.vm.findClass own = some m.cls) (hK : Kn_ G s) (hH : St_ G n M s H locs) {v : Option Nat} {k : Nat} (hv : gN_ M a ci k = some v) (hin : ∀ w ∈ u_ws C T N, w ∈ lw_all) (hc : vwCl[ci]? = some (C, T, N)) (hk : k < N) (hlink : (Cond.fieldLink own index ref (T k).2.1 (T k).2.2.1).before args s = true) (hsame : ∀ x, s.fieldFound? (T k).1 (T k).2.1 (T k).2.2.1 = some x → s.fieldFound? ref (T k).2.1 (T k).2.2.1 = some x) (hdg : decode cc pc = .ok (.getfield index, 3))
    (kk : W p l e R s m args below meth c H locs cells slots Q (F0 m (pc + 3) ls (va_rf v :: rest))) : W p l e R s m args below meth c H locs cells slots Q (F0 m pc ls (.ref a :: rest)) := by
  obtain ⟨fs, h1, h2⟩ := gN_spec hv
  exact va_get (ws := [(a, .inr (ci, fs))]) hexec hb hts hin hown hK.1 (hH.1.one h1) 0 rfl hc k hk hlink hsame h2 hdg kk
theorem mg_pF (hexec : p.tables.exec = Jvm.exec) (hb : c.code = cc) {own ref C : String} {T : u_T} {N ci index : Nat} (hts : ∀ w ∈ lw_all, w.before args s = true) (hown : s.vm.findClass own = some m.cls) (hK : Kn_ G s) (hH : St_ G n M s H locs) {v : Value} {k : Nat} {M' : Mem_} (hv : pF_ M a ci k v = some M') (hin : ∀ w ∈ u_ws C T N, w ∈ lw_all) {ty0 : Nat → FieldType} (hty : ∀ k, k < N → parseFieldDescriptor (T k).2.2.1 = some (ty0 k)) (hnm : ∀ a, a < N → ∀ b, b < N → a ≠ b → (T a).2.1 ≠ (T b).2.1) (hc : vwCl[ci]? = some (C, T, N)) (hk : k < N) (hlink : (Cond.fieldLink own index ref (T k).2.1 (T k).2.2.1).before args s = true) (hsame : ∀ x, s.fieldFound? (T k).1 (T k).2.1 (T k).2.2.1 = some x → s.fieldFound? ref (T k).2.1 (T k).2.2.1 = some x) (hfin : (T k).2.2.2 = false) (hn : narrow (ty0 k) v = v) (hfit : fits (ty0 k) v = true) (hdg : decode cc pc = .ok (.putfield index, 3))
    (kk : ∀ (H1 : Heap) (locs1 : List Loc), St_ G n M' s H1 locs1 → W p l e R s m args below meth c H1 locs1 cells slots Q (F0 m (pc + 3) ls rest)) : W p l e R s m args below meth c H locs cells slots Q (F0 m pc ls (v :: .ref a :: rest)) := by
  obtain ⟨fs, he, hl, rfl⟩ := pF_spec hv
  have hap := va_apart (own := own) hts hin ty0 hty hnm hK.1 hc
  obtain ⟨r, h1, cell, q1, q2, q3, q4⟩ := (hH.1 a _ he).1
  have hr : r = (C, T, N) := Option.some.inj (h1.symm.trans hc)
  subst hr
  obtain ⟨hS, hfc, kC, hkC, hkind⟩ := hK.1.1 ci _ hc
  obtain ⟨cf, kf, fi, f, hi, hsl⟩ := hS k hk
  have hlay := hts _ (hin _ (u_in_lay hk))
  unfold u_lay at hlay
  rw [if_neg (by rw [hfin]; decide)] at hlay
  have hst := (u_facts hfc hkC (u_lays hts hin hk) hi).1
  have h6 := u_store hfc hkC hkind hlay hi (hty k hk) hn hfit
  refine W.putK hexec hb (f := f) ⟨hown, hlink, ⟨_, _, _, hsame _ hi⟩, hst⟩ (by rw [q2]; exact h6) q1 q3 (by rw [hsl]; exact k2_hasslot (q4 k hk)) rfl rfl hdg fun H' e1 e2 e3 => ?_
  rw [hsl] at e1 ⊢
  exact kk H' _ (hH.put he ⟨_, hc, t_OB.to (V := updV (vp_V fs) k v) ⟨_, e1, q2, q3, t_set q4 hap hk v⟩ (fun j _ => vp_updV_set hl v j)⟩ e2 e3)
theorem mg_pFF (hexec : p.tables.exec = Jvm.exec) (hb : c.code = cc) {own ref C : String} {T : u_T} {N ci index : Nat} (hts : ∀ w ∈ lw_all, w.before args s = true) (hown : s.vm.findClass own = some m.cls) (hK : Kn_ G s) (hH : St_ G n M s H locs) {v : Value} {k : Nat} {M' : Mem_} (hv : pF_ M a ci k v = some M') (hin : ∀ w ∈ u_ws C T N, w ∈ lw_all) {ty0 : Nat → FieldType} (hty : ∀ k, k < N → parseFieldDescriptor (T k).2.2.1 = some (ty0 k)) (hnm : ∀ a, a < N → ∀ b, b < N → a ≠ b → (T a).2.1 ≠ (T b).2.1) (hc : vwCl[ci]? = some (C, T, N)) (hk : k < N) (hlink : (Cond.fieldLink own index ref (T k).2.1 (T k).2.2.1).before args s = true) (hsame : ∀ x, s.fieldFound? (T k).1 (T k).2.1 (T k).2.2.1 = some x → s.fieldFound? ref (T k).2.1 (T k).2.2.1 = some x) (hfin : (T k).2.2.2 = true) (hin2 : meth.name = "<init>") (hdecl : (T k).1 = own) (hn : narrow (ty0 k) v = v) (hfit : fits (ty0 k) v = true) (hdg : decode cc pc = .ok (.putfield index, 3))
    (kk : ∀ (H1 : Heap) (locs1 : List Loc), St_ G n M' s H1 locs1 → W p l e R s m args below meth c H1 locs1 cells slots Q (F0 m (pc + 3) ls rest)) : W p l e R s m args below meth c H locs cells slots Q (F0 m pc ls (v :: .ref a :: rest)) := by
  obtain ⟨fs, he, hl, rfl⟩ := pF_spec hv
  have hap := va_apart (own := own) hts hin ty0 hty hnm hK.1 hc
  obtain ⟨r, h1, cell, q1, q2, q3, q4⟩ := (hH.1 a _ he).1
  have hr : r = (C, T, N) := Option.some.inj (h1.symm.trans hc)
  subst hr
  obtain ⟨hS, hfc, kC, hkC, hkind⟩ := hK.1.1 ci _ hc
  obtain ⟨cf, kf, fi, f, hi, hsl⟩ := hS k hk
  have hlay := hts _ (hin _ (u_in_lay hk))
  unfold u_lay at hlay
  rw [if_pos hfin] at hlay
  have hst := (u_facts hfc hkC (u_lays hts hin hk) hi).1
  have hcf : m.cls = cf := by
    obtain ⟨_, _, c', _, _, _, -, -, hf', -, -, -, hown2, -⟩ := Cond.laysFinal_spec hlay
    have e1 : c' = cf := by have := hi.symm.trans hf'; simp at this; exact this.1.symm
    rw [hdecl] at hown2
    rw [← e1]; exact Option.some.inj (hown.symm.trans hown2)
  have h6 := u_fits hfc hkC hkind (Or.inr hlay) hi (hty k hk) hn hfit
  refine W.putFinK hexec hb hown hlink (hsame _ hi) hst hcf hin2 (by rw [q2]; exact h6) q1 q3 (by rw [hsl]; exact k2_hasslot (q4 k hk)) rfl rfl hdg fun H' e1 e2 e3 => ?_
  rw [hsl] at e1 ⊢
  exact kk H' _ (hH.put he ⟨_, hc, t_OB.to (V := updV (vp_V fs) k v) ⟨_, e1, q2, q3, t_set q4 hap hk v⟩ (fun j _ => vp_updV_set hl v j)⟩ e2 e3)
theorem mg_iald (hexec : p.tables.exec = Jvm.exec) (hb : c.code = cc) (hK : Kn_ G s) (hH : St_ G n M s H locs) {i v : Int32} (hv : aI_ M a 0 i = some v) (hdg : decode cc pc = .ok (.iaload, 1))
    (kk : W p l e R s m args below meth c H locs cells slots Q (F0 m (pc + 1) ls (.int v :: rest))) : W p l e R s m args below meth c H locs cells slots Q (F0 m pc ls (.int i :: .ref a :: rest)) := by
  obtain ⟨N, f, h1, h2, rfl⟩ := aI_spec hv
  exact va_iald (ws := [(a, .inl (G.2.2.1 0, N, .inl f))]) hexec hb hK.1 (hH.1.one h1) 0 0 rfl rfl h2 hdg kk
theorem mg_bald (hexec : p.tables.exec = Jvm.exec) (hb : c.code = cc) (hK : Kn_ G s) (hH : St_ G n M s H locs) {i v : Int32} (hv : aI_ M a 1 i = some v) (hdg : decode cc pc = .ok (.baload, 1))
    (kk : W p l e R s m args below meth c H locs cells slots Q (F0 m (pc + 1) ls (.int v :: rest))) : W p l e R s m args below meth c H locs cells slots Q (F0 m pc ls (.int i :: .ref a :: rest)) := by
  obtain ⟨N, f, h1, h2, rfl⟩ := aI_spec hv
  exact va_bald (ws := [(a, .inl (G.2.2.1 1, N, .inl f))]) hexec hb hK.1 (hH.1.one h1) 0 1 rfl rfl h2 hdg kk
theorem mg_sald (hexec : p.tables.exec = Jvm.exec) (hb : c.code = cc) (hK : Kn_ G s) (hH : St_ G n M s H locs) {i v : Int32} (hv : aI_ M a 2 i = some v) (hdg : decode cc pc = .ok (.saload, 1))
    (kk : W p l e R s m args below meth c H locs cells slots Q (F0 m (pc + 1) ls (.int v :: rest))) : W p l e R s m args below meth c H locs cells slots Q (F0 m pc ls (.int i :: .ref a :: rest)) := by
  obtain ⟨N, f, h1, h2, rfl⟩ := aI_spec hv
  exact va_sald (ws := [(a, .inl (G.2.2.1 2, N, .inl f))]) hexec hb hK.1 (hH.1.one h1) 0 2 rfl rfl h2 hdg kk
theorem mg_len0 (hexec : p.tables.exec = Jvm.exec) (hb : c.code = cc) (hK : Kn_ G s) (hH : St_ G n M s H locs) {v : Int32} (hv : lI_ M a 0 = some v) (hdg : decode cc pc = .ok (.arraylength, 1))
    (kk : W p l e R s m args below meth c H locs cells slots Q (F0 m (pc + 1) ls (.int v :: rest))) : W p l e R s m args below meth c H locs cells slots Q (F0 m pc ls (.ref a :: rest)) := by
  obtain ⟨N, f, h1, h2⟩ := lI_spec hv
  exact va_alen (ws := [(a, .inl (G.2.2.1 0, N, .inl f))]) hexec hb hK.1 (hH.1.one h1) 0 0 rfl rfl h2 hdg kk
theorem mg_len1 (hexec : p.tables.exec = Jvm.exec) (hb : c.code = cc) (hK : Kn_ G s) (hH : St_ G n M s H locs) {v : Int32} (hv : lI_ M a 1 = some v) (hdg : decode cc pc = .ok (.arraylength, 1))
    (kk : W p l e R s m args below meth c H locs cells slots Q (F0 m (pc + 1) ls (.int v :: rest))) : W p l e R s m args below meth c H locs cells slots Q (F0 m pc ls (.ref a :: rest)) := by
  obtain ⟨N, f, h1, h2⟩ := lI_spec hv
  exact va_alen (ws := [(a, .inl (G.2.2.1 1, N, .inl f))]) hexec hb hK.1 (hH.1.one h1) 0 1 rfl rfl h2 hdg kk
theorem mg_len2 (hexec : p.tables.exec = Jvm.exec) (hb : c.code = cc) (hK : Kn_ G s) (hH : St_ G n M s H locs) {v : Int32} (hv : lI_ M a 2 = some v) (hdg : decode cc pc = .ok (.arraylength, 1))
    (kk : W p l e R s m args below meth c H locs cells slots Q (F0 m (pc + 1) ls (.int v :: rest))) : W p l e R s m args below meth c H locs cells slots Q (F0 m pc ls (.ref a :: rest)) := by
  obtain ⟨N, f, h1, h2⟩ := lI_spec hv
  exact va_alen (ws := [(a, .inl (G.2.2.1 2, N, .inl f))]) hexec hb hK.1 (hH.1.one h1) 0 2 rfl rfl h2 hdg kk
theorem mg_iast (hexec : p.tables.exec = Jvm.exec) (hb : c.code = cc) (hK : Kn_ G s) (hH : St_ G n M s H locs) {i x : Int32} {M' : Mem_} (hv : sI_ M a 0 i x = some M') (hdg : decode cc pc = .ok (.iastore, 1))
    (kk : ∀ (H1 : Heap) (locs1 : List Loc), St_ G n M' s H1 locs1 → W p l e R s m args below meth c H1 locs1 cells slots Q (F0 m (pc + 1) ls rest)) : W p l e R s m args below meth c H locs cells slots Q (F0 m pc ls (.int x :: .int i :: .ref a :: rest)) := by
  obtain ⟨N, f, he, hin, rfl⟩ := sI_spec hv
  refine W.iast hexec hb (hH.1 a _ he).1 ((hK.1.2 0 _ rfl).1 N (fun j => .int (f j))) (fun q => by cases q) (by show ¬ (i < 0 ∨ (arrV _ _ _).slots.size ≤ _); rw [arrV_size]; exact hin) rfl rfl hdg fun H1 e1 z oq => ?_
  refine kk H1 _ (hH.put he ?_ z oq)
  show H1[a]? = some (vp_cell _ _)
  rw [e1]
  show some ((vp_cell _ _).setSlot _ _) = _
  rw [vp_cell_i, vp_cell_i, arrV_store]
  congr 2
  funext q
  by_cases hq : q = i.toNatClampNeg
  · subst hq
    simp [updV, upd]
  · simp [updV, upd, hq]
theorem mg_aald3 (hexec : p.tables.exec = Jvm.exec) (hb : c.code = cc) (hK : Kn_ G s) (hH : St_ G n M s H locs) {i : Int32} {v : Nat} (hv : aR_ M a 3 i = some v) (hdg : decode cc pc = .ok (.aaload, 1))
    (kk : W p l e R s m args below meth c H locs cells slots Q (F0 m (pc + 1) ls (.ref v :: rest))) : W p l e R s m args below meth c H locs cells slots Q (F0 m pc ls (.int i :: .ref a :: rest)) := by
  obtain ⟨N, f, h1, h2, h3⟩ := aR_spec hv
  refine va_aldq (ws := [(a, .inl (G.2.2.1 3, N, .inr (.inr (.inr (.inr f)))))]) hexec hb hK.1 (hH.1.one h1) 0 3 rfl rfl h2 hdg ?_
  rw [h3]
  exact kk
theorem mg_aald4 (hexec : p.tables.exec = Jvm.exec) (hb : c.code = cc) (hK : Kn_ G s) (hH : St_ G n M s H locs) {i : Int32} {v : Nat} (hv : aR_ M a 4 i = some v) (hdg : decode cc pc = .ok (.aaload, 1))
    (kk : W p l e R s m args below meth c H locs cells slots Q (F0 m (pc + 1) ls (.ref v :: rest))) : W p l e R s m args below meth c H locs cells slots Q (F0 m pc ls (.int i :: .ref a :: rest)) := by
  obtain ⟨N, f, h1, h2, h3⟩ := aR_spec hv
  refine va_aldq (ws := [(a, .inl (G.2.2.1 4, N, .inr (.inr (.inr (.inr f)))))]) hexec hb hK.1 (hH.1.one h1) 0 4 rfl rfl h2 hdg ?_
  rw [h3]
  exact kk
theorem mg_aald5 (hexec : p.tables.exec = Jvm.exec) (hb : c.code = cc) (hK : Kn_ G s) (hH : St_ G n M s H locs) {i : Int32} {v : Nat} (hv : aR_ M a 5 i = some v) (hdg : decode cc pc = .ok (.aaload, 1))
    (kk : W p l e R s m args below meth c H locs cells slots Q (F0 m (pc + 1) ls (.ref v :: rest))) : W p l e R s m args below meth c H locs cells slots Q (F0 m pc ls (.int i :: .ref a :: rest)) := by
  obtain ⟨N, f, h1, h2, h3⟩ := aR_spec hv
  refine va_aldq (ws := [(a, .inl (G.2.2.1 5, N, .inr (.inr (.inr (.inr f)))))]) hexec hb hK.1 (hH.1.one h1) 0 5 rfl rfl h2 hdg ?_
  rw [h3]
  exact kk
theorem mg_new {own C : String} {T : u_T} {N ci index : Nat} (hexec : p.tables.exec = Jvm.exec) (hb : c.code = cc) (hts : ∀ w ∈ lw_all, w.before args s = true) (hown : s.vm.findClass own = some m.cls) (hK : Kn_ G s) (hH : St_ G n M s H locs) (hin : ∀ w ∈ u_ws C T N, w ∈ lw_all) {ty : Nat → FieldType} (hty : ∀ k, k < N → parseFieldDescriptor (T k).2.2.1 = some (ty k)) (hcl : (Cond.classLink own index C).before args s = true) (hinst : (Cond.instantiable C N).before args s = true) (hini : (Cond.initialized C).before args s = true) (hc : vwCl[ci]? = some (C, T, N)) (hcells : cells + 1 ≤ R.cells) (hslots : slots + N ≤ R.slots) (hdg : decode cc pc = .ok (.new index, 3))
    (kk : ∀ (H1 : Heap), St_ G (n + 1) (ms_ M n (eO_ ci ((List.range N).map fun k => defaultValue (ty k)))) s H1 locs → W p l e R s m args below meth c H1 locs (cells + 1) (slots + N) Q (F0 m (pc + 3) ls (.ref n :: rest))) : W p l e R s m args below meth c H locs cells slots Q (F0 m pc ls rest) := by
  have hKn := hK.1.1 ci _ hc
  refine W.newcK hexec hb hown hcl hinst hini rfl hdg hcells hslots hKn.2.1 hH.2.1 fun H1 kC hkC e1 z1 o1 => ?_
  refine kk H1 (hH.push ⟨_, hc, (u_born ty hts hin hKn hkC e1 hty).to (fun j hj => ?_)⟩ (by rw [z1, hH.2.1]) (fun q hq => o1 q (by rw [← hH.2.1]; exact hq)))
  have hj : j < N := hj
  simp [vp_V, hj]
theorem mg_newa (hexec : p.tables.exec = Jvm.exec) (hb : c.code = cc) (hK : Kn_ G s) (hH : St_ G n M s H locs) {atype : ArrayType} (t : Nat) (ht3 : t < 3) (hat : newarray.typeOf atype = tT_ t) (harr : (Cond.arrayClass (tT_ t)).before args s = true) {i : Int32} {N : Nat} (hn : ¬ i < 0) (hN : i.toNatClampNeg = N) (hN2 : N ≤ 1000) (hcells : cells + 1 ≤ R.cells) (hslots : slots + N ≤ R.slots) (hdg : decode cc pc = .ok (.newarray atype, 2))
    (kk : ∀ (H1 : Heap), St_ G (n + 1) (ms_ M n (eI_ t N (fun _ => 0))) s H1 locs → W p l e R s m args below meth c H1 locs (cells + 1) (slots + N) Q (F0 m (pc + 2) ls (.ref n :: rest))) : W p l e R s m args below meth c H locs cells slots Q (F0 m pc ls (.int i :: rest)) := by
  have hby : N * componentBytes (newarray.typeOf atype) ≤ 536870912 := by
    have : componentBytes (newarray.typeOf atype) ≤ 8 := by cases atype <;> decide
    calc N * componentBytes (newarray.typeOf atype) ≤ N * 8 := Nat.mul_le_mul_left _ this
      _ ≤ 536870912 := by omega
  refine va_newaK hexec hb (by rw [hat]; exact harr) rfl hdg rfl hn hN hby hcells hslots hH.2.1 fun H1 cA e1 z1 o1 hAr hNm => ?_
  have hcA : cA = G.2.2.1 t := by
    rw [hat] at hNm
    have key : s.vm.findClass ("[" ++ (tT_ t).toString) = some (G.2.2.1 t) := by
      match t, ht3 with
      | 0, _ => exact (hK.1.2 0 _ rfl).2
      | 1, _ => exact (hK.1.2 1 _ rfl).2
      | 2, _ => exact (hK.1.2 2 _ rfl).2
    exact Option.some.inj (hNm.symm.trans key)
  subst hcA
  refine kk H1 (hH.push ?_ (by rw [z1, hH.2.1]) (fun q hq => o1 q (by rw [← hH.2.1]; exact hq)))
  show H1[n]? = some (vp_cell _ _)
  rw [e1, vp_cell_i, hat]
  match t, ht3 with
  | 0, _ => rfl
  | 1, _ => rfl
  | 2, _ => rfl
end MGR
/-! CONTRACTS -/
def Pc_ (G : GT_) (n : Nat) (M : Mem_) (av : List Value) : Array Value → State → Prop := va_Pc av (fun U => U.heap.size = n ∧ G.1 ≤ n ∧ Rp_ G M U.heap ∧ Kn_ G U)
def Qc_ (G : GT_) (v : Option Value) (M1 : Mem_) (n1 : Nat) : Array Value → State → Outcome → State → Prop := fun _ st oc t => oc = .returned v ∧ t.heap.size = n1 ∧ Rp_ G M1 t.heap ∧ va_F (fun q => G.1 ≤ q) st t
abbrev Ct_ (G : GT_) (l : Launch) (y : MethodName) (ws : List Cond) (rm : Room) (mc ms : Nat) (av : List Value) (M : Mem_) (n : Nat) (v : Option Value) (M1 : Mem_) (n1 : Nat) : Prop := Met l y ws rm (Pc_ G n M av) (Qc_ G v M1 n1) mc ms (fun q => G.1 ≤ q)
theorem pc_blind {G : GT_} {n : Nat} {M : Mem_} {av : List Value} : FrameBlind (Pc_ G n M av) := fun a U g mk q => by
  obtain ⟨q0, q1, q2, q3, q4⟩ := q
  exact ⟨q0, q1, q2, q3, Kn_.same (s := U) (U := U.calling g mk a) rfl rfl q4⟩
theorem pc_at {G : GT_} {n : Nat} {M : Mem_} {av : List Value} {s : State} {H : Heap} {locs : List Loc} (hK : Kn_ G s) (hH : St_ G n M s H locs) (U : State) (hU : U.heap = H) (hW : s.WarmedH U.vm) : Pc_ G n M av av.toArray U := ⟨rfl, by rw [hU]; exact hH.2.1, hH.2.2.1, by rw [hU]; exact hH.1, hK.warm hW (fun q h1 h2 => by rw [hU]; exact hH.2.2.2.2.1 q h1 h2)⟩
theorem st_recv {G : GT_} {n ci b : Nat} {M : Mem_} {s : State} {H : Heap} {locs : List Loc} {C : String} {T : u_T} {N : Nat} {u : Unit} (hK : Kn_ G s) (hH : St_ G n M s H locs) (hk : ck_ M b ci = some u) (hc : vwCl[ci]? = some (C, T, N)) : ∃ cell : Cell, H[b]? = some cell ∧ cell.vm.isStatics = false ∧ s.vm.findClass C = some cell.cls := by
  obtain ⟨fs, h1⟩ := ck_spec hk
  exact va_recv (q := (C, T, N)) (q0 := 0) hK.1 (hH.1.one h1) hc rfl
section MGE
variable {l : Launch} {G : GT_} {n n1 : Nat} {M M1 : Mem_} {av : List Value} {v : Option Value}
/-- a method's entry -/
theorem en_ {y : MethodName} {cc : ByteArray} {nL : Nat} {ret : Option FieldType} {rm : Room} {mc ms : Nat} (hy : plainName y.cls = true) (hlen : (lg_sl av).length ≤ nL)
    (body : ∀ (p : Program) (e : Env) (s : State) (m : MethodId) (below : List Frame) (meth : Method) (c : Code), p.tables.exec = Jvm.exec → c.code = cc → meth.sig.returnType = ret → meth.locks = false → c.maxLocals = nL → s.vm.findClass y.cls = some m.cls → (∀ w ∈ lw_all, w.before av.toArray s = true) → meth.name = y.name → Kn_ G s → St_ G n M s s.heap [] → ∀ ls : Array Slot, lv_has ls nL (lv_args 0 av) →
      W p l e rm s m av.toArray below meth c s.heap [] 0 0 (MQ below (Qc_ G v M1 n1) av.toArray s mc ms (fun q => G.1 ≤ q)) (F0 m 0 ls [])) : Ct_ G l y (ws_ y cc nL ret) rm mc ms av M n v M1 n1 := by
  refine Met.ofW (cc := cc) (maxL := nL) (ret := ret) hy rfl ?_
  intro p e s m args below meth c s₁ B hml hv
  obtain ⟨rfl, hsz, hb, hP, hK⟩ := hv
  have hts := atoms_spec (ws := ws_ y cc nL ret) B.pre
  have hts : ∀ w ∈ lw_all, w.before _ s = true := fun w h => hts w (List.mem_cons_of_mem _ h)
  have hl := lv_entry av (n := nL) hlen
  rw [lg_entry_eq]
  exact body p e s m below meth c B.exec B.bytes B.returns B.notSynchronized hml (findClass_of_methodNamed B.named) hts (name_of_methodNamed B.named B.method).1 hK ⟨hP, hsz, hb, va_S.rf⟩ _ hl
end MGE
section MGC
variable {p : Program} {l : Launch} {e : Env} {R : Room} {s : State} {m : MethodId} {args : Array Value} {below : List Frame} {meth : Method} {c : Code} {H : Heap} {locs : List Loc} {cells slots : Nat} {Q : State → Prop}
variable {cc : ByteArray} {pc : Nat} {ls : Array Slot} {rest st0 : List Value} {G : GT_} {n n1 : Nat} {M M1 : Mem_} {mc ms : Nat} {a : Array Value}
/-- behind a call -/
theorem cl_i {r : Int32} (hH : St_ G n M s H locs) (hr : va_Run p l e R s m args below meth c H locs cells slots mc ms (F0 m pc ls st0) rest (Qc_ G (some (.int r)) M1 n1 a) (fun q => G.1 ≤ q))
    (kk : ∀ (H1 : Heap) (locs1 : List Loc), St_ G n1 M1 s H1 locs1 → W p l e R s m args below meth c H1 locs1 (cells + mc) (slots + ms) Q (F0 m (pc + 3) ls (.int r :: rest))) : W p l e R s m args below meth c H locs cells slots Q (F0 m pc ls st0) := by
  intro T hT X
  obtain ⟨v, st₀, t, T', L, h0, X', hL, e1, e2, ⟨hv, hz, hp, hf⟩, st⟩ := hr T hT X
  cases hv
  obtain ⟨t2, a1, b1⟩ := kk T'.heap (locs ++ L) ⟨by rw [e1]; exact hp, by rw [e1]; exact hz, by
      have g1 := hH.2.2.1
      have g2 := hf.1
      rw [h0, hH.2.1, hz] at g2
      omega, ⟨by rw [e1]; exact Nat.le_trans hH.2.2.2.1 (by rw [← h0]; exact hf.1), fun q g1 g2 => by rw [e1, hf.2 q (by rw [h0]; exact Nat.lt_of_lt_of_le g1 hH.2.2.2.1) g2, h0]; exact hH.2.2.2.2.1 q g1 g2, fun q hq => by
      rcases List.mem_append.mp hq with h | h
      · exact hH.2.2.2.2.2 q h
      · exact hL q h⟩⟩ T' rfl X'
  exact ⟨t2, st t2 a1, b1⟩
theorem cl_l {r : Int64} (hH : St_ G n M s H locs) (hr : va_Run p l e R s m args below meth c H locs cells slots mc ms (F0 m pc ls st0) rest (Qc_ G (some (.long r)) M1 n1 a) (fun q => G.1 ≤ q))
    (kk : ∀ (H1 : Heap) (locs1 : List Loc), St_ G n1 M1 s H1 locs1 → W p l e R s m args below meth c H1 locs1 (cells + mc) (slots + ms) Q (F0 m (pc + 3) ls (.long r :: rest))) : W p l e R s m args below meth c H locs cells slots Q (F0 m pc ls st0) := by
  intro T hT X
  obtain ⟨v, st₀, t, T', L, h0, X', hL, e1, e2, ⟨hv, hz, hp, hf⟩, st⟩ := hr T hT X
  cases hv
  obtain ⟨t2, a1, b1⟩ := kk T'.heap (locs ++ L) ⟨by rw [e1]; exact hp, by rw [e1]; exact hz, by
      have g1 := hH.2.2.1
      have g2 := hf.1
      rw [h0, hH.2.1, hz] at g2
      omega, ⟨by rw [e1]; exact Nat.le_trans hH.2.2.2.1 (by rw [← h0]; exact hf.1), fun q g1 g2 => by rw [e1, hf.2 q (by rw [h0]; exact Nat.lt_of_lt_of_le g1 hH.2.2.2.1) g2, h0]; exact hH.2.2.2.2.1 q g1 g2, fun q hq => by
      rcases List.mem_append.mp hq with h | h
      · exact hH.2.2.2.2.2 q h
      · exact hL q h⟩⟩ T' rfl X'
  exact ⟨t2, st t2 a1, b1⟩
theorem cl_r {r : Nat} (hH : St_ G n M s H locs) (hr : va_Run p l e R s m args below meth c H locs cells slots mc ms (F0 m pc ls st0) rest (Qc_ G (some (.ref r)) M1 n1 a) (fun q => G.1 ≤ q))
    (kk : ∀ (H1 : Heap) (locs1 : List Loc), St_ G n1 M1 s H1 locs1 → W p l e R s m args below meth c H1 locs1 (cells + mc) (slots + ms) Q (F0 m (pc + 3) ls (.ref r :: rest))) : W p l e R s m args below meth c H locs cells slots Q (F0 m pc ls st0) := by
  intro T hT X
  obtain ⟨v, st₀, t, T', L, h0, X', hL, e1, e2, ⟨hv, hz, hp, hf⟩, st⟩ := hr T hT X
  cases hv
  obtain ⟨t2, a1, b1⟩ := kk T'.heap (locs ++ L) ⟨by rw [e1]; exact hp, by rw [e1]; exact hz, by
      have g1 := hH.2.2.1
      have g2 := hf.1
      rw [h0, hH.2.1, hz] at g2
      omega, ⟨by rw [e1]; exact Nat.le_trans hH.2.2.2.1 (by rw [← h0]; exact hf.1), fun q g1 g2 => by rw [e1, hf.2 q (by rw [h0]; exact Nat.lt_of_lt_of_le g1 hH.2.2.2.1) g2, h0]; exact hH.2.2.2.2.1 q g1 g2, fun q hq => by
      rcases List.mem_append.mp hq with h | h
      · exact hH.2.2.2.2.2 q h
      · exact hL q h⟩⟩ T' rfl X'
  exact ⟨t2, st t2 a1, b1⟩
theorem cl_v (hH : St_ G n M s H locs) (hr : va_Run p l e R s m args below meth c H locs cells slots mc ms (F0 m pc ls st0) rest (Qc_ G none M1 n1 a) (fun q => G.1 ≤ q))
    (kk : ∀ (H1 : Heap) (locs1 : List Loc), St_ G n1 M1 s H1 locs1 → W p l e R s m args below meth c H1 locs1 (cells + mc) (slots + ms) Q (F0 m (pc + 3) ls rest)) : W p l e R s m args below meth c H locs cells slots Q (F0 m pc ls st0) := by
  intro T hT X
  obtain ⟨v, st₀, t, T', L, h0, X', hL, e1, e2, ⟨hv, hz, hp, hf⟩, st⟩ := hr T hT X
  cases hv
  obtain ⟨t2, a1, b1⟩ := kk T'.heap (locs ++ L) ⟨by rw [e1]; exact hp, by rw [e1]; exact hz, by
      have g1 := hH.2.2.1
      have g2 := hf.1
      rw [h0, hH.2.1, hz] at g2
      omega, ⟨by rw [e1]; exact Nat.le_trans hH.2.2.2.1 (by rw [← h0]; exact hf.1), fun q g1 g2 => by rw [e1, hf.2 q (by rw [h0]; exact Nat.lt_of_lt_of_le g1 hH.2.2.2.1) g2, h0]; exact hH.2.2.2.2.1 q g1 g2, fun q hq => by
      rcases List.mem_append.mp hq with h | h
      · exact hH.2.2.2.2.2 q h
      · exact hL q h⟩⟩ T' rfl X'
  exact ⟨t2, st t2 a1, b1⟩
/-- the calls themselves -/
theorem rn_V {y : MethodName} {bytes : ByteArray} {maxL nL k index ci b : Nat} {ret : Option FieldType} {ws : List Cond} {rm : Room} {own C : String} {T : u_T} {N : Nat} {As : List Value} {v : Option Value} {u : Unit} (S : CallFix p m c cc nL s args lw_all own) (hK : Kn_ G s) (hH : St_ G n M s H locs) (hM : Ct_ G l y ws rm mc ms (.ref b :: As) M n v M1 n1) (cw : CallW R s args own C index y bytes maxL ret ws rm mc ms k) (hk : ck_ M b ci = some u) (hc : vwCl[ci]? = some (C, T, N)) (hn : As.length = k) (hsize : ls.size = nL) (hW : (rest.map fun v => v.category).sum ≤ 8) (hdg : decode cc pc = .ok (.invokevirtual index, 3)) (hf : cells + mc ≤ R.cells ∧ slots + ms ≤ R.slots) (hst : st0 = As.reverse ++ .ref b :: rest) :
    va_Run p l e R s m args below meth c H locs cells slots mc ms (F0 m pc ls st0) rest (Qc_ G v M1 n1 (Value.ref b :: As).toArray) (fun q => G.1 ≤ q) :=
  va_runV S hM cw ⟨pc_blind, st_recv hK hH hk hc, fun U hU hW => pc_at hK hH U hU hW⟩ rfl hn hsize hst (lv_room hW) hdg hf
theorem rn_S {y : MethodName} {bytes : ByteArray} {maxL nL k index : Nat} {ret : Option FieldType} {ws : List Cond} {rm : Room} {own : String} {As : List Value} {v : Option Value} (S : CallFix p m c cc nL s args lw_all own) (hK : Kn_ G s) (hH : St_ G n M s H locs) (hM : Ct_ G l y ws rm mc ms As M n v M1 n1) (cw : CallB R s args own index y bytes maxL ret ws rm mc ms k ∧ (Cond.static y).before args s = true) (hn : As.length = k) (hsize : ls.size = nL) (hW : (rest.map fun v => v.category).sum ≤ 8) (hdg : decode cc pc = .ok (.invokestatic index, 3)) (hf : cells + mc ≤ R.cells ∧ slots + ms ≤ R.slots) (hst : st0 = As.reverse ++ rest) :
    va_Run p l e R s m args below meth c H locs cells slots mc ms (F0 m pc ls st0) rest (Qc_ G v M1 n1 As.toArray) (fun q => G.1 ≤ q) :=
  va_runS S hM cw ⟨pc_blind, fun U hU hW => pc_at hK hH U hU hW⟩ rfl hn hsize hst (lv_room hW) hdg hf
theorem rn_I {y : MethodName} {bytes : ByteArray} {maxL nL k index b : Nat} {ws : List Cond} {rm : Room} {own : String} {As : List Value} {v : Option Value} (S : CallFix p m c cc nL s args lw_all own) (hK : Kn_ G s) (hH : St_ G n M s H locs) (hM : Ct_ G l y ws rm mc ms (.ref b :: As) M n v M1 n1) (cw : CallB R s args own index y bytes maxL none ws rm mc ms k ∧ y.name = "<init>" ∧ (Cond.instanceMethod y).before args s = true) (hn : As.length = k) (hsize : ls.size = nL) (hW : (rest.map fun v => v.category).sum ≤ 8) (hdg : decode cc pc = .ok (.invokespecial index, 3)) (hf : cells + mc ≤ R.cells ∧ slots + ms ≤ R.slots) (hst : st0 = As.reverse ++ .ref b :: rest) :
    va_Run p l e R s m args below meth c H locs cells slots mc ms (F0 m pc ls st0) rest (Qc_ G v M1 n1 (Value.ref b :: As).toArray) (fun q => G.1 ≤ q) :=
  va_runI S hM cw ⟨pc_blind, fun U hU hW => pc_at hK hH U hU hW⟩ rfl hn hsize hst (lv_room hW) hdg hf
theorem rn_SN {y : MethodName} {bytes : ByteArray} {maxL nL k index : Nat} {ret : Option FieldType} {ws : List Cond} {rm : Room} {own host : String} {As : List Value} {v : Option Value} (S : CallFix p m c cc nL s args lw_all own) (hK : Kn_ G s) (hH : St_ G n M s H locs) (hM : Ct_ G l y ws rm mc ms As M n v M1 n1) (cw : va_CN R s args own index y host bytes maxL ret ws rm mc ms k ∧ (Cond.static y).before args s = true ∧ True) (hn : As.length = k) (hsize : ls.size = nL) (hW : (rest.map fun v => v.category).sum ≤ 8) (hdg : decode cc pc = .ok (.invokestatic index, 3)) (hf : cells + mc ≤ R.cells ∧ slots + ms ≤ R.slots) (hst : st0 = As.reverse ++ rest) :
    va_Run p l e R s m args below meth c H locs cells slots mc ms (F0 m pc ls st0) rest (Qc_ G v M1 n1 As.toArray) (fun q => G.1 ≤ q) :=
  va_runSN S hM cw ⟨pc_blind, fun U hU hW => pc_at hK hH U hU hW⟩ rfl hn hsize hst (lv_room hW) hdg hf
theorem rn_IN {y : MethodName} {bytes : ByteArray} {maxL nL k index b : Nat} {ws : List Cond} {rm : Room} {own host : String} {As : List Value} {v : Option Value} (S : CallFix p m c cc nL s args lw_all own) (hK : Kn_ G s) (hH : St_ G n M s H locs) (hM : Ct_ G l y ws rm mc ms (.ref b :: As) M n v M1 n1) (cw : va_CN R s args own index y host bytes maxL none ws rm mc ms k ∧ y.name = "<init>" ∧ (Cond.instanceMethod y).before args s = true) (hn : As.length = k) (hsize : ls.size = nL) (hW : (rest.map fun v => v.category).sum ≤ 8) (hdg : decode cc pc = .ok (.invokespecial index, 3)) (hf : cells + mc ≤ R.cells ∧ slots + ms ≤ R.slots) (hst : st0 = As.reverse ++ .ref b :: rest) :
    va_Run p l e R s m args below meth c H locs cells slots mc ms (F0 m pc ls st0) rest (Qc_ G v M1 n1 (Value.ref b :: As).toArray) (fun q => G.1 ≤ q) :=
  va_runIN S hM cw ⟨pc_blind, fun U hU hW => pc_at hK hH U hU hW⟩ rfl hn hsize hst (lv_room hW) hdg hf
/-- the ends -/
theorem rt_i {r : Int32} (hexec : p.tables.exec = Jvm.exec) (hb : c.code = cc) (hr : meth.sig.returnType = some .int) (hlocks : meth.locks = false) (hH : St_ G n1 M1 s H locs) (hdg : decode cc pc = .ok (.ireturn, 1)) : W p l e R s m args below meth c H locs cells slots (MQ below (Qc_ G (some (.int r)) M1 n1) args s cells slots (fun q => G.1 ≤ q)) (F0 m pc ls [.int r]) :=
  W.iret hexec hb hr (fun t ht _ => ⟨rfl, by rw [ht]; exact hH.2.1, by rw [ht]; exact hH.1, hH.2.2.2.F ht⟩) hH.2.2.2.2.2 hdg hlocks
theorem rt_b {b : Bool} (hexec : p.tables.exec = Jvm.exec) (hb : c.code = cc) (hr : meth.sig.returnType = some .boolean) (hlocks : meth.locks = false) (hH : St_ G n1 M1 s H locs) (hdg : decode cc pc = .ok (.ireturn, 1)) : W p l e R s m args below meth c H locs cells slots (MQ below (Qc_ G (some (.int (b2_ b))) M1 n1) args s cells slots (fun q => G.1 ≤ q)) (F0 m pc ls [.int (b2_ b)]) :=
  W.zret hexec hb hr (by cases b <;> rfl) (fun t ht _ => ⟨rfl, by rw [ht]; exact hH.2.1, by rw [ht]; exact hH.1, hH.2.2.2.F ht⟩) hH.2.2.2.2.2 hdg hlocks
theorem rt_l {r : Int64} (hexec : p.tables.exec = Jvm.exec) (hb : c.code = cc) (hr : meth.sig.returnType = some .long) (hlocks : meth.locks = false) (hH : St_ G n1 M1 s H locs) (hdg : decode cc pc = .ok (.lreturn, 1)) : W p l e R s m args below meth c H locs cells slots (MQ below (Qc_ G (some (.long r)) M1 n1) args s cells slots (fun q => G.1 ≤ q)) (F0 m pc ls [.long r]) :=
  W.lret hexec hb hr (fun t ht _ => ⟨rfl, by rw [ht]; exact hH.2.1, by rw [ht]; exact hH.1, hH.2.2.2.F ht⟩) hH.2.2.2.2.2 hdg hlocks
theorem rt_v (hexec : p.tables.exec = Jvm.exec) (hb : c.code = cc) (hr : meth.sig.returnType = none) (hlocks : meth.locks = false) (hH : St_ G n1 M1 s H locs) (hdg : decode cc pc = .ok (.return_, 1)) : W p l e R s m args below meth c H locs cells slots (MQ below (Qc_ G none M1 n1) args s cells slots (fun q => G.1 ≤ q)) (F0 m pc ls []) :=
  W.vret hexec hb hr (fun t ht _ => ⟨rfl, by rw [ht]; exact hH.2.1, by rw [ht]; exact hH.1, hH.2.2.2.F ht⟩) hH.2.2.2.2.2 hdg hlocks
theorem rt_a {r : Nat} {ty : FieldType} (hexec : p.tables.exec = Jvm.exec) (hb : c.code = cc) (hr : meth.sig.returnType = some ty) (hrt : (∃ n, ty = .object n) ∨ ∃ t, ty = .array t) (hlocks : meth.locks = false) (hH : St_ G n1 M1 s H locs) (hdg : decode cc pc = .ok (.areturn, 1)) : W p l e R s m args below meth c H locs cells slots (MQ below (Qc_ G (some (.ref r)) M1 n1) args s cells slots (fun q => G.1 ≤ q)) (F0 m pc ls [.ref r]) :=
  W.aret hexec hb hr hrt (Or.inr ⟨r, rfl⟩) (fun t ht _ => ⟨rfl, by rw [ht]; exact hH.2.1, by rw [ht]; exact hH.1, hH.2.2.2.F ht⟩) hH.2.2.2.2.2 hdg hlocks
end MGC
