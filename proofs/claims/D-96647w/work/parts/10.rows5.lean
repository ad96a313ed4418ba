/-! arrays of references: made, stored into -/
set_option maxRecDepth 100000
def sQ_ (M : Mem_) (a t : Nat) (i : Int32) (v : Option Nat) : Option Mem_ := (aq_ M a t).bind fun x => if i < 0 ∨ x.1 ≤ i.toNatClampNeg then none else some (ms_ M a (eQ_ t x.1 (va_up x.2 i.toNatClampNeg v)))
theorem sQ_spec {M M' : Mem_} {a t : Nat} {i : Int32} {v : Option Nat} (h : sQ_ M a t i v = some M') : ∃ n f, M a = some (eQ_ t n f) ∧ vp_in i n ∧ M' = ms_ M a (eQ_ t n (va_up f i.toNatClampNeg v)) := by
  obtain ⟨x, h1, h2⟩ := bs_ h
  refine ⟨x.1, x.2, aq_spec h1, ?_⟩
  split at h2
  · cases h2
  · rename_i w
    cases h2
    exact ⟨w, rfl⟩
theorem any_ck {G : GT_} {n a ci : Nat} {M : Mem_} {s : State} {H : Heap} {locs : List Loc} {u : Unit} {r : vw_C} (hK : Kn_ G s) (hH : St_ G n M s H locs) (h : ck_ M a ci = some u) (hc : vwCl[ci]? = some r) : va_Any r.1 s H a := by
  obtain ⟨fs, he⟩ := ck_spec h
  refine va_rAny (q0 := 0) hK.1 (hH.1.one he) rfl hc (fun comp c0 h1 h2 => ?_)
  have h3 := (hK.1.1 ci r hc).2
  cases h1.symm.trans h2
  cases h2.symm.trans h3.1
  exact va_assign h3
section MGQ
variable {p : Program} {l : Launch} {e : Env} {R : Room} {s : State} {m : MethodId} {args : Array Value} {below : List Frame} {meth : Method} {c : Code} {H : Heap} {locs : List Loc} {cells slots : Nat} {Q : State → Prop}
variable {cc : ByteArray} {pc : Nat} {ls : Array Slot} {rest : List Value} {G : GT_} {a n : Nat} {M : Mem_}
theorem mg_ast (hexec : p.tables.exec = Jvm.exec) (hb : c.code = cc) (hK : Kn_ G s) (hH : St_ G n M s H locs) {t v : Nat} {E : String} (ht : (tL_ G.2.2.1)[t]? = some (G.2.2.1 t, .object E)) (hr : va_Any E s H v) {i : Int32} {M' : Mem_} (hv : sQ_ M a t i (some v) = some M') (hdg : decode cc pc = .ok (.aastore, 1))
    (kk : ∀ (H1 : Heap) (locs1 : List Loc), St_ G n M' s H1 locs1 → W p l e R s m args below meth c H1 locs1 cells slots Q (F0 m (pc + 1) ls rest)) : W p l e R s m args below meth c H locs cells slots Q (F0 m pc ls (.ref v :: .int i :: .ref a :: rest)) := by
  obtain ⟨N, f, he, hin, rfl⟩ := sQ_spec hv
  have hlt : i.toNatClampNeg < N := Nat.not_le.mp fun q => hin (Or.inr q)
  have h0 : ¬ i < 0 := fun q => hin (Or.inl q)
  obtain ⟨cellV, g1, g3, ⟨kC, hkC⟩, hasg⟩ := hr
  obtain ⟨kA, comp, k1, k2, k3, -⟩ := (hK.1.2 t _ ht).2
  obtain ⟨kE, hkE, -⟩ := Vm.findClass_spec k3
  refine W.aast hexec hb (hH.1 a _ he).1 (fun q h => by cases h) (fun h => by cases h) k1 k2 rfl hkE ⟨h0, by show _ < (arrV _ _ _).slots.size; rw [arrV_size]; exact hlt⟩ g1 (fun q h => by rw [h] at g3; cases g3) hkC (hasg _ k3) rfl rfl hdg fun H1 e1 z oq => ?_
  refine kk H1 _ (hH.put he ?_ z oq)
  show H1[a]? = some (vp_cell _ _)
  rw [e1]
  show some ((vp_cell _ _).setSlot _ _) = _
  rw [vp_cell_q, vp_cell_q, arrV_store]
  congr 2
  funext q
  by_cases hq : q = i.toNatClampNeg
  · subst hq
    simp [updV, va_up, va_rf]
  · simp [updV, va_up, hq]
theorem mg_newq (hexec : p.tables.exec = Jvm.exec) (hb : c.code = cc) (hK : Kn_ G s) (hH : St_ G n M s H locs) {own C : String} {index t : Nat} (hown : s.vm.findClass own = some m.cls) (hclink : (Cond.classLink own index C).before args s = true) (hover : va_AO C s) (ht : (tL_ G.2.2.1)[t]? = some (G.2.2.1 t, .object C)) {i : Int32} {N : Nat} (hn : ¬ i < 0) (hN : i.toNatClampNeg = N) (hN2 : N ≤ 1000) (hcells : cells + 1 ≤ R.cells) (hslots : slots + N ≤ R.slots) (hdg : decode cc pc = .ok (.anewarray index, 3))
    (kk : ∀ (H1 : Heap), St_ G (n + 1) (ms_ M n (eQ_ t N (fun _ => none))) s H1 locs → W p l e R s m args below meth c H1 locs (cells + 1) (slots + N) Q (F0 m (pc + 3) ls (.ref n :: rest))) : W p l e R s m args below meth c H locs cells slots Q (F0 m pc ls (.int i :: rest)) := by
  subst hN
  refine W.anew hexec hb hown hclink (va_AO.use hover) rfl hdg rfl hn (by omega) hcells hslots fun cA kA comp f1 f2 f3 f4 => ?_
  generalize hH1 : H.push ({ cls := cA, slots := Array.replicate i.toNatClampNeg .null, vm := .none } : Cell) = H1
  have z1 : H1.size = H.size + 1 := by rw [← hH1, Array.size_push]
  have e1 : H1[H.size]? = some (arrV cA i.toNatClampNeg (fun _ => .null)) := by rw [← hH1, Array.getElem?_push_size, ← arrV_new]
  have o1 : ∀ q : Nat, q < H.size → H1[q]? = H[q]? := fun q hq => by rw [← hH1, Array.getElem?_push, if_neg (Nat.ne_of_lt hq)]
  obtain ⟨kA2, comp2, r1, r2, r3, r4⟩ := (hK.1.2 t _ ht).2
  cases f1.symm.trans r4
  have hs := hH.2.1
  subst hs
  refine kk H1 (hH.push ?_ z1 o1)
  show H1[H.size]? = some (vp_cell _ _)
  rw [vp_cell_q]
  exact e1
end MGQ
