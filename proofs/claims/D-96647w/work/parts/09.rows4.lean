/-! arraycopy, arrays of references, casts, null -/
set_option maxRecDepth 100000
def cI_ (M : Mem_) (a0 t : Nat) (sp : Int32) (a : Nat) (dp n : Int32) : Option Mem_ := (ai_ M a0 t).bind fun x => (ai_ M a t).bind fun y => if ¬ sp < 0 ∧ ¬ dp < 0 ∧ ¬ n < 0 ∧ sp.toNatClampNeg + n.toNatClampNeg ≤ x.1 ∧ dp.toNatClampNeg + n.toNatClampNeg ≤ y.1 ∧ (List.range n.toNatClampNeg).all (fun i => fits (tT_ t) (.int (x.2 (sp.toNatClampNeg + i)))) = true then some (ms_ M a (eI_ t y.1 (va_cpy x.2 y.2 sp.toNatClampNeg dp.toNatClampNeg n.toNatClampNeg))) else none
/-- a stroke: an object of the class Stroke or below -/
def sk_ (M : Mem_) (a : Nat) : Option (Nat × Int32) := match M a with
  | some (.inr (.inr (.inl (c, [.int f])))) => if 7 ≤ c ∧ c < 15 then some (c - 7, f) else none
  | _ => none
def okS_ (M : Mem_) (o : Option Nat) : Bool := match o with
  | none => true
  | some y => (sk_ M y).isSome
/-- a copy between two arrays of strokes -/
def cS_ (M : Mem_) (a0 : Nat) (sp : Int32) (a : Nat) (dp n : Int32) : Option Mem_ := (aq_ M a0 3).bind fun x => (aq_ M a 3).bind fun y => if ¬ sp < 0 ∧ ¬ dp < 0 ∧ ¬ n < 0 ∧ sp.toNatClampNeg + n.toNatClampNeg ≤ x.1 ∧ dp.toNatClampNeg + n.toNatClampNeg ≤ y.1 ∧ (List.range n.toNatClampNeg).all (fun i => okS_ M (x.2 (sp.toNatClampNeg + i))) = true then some (ms_ M a (eQ_ 3 y.1 (va_cpy x.2 y.2 sp.toNatClampNeg dp.toNatClampNeg n.toNatClampNeg))) else none
theorem cI_spec {M M' : Mem_} {a0 t a : Nat} {sp dp n : Int32} (h : cI_ M a0 t sp a dp n = some M') : ∃ n0 f n1 g, M a0 = some (eI_ t n0 f) ∧ M a = some (eI_ t n1 g) ∧ ¬ sp < 0 ∧ ¬ dp < 0 ∧ ¬ n < 0 ∧ sp.toNatClampNeg + n.toNatClampNeg ≤ n0 ∧ dp.toNatClampNeg + n.toNatClampNeg ≤ n1 ∧ (∀ i, i < n.toNatClampNeg → fits (tT_ t) (.int (f (sp.toNatClampNeg + i))) = true) ∧ M' = ms_ M a (eI_ t n1 (va_cpy f g sp.toNatClampNeg dp.toNatClampNeg n.toNatClampNeg)) := by
  obtain ⟨x, h1, h⟩ := bs_ h
  obtain ⟨y, h2, h⟩ := bs_ h
  split at h
  · rename_i w
    cases h
    obtain ⟨g1, g2, g3, g4, g5, g6⟩ := w
    refine ⟨x.1, x.2, y.1, y.2, ai_spec h1, ai_spec h2, g1, g2, g3, g4, g5, fun i hi => ?_, rfl⟩
    exact List.all_eq_true.mp g6 i (List.mem_range.mpr hi)
  · cases h
theorem cS_spec {M M' : Mem_} {a0 a : Nat} {sp dp n : Int32} (h : cS_ M a0 sp a dp n = some M') : ∃ n0 f n1 g, M a0 = some (eQ_ 3 n0 f) ∧ M a = some (eQ_ 3 n1 g) ∧ ¬ sp < 0 ∧ ¬ dp < 0 ∧ ¬ n < 0 ∧ sp.toNatClampNeg + n.toNatClampNeg ≤ n0 ∧ dp.toNatClampNeg + n.toNatClampNeg ≤ n1 ∧ (∀ i, i < n.toNatClampNeg → okS_ M (f (sp.toNatClampNeg + i)) = true) ∧ M' = ms_ M a (eQ_ 3 n1 (va_cpy f g sp.toNatClampNeg dp.toNatClampNeg n.toNatClampNeg)) := by
  obtain ⟨x, h1, h⟩ := bs_ h
  obtain ⟨y, h2, h⟩ := bs_ h
  split at h
  · rename_i w
    cases h
    obtain ⟨g1, g2, g3, g4, g5, g6⟩ := w
    refine ⟨x.1, x.2, y.1, y.2, aq_spec h1, aq_spec h2, g1, g2, g3, g4, g5, fun i hi => ?_, rfl⟩
    exact List.all_eq_true.mp g6 i (List.mem_range.mpr hi)
  · cases h
theorem sk_spec {M : Mem_} {a : Nat} {x : Nat × Int32} (h : sk_ M a = some x) : x.1 < 8 ∧ M a = some (eO_ (7 + x.1) [.int x.2]) := by
  unfold sk_ at h
  split at h
  · rename_i c f e
    split at h
    · rename_i w
      cases h
      refine ⟨by show c - 7 < 8; omega, ?_⟩
      rw [e]
      show some (eO_ c [.int f]) = some (eO_ (7 + (c - 7)) [.int f])
      rw [show 7 + (c - 7) = c by omega]
    · cases h
  · cases h
/-- a cell that holds a stroke may be put where a Stroke is wanted -/
theorem st_any {G : GT_} {n a : Nat} {M : Mem_} {s : State} {H : Heap} {locs : List Loc} {x : Nat × Int32} (hK : Kn_ G s) (hH : St_ G n M s H locs) (h : sk_ M a = some x) : va_Any "SideBySide$Stroke" s H a := by
  obtain ⟨hx, he⟩ := sk_spec h
  obtain ⟨k, f⟩ := x
  have hx : k < 8 := hx
  have key : ∀ (r : vw_C), vwCl[7 + k]? = some r → Cs_ r.1 "SideBySide$Stroke" s → va_Any "SideBySide$Stroke" s H a := fun r hr hc => by
    refine va_rAny (q0 := 0) hK.1 (hH.1.one he) rfl hr (fun comp c0 h1 h2 => ?_)
    obtain ⟨c, t, g1, g2, g3⟩ := hc
    cases h1.symm.trans g2
    cases h2.symm.trans g1
    exact g3
  have hc := hK.2.2.2.1
  match k, hx with
  | 0, _ => exact key _ rfl (hc _ (List.mem_of_getElem? (i := 0) rfl))
  | 1, _ => exact key _ rfl (hc _ (List.mem_of_getElem? (i := 1) rfl))
  | 2, _ => exact key _ rfl (hc _ (List.mem_of_getElem? (i := 2) rfl))
  | 3, _ => exact key _ rfl (hc _ (List.mem_of_getElem? (i := 3) rfl))
  | 4, _ => exact key _ rfl (hc _ (List.mem_of_getElem? (i := 4) rfl))
  | 5, _ => exact key _ rfl (hc _ (List.mem_of_getElem? (i := 5) rfl))
  | 6, _ => exact key _ rfl (hc _ (List.mem_of_getElem? (i := 6) rfl))
  | 7, _ => exact key _ rfl (hc _ (List.mem_of_getElem? (i := 7) rfl))
theorem St_.run {G : GT_} {n : Nat} {M : Mem_} {s : State} {H H1 : Heap} {locs L : List Loc} {a : Nat} {e0 e : Ent_} (h : St_ G n M s H locs) (he : M a = some e0) (hat : Pa_ G a H1 e) (z : H1.size = H.size) (oq : ∀ q : Nat, q ≠ a → H1[q]? = H[q]?) (hL : ∀ q ∈ L, q.base = a) : St_ G n (ms_ M a e) s H1 (locs ++ L) := by
  obtain ⟨h1, h2, h3, h4⟩ := h.put (k := 0) he hat z oq
  refine ⟨h1, h2, h3, h4.1, h4.2.1, fun q hq => ?_⟩
  rcases List.mem_append.mp hq with g | g
  · exact h.2.2.2.2.2 q g
  · rw [hL q g]
    exact (h.1 a e0 he).2
theorem nn_ (z : Int32) (hz : ¬ z < 0) : z.toInt = (z.toNatClampNeg : Int) := by
  have hz0 : (0 : Int) ≤ z.toInt := by
    have := Int32.not_lt.mp hz
    simpa using Int32.le_iff_toInt_le.mp this
  show z.toInt = ((z.toInt.toNat : Nat) : Int)
  omega
section MGA
variable {p : Program} {l : Launch} {e : Env} {R : Room} {s : State} {m : MethodId} {args : Array Value} {below : List Frame} {meth : Method} {c : Code} {H : Heap} {locs : List Loc} {cells slots : Nat} {Q : State → Prop}
variable {cc : ByteArray} {pc : Nat} {ls : Array Slot} {rest : List Value} {G : GT_} {a n : Nat} {M : Mem_}
theorem mg_cpI (hexec : p.tables.exec = Jvm.exec) (hb : c.code = cc) (hml : c.maxLocals = ls.size) {own : String} {index : Nat} (hown : s.vm.findClass own = some m.cls) (hlink : (Cond.methodLink own index arraycopyName).before args s = true) (hnat : (Cond.native arraycopyName).before args s = true) (hstat : (Cond.static arraycopyName).before args s = true) (hini : (Cond.initialized "java/lang/System").before args s = true)
    (hK : Kn_ G s) (hH : St_ G n M s H locs) {a0 t : Nat} (ht3 : t < 3) {sp dp k : Int32} {M' : Mem_} (hv : cI_ M a0 t sp a dp k = some M') (hframes : 1 ≤ R.frames) (hlocals : (rest.map fun v => v.category).sum + 18 ≤ R.locals) (hdg : decode cc pc = .ok (.invokestatic index, 3))
    (kk : ∀ (H1 : Heap) (locs1 : List Loc), St_ G n M' s H1 locs1 → W p l e R s m args below meth c H1 locs1 cells slots Q (F0 m (pc + 3) ls rest)) : W p l e R s m args below meth c H locs cells slots Q (F0 m pc ls (.int k :: .int dp :: .ref a :: .int sp :: .ref a0 :: rest)) := by
  obtain ⟨n0, f, n1, g, he0, he1, h1, h2, h3, h4, h5, hfit, rfl⟩ := cI_spec hv
  have hA : ∀ (N : Nat) (z : Nat → Value), s.isArrayOf (arrV (G.2.2.1 t) N z) (tT_ t) := by
    match t, ht3 with
    | 0, _ => exact (hK.1.2 0 _ rfl).1
    | 1, _ => exact (hK.1.2 1 _ rfl).1
    | 2, _ => exact (hK.1.2 2 _ rfl).1
  have hprim : refKind (tT_ t) = false := by
    match t, ht3 with
    | 0, _ => rfl
    | 1, _ => rfl
    | 2, _ => rfl
  intro T hT X
  have hc0 : H[a0]? = some (vp_cell (G.2.2.1 t) (n0, .inl f)) := (hH.1 a0 _ he0).1
  have hc1 : H[a]? = some (vp_cell (G.2.2.1 t) (n1, .inl g)) := (hH.1 a _ he1).1
  obtain ⟨-, k0, hk0, cm0, hkk0⟩ := hA n0 (fun j => .int (f j))
  obtain ⟨-, k1, hk1, cm1, hkk1⟩ := hA n1 (fun j => .int (g j))
  obtain ⟨vm', X', step⟩ := X.arraycopy hexec hown hlink hnat hstat hini (src := a0) (dst := a) (cs := vp_cell (G.2.2.1 t) (n0, .inl f)) (cd := vp_cell (G.2.2.1 t) (n1, .inl g)) (srcPos := sp) (destPos := dp) (n := k) (by rw [hT]; exact hc0) (by rw [hT]; exact hc1)
    (fun _ h => by cases h) (fun _ h => by cases h) (fun h => by cases h) (fun h => by cases h) hk0 hk1 hkk0 hkk1 (by simp [hprim]) h1 h2 h3
    (by rw [nn_ sp h1, nn_ k h3]; show ¬ _ > ((arrV _ n0 (fun j => .int (f j))).slots.size : Int); rw [arrV_size]; omega)
    (by rw [nn_ dp h2, nn_ k h3]; show ¬ _ > ((arrV _ n1 (fun j => .int (g j))).slots.size : Int); rw [arrV_size]; omega)
    (fun vm₁ _ i hi => by
      have e1 : (vp_cell (G.2.2.1 t) (n0, .inl f)).slots.getD (sp.toNatClampNeg + i) .null = .int (f (sp.toNatClampNeg + i)) := by
        show (arrV _ n0 (fun j => .int (f j))).slots.getD _ _ = _
        rw [Array.getD_eq_getD_getElem?, arrV_read _ _ (by omega)]
        rfl
      refine ⟨?_, ?_⟩
      · rw [e1]
        exact hfit i hi
      · rw [e1]
        exact trivial)
    (g := F0 m pc ls (.int k :: .int dp :: .ref a :: .int sp :: .ref a0 :: rest)) rfl (by rw [hml]) (rest := rest) rfl (by rw [hb]; exact hdg) hframes (by show 2 * 0 + _ + (7 + 11) ≤ _; omega)
  have e1 : copied (vp_cell (G.2.2.1 t) (n0, .inl f)) (vp_cell (G.2.2.1 t) (n1, .inl g)) sp dp k = vp_cell (G.2.2.1 t) (n1, .inl (va_cpy f g sp.toNatClampNeg dp.toNatClampNeg k.toNatClampNeg)) := va_copied (fun z => .int z) (G.2.2.1 t) (G.2.2.1 t) f g h4
  rw [e1] at X' step
  have hl : a < H.size := (Array.getElem?_eq_some_iff.mp hc1).1
  obtain ⟨t2, a1, b1⟩ := kk _ _ (hH.run (H1 := H.setIfInBounds a (vp_cell (G.2.2.1 t) (n1, .inl (va_cpy f g sp.toNatClampNeg dp.toNatClampNeg k.toNatClampNeg)))) he1 (show (H.setIfInBounds a _)[a]? = some _ by simp [Array.getElem?_setIfInBounds, hl]) (by simp) (fun q hq => by simp [Array.getElem?_setIfInBounds, Ne.symm hq]) (fun q hq => by
      obtain ⟨z, -, hz⟩ := List.mem_map.mp hq
      rw [← hz])) _ (by rw [← hT]; rfl) X'
  exact ⟨t2, step t2 a1, b1⟩
theorem mg_cpS (hexec : p.tables.exec = Jvm.exec) (hb : c.code = cc) (hml : c.maxLocals = ls.size) {own : String} {index : Nat} (hown : s.vm.findClass own = some m.cls) (hlink : (Cond.methodLink own index arraycopyName).before args s = true) (hnat : (Cond.native arraycopyName).before args s = true) (hstat : (Cond.static arraycopyName).before args s = true) (hini : (Cond.initialized "java/lang/System").before args s = true)
    (hK : Kn_ G s) (hH : St_ G n M s H locs) {a0 : Nat} {sp dp k : Int32} {M' : Mem_} (hv : cS_ M a0 sp a dp k = some M') (hframes : 1 ≤ R.frames) (hlocals : (rest.map fun v => v.category).sum + 18 ≤ R.locals) (hdg : decode cc pc = .ok (.invokestatic index, 3))
    (kk : ∀ (H1 : Heap) (locs1 : List Loc), St_ G n M' s H1 locs1 → W p l e R s m args below meth c H1 locs1 cells slots Q (F0 m (pc + 3) ls rest)) : W p l e R s m args below meth c H locs cells slots Q (F0 m pc ls (.int k :: .int dp :: .ref a :: .int sp :: .ref a0 :: rest)) := by
  obtain ⟨n0, f, n1, g, he0, he1, h1, h2, h3, h4, h5, hel, rfl⟩ := cS_spec hv
  have hA := (hK.1.2 3 _ rfl).1
  intro T hT X
  have hc0 : H[a0]? = some (vp_cell (G.2.2.1 3) (n0, .inr (.inr (.inr (.inr f))))) := (hH.1 a0 _ he0).1
  have hc1 : H[a]? = some (vp_cell (G.2.2.1 3) (n1, .inr (.inr (.inr (.inr g))))) := (hH.1 a _ he1).1
  obtain ⟨-, k0, hk0, cm0, hkk0⟩ := hA n0 (fun j => va_rf (f j))
  obtain ⟨-, k1, hk1, cm1, hkk1⟩ := hA n1 (fun j => va_rf (g j))
  obtain ⟨vm', X', step⟩ := X.arraycopy hexec hown hlink hnat hstat hini (src := a0) (dst := a) (cs := vp_cell (G.2.2.1 3) (n0, .inr (.inr (.inr (.inr f))))) (cd := vp_cell (G.2.2.1 3) (n1, .inr (.inr (.inr (.inr g))))) (srcPos := sp) (destPos := dp) (n := k) (by rw [hT]; exact hc0) (by rw [hT]; exact hc1)
    (fun _ h => by cases h) (fun _ h => by cases h) (fun h => by cases h) (fun h => by cases h) hk0 hk1 hkk0 hkk1 rfl h1 h2 h3
    (by rw [nn_ sp h1, nn_ k h3]; show ¬ _ > ((arrV _ n0 (fun j => va_rf (f j))).slots.size : Int); rw [arrV_size]; omega)
    (by rw [nn_ dp h2, nn_ k h3]; show ¬ _ > ((arrV _ n1 (fun j => va_rf (g j))).slots.size : Int); rw [arrV_size]; omega)
    (fun vm₁ hal i hi => by
      have e1 : (vp_cell (G.2.2.1 3) (n0, .inr (.inr (.inr (.inr f))))).slots.getD (sp.toNatClampNeg + i) .null = va_rf (f (sp.toNatClampNeg + i)) := by
        show (arrV _ n0 (fun j => va_rf (f j))).slots.getD _ _ = _
        rw [Array.getD_eq_getD_getElem?, arrV_read _ _ (by omega)]
        rfl
      rw [e1]
      have hok := hel i hi
      cases hy : f (sp.toNatClampNeg + i) with
      | none => exact ⟨rfl, trivial⟩
      | some y =>
        rw [hy] at hok
        obtain ⟨x, hx⟩ := Option.isSome_iff_exists.mp (show (sk_ M y).isSome = true from hok)
        obtain ⟨cellV, g1, g2, ⟨kC, hkC⟩, hasg⟩ := st_any hK hH hx
        obtain ⟨kA, comp, r1, r2, r3, -⟩ := (hK.1.2 3 _ rfl).2
        cases hk1.symm.trans r1
        cases hkk1.symm.trans r2
        obtain ⟨kE, hkE, -⟩ := Vm.findClass_spec r3
        obtain ⟨kC', hkC', -⟩ := hal.2.2 _ _ hkC
        obtain ⟨kE', hkE', -⟩ := hal.2.2 _ _ hkE
        refine ⟨rfl, cellV, (show T.heap[y]? = some cellV by rw [hT]; exact g1), (fun q h => by rw [h] at g2; cases g2), ⟨kC', hkC'⟩, ?_, ?_⟩
        · exact ⟨kE', hkE'⟩
        · show vm₁.assignable _ _ = true
          rw [hal.assignable]
          exact hasg _ r3)
    (g := F0 m pc ls (.int k :: .int dp :: .ref a :: .int sp :: .ref a0 :: rest)) rfl (by rw [hml]) (rest := rest) rfl (by rw [hb]; exact hdg) hframes (by show 2 * 0 + _ + (7 + 11) ≤ _; omega)
  have e1 : copied (vp_cell (G.2.2.1 3) (n0, .inr (.inr (.inr (.inr f))))) (vp_cell (G.2.2.1 3) (n1, .inr (.inr (.inr (.inr g))))) sp dp k = vp_cell (G.2.2.1 3) (n1, .inr (.inr (.inr (.inr (va_cpy f g sp.toNatClampNeg dp.toNatClampNeg k.toNatClampNeg))))) := by
    rw [vp_cell_q, vp_cell_q, vp_cell_q]
    exact va_copied va_rf (G.2.2.1 3) (G.2.2.1 3) f g h4
  rw [e1] at X' step
  have hl : a < H.size := (Array.getElem?_eq_some_iff.mp hc1).1
  obtain ⟨t2, a1, b1⟩ := kk _ _ (hH.run (e := eQ_ 3 n1 (va_cpy f g sp.toNatClampNeg dp.toNatClampNeg k.toNatClampNeg)) (H1 := H.setIfInBounds a (vp_cell (G.2.2.1 3) (n1, .inr (.inr (.inr (.inr (va_cpy f g sp.toNatClampNeg dp.toNatClampNeg k.toNatClampNeg))))))) he1 (show (H.setIfInBounds a _)[a]? = some _ by simp [Array.getElem?_setIfInBounds, hl]) (by simp) (fun q hq => by simp [Array.getElem?_setIfInBounds, Ne.symm hq]) (fun q hq => by
      obtain ⟨z, -, hz⟩ := List.mem_map.mp hq
      rw [← hz])) _ (by rw [← hT]; rfl) X'
  exact ⟨t2, step t2 a1, b1⟩
end MGA
