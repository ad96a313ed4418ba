/-! null or not, casts, instanceof -/
set_option maxRecDepth 100000
def tg_ (M : Mem_) (a : Nat) : Option Nat := match M a with
  | some (.inl (t, _, _)) => if t < 3 then some t else none
  | some (.inr (.inr (.inl (c, [.int _])))) => if 7 ≤ c ∧ c < 15 then some 3 else none
  | _ => none
def cN_ : Nat → String := fun t => match t with
  | 0 => "[I"
  | 1 => "[B"
  | 2 => "[S"
  | _ => "SideBySide$Stroke"
def cc_ (M : Mem_) (a tag : Nat) : Option Unit := (tg_ M a).bind fun t => if t = tag then some () else none
def no_ {α β : Type} (o : Option α) (A : β) (B : α → β) : β := match o with
  | none => A
  | some x => B x
theorem noN_ {α β : Type} {A r : β} {B : α → β} (h : no_ none A B = r) : A = r := h
theorem noS_ {α β : Type} {x : α} {A r : β} {B : α → β} (h : no_ (some x) A B = r) : B x = r := h
theorem tg_spec {M : Mem_} {a t : Nat} (h : tg_ M a = some t) : (t < 3 ∧ ∃ n f, M a = some (eI_ t n f)) ∨ (t = 3 ∧ ∃ x, sk_ M a = some x) := by
  unfold tg_ at h
  split at h
  · rename_i t' n f e
    split at h
    · rename_i w
      cases h
      exact Or.inl ⟨w, n, f, e⟩
    · cases h
  · rename_i c v e
    split at h
    · rename_i w
      cases h
      refine Or.inr ⟨rfl, (c - 7, v), ?_⟩
      simp [sk_, e, w]
    · cases h
  · cases h
theorem cc_spec {M : Mem_} {a tag : Nat} {u : Unit} (h : cc_ M a tag = some u) : tg_ M a = some tag := by
  obtain ⟨t, h1, h2⟩ := bs_ h
  split at h2
  · rename_i w
    rw [h1, w]
  · cases h2
theorem tg_nm {t : Nat} (h : t < 3) : "[" ++ (tT_ t).toString = cN_ t := by
  match t, h with
  | 0, _ => decide
  | 1, _ => decide
  | 2, _ => decide
theorem tg_cls {G : GT_} {n a t : Nat} {M : Mem_} {s : State} {H : Heap} {locs : List Loc} (hK : Kn_ G s) (hH : St_ G n M s H locs) (h : tg_ M a = some t) : ∃ (cell : Cell) (C : String), H[a]? = some cell ∧ cell.vm.isStatics = false ∧ s.vm.findClass C = some cell.cls ∧ (∃ cT, s.vm.findClass (cN_ t) = some cT ∧ s.vm.assignable cell.cls cT = true) ∧ ∀ tag, tag < 4 → tag ≠ t → va_Nc C (cN_ tag) s := by
  have hN : ∀ q ∈ kN_, va_Nc q.1 q.2 s := hK.2.2.2.2.1
  rcases tg_spec h with ⟨ht, N, f, he⟩ | ⟨rfl, ⟨k, fg⟩, hx⟩
  · have h1 : H[a]? = some (vp_cell (G.2.2.1 t) (N, .inl f)) := (hH.1 a _ he).1
    have h2 : s.vm.findClass (cN_ t) = some (G.2.2.1 t) := by
      rw [← tg_nm ht]
      match t, ht with
      | 0, _ => exact (hK.1.2 0 _ rfl).2
      | 1, _ => exact (hK.1.2 1 _ rfl).2
      | 2, _ => exact (hK.1.2 2 _ rfl).2
    refine ⟨_, cN_ t, h1, rfl, h2, ⟨_, h2, va_asg _ _⟩, fun tag htag hne => ?_⟩
    match t, ht, tag, htag, hne with
    | 0, _, 0, _, hne => exact absurd rfl hne
    | 0, _, 1, _, _ => exact hN ("[I", "[B") (by decide +kernel)
    | 0, _, 2, _, _ => exact hN ("[I", "[S") (by decide +kernel)
    | 0, _, 3, _, _ => exact hN ("[I", "SideBySide$Stroke") (by decide +kernel)
    | 1, _, 0, _, _ => exact hN ("[B", "[I") (by decide +kernel)
    | 1, _, 1, _, hne => exact absurd rfl hne
    | 1, _, 2, _, _ => exact hN ("[B", "[S") (by decide +kernel)
    | 1, _, 3, _, _ => exact hN ("[B", "SideBySide$Stroke") (by decide +kernel)
    | 2, _, 0, _, _ => exact hN ("[S", "[I") (by decide +kernel)
    | 2, _, 1, _, _ => exact hN ("[S", "[B") (by decide +kernel)
    | 2, _, 2, _, hne => exact absurd rfl hne
    | 2, _, 3, _, _ => exact hN ("[S", "SideBySide$Stroke") (by decide +kernel)
  · have hk : kd_ M a = some k := by simp [kd_, hx]
    obtain ⟨cell, g1, g2, g3⟩ := kd_recv hK hH hk
    have hk8 := (kd_spec hk).1
    have hcs : Cs_ (kS_ k) "SideBySide$Stroke" s := hK.2.2.2.1 (kS_ k, "SideBySide$Stroke") (by
      match k, hk8 with
      | 0, _ => decide +kernel
      | 1, _ => decide +kernel
      | 2, _ => decide +kernel
      | 3, _ => decide +kernel
      | 4, _ => decide +kernel
      | 5, _ => decide +kernel
      | 6, _ => decide +kernel
      | 7, _ => decide +kernel)
    obtain ⟨c0, t0, f1, f2, f3⟩ := hcs
    cases g3.symm.trans f1
    refine ⟨cell, kS_ k, g1, g2, g3, ⟨t0, f2, f3⟩, fun tag htag hne => ?_⟩
    have hmem : (kS_ k, cN_ tag) ∈ kN_ := by
      have : tag < 3 := by omega
      match k, hk8, tag, this with
      | 0, _, 0, _ => decide +kernel
      | 0, _, 1, _ => decide +kernel
      | 0, _, 2, _ => decide +kernel
      | 1, _, 0, _ => decide +kernel
      | 1, _, 1, _ => decide +kernel
      | 1, _, 2, _ => decide +kernel
      | 2, _, 0, _ => decide +kernel
      | 2, _, 1, _ => decide +kernel
      | 2, _, 2, _ => decide +kernel
      | 3, _, 0, _ => decide +kernel
      | 3, _, 1, _ => decide +kernel
      | 3, _, 2, _ => decide +kernel
      | 4, _, 0, _ => decide +kernel
      | 4, _, 1, _ => decide +kernel
      | 4, _, 2, _ => decide +kernel
      | 5, _, 0, _ => decide +kernel
      | 5, _, 1, _ => decide +kernel
      | 5, _, 2, _ => decide +kernel
      | 6, _, 0, _ => decide +kernel
      | 6, _, 1, _ => decide +kernel
      | 6, _, 2, _ => decide +kernel
      | 7, _, 0, _ => decide +kernel
      | 7, _, 1, _ => decide +kernel
      | 7, _, 2, _ => decide +kernel
    exact hN _ hmem
section MGN
variable {p : Program} {l : Launch} {e : Env} {R : Room} {s : State} {m : MethodId} {args : Array Value} {below : List Frame} {meth : Method} {c : Code} {H : Heap} {locs : List Loc} {cells slots : Nat} {Q : State → Prop}
variable {cc : ByteArray} {pc : Nat} {ls : Array Slot} {rest : List Value} {G : GT_} {a n : Nat} {M : Mem_}
theorem mg_inst (hexec : p.tables.exec = Jvm.exec) (hb : c.code = cc) {own : String} {index t tag : Nat} (hown : s.vm.findClass own = some m.cls) (ht4 : tag < 4) (hlink : (Cond.classLink own index (cN_ tag)).before args s = true) (hK : Kn_ G s) (hH : St_ G n M s H locs) (hv : tg_ M a = some t) (hdg : decode cc pc = .ok (.instanceof index, 3))
    (kk : W p l e R s m args below meth c H locs cells slots Q (F0 m (pc + 3) ls (.int (b2_ (decide (t = tag))) :: rest))) : W p l e R s m args below meth c H locs cells slots Q (F0 m pc ls (.ref a :: rest)) := by
  obtain ⟨cell, C, h1, h2, h3, ⟨cT, h4, h5⟩, h6⟩ := tg_cls hK hH hv
  by_cases ht : t = tag
  · subst ht
    rw [show b2_ (decide (t = t)) = 1 by simp [b2_]] at kk
    intro T hT X
    obtain ⟨vm', X', st⟩ := X.instanceofYes hexec hown hlink (by rw [hT]; exact h1) h2 h4 h5 (g := F0 m pc ls (.ref a :: rest)) rfl rfl (by rw [hb]; exact hdg)
    obtain ⟨t, a1, b1⟩ := kk (T.setVm vm') hT X'
    exact ⟨t, st t a1, b1⟩
  · rw [show b2_ (decide (t = tag)) = 0 by simp [b2_, ht]] at kk
    exact va_instNo hexec hb hown hlink (h6 tag ht4 (fun q => ht q.symm)) ⟨cell, h1, h2, h3⟩ hdg kk
theorem mg_cast (hexec : p.tables.exec = Jvm.exec) (hb : c.code = cc) {own : String} {index tag : Nat} {u : Unit} (hown : s.vm.findClass own = some m.cls) (hlink : (Cond.classLink own index (cN_ tag)).before args s = true) (hK : Kn_ G s) (hH : St_ G n M s H locs) (hv : cc_ M a tag = some u) (hdg : decode cc pc = .ok (.checkcast index, 3))
    (kk : W p l e R s m args below meth c H locs cells slots Q (F0 m (pc + 3) ls (.ref a :: rest))) : W p l e R s m args below meth c H locs cells slots Q (F0 m pc ls (.ref a :: rest)) := by
  obtain ⟨cell, C, h1, h2, h3, ⟨cT, h4, h5⟩, h6⟩ := tg_cls hK hH (cc_spec hv)
  intro T hT X
  obtain ⟨vm', X', st⟩ := X.checkcastYes hexec hown hlink (by rw [hT]; exact h1) h2 h4 h5 (g := F0 m pc ls (.ref a :: rest)) rfl rfl (by rw [hb]; exact hdg)
  obtain ⟨t, a1, b1⟩ := kk (T.setVm vm') hT X'
  exact ⟨t, st t a1, b1⟩
theorem lo_aload_n (hexec : p.tables.exec = Jvm.exec) (hb : c.code = cc) {k : Fin 4} {i : Nat} {o : Option Nat} (hdg : decode cc pc = .ok (.aload_n k, 1)) (hi : (k : Nat) = i) (hl : ls[i]? = some (.val (va_rf o)))
    (kk : W p l e R s m args below meth c H locs cells slots Q (F0 m (pc + 1) ls (va_rf o :: rest))) : W p l e R s m args below meth c H locs cells slots Q (F0 m pc ls rest) := by
  cases o with
  | none => exact lv_aload_nN hexec hb hdg hi hl kk
  | some x => exact lv_aload_n hexec hb hdg hi hl kk
theorem lo_aload (hexec : p.tables.exec = Jvm.exec) (hb : c.code = cc) {i : Nat} {o : Option Nat} (hdg : decode cc pc = .ok (.aload i, 2)) (hl : ls[i]? = some (.val (va_rf o)))
    (kk : W p l e R s m args below meth c H locs cells slots Q (F0 m (pc + 2) ls (va_rf o :: rest))) : W p l e R s m args below meth c H locs cells slots Q (F0 m pc ls rest) := by
  cases o with
  | none => exact lv_aloadN hexec hb hdg hl kk
  | some x => exact lv_aload hexec hb hdg hl kk
theorem lo_astore_n (hexec : p.tables.exec = Jvm.exec) (hb : c.code = cc) {k : Fin 4} {i nL : Nat} {o : Option Nat} {lv lv' : List (Nat × Value)} (hdg : decode cc pc = .ok (.astore_n k, 1)) (hi : (k : Nat) = i) (h : lv_has ls nL lv) (hn : i < nL) (hl : (i, va_rf o) :: lv.filter (fun q => !(q.1 == i) && !(q.1 + 1 == i && q.2.category == 2)) = lv')
    (kk : ∀ ls' : Array Slot, lv_has ls' nL lv' → W p l e R s m args below meth c H locs cells slots Q (F0 m (pc + 1) ls' rest)) : W p l e R s m args below meth c H locs cells slots Q (F0 m pc ls (va_rf o :: rest)) := by
  cases o with
  | none => exact lv_astore_nN hexec hb hdg hi h hn hl kk
  | some x => exact lv_astore_n hexec hb hdg hi h hn hl kk
theorem lo_astore (hexec : p.tables.exec = Jvm.exec) (hb : c.code = cc) {i nL : Nat} {o : Option Nat} {lv lv' : List (Nat × Value)} (hdg : decode cc pc = .ok (.astore i, 2)) (h : lv_has ls nL lv) (hn : i < nL) (hl : (i, va_rf o) :: lv.filter (fun q => !(q.1 == i) && !(q.1 + 1 == i && q.2.category == 2)) = lv')
    (kk : ∀ ls' : Array Slot, lv_has ls' nL lv' → W p l e R s m args below meth c H locs cells slots Q (F0 m (pc + 2) ls' rest)) : W p l e R s m args below meth c H locs cells slots Q (F0 m pc ls (va_rf o :: rest)) := by
  cases o with
  | none => exact lv_astoreN hexec hb hdg h hn hl kk
  | some x => exact lv_astore hexec hb hdg h hn hl kk
end MGN
