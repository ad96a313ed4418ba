/-! more rows: pairs out of calls, calls that make nothing, switches -/
set_option maxRecDepth 100000
def bw_ {α β γ : Type} (o : Option (α × β)) (k : α → β → Option γ) : Option γ := o.bind fun x => k x.1 x.2
def ba_ {α β γ δ : Type} (o : Option (α × β × γ)) (k : α → β → γ → Option δ) : Option δ := o.bind fun x => k x.1 x.2.1 x.2.2
theorem bws_ {α β γ : Type} {o : Option (α × β)} {k : α → β → Option γ} {r : γ} (h : bw_ o k = some r) : ∃ a b, o = some (a, b) ∧ k a b = some r := by
  obtain ⟨x, h1, h2⟩ := bs_ h
  exact ⟨x.1, x.2, h1, h2⟩
theorem bas_ {α β γ δ : Type} {o : Option (α × β × γ)} {k : α → β → γ → Option δ} {r : δ} (h : ba_ o k = some r) : ∃ a b c, o = some (a, b, c) ∧ k a b c = some r := by
  obtain ⟨x, h1, h2⟩ := bs_ h
  exact ⟨x.1, x.2.1, x.2.2, h1, h2⟩
def swP (x : Int32) (d : Int) : List (Int × Int) → Prop
  | [] => True
  | q :: r => (q.2 = d ∨ ¬ x.toInt = q.1) ∧ swP x d r
theorem swP_at {x : Int32} {d : Int} : ∀ {ps : List (Int × Int)}, swP x d ps → ∀ {j : Nat} {q : Int × Int}, ps[j]? = some q → q.2 = d ∨ ¬ x.toInt = q.1
  | [], _, j, q, h => by simp at h
  | q :: r, hs, 0, q', h => by
    rw [List.getElem?_cons_zero] at h
    cases h
    exact hs.1
  | q :: r, hs, j + 1, q', h => by
    rw [List.getElem?_cons_succ] at h
    exact swP_at hs.2 h
theorem st_eq {G : GT_} {n : Nat} {M M' : Mem_} {s : State} {H : Heap} {locs : List Loc} (e : M' = M) (h : St_ G n M s H locs) : St_ G n M' s H locs := by rw [e]; exact h
section MGS
variable {p : Program} {l : Launch} {e : Env} {R : Room} {s : State} {m : MethodId} {args : Array Value} {below : List Frame} {meth : Method} {c : Code} {H : Heap} {locs : List Loc} {cells slots : Nat} {Q : State → Prop}
variable {cc : ByteArray} {pc : Nat} {ls : Array Slot} {rest st0 : List Value} {G : GT_} {n n1 : Nat} {M M1 : Mem_} {a : Array Value}
theorem sw_I (hexec : p.tables.exec = Jvm.exec) (hb : c.code = cc) {dflt lo hi : Int} {offs : Array Int} {len : Nat} {x k : Int32} {off : Int} {tgt : Nat} (hdg : decode cc pc = .ok (.tableswitch dflt lo hi offs, len)) (hxk : x = k) (h1 : ¬ k.toInt < lo) (h2 : ¬ hi < k.toInt) (ho : offs[(k.toInt - lo).toNat]? = some off) (ht : (pc : Int) + off = (tgt : Int))
    (kk : W p l e R s m args below meth c H locs cells slots Q (F0 m tgt ls rest)) : W p l e R s m args below meth c H locs cells slots Q (F0 m pc ls (.int x :: rest)) := by
  subst hxk
  exact lv_tableIn hexec hb hdg h1 h2 ho ht kk
theorem sw_L (hexec : p.tables.exec = Jvm.exec) (hb : c.code = cc) {dflt : Int} {ps : Array (Int × Int)} {len : Nat} {x k : Int32} {off : Int} {tgt : Nat} (hdg : decode cc pc = .ok (.lookupswitch dflt ps, len)) (hxk : x = k) (hp : (ps.toList.zip (ps.toList.drop 1)).all (fun (a, next) => a.1 < next.1) = true) (ho : Op.lookupswitch.offset ps.toList dflt k.toInt = off) (ht : (pc : Int) + off = (tgt : Int))
    (kk : W p l e R s m args below meth c H locs cells slots Q (F0 m tgt ls rest)) : W p l e R s m args below meth c H locs cells slots Q (F0 m pc ls (.int x :: rest)) := by
  subst hxk
  exact lv_lookup hexec hb hdg hp ho ht kk
theorem sw_D (hexec : p.tables.exec = Jvm.exec) (hb : c.code = cc) {dflt lo hi : Int} {offs : Array Int} {len : Nat} {x : Int32} {tgt : Nat} (hdg : decode cc pc = .ok (.tableswitch dflt lo hi offs, len)) (ps : List (Int × Int)) (h1 : ps.map Prod.fst = (List.range ps.length).map (fun j : Nat => lo + (j : Int))) (h2 : ps.map Prod.snd = offs.toList) (h3 : lo + (ps.length : Int) = hi + 1) (hs : swP x dflt ps) (ht : (pc : Int) + dflt = (tgt : Int))
    (kk : W p l e R s m args below meth c H locs cells slots Q (F0 m tgt ls rest)) : W p l e R s m args below meth c H locs cells slots Q (F0 m pc ls (.int x :: rest)) := by
  by_cases hr : x.toInt < lo ∨ hi < x.toInt
  · exact lv_tableOut hexec hb hdg hr ht kk
  · have ha : ¬ x.toInt < lo := fun q => hr (Or.inl q)
    have hb2 : ¬ hi < x.toInt := fun q => hr (Or.inr q)
    have hj : (x.toInt - lo).toNat < ps.length := by omega
    have hq : ps[(x.toInt - lo).toNat]? = some ps[(x.toInt - lo).toNat] := List.getElem?_eq_getElem hj
    have e1 : (ps[(x.toInt - lo).toNat]).1 = x.toInt := by
      have := congrArg (fun l => l[(x.toInt - lo).toNat]?) h1
      simp [hj] at this
      rw [this]
      omega
    have e2 : offs[(x.toInt - lo).toNat]? = some (ps[(x.toInt - lo).toNat]).2 := by
      have := congrArg (fun l => l[(x.toInt - lo).toNat]?) h2
      simp [hj] at this
      rw [← this]
    rcases swP_at hs hq with h | h
    · rw [h] at e2
      exact lv_tableIn hexec hb hdg ha hb2 e2 ht kk
    · exact absurd e1.symm h
theorem cl_i0 {r : Int32} (hH : St_ G n M s H locs) (hr : va_Run p l e R s m args below meth c H locs cells slots 0 0 (F0 m pc ls st0) rest (Qc_ G (some (.int r)) M1 n1 a) (fun q => G.1 ≤ q))
    (kk : ∀ (H1 : Heap) (locs1 : List Loc), St_ G n1 M1 s H1 locs1 → W p l e R s m args below meth c H1 locs1 cells slots Q (F0 m (pc + 3) ls (.int r :: rest))) : W p l e R s m args below meth c H locs cells slots Q (F0 m pc ls st0) := cl_i hH hr kk
theorem cl_l0 {r : Int64} (hH : St_ G n M s H locs) (hr : va_Run p l e R s m args below meth c H locs cells slots 0 0 (F0 m pc ls st0) rest (Qc_ G (some (.long r)) M1 n1 a) (fun q => G.1 ≤ q))
    (kk : ∀ (H1 : Heap) (locs1 : List Loc), St_ G n1 M1 s H1 locs1 → W p l e R s m args below meth c H1 locs1 cells slots Q (F0 m (pc + 3) ls (.long r :: rest))) : W p l e R s m args below meth c H locs cells slots Q (F0 m pc ls st0) := cl_l hH hr kk
theorem cl_r0 {r : Nat} (hH : St_ G n M s H locs) (hr : va_Run p l e R s m args below meth c H locs cells slots 0 0 (F0 m pc ls st0) rest (Qc_ G (some (.ref r)) M1 n1 a) (fun q => G.1 ≤ q))
    (kk : ∀ (H1 : Heap) (locs1 : List Loc), St_ G n1 M1 s H1 locs1 → W p l e R s m args below meth c H1 locs1 cells slots Q (F0 m (pc + 3) ls (.ref r :: rest))) : W p l e R s m args below meth c H locs cells slots Q (F0 m pc ls st0) := cl_r hH hr kk
theorem cl_v0 (hH : St_ G n M s H locs) (hr : va_Run p l e R s m args below meth c H locs cells slots 0 0 (F0 m pc ls st0) rest (Qc_ G none M1 n1 a) (fun q => G.1 ≤ q))
    (kk : ∀ (H1 : Heap) (locs1 : List Loc), St_ G n1 M1 s H1 locs1 → W p l e R s m args below meth c H1 locs1 cells slots Q (F0 m (pc + 3) ls rest)) : W p l e R s m args below meth c H locs cells slots Q (F0 m pc ls st0) := cl_v hH hr kk
end MGS
