/-! the best form, the best habit -/
set_option maxRecDepth 100000
def heldS (μ : Rw_) (s c : Int32) : Bool :=
  let ρ1 := if μ 2 / 2 = s then upd μ 2 (2 * (1 - s)) else μ
  if hB ρ1 0 c = true then false else if hB (hR ρ1 0 c) 0 4 = true then true else if hB (hR (hR ρ1 0 c) 0 4) 0 (8 - c) = true then false else true
theorem rg_8m {c : Int32} (h : rg_ 9 c) : rg_ 9 (8 - c) := rgb_rg (rg_all1 (n := 9) (P := fun c => rgb_ 9 (8 - c) = true) (by decide +kernel) h)
theorem MV.hold {μ ρ : Rw_} (h : MV μ ρ) {v : Int32} (hv : rg_ 4 v) : MV (upd μ 2 v) ρ := ⟨h.1.hold hv, h.2.1.up (by decide), h.2.2.up (by decide)⟩
theorem MV.form {μ ρ : Rw_} (h : MV μ ρ) {s : Nat} {v : Int32} (hs : s < 2) (hv : rg_ 2 v) : MV (upd μ (36 + 3 * s) v) ρ := ⟨h.1.form hs hv, h.2.1.up (by omega), h.2.2.up (by omega)⟩
theorem MV.habit {μ ρ : Rw_} (h : MV μ ρ) {s : Nat} {v : Int32} (hs : s < 2) (hv : rg_ 4 v) : MV (upd μ (37 + 3 * s) v) ρ := ⟨h.1.habit hs hv, h.2.1.up (by omega), h.2.2.up (by omega)⟩
theorem MV.draught {μ ρ : Rw_} (h : MV μ ρ) {v : Int32} (hv : dr_ v) : MV (upd μ 3 v) ρ := ⟨h.1.draught hv, h.2.1.up (by decide), h.2.2.up (by decide)⟩
theorem s01 {s : Int32} (h : s = 0 ∨ s = 1) : rg_ 4 (2 * (1 - s)) ∧ (2 : Int32) - 2 * s = 2 * (1 - s) := by
  rcases h with e | e <;> subst e
  · exact ⟨⟨2, by decide, rfl⟩, by decide⟩
  · exact ⟨⟨0, by decide, rfl⟩, by decide⟩
theorem IC.held {M : Mem_} {n x : Nat} {ρ ρi : Rw_} {hi : Int32} {K : Nat → Rw_} {Z : Zr_} {ρm : Rw_} {Zm : Zr_} {γm cs : Rw_} (h : IC M n x ρ ρi hi K Z ρm Zm γm cs) (hZ : Zm = Z) (W : MV ρm ρ) (hN : 0 < (ρ 0).toNatClampNeg) {s c : Int32} (hs : s = 0 ∨ s = 1) (hc : rg_ 9 c) : Cq M n x ρ ρi hi K Z (fX1_stands_2 M x s c) (heldS ρm s c) := by
  subst hZ
  have hz := h.2.2.2.2.2.2.2.2.2.1
  have key : ∀ (M : Mem_) (ρm γm : Rw_), IC M n x ρ ρi hi K Zm ρm Zm γm cs → MV ρm ρ → Cq M n x ρ ρi hi K Zm ((gR_ M x 0 2).bind fun v4 => (ck_ M v4 1).bind fun u5 => bw_ (fX2_hits M v4 0 c) fun r6 M7 => if (b2_ r6) = 0 then (gR_ M7 x 0 2).bind fun v8 => (ck_ M7 v8 1).bind fun u9 => bw_ (fX2_hits M7 v8 0 4) fun r10 M11 => if (b2_ r10) = 0 then (gR_ M11 x 0 2).bind fun v12 => (ck_ M11 v12 1).bind fun u13 => bw_ (fX2_hits M11 v12 0 (8 - c)) fun r14 M15 => if (b2_ r14) = 0 then some (true, M15) else some (false, M15) else some (true, M11) else some (false, M7)) (if hB ρm 0 c = true then false else if hB (hR ρm 0 c) 0 4 = true then true else if hB (hR (hR ρm 0 c) 0 4) 0 (8 - c) = true then false else true) := by
    intro M ρm γm h W
    obtain ⟨M1, e1, h1, f1⟩ := h.mhit rfl W (k := 0) hN rg8_0 hc
    have W1 := W.hit (k := 0) hN hc
    obtain ⟨M2, e2, h2, f2⟩ := h1.mhit rfl W1 (k := 0) hN rg8_0 rg9_4
    have W2 := W1.hit (k := 0) hN rg9_4
    obtain ⟨M3, e3, h3, f3⟩ := h2.mhit rfl W2 (k := 0) hN rg8_0 (rg_8m hc)
    simp only [h.r2, h.ck19, e1, bw_, Option.bind_some, h1.r2, h1.ck19, e2, h2.r2, h2.ck19, e3]
    cases hB ρm 0 c with
    | true => exact ⟨M1, _, _, _, _, rfl, h1, f1⟩
    | false =>
      cases hB (hR ρm 0 c) 0 4 with
      | true => exact ⟨M2, _, _, _, _, rfl, h2, f1.trans f2⟩
      | false =>
        cases hB (hR (hR ρm 0 c) 0 4) 0 (8 - c) with
        | true => exact ⟨M3, _, _, _, _, rfl, h3, f1.trans (f2.trans f3)⟩
        | false => exact ⟨M3, _, _, _, _, rfl, h3, f1.trans (f2.trans f3)⟩
  unfold fX1_stands_2 heldS
  rw [h.r2, Option.bind_some, h.ck19, Option.bind_some, co_turn h.2.2.2.1, Option.bind_some]
  by_cases e : ρm 2 / 2 = s
  · rw [if_pos e]
    simp only [if_pos e]
    obtain ⟨h1, f1⟩ := h.mind (ρ' := upd ρm 2 (2 * (1 - s))) (γ' := γm) hz
    rw [Option.bind_some, lt_, (s01 hs).2, co_p10 h.2.2.2.1, Option.bind_some]
    exact (key _ _ _ h1 (W.hold (s01 hs).1)).on f1
  · rw [if_neg e]
    simp only [if_neg e]
    have k := key M ρm γm h W
    rw [h.r2, Option.bind_some] at k
    exact k
/-- one of a side's two ways, as told -/
def setR (ρ : Rw_) (s : Nat) (w v : Int32) : Rw_ := if w = 0 then upd ρ (36 + 3 * s) v else upd ρ (37 + 3 * s) v
theorem setV {ρ : Rw_} (V : OK_ ρ) {s : Nat} {w v : Int32} (hs : s < 2) (hv : rg_ 2 v ∨ w = 1 ∧ rg_ 4 v) : MV (setR ρ s w v) ρ := by
  unfold setR
  by_cases e : w = 0
  · rw [if_pos e]
    rcases hv with g | g
    · exact V.mv.form hs g
    · rw [e] at g
      exact absurd g.1 (by decide)
  · rw [if_neg e]
    rcases hv with g | g
    · exact V.mv.habit hs (rg_lt (by decide) g)
    · exact V.mv.habit hs g.2
theorem IT.held {M : Mem_} {x : Nat} {ρ ρi : Rw_} {hi : Int32} {K : Nat → Rw_} {μ γ sc : Rw_} (t : IT M x ρ ρi hi K μ γ sc) (V : OK_ ρ) (hN : 0 < (ρ 0).toNatClampNeg) {s : Nat} {w v c : Int32} (hs : s < 2) (hw : w = 0 ∨ w = 1) (hv : rg_ 2 v ∨ w = 1 ∧ rg_ 4 v) (hc : rg_ 9 c) : Tq M x ρ ρi hi K (fX4_isHeld M (x + 47) (Int32.ofNat s) w v c) (heldS (setR ρ s w v) (Int32.ofNat s) c) := by
  have s01' : Int32.ofNat s = 0 ∨ Int32.ofNat s = 1 := by
    have : s = 0 ∨ s = 1 := by omega
    rcases this with e | e <;> subst e
    · exact .inl rfl
    · exact .inr rfl
  have key : ∀ (M : Mem_) (μ γ : Rw_), IT M x ρ ρi hi K μ γ sc → MV μ ρ → Tq M x ρ ρi hi K ((gR_ M (x + 47) 3 1).bind fun v11 => (ck_ M (x + 47) 3).bind fun u12 => bw_ (fX4_hits M (x + 47) v11 0 c) fun r13 M14 => if (b2_ r13) = 0 then (gR_ M14 (x + 47) 3 1).bind fun v15 => (ck_ M14 (x + 47) 3).bind fun u16 => bw_ (fX4_hits M14 (x + 47) v15 0 4) fun r17 M18 => if (b2_ r17) = 0 then (gR_ M18 (x + 47) 3 1).bind fun v19 => (ck_ M18 (x + 47) 3).bind fun u20 => bw_ (fX4_hits M18 (x + 47) v19 0 (8 - c)) fun r21 M22 => if (b2_ r21) = 0 then some (true, M22) else some (false, M22) else some (true, M18) else some (false, M14)) (if hB μ 0 c = true then false else if hB (hR μ 0 c) 0 4 = true then true else if hB (hR (hR μ 0 c) 0 4) 0 (8 - c) = true then false else true) := by
    intro M μ γ h W
    obtain ⟨M1, e1, h1, f1⟩ := h.mhit W (k := 0) hN rg8_0 hc
    have W1 := W.hit (k := 0) hN hc
    obtain ⟨M2, e2, h2, f2⟩ := h1.mhit W1 (k := 0) hN rg8_0 rg9_4
    have W2 := W1.hit (k := 0) hN rg9_4
    obtain ⟨M3, e3, h3, f3⟩ := h2.mhit W2 (k := 0) hN rg8_0 (rg_8m hc)
    simp only [h.r1, h.ck, e1, bw_, Option.bind_some, h1.r1, h1.ck, e2, h2.r1, h2.ck, e3]
    cases hB μ 0 c with
    | true => exact ⟨M1, _, _, _, rfl, h1, f1⟩
    | false =>
      cases hB (hR μ 0 c) 0 4 with
      | true => exact ⟨M2, _, _, _, rfl, h2, f1.trans f2⟩
      | false =>
        cases hB (hR (hR μ 0 c) 0 4) 0 (8 - c) with
        | true => exact ⟨M3, _, _, _, rfl, h3, f1.trans (f2.trans f3)⟩
        | false => exact ⟨M3, _, _, _, rfl, h3, f1.trans (f2.trans f3)⟩
  obtain ⟨M1, e1, h1, f1⟩ := t.cop V.2.1
  have W := setV V hs hv
  have e2 : sI_ M1 (x + 49) 0 (fX4_ofSide (Int32.ofNat s) w) v = some (ms_ M1 (x + 49) (eI_ 0 42 (setR ρ s w v))) := by
    have : s = 0 ∨ s = 1 := by omega
    rcases this with z | z <;> subst z <;> rcases hw with z | z <;> subst z
    · exact ro_s36 h1.2.2.1 v
    · exact ro_s37 h1.2.2.1 v
    · exact ro_s39 h1.2.2.1 v
    · exact ro_s40 h1.2.2.1 v
  obtain ⟨h2, f2⟩ := h1.row W.2.1
  unfold fX4_isHeld heldS
  simp only [t.r0, t.r1, e1, h1.r1, lt_, Option.bind_some, e2]
  rw [h2.r1, Option.bind_some, ro_a2 h2.2.2.1, Option.bind_some, fX4_sideOf]
  by_cases e : setR ρ s w v 2 / 2 = Int32.ofNat s
  · rw [if_pos e]
    simp only [if_pos e]
    obtain ⟨h3, f3⟩ := h2.row (W.hold (s01 s01').1).2.1
    rw [Option.bind_some, ro_s2 h2.2.2.1, Option.bind_some]
    exact (key _ _ _ h3 (W.hold (s01 s01').1)).on (f1.trans (f2.trans f3))
  · rw [if_neg e]
    simp only [if_neg e]
    have k := (key _ _ _ h2 W).on (f1.trans f2)
    rw [h2.r1, Option.bind_some] at k
    exact k
def cn_ (P : Nat → Bool) : Nat → Nat → Int32 → Int32
  | 0, _, a => a
  | d + 1, c, a => cn_ P d (c + 1) (if P c = true then a + 1 else a + 0)
theorem cn_rg (P : Nat → Bool) : ∀ (d c a : Nat), ∃ k, k ≤ a + d ∧ cn_ P d c (Int32.ofNat a) = Int32.ofNat k := by
  intro d
  induction d with
  | zero => intro c a; exact ⟨a, by omega, rfl⟩
  | succ d ih =>
    intro c a
    unfold cn_
    split
    · rw [nS1]
      obtain ⟨k, h1, h2⟩ := ih (c + 1) (a + 1)
      exact ⟨k, by omega, h2⟩
    · rw [Int32.add_zero]
      obtain ⟨k, h1, h2⟩ := ih (c + 1) a
      exact ⟨k, by omega, h2⟩
/-- how often a side stands, if one of its ways is so -/
def nR (ρ : Rw_) (s : Nat) (w v : Int32) : Int32 := cn_ (fun c => heldS (setR ρ s w v) (Int32.ofNat s) (Int32.ofNat c)) 9 0 0
theorem sb_loop {n x : Nat} {ρ ρi : Rw_} {hi : Int32} {K : Nat → Rw_} {Z : Zr_} (V : OK_ ρ) (hN : 0 < (ρ 0).toNatClampNeg) {s : Nat} {w v : Int32} (hs : s < 2) (hw : w = 0 ∨ w = 1) (hv : rg_ 2 v ∨ w = 1 ∧ rg_ 4 v) : ∀ (d c fuel : Nat) (a : Int32) (M : Mem_) (ρm : Rw_) (Zm : Zr_) (γm cs : Rw_), c + d = 9 → d < fuel → IC M n x ρ ρi hi K Z ρm Zm γm cs → Cq M n x ρ ρi hi K Z (fX1_standsBy_L6 fuel M x (Int32.ofNat s) w v a (Int32.ofNat c)) (cn_ (fun c => heldS (setR ρ s w v) (Int32.ofNat s) (Int32.ofNat c)) d c a) := by
  have s01' : Int32.ofNat s = 0 ∨ Int32.ofNat s = 1 := by
    have : s = 0 ∨ s = 1 := by omega
    rcases this with e | e <;> subst e
    · exact .inl rfl
    · exact .inr rfl
  intro d
  induction d with
  | zero =>
    intro c fuel a M ρm Zm γm cs hc hf h
    obtain ⟨f, rfl⟩ : ∃ f, fuel = f + 1 := ⟨fuel - 1, by omega⟩
    have : c = 9 := by omega
    subst this
    rw [fX1_standsBy_L6, if_pos (by decide)]
    exact ⟨M, _, _, _, _, rfl, h, Fc.refl _ _⟩
  | succ d ih =>
    intro c fuel a M ρm Zm γm cs hc hf h
    obtain ⟨f, rfl⟩ : ∃ f, fuel = f + 1 := ⟨fuel - 1, by omega⟩
    have hz := h.2.2.2.2.2.2.2.2.2.1
    obtain ⟨M1, e1, h1, f1⟩ := h.minds
    have W := setV V hs hv
    obtain ⟨h2, f2⟩ := h1.mind (ρ' := setR ρ s w v) (Z' := Z) (γ' := fun _ => 0) hz
    obtain ⟨M3, _, _, _, _, e3, h3, f3⟩ := h2.held rfl W hN s01' (c := Int32.ofNat c) ⟨c, by omega, rfl⟩
    rw [fX1_standsBy_L6, if_neg (nge9 hc), h.ck, Option.bind_some, e1, Option.bind_some]
    unfold cn_
    have fin : ∀ b : Bool, Cq M n x ρ ρi hi K Z (if b2_ b = 0 then fX1_standsBy_L6 f M3 x (Int32.ofNat s) w v (a + 0) (Int32.ofNat c + 1) else fX1_standsBy_L6 f M3 x (Int32.ofNat s) w v (a + 1) (Int32.ofNat c + 1)) (cn_ (fun c => heldS (setR ρ s w v) (Int32.ofNat s) (Int32.ofNat c)) d (c + 1) (if b = true then a + 1 else a + 0)) := fun b => by
      rw [nS1]
      cases b with
      | false => exact (ih (c + 1) f _ M3 _ _ _ _ (by omega) (by omega) h3).on (f1.trans (f2.trans f3))
      | true => exact (ih (c + 1) f _ M3 _ _ _ _ (by omega) (by omega) h3).on (f1.trans (f2.trans f3))
    rcases hw with z | z
    · subst z
      rw [if_pos rfl]
      have e2 : sI_ M1 (x + 19 + 5) 0 (Int32.ofNat s) v = some (cw_ M1 (x + 19) (setR ρ s 0 v) Z fun _ => 0) := by
        have : s = 0 ∨ s = 1 := by omega
        rcases this with z | z <;> subst z
        · exact co_s5_0 h1.2.2.2.1 v
        · exact co_s5_1 h1.2.2.2.1 v
      simp only [h1.r2, co_r4 h1.2.2.2.1, e2, h2.ck, e3, bw_, lt_, Option.bind_some]
      exact fin _
    · subst z
      rw [if_neg ne10]
      have e2 : sI_ M1 (x + 19 + 6) 0 (Int32.ofNat s) v = some (cw_ M1 (x + 19) (setR ρ s 1 v) Z fun _ => 0) := by
        have : s = 0 ∨ s = 1 := by omega
        rcases this with z | z <;> subst z
        · exact co_s6_0 h1.2.2.2.1 v
        · exact co_s6_1 h1.2.2.2.1 v
      simp only [h1.r2, co_r5 h1.2.2.2.1, e2, h2.ck, e3, bw_, lt_, Option.bind_some]
      exact fin _
def bsR (f : Nat → Int32) : Nat → Nat → Nat → Nat
  | 0, _, b => b
  | d + 1, v, b => bsR f d (v + 1) (if f v ≤ f b then b else v)
theorem bs_lt (f : Nat → Int32) (m : Nat) : ∀ (d v b : Nat), v + d = m → b < m → bsR f d v b < m := by
  intro d
  induction d with
  | zero => intro v b _ h; exact h
  | succ d ih =>
    intro v b h hb
    unfold bsR
    refine ih _ _ (by omega) ?_
    split <;> omega
theorem hvm {w : Int32} {m v : Nat} (hm : w = 0 ∧ m = 2 ∨ w = 1 ∧ m = 4) (hv : v < m) : rg_ 2 (Int32.ofNat v) ∨ w = 1 ∧ rg_ 4 (Int32.ofNat v) := by
  rcases hm with ⟨_, g⟩ | ⟨g, g2⟩
  · exact .inl ⟨v, by omega, rfl⟩
  · exact .inr ⟨g, v, by omega, rfl⟩
theorem bo_C {n x : Nat} {ρ ρi : Rw_} {hi : Int32} {K : Nat → Rw_} {Z : Zr_} (V : OK_ ρ) (hN : 0 < (ρ 0).toNatClampNeg) {s m : Nat} {w q : Int32} (hs : s < 2) (hm : w = 0 ∧ m = 2 ∨ w = 1 ∧ m = 4) : ∀ (d v b fuel : Nat) (M : Mem_) (ρm : Rw_) (Zm : Zr_) (γm cs : Rw_), v + d = m → b < m → d < fuel → IC M n x ρ ρi hi K Z ρm Zm γm cs → Cq M n x ρ ρi hi K Z (fX1_bestOf_L6 fuel M x (Int32.ofNat s) w (Int32.ofNat m) q (Int32.ofNat b) (Int32.ofNat v)) (if q = 0 then Int32.ofNat (bsR (fun v => nR ρ s w (Int32.ofNat v)) d v b) else nR ρ s w (Int32.ofNat (bsR (fun v => nR ρ s w (Int32.ofNat v)) d v b))) := by
  have hw : w = 0 ∨ w = 1 := by
    rcases hm with g | g
    · exact .inl g.1
    · exact .inr g.1
  have hm4 : m ≤ 4 := by
    rcases hm with g | g
    · omega
    · omega
  have sb : ∀ (v : Nat) (M : Mem_) (ρm : Rw_) (Zm : Zr_) (γm cs : Rw_), v < m → IC M n x ρ ρi hi K Z ρm Zm γm cs → Cq M n x ρ ρi hi K Z (fX1_standsBy M x (Int32.ofNat s) w (Int32.ofNat v)) (nR ρ s w (Int32.ofNat v)) := fun v M ρm Zm γm cs hv h => sb_loop V hN hs hw (hvm hm hv) 9 0 1000 0 M _ _ _ _ rfl (by decide) h
  intro d
  induction d with
  | zero =>
    intro v b fuel M ρm Zm γm cs hv hb hf h
    obtain ⟨f, rfl⟩ : ∃ f, fuel = f + 1 := ⟨fuel - 1, by omega⟩
    rw [fX1_bestOf_L6, if_pos (by rw [nL (by omega) (by omega)]; omega)]
    unfold bsR
    by_cases e : q = 0
    · rw [if_pos e, if_pos e]
      exact ⟨M, _, _, _, _, rfl, h, Fc.refl _ _⟩
    · rw [if_neg e, if_neg e]
      obtain ⟨M1, _, _, _, _, e1, h1, f1⟩ := sb b M _ _ _ _ hb h
      simp only [h.ck, e1, bw_, Option.bind_some]
      exact ⟨M1, _, _, _, _, rfl, h1, f1⟩
  | succ d ih =>
    intro v b fuel M ρm Zm γm cs hv hb hf h
    obtain ⟨f, rfl⟩ : ∃ f, fuel = f + 1 := ⟨fuel - 1, by omega⟩
    obtain ⟨M1, _, _, _, _, e1, h1, f1⟩ := sb v M _ _ _ _ (by omega) h
    obtain ⟨M2, _, _, _, _, e2, h2, f2⟩ := sb b M1 _ _ _ _ hb h1
    rw [fX1_bestOf_L6, if_neg (by rw [nL (by omega) (by omega)]; omega)]
    simp only [h.ck, e1, bw_, lt_, Option.bind_some, h1.ck, e2, nS1]
    unfold bsR
    by_cases e : nR ρ s w (Int32.ofNat v) ≤ nR ρ s w (Int32.ofNat b)
    · simp only [if_pos e]
      exact (ih (v + 1) b f M2 _ _ _ _ (by omega) hb (by omega) h2).on (f1.trans f2)
    · simp only [if_neg e]
      exact (ih (v + 1) v f M2 _ _ _ _ (by omega) (by omega) (by omega) h2).on (f1.trans f2)
theorem bi_T {x : Nat} {ρ ρi : Rw_} {hi : Int32} {K : Nat → Rw_} (V : OK_ ρ) (hN : 0 < (ρ 0).toNatClampNeg) {s m v : Nat} {w q y5 y6 R : Int32} (hs : s < 2) (hm : w = 0 ∧ m = 2 ∨ w = 1 ∧ m = 4) (hv : v < m) (K2 : Mem_ → Nat → Int32 → Int32 → Int32 → Int32 → Int32 → Int32 → Int32 → Option (Int32 × Mem_)) (hK : ∀ (M : Mem_) (μ γ sc : Rw_), IT M x ρ ρi hi K μ γ sc → Tq M x ρ ρi hi K (if y6 < nR ρ s w (Int32.ofNat v) then K2 M (x + 47) (Int32.ofNat s) w (Int32.ofNat m) q (Int32.ofNat v) (nR ρ s w (Int32.ofNat v)) (Int32.ofNat (v + 1)) else K2 M (x + 47) (Int32.ofNat s) w (Int32.ofNat m) q y5 y6 (Int32.ofNat (v + 1))) R) : ∀ (d c fuel : Nat) (a : Int32) (M : Mem_) (μ γ sc : Rw_), c + d = 9 → d < fuel → IT M x ρ ρi hi K μ γ sc → cn_ (fun c => heldS (setR ρ s w (Int32.ofNat v)) (Int32.ofNat s) (Int32.ofNat c)) d c a = nR ρ s w (Int32.ofNat v) → Tq M x ρ ρi hi K (fX4_bestOf_L54 K2 fuel M (x + 47) (Int32.ofNat s) w (Int32.ofNat m) q y5 y6 (Int32.ofNat v) a (Int32.ofNat c)) R := by
  have hw : w = 0 ∨ w = 1 := by
    rcases hm with g | g
    · exact .inl g.1
    · exact .inr g.1
  intro d
  induction d with
  | zero =>
    intro c fuel a M μ γ sc hc hf h ha
    obtain ⟨f, rfl⟩ : ∃ f, fuel = f + 1 := ⟨fuel - 1, by omega⟩
    have : c = 9 := by omega
    subst this
    have ha : a = nR ρ s w (Int32.ofNat v) := ha
    subst ha
    rw [fX4_bestOf_L54, if_pos (by decide)]
    simp only [lt_, nS1]
    exact hK _ _ _ _ h
  | succ d ih =>
    intro c fuel a M μ γ sc hc hf h ha
    obtain ⟨f, rfl⟩ : ∃ f, fuel = f + 1 := ⟨fuel - 1, by omega⟩
    obtain ⟨M1, _, _, _, e1, h1, f1⟩ := h.held V hN hs hw (hvm hm hv) (c := Int32.ofNat c) ⟨c, by omega, rfl⟩
    rw [fX4_bestOf_L54, if_neg (nge9 hc)]
    simp only [h.ck, e1, bw_, lt_, Option.bind_some, nS1]
    unfold cn_ at ha
    generalize heldS (setR ρ s w (Int32.ofNat v)) (Int32.ofNat s) (Int32.ofNat c) = b at ha ⊢
    cases b with
    | false => exact (ih (c + 1) f _ M1 _ _ _ (by omega) (by omega) h1 ha).on f1
    | true => exact (ih (c + 1) f _ M1 _ _ _ (by omega) (by omega) h1 ha).on f1
theorem bo_T {x : Nat} {ρ ρi : Rw_} {hi : Int32} {K : Nat → Rw_} (V : OK_ ρ) (hN : 0 < (ρ 0).toNatClampNeg) {s m : Nat} {w q : Int32} (hs : s < 2) (hm : w = 0 ∧ m = 2 ∨ w = 1 ∧ m = 4) : ∀ (d v b fuel : Nat) (M : Mem_) (μ γ sc : Rw_), v + d = m → b < m → d < fuel → IT M x ρ ρi hi K μ γ sc → Tq M x ρ ρi hi K (fX4_bestOf_L42 fuel M (x + 47) (Int32.ofNat s) w (Int32.ofNat m) q (Int32.ofNat b) (nR ρ s w (Int32.ofNat b)) (Int32.ofNat v)) (if q = 0 then Int32.ofNat (bsR (fun v => nR ρ s w (Int32.ofNat v)) d v b) else nR ρ s w (Int32.ofNat (bsR (fun v => nR ρ s w (Int32.ofNat v)) d v b))) := by
  have hm4 : m ≤ 4 := by
    rcases hm with g | g
    · omega
    · omega
  intro d
  induction d with
  | zero =>
    intro v b fuel M μ γ sc hv hb hf h
    obtain ⟨f, rfl⟩ : ∃ f, fuel = f + 1 := ⟨fuel - 1, by omega⟩
    rw [fX4_bestOf_L42, if_pos (by rw [nL (by omega) (by omega)]; omega)]
    unfold bsR
    by_cases e : q = 0
    · rw [if_pos e, if_pos e]
      exact ⟨M, _, _, _, rfl, h, Ft.refl _ _⟩
    · rw [if_neg e, if_neg e]
      exact ⟨M, _, _, _, rfl, h, Ft.refl _ _⟩
  | succ d ih =>
    intro v b fuel M μ γ sc hv hb hf h
    obtain ⟨f, rfl⟩ : ∃ f, fuel = f + 1 := ⟨fuel - 1, by omega⟩
    rw [fX4_bestOf_L42, if_neg (by rw [nL (by omega) (by omega)]; omega)]
    refine bi_T V hN hs hm (v := v) (by omega) (fX4_bestOf_L42 f) (fun M μ γ sc h => ?_) 9 0 1000 0 M μ γ sc rfl (by decide) h rfl
    unfold bsR
    by_cases e : nR ρ s w (Int32.ofNat v) ≤ nR ρ s w (Int32.ofNat b)
    · rw [if_neg (Int32.not_lt.mpr e)]
      simp only [if_pos e]
      exact ih (v + 1) b f M μ γ sc (by omega) hb (by omega) h
    · rw [if_pos (Int32.not_le.mp e)]
      simp only [if_neg e]
      exact ih (v + 1) v f M μ γ sc (by omega) (by omega) (by omega) h
theorem bo_T0 {x : Nat} {ρ ρi : Rw_} {hi : Int32} {K : Nat → Rw_} (V : OK_ ρ) (hN : 0 < (ρ 0).toNatClampNeg) {s m : Nat} {w q : Int32} (hs : s < 2) (hm : w = 0 ∧ m = 2 ∨ w = 1 ∧ m = 4) {M : Mem_} {μ γ sc : Rw_} (h : IT M x ρ ρi hi K μ γ sc) : Tq M x ρ ρi hi K (fX4_bestOf_L42 (999 + 1) M (x + 47) (Int32.ofNat s) w (Int32.ofNat m) q 0 (-1) 0) (if q = 0 then Int32.ofNat (bsR (fun v => nR ρ s w (Int32.ofNat v)) (m - 1) 1 0) else nR ρ s w (Int32.ofNat (bsR (fun v => nR ρ s w (Int32.ofNat v)) (m - 1) 1 0))) := by
  have hm4 : m = 2 ∨ m = 4 := by
    rcases hm with g | g
    · exact .inl g.2
    · exact .inr g.2
  have g : ¬ Int32.ofNat m ≤ 0 := by
    rcases hm4 with z | z <;> subst z <;> decide
  rw [fX4_bestOf_L42, if_neg g]
  refine bi_T V hN hs hm (v := 0) (by omega) (fX4_bestOf_L42 999) (fun M μ γ sc h => ?_) 9 0 1000 0 M μ γ sc rfl (by decide) h rfl
  obtain ⟨k, hk, e⟩ := cn_rg (fun c => heldS (setR ρ s w (Int32.ofNat 0)) (Int32.ofNat s) (Int32.ofNat c)) 9 0 0
  have p : (-1 : Int32) < nR ρ s w (Int32.ofNat 0) := (rg_pos (n := 10) (by decide) ⟨k, by omega, e⟩).2
  rw [if_pos p]
  exact bo_T V hN hs hm (m - 1) 1 0 999 M μ γ sc (by omega) (by omega) (by omega) h
section Q7
variable {M M' : Mem_} {n x : Nat} {ρ ρi : Rw_} {hi : Int32} {K : Nat → Rw_} {Z : Zr_} {ρm : Rw_} {Zm : Zr_} {γm cs : Rw_} {μ γ sc : Rw_}
theorem o_best (h : IC M n x ρ ρi hi K Z ρm Zm γm cs) (t : IT M' x ρ ρi hi K μ γ sc) (V : OK_ ρ) (p q : Int32) : (∃ r, Cq M n x ρ ρi hi K Z (fX1_bestForm M x p q) r ∧ Tq M' x ρ ρi hi K (fX4_bestForm M' (x + 47) p q) r) ∧ ∃ r, Cq M n x ρ ρi hi K Z (fX1_bestHabit M x p q) r ∧ Tq M' x ρ ρi hi K (fX4_bestHabit M' (x + 47) p q) r := by
  obtain ⟨γ0, h1⟩ := h.2.1
  obtain ⟨N, hN9, eN, eN2⟩ := V.n
  unfold fX1_bestForm fX4_bestForm fX1_bestHabit fX4_bestHabit fX4_bestOf fX1_bestOf
  simp only [lt_, show fX1_isIn p 0 1 = fX4_isIn p 0 1 from rfl, show fX1_isIn q 0 1 = fX4_isIn q 0 1 from rfl, t.ck, h.r0, co_i9 h1, t.r0, ro_a0 t.2.1, Option.bind_some]
  have bad : ∀ v : Int32, ∃ r : Int32, Cq M n x ρ ρi hi K Z (some (v, M)) r ∧ Tq M' x ρ ρi hi K (bw_ (some (v, M')) fun r2 M3 => some (r2, M3)) r := fun v => ⟨v, ⟨M, _, _, _, _, rfl, h, Fc.refl _ _⟩, ⟨M', _, _, _, rfl, t, Ft.refl _ _⟩⟩
  rcases in1 p with ⟨e, z⟩ | ⟨e, _⟩
  · rcases in1 q with ⟨e2, z2⟩ | ⟨e2, _⟩
    · rw [e, e2]
      simp only [if_neg b2_t]
      by_cases z0 : ρ 0 = 0
      · simp only [if_pos z0]
        exact ⟨bad _, bad _⟩
      · have hN : 0 < (ρ 0).toNatClampNeg := by
          rcases Nat.eq_zero_or_pos N with g | g
          · subst g
            exact absurd eN z0
          · omega
        simp only [if_neg z0, h.ck, Option.bind_some]
        obtain ⟨s, hs, es⟩ : ∃ s, s < 2 ∧ p = Int32.ofNat s := by
          rcases z with z | z
          · exact ⟨0, by decide, z⟩
          · exact ⟨1, by decide, z⟩
        subst es
        have fin : ∀ (w : Int32) (m : Nat), (w = 0 ∧ m = 2 ∨ w = 1 ∧ m = 4) → ∃ r, Cq M n x ρ ρi hi K Z (if q = 1 then bw_ (fX1_bestOf_L6 1000 M x (Int32.ofNat s) w (Int32.ofNat m) 1 0 1) fun r9 M10 => some (r9, M10) else bw_ (fX1_bestOf_L6 1000 M x (Int32.ofNat s) w (Int32.ofNat m) 0 0 1) fun r6 M7 => some (r6, M7)) r ∧ Tq M' x ρ ρi hi K (bw_ (fX4_bestOf_L42 1000 M' (x + 47) (Int32.ofNat s) w (Int32.ofNat m) q 0 (-1) 0) fun r2 M3 => some (r2, M3)) r := by
          intro w m hm
          have hm4 : m = 2 ∨ m = 4 := by
            rcases hm with g | g
            · exact .inl g.2
            · exact .inr g.2
          obtain ⟨M1, _, _, _, _, a1, a2, a3⟩ := bo_C V hN hs hm (q := q) (m - 1) 1 0 1000 M _ _ _ _ (by omega) (by omega) (by omega) h
          obtain ⟨M2, _, _, _, b1, b2, b3⟩ := bo_T0 V hN hs hm (q := q) t
          have a1 : fX1_bestOf_L6 1000 M x (Int32.ofNat s) w (Int32.ofNat m) q 0 1 = _ := a1
          have b1 : fX4_bestOf_L42 1000 M' (x + 47) (Int32.ofNat s) w (Int32.ofNat m) q 0 (-1) 0 = _ := b1
          rcases z2 with g | g
          · subst g
            rw [if_neg ne01, a1, b1]
            exact ⟨_, ⟨M1, _, _, _, _, rfl, a2, a3⟩, ⟨M2, _, _, _, rfl, b2, b3⟩⟩
          · subst g
            rw [if_pos rfl, a1, b1]
            exact ⟨_, ⟨M1, _, _, _, _, rfl, a2, a3⟩, ⟨M2, _, _, _, rfl, b2, b3⟩⟩
        exact ⟨fin 0 2 (.inl ⟨rfl, rfl⟩), fin 1 4 (.inr ⟨rfl, rfl⟩)⟩
    · rw [e, e2]
      exact ⟨bad _, bad _⟩
  · rw [e]
    exact ⟨bad _, bad _⟩
end Q7
