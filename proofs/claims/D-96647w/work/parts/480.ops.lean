/-! questions in mind -/
set_option maxRecDepth 100000
def Cq {α : Type} (M : Mem_) (n x : Nat) (ρ ρi : Rw_) (hi : Int32) (K : Nat → Rw_) (Z : Zr_) (o : Option (α × Mem_)) (r : α) : Prop := ∃ M1 ρm Zm γm cs, o = some (r, M1) ∧ IC M1 n x ρ ρi hi K Z ρm Zm γm cs ∧ Fc M M1 x
def Tq {α : Type} (M : Mem_) (x : Nat) (ρ ρi : Rw_) (hi : Int32) (K : Nat → Rw_) (o : Option (α × Mem_)) (r : α) : Prop := ∃ M1 μ γ sc, o = some (r, M1) ∧ IT M1 x ρ ρi hi K μ γ sc ∧ Ft M M1 x
theorem Cq.on {α : Type} {M M1 : Mem_} {n x : Nat} {ρ ρi : Rw_} {hi : Int32} {K : Nat → Rw_} {Z : Zr_} {o : Option (α × Mem_)} {r : α} (h : Cq M1 n x ρ ρi hi K Z o r) (f : Fc M M1 x) : Cq M n x ρ ρi hi K Z o r := by
  obtain ⟨M2, a, b, c, d, e, g, k⟩ := h
  exact ⟨M2, a, b, c, d, e, g, f.trans k⟩
theorem Tq.on {α : Type} {M M1 : Mem_} {x : Nat} {ρ ρi : Rw_} {hi : Int32} {K : Nat → Rw_} {o : Option (α × Mem_)} {r : α} (h : Tq M1 x ρ ρi hi K o r) (f : Ft M M1 x) : Tq M x ρ ρi hi K o r := by
  obtain ⟨M2, a, b, c, e, g, k⟩ := h
  exact ⟨M2, a, b, c, e, g, f.trans k⟩
theorem OK_.mv {ρ : Rw_} (V : OK_ ρ) : MV ρ ρ := ⟨V.1, V.2.1, SS.refl ρ⟩
theorem IC.won {M : Mem_} {n x : Nat} {ρ ρi : Rw_} {hi : Int32} {K : Nat → Rw_} {Z : Zr_} {ρm : Rw_} {Zm : Zr_} {γm cs : Rw_} (h : IC M n x ρ ρi hi K Z ρm Zm γm cs) (V : OK_ ρ) {k c : Int32} (hk : k.toNatClampNeg < (ρ 0).toNatClampNeg) (hk8 : rg_ 8 k) (hc : rg_ 9 c) : ∃ M1, fX1_winsWith M x k c = some (hB ρ k c, M1) ∧ IC M1 n x ρ ρi hi K Z (hR ρ k c) Z (hG ρ (fun _ => 0) k c) cs ∧ Fc M M1 x := by
  obtain ⟨M1, e1, h1, f1⟩ := h.minds
  obtain ⟨M2, e2, h2, f2⟩ := h1.mhit rfl V.mv hk hk8 hc
  refine ⟨M2, ?_, h2, f1.trans f2⟩
  unfold fX1_winsWith
  simp only [h.ck, e1, h1.r2, h1.ck19, e2, bw_, Option.bind_some]
theorem IT.won {M : Mem_} {x : Nat} {ρ ρi : Rw_} {hi : Int32} {K : Nat → Rw_} {μ γ sc : Rw_} (t : IT M x ρ ρi hi K μ γ sc) (V : OK_ ρ) {k c : Int32} (hk : k.toNatClampNeg < (ρ 0).toNatClampNeg) (hk8 : rg_ 8 k) (hc : rg_ 9 c) : ∃ M1, fX4_isWon M (x + 47) k c = some (hB ρ k c, M1) ∧ IT M1 x ρ ρi hi K (hR ρ k c) (hG ρ γ k c) sc ∧ Ft M M1 x := by
  obtain ⟨M1, e1, h1, f1⟩ := t.cop V.2.1
  obtain ⟨M2, e2, h2, f2⟩ := h1.mhit V.mv hk hk8 hc
  refine ⟨M2, ?_, h2, f1.trans f2⟩
  unfold fX4_isWon
  simp only [t.r0, t.r1, e1, h1.r1, h1.ck, e2, bw_, Option.bind_some]
theorem co_tP {M : Mem_} {c : Nat} {ρ : Rw_} {Z : Zr_} {γ : Rw_} (h : Co_ M c ρ Z γ) {v : Int32} (hv : rg_ 4 v) : aI_ M (c + 4) 0 v = some (ρ (22 + 4 * v.toNatClampNeg)) ∧ aI_ M (c + 2) 0 v = some (ρ (20 + 4 * v.toNatClampNeg)) ∧ aI_ M (c + 3) 0 v = some (ρ (21 + 4 * v.toNatClampNeg)) ∧ aI_ M (c + 8) 0 v = some (γ v.toNatClampNeg) := by
  rcases rg4c hv with e | e | e | e <;> subst e
  · exact ⟨co_a4_0 h, co_a2_0 h, co_a3_0 h, co_a8_0 h⟩
  · exact ⟨co_a4_1 h, co_a2_1 h, co_a3_1 h, co_a8_1 h⟩
  · exact ⟨co_a4_2 h, co_a2_2 h, co_a3_2 h, co_a8_2 h⟩
  · exact ⟨co_a4_3 h, co_a2_3 h, co_a3_3 h, co_a8_3 h⟩
theorem ro_tP {M : Mem_} {r : Nat} {ρ : Rw_} (h : M r = some (eI_ 0 42 ρ)) {v : Int32} (hv : rg_ 4 v) : aI_ M r 0 (fX4_ofP v 2) = some (ρ (22 + 4 * v.toNatClampNeg)) ∧ aI_ M r 0 (fX4_ofP v 0) = some (ρ (20 + 4 * v.toNatClampNeg)) ∧ aI_ M r 0 (fX4_ofP v 1) = some (ρ (21 + 4 * v.toNatClampNeg)) := by
  rcases rg4c hv with e | e | e | e <;> subst e
  · exact ⟨ro_a22 h, ro_a20 h, ro_a21 h⟩
  · exact ⟨ro_a26 h, ro_a24 h, ro_a25 h⟩
  · exact ⟨ro_a30 h, ro_a28 h, ro_a29 h⟩
  · exact ⟨ro_a34 h, ro_a32 h, ro_a33 h⟩
theorem nge9 {c d : Nat} (h : c + (d + 1) = 9) : ¬ (9 : Int32) ≤ Int32.ofNat c := fun g => by
  have := (nL (i := 9) (by omega) (by omega)).mp g
  omega
def openR (ρ : Rw_) (k : Int32) : Nat → Nat → Int32 → Int32
  | 0, _, s => s
  | d + 1, c, s => openR ρ k d (c + 1) (if hB ρ k (Int32.ofNat c) = true then s ||| (1 <<< (Int32.ofNat c &&& 31)) else s ||| 0)
theorem open_C {n x : Nat} {ρ ρi : Rw_} {hi : Int32} {K : Nat → Rw_} {Z : Zr_} (V : OK_ ρ) {k : Int32} (hk : k.toNatClampNeg < (ρ 0).toNatClampNeg) (hk8 : rg_ 8 k) : ∀ (d c fuel : Nat) (s : Int32) (M : Mem_) (ρm : Rw_) (Zm : Zr_) (γm cs : Rw_), c + d = 9 → d < fuel → IC M n x ρ ρi hi K Z ρm Zm γm cs → Cq M n x ρ ρi hi K Z (fX1_open_L17 fuel M x k s (Int32.ofNat c)) (openR ρ k d c s) := by
  intro d
  induction d with
  | zero =>
    intro c fuel s M ρm Zm γm cs hc hf h
    obtain ⟨f, rfl⟩ : ∃ f, fuel = f + 1 := ⟨fuel - 1, by omega⟩
    have : c = 9 := by omega
    subst this
    rw [fX1_open_L17, if_pos (by decide)]
    exact ⟨M, _, _, _, _, rfl, h, Fc.refl _ _⟩
  | succ d ih =>
    intro c fuel s M ρm Zm γm cs hc hf h
    obtain ⟨f, rfl⟩ : ∃ f, fuel = f + 1 := ⟨fuel - 1, by omega⟩
    obtain ⟨M1, e1, h1, f1⟩ := h.won V hk hk8 (c := Int32.ofNat c) ⟨c, by omega, rfl⟩
    rw [fX1_open_L17, if_neg (nge9 hc)]
    simp only [h.ck, e1, bw_, lt_, Option.bind_some, nS1, openR]
    cases hB ρ k (Int32.ofNat c) with
    | false => exact (ih (c + 1) f _ M1 _ _ _ _ (by omega) (by omega) h1).on f1
    | true => exact (ih (c + 1) f _ M1 _ _ _ _ (by omega) (by omega) h1).on f1
theorem open_T {x : Nat} {ρ ρi : Rw_} {hi : Int32} {K : Nat → Rw_} (V : OK_ ρ) {k : Int32} (hk : k.toNatClampNeg < (ρ 0).toNatClampNeg) (hk8 : rg_ 8 k) : ∀ (d c fuel : Nat) (s : Int32) (M : Mem_) (μ γ sc : Rw_), c + d = 9 → d < fuel → IT M x ρ ρi hi K μ γ sc → Tq M x ρ ρi hi K (fX4_openTo_L4 fuel M (x + 47) k s (Int32.ofNat c)) (openR ρ k d c s) := by
  intro d
  induction d with
  | zero =>
    intro c fuel s M μ γ sc hc hf h
    obtain ⟨f, rfl⟩ : ∃ f, fuel = f + 1 := ⟨fuel - 1, by omega⟩
    have : c = 9 := by omega
    subst this
    rw [fX4_openTo_L4, if_pos (by decide)]
    exact ⟨M, _, _, _, rfl, h, Ft.refl _ _⟩
  | succ d ih =>
    intro c fuel s M μ γ sc hc hf h
    obtain ⟨f, rfl⟩ : ∃ f, fuel = f + 1 := ⟨fuel - 1, by omega⟩
    obtain ⟨M1, e1, h1, f1⟩ := h.won V hk hk8 (c := Int32.ofNat c) ⟨c, by omega, rfl⟩
    rw [fX4_openTo_L4, if_neg (nge9 hc)]
    simp only [h.ck, e1, bw_, lt_, Option.bind_some, nS1, openR]
    cases hB ρ k (Int32.ofNat c) with
    | false => exact (ih (c + 1) f _ M1 _ _ _ (by omega) (by omega) h1).on f1
    | true => exact (ih (c + 1) f _ M1 _ _ _ (by omega) (by omega) h1).on f1
section Q3
variable {M M' : Mem_} {n x : Nat} {ρ ρi : Rw_} {hi : Int32} {K : Nat → Rw_} {Z : Zr_} {ρm : Rw_} {Zm : Zr_} {γm cs : Rw_} {μ γ sc : Rw_}
theorem o_open (h : IC M n x ρ ρi hi K Z ρm Zm γm cs) (t : IT M' x ρ ρi hi K μ γ sc) (V : OK_ ρ) (k : Int32) : ∃ r, Cq M n x ρ ρi hi K Z (fX1_open M x k) r ∧ Tq M' x ρ ρi hi K (fX4_open M' (x + 47) k) r := by
  unfold fX1_open fX4_open fX4_openTo
  simp only [h.r0, h.ck1, h.isStroke, t.ck, t.isStroke, Option.bind_some]
  cases e1 : fX4_isIn k 0 (ρ 0 - 1) with
  | false => exact ⟨-1, ⟨M, _, _, _, _, rfl, h, Fc.refl _ _⟩, ⟨M', _, _, _, rfl, t, Ft.refl _ _⟩⟩
  | true =>
    obtain ⟨hk, hk8⟩ := str_rg V.1.2.2.2.2.1 e1
    rw [if_neg b2_t, if_neg b2_t]
    refine ⟨openR ρ k 9 0 0, open_C V hk hk8 9 0 1000 0 M _ _ _ _ rfl (by decide) h, ?_⟩
    obtain ⟨M1, a, b, c, e, g, f⟩ := open_T V hk hk8 9 0 1000 0 M' _ _ _ rfl (by decide) t
    have e : fX4_openTo_L4 1000 M' (x + 47) k 0 0 = _ := e
    rw [e]
    exact ⟨M1, a, b, c, rfl, g, f⟩
theorem o_wins (h : IC M n x ρ ρi hi K Z ρm Zm γm cs) (t : IT M' x ρ ρi hi K μ γ sc) (V : OK_ ρ) (k c : Int32) : ∃ r, Cq M n x ρ ρi hi K Z (fX1_wins M x k c) r ∧ Tq M' x ρ ρi hi K (fX4_wins M' (x + 47) k c) r := by
  unfold fX1_wins fX4_wins
  simp only [h.ck, h.isHit, t.ck, t.isHit, Option.bind_some]
  cases e1 : fX4_isIn k 0 (ρ 0 - 1) with
  | false => exact ⟨-1, ⟨M, _, _, _, _, rfl, h, Fc.refl _ _⟩, ⟨M', _, _, _, rfl, t, Ft.refl _ _⟩⟩
  | true =>
    cases e2 : fX4_isIn c 0 8 with
    | false => exact ⟨-1, ⟨M, _, _, _, _, rfl, h, Fc.refl _ _⟩, ⟨M', _, _, _, rfl, t, Ft.refl _ _⟩⟩
    | true =>
      obtain ⟨hk, hk8⟩ := str_rg V.1.2.2.2.2.1 e1
      obtain ⟨M1, a1, a2, a3⟩ := h.won V hk hk8 (in_rg (m := 8) (by decide) e2)
      obtain ⟨M2, b1, b2, b3⟩ := t.won V hk hk8 (in_rg (m := 8) (by decide) e2)
      simp only [Bool.and_self, if_neg b2_t, a1, b1, bw_, Option.bind_some]
      cases hB ρ k c with
      | false => exact ⟨0, ⟨M1, _, _, _, _, rfl, a2, a3⟩, ⟨M2, _, _, _, rfl, b2, b3⟩⟩
      | true => exact ⟨1, ⟨M1, _, _, _, _, rfl, a2, a3⟩, ⟨M2, _, _, _, rfl, b2, b3⟩⟩
theorem o_change (h : IC M n x ρ ρi hi K Z ρm Zm γm cs) (t : IT M' x ρ ρi hi K μ γ sc) (V : OK_ ρ) (k c p w : Int32) : ∃ r, Cq M n x ρ ρi hi K Z (fX1_change M x k c p w) r ∧ Tq M' x ρ ρi hi K (fX4_change M' (x + 47) k c p w) r := by
  have bad : ∃ r : Int32, Cq M n x ρ ρi hi K Z (some (-1, M)) r ∧ Tq M' x ρ ρi hi K (some (-1, M')) r := ⟨-1, ⟨M, _, _, _, _, rfl, h, Fc.refl _ _⟩, ⟨M', _, _, _, rfl, t, Ft.refl _ _⟩⟩
  unfold fX1_change fX4_change
  simp only [h.ck, h.isHit, t.ck, t.isHit, Option.bind_some, lt_, show fX1_isPlayer p = fX4_isIn p 0 3 from rfl, show fX4_isPlayer p = fX4_isIn p 0 3 from rfl, show fX1_isIn w 0 1 = fX4_isIn w 0 1 from rfl]
  cases e1 : fX4_isIn k 0 (ρ 0 - 1) with
  | false => exact bad
  | true =>
    cases e2 : fX4_isIn c 0 8 with
    | false => exact bad
    | true =>
      cases e3 : fX4_isIn p 0 3 with
      | false => exact bad
      | true =>
        cases e4 : fX4_isIn w 0 1 with
        | false => exact bad
        | true =>
          obtain ⟨hk, hk8⟩ := str_rg V.1.2.2.2.2.1 e1
          have hp := in_rg (m := 3) (by decide) e3
          obtain ⟨M1, a1, a2, a3⟩ := h.won V hk hk8 (in_rg (m := 8) (by decide) e2)
          obtain ⟨M2, b1, b2, b3⟩ := t.won V hk hk8 (in_rg (m := 8) (by decide) e2)
          have A := co_tP a2.2.2.2.1 hp
          have B := ro_tP b2.2.2.1 hp
          simp only [Bool.and_self, if_neg b2_t, a1, b1, bw_, Option.bind_some, a2.r2, b2.r1, co_r1 a2.2.2.2.1, co_r3 a2.2.2.2.1, A.1, A.2.1, B.1, B.2.1]
          by_cases z : w = 0
          · rw [if_pos z, if_pos z]
            exact ⟨_, ⟨M1, _, _, _, _, rfl, a2, a3⟩, ⟨M2, _, _, _, rfl, b2, b3⟩⟩
          · rw [if_neg z, if_neg z]
            exact ⟨_, ⟨M1, _, _, _, _, rfl, a2, a3⟩, ⟨M2, _, _, _, rfl, b2, b3⟩⟩
end Q3
