/-! the fewest hits to a point -/
set_option maxRecDepth 100000
theorem sr_none {P : Nat → Bool} (h : ∀ b, P b = false) : ∀ d c, sr_ P d c = none := by
  intro d
  induction d with
  | zero => intro c; rfl
  | succ d ih =>
    intro c
    rw [sr_, if_neg (by rw [h c]; decide)]
    exact ih (c + 1)
/-- a hit, one back to the middle, one more -/
def w3 (ρ : Rw_) (a b : Nat) : Bool := if pB ρ a = true then false else if hB (hR ρ (Int32.ofNat (a / 9)) (Int32.ofNat (a % 9))) 0 4 = true then false else pB (hR (hR ρ (Int32.ofNat (a / 9)) (Int32.ofNat (a % 9))) 0 4) b
def wl_ (ρ : Rw_) (a : Nat) : Bool := (sr_ (w3 ρ a) (9 * (ρ 0).toNatClampNeg) 0).isSome
theorem rg9_4 : rg_ 9 (4 : Int32) := ⟨4, by decide, rfl⟩
theorem rg8_0 : rg_ 8 (0 : Int32) := ⟨0, by decide, rfl⟩
theorem later_i {n x : Nat} {ρ ρi : Rw_} {hi : Int32} {K : Nat → Rw_} {Z : Zr_} {ρa γa : Rw_} (V : OK_ ρ) (W : MV ρa ρ) (y1 y2 : Int32) {s dn : Nat} (hs : s < (ρ 0).toNatClampNeg) (K2 : Mem_ → Nat → Int32 → Int32 → Int32 → Option (Bool × Mem_)) (hK : ∀ (M : Mem_) (ρm : Rw_) (Zm : Zr_) (γm cs : Rw_), IC M n x ρ ρi hi K Z ρm Zm γm cs → Co_ M (x + 28) ρa Z γa → Cq M n x ρ ρi hi K Z (K2 M x y1 y2 (Int32.ofNat (s + 1))) (sr_ (pB ρa) dn (9 * (s + 1))).isSome) : ∀ (d c fuel : Nat) (M : Mem_) (ρm : Rw_) (Zm : Zr_) (γm cs : Rw_), c + d = 9 → d < fuel → IC M n x ρ ρi hi K Z ρm Zm γm cs → Co_ M (x + 28) ρa Z γa → Cq M n x ρ ρi hi K Z (fX1_winsLater_L57 K2 fuel M x y1 y2 (Int32.ofNat s) (Int32.ofNat c)) (sr_ (pB ρa) (d + dn) (9 * s + c)).isSome := by
  have s8 : s < 8 := by
    have := (rg_nat (by decide) V.1.2.2.2.2.1).1
    omega
  intro d
  induction d with
  | zero =>
    intro c fuel M ρm Zm γm cs hc hf h ha
    obtain ⟨f, rfl⟩ : ∃ f, fuel = f + 1 := ⟨fuel - 1, by omega⟩
    have : c = 9 := by omega
    subst this
    rw [fX1_winsLater_L57, if_pos (by decide), lt_, nS1, Nat.zero_add, show 9 * s + 9 = 9 * (s + 1) by omega]
    exact hK _ _ _ _ _ h ha
  | succ d ih =>
    intro c fuel M ρm Zm γm cs hc hf h ha
    obtain ⟨f, rfl⟩ : ∃ f, fuel = f + 1 := ⟨fuel - 1, by omega⟩
    have hz := h.2.2.2.2.2.2.2.2.2.1
    have t := takes_ok h.2.2.2.1 ha (by omega) h.okS
    rw [zz_eq hz h.2.2.2.2.2.2.2.2.2.2.1] at t
    obtain ⟨h1, f1⟩ := h.mind (ρ' := ρa) (Z' := Z) (γ' := fun _ => 0) hz
    have ha1 : Co_ (cw_ M (x + 19) ρa Z fun _ => 0) (x + 28) ρa Z γa := ha.off (by omega)
    obtain ⟨M2, e2, h2, f2⟩ := h1.mhit rfl W (k := Int32.ofNat s) (by rw [nC (by omega)]; exact hs) ⟨s, by omega, rfl⟩ (c := Int32.ofNat c) ⟨c, by omega, rfl⟩
    have ha2 : Co_ M2 (x + 28) ρa Z γa := by
      obtain ⟨q, kn, fg, a, b, c1, d1, e, f⟩ := h1.stroke (k := Int32.ofNat s) (by rw [nC (by omega)]; exact hs)
      have t2 := C_hit M (x + 19) ρa Z (fun _ => 0) W.1 (k := Int32.ofNat s) (cell := Int32.ofNat c) (by rw [W.2.2.1, nC (by omega)]; exact hs) ⟨s, by omega, rfl⟩ ⟨c, by omega, rfl⟩ a ((sk_cg (cw_out (by omega)).symm).trans b) (by omega) (c1.trans (W.2.2.2 _ (by rw [nC (by omega)]; omega) (by rw [nC (by omega)]; omega)).symm) (d1.trans (W.2.2.2 _ (by rw [nC (by omega)]; omega) (by rw [nC (by omega)]; omega)).symm)
      rw [e2] at t2
      cases t2
      exact ha.off (by omega)
    rw [fX1_winsLater_L57, if_neg (nge9 hc)]
    have ec : pB ρa (9 * s + c) = hB ρa (Int32.ofNat s) (Int32.ofNat c) := by
      unfold pB
      rw [show (9 * s + c) / 9 = s by omega, show (9 * s + c) % 9 = c by omega]
    rw [show d + 1 + dn = (d + dn) + 1 by omega, sr_, ec]
    simp only [h.r2, h.r3, h.ck19, t, h1.r2, h1.ck19, e2, bw_, lt_, Option.bind_some, nS1]
    cases hB ρa (Int32.ofNat s) (Int32.ofNat c) with
    | false => exact (ih (c + 1) f M2 _ _ _ _ (by omega) (by omega) h2 ha2).on (f1.trans f2)
    | true => exact ⟨M2, _, _, _, _, rfl, h2, f1.trans f2⟩
theorem later_C {n x : Nat} {ρ ρi : Rw_} {hi : Int32} {K : Nat → Rw_} {Z : Zr_} {ρa γa : Rw_} (V : OK_ ρ) (W : MV ρa ρ) (y1 y2 : Int32) : ∀ (e s fuel : Nat) (M : Mem_) (ρm : Rw_) (Zm : Zr_) (γm cs : Rw_), s + e = (ρ 0).toNatClampNeg → e < fuel → IC M n x ρ ρi hi K Z ρm Zm γm cs → Co_ M (x + 28) ρa Z γa → Cq M n x ρ ρi hi K Z (fX1_winsLater_L43 fuel M x y1 y2 (Int32.ofNat s)) (sr_ (pB ρa) (9 * e) (9 * s)).isSome := by
  obtain ⟨N, hN, eN, eN2⟩ := V.n
  intro e
  induction e with
  | zero =>
    intro s fuel M ρm Zm γm cs hs hf h ha
    obtain ⟨f, rfl⟩ : ∃ f, fuel = f + 1 := ⟨fuel - 1, by omega⟩
    obtain ⟨γ0, h1⟩ := h.2.1
    rw [fX1_winsLater_L43]
    simp only [h.r0, co_i9 h1, Option.bind_some]
    rw [if_pos (by rw [eN, nL (by omega) (by omega)]; omega)]
    exact ⟨M, _, _, _, _, rfl, h, Fc.refl _ _⟩
  | succ e ih =>
    intro s fuel M ρm Zm γm cs hs hf h ha
    obtain ⟨f, rfl⟩ : ∃ f, fuel = f + 1 := ⟨fuel - 1, by omega⟩
    obtain ⟨γ0, h1⟩ := h.2.1
    rw [fX1_winsLater_L43]
    simp only [h.r0, co_i9 h1, Option.bind_some]
    rw [if_neg (by rw [eN, nL (by omega) (by omega)]; omega)]
    have t := later_i V W y1 y2 (s := s) (dn := 9 * e) (by omega) (fX1_winsLater_L43 f) (fun M ρm Zm γm cs h ha => ih (s + 1) f M ρm Zm γm cs (by omega) (by omega) h ha) 9 0 1000 M ρm Zm γm cs (by omega) (by omega) h ha
    rw [show 9 + 9 * e = 9 * (e + 1) by omega, Nat.add_zero] at t
    exact t
theorem IC.later {M : Mem_} {n x : Nat} {ρ ρi : Rw_} {hi : Int32} {K : Nat → Rw_} {Z : Zr_} {ρm : Rw_} {Zm : Zr_} {γm cs : Rw_} (h : IC M n x ρ ρi hi K Z ρm Zm γm cs) (V : OK_ ρ) (hN : 0 < (ρ 0).toNatClampNeg) {a : Nat} (ha : a < 9 * (ρ 0).toNatClampNeg) : Cq M n x ρ ρi hi K Z (fX1_winsLater M x (Int32.ofNat (a / 9)) (Int32.ofNat (a % 9))) (wl_ ρ a) := by
  obtain ⟨N, hN9, eN, eN2⟩ := V.n
  have hk : (Int32.ofNat (a / 9)).toNatClampNeg < (ρ 0).toNatClampNeg := by rw [nC (by omega)]; omega
  have hk8 : rg_ 8 (Int32.ofNat (a / 9)) := ⟨a / 9, by omega, rfl⟩
  have hc9 : rg_ 9 (Int32.ofNat (a % 9)) := ⟨a % 9, by omega, rfl⟩
  obtain ⟨M1, e1, h1, f1⟩ := h.minds
  obtain ⟨M2, e2, h2, f2⟩ := h1.mhit rfl V.mv hk hk8 hc9
  have W1 := V.mv.hit hk hc9
  obtain ⟨M3, e3, h3, f3⟩ := h2.mhit rfl W1 (k := 0) (c := 4) hN rg8_0 rg9_4
  have W2 := W1.hit (k := 0) hN rg9_4
  have hz := h.2.2.2.2.2.2.2.2.2.1
  obtain ⟨ρ0, Z0, γ0, hA, hzA⟩ := h3.2.2.2.2.1
  have t := takes_ok hA h3.2.2.2.1 (by omega) h3.okS
  rw [zz_eq hz hzA] at t
  obtain ⟨h4, f4⟩ := h3.ahead (ρ' := hR (hR ρ (Int32.ofNat (a / 9)) (Int32.ofNat (a % 9))) 0 4) (Z' := Z) (γ' := fun _ => 0) hz
  have ck28 : ck_ M3 (x + 28) 1 = some () := ckof (hA 0 (by decide))
  unfold fX1_winsLater wl_
  simp only [h.ck, e1, h1.r2, h1.ck19, e2, bw_, Option.bind_some, h2.r2, h2.ck19, e3, h3.r3, h3.r2, ck28, t]
  by_cases b1 : pB ρ a = true
  · have b1' : hB ρ (Int32.ofNat (a / 9)) (Int32.ofNat (a % 9)) = true := b1
    rw [b1', if_neg b2_t, sr_none (fun b => by unfold w3; rw [if_pos b1])]
    exact ⟨M2, _, _, _, _, rfl, h2, f1.trans f2⟩
  · have b1' : hB ρ (Int32.ofNat (a / 9)) (Int32.ofNat (a % 9)) = false := by
      cases z : hB ρ (Int32.ofNat (a / 9)) (Int32.ofNat (a % 9)) with
      | false => rfl
      | true => exact absurd z b1
    rw [b1', if_pos b2_f]
    by_cases b3 : hB (hR ρ (Int32.ofNat (a / 9)) (Int32.ofNat (a % 9))) 0 4 = true
    · rw [b3, if_neg b2_t, sr_none (fun b => by unfold w3; rw [if_neg b1, if_pos b3])]
      exact ⟨M3, _, _, _, _, rfl, h3, f1.trans (f2.trans f3)⟩
    · have b3' : hB (hR ρ (Int32.ofNat (a / 9)) (Int32.ofNat (a % 9))) 0 4 = false := by
        cases z : hB (hR ρ (Int32.ofNat (a / 9)) (Int32.ofNat (a % 9))) 0 4 with
        | false => rfl
        | true => exact absurd z b3
      rw [b3', if_pos b2_f]
      have ew : w3 ρ a = pB (hR (hR ρ (Int32.ofNat (a / 9)) (Int32.ofNat (a % 9))) 0 4) := by
        funext b
        unfold w3
        rw [if_neg b1, if_neg b3]
      rw [ew]
      exact (later_C V W2 _ _ _ 0 1000 _ _ _ _ _ (by omega) (by omega) h4 (cw_co _ _ _ _ _)).on (f1.trans (f2.trans (f3.trans f4)))
theorem lhit_i {n x : Nat} {ρ ρi : Rw_} {hi : Int32} {K : Nat → Rw_} {Z : Zr_} (V : OK_ ρ) {s dn : Nat} (hs : s < (ρ 0).toNatClampNeg) (K2 : Mem_ → Nat → Int32 → Option (Int32 × Mem_)) (hK : ∀ (M : Mem_) (ρm : Rw_) (Zm : Zr_) (γm cs : Rw_), IC M n x ρ ρi hi K Z ρm Zm γm cs → Cq M n x ρ ρi hi K Z (K2 M x (Int32.ofNat (s + 1))) (fr_ (sr_ (wl_ ρ) dn (9 * (s + 1))))) : ∀ (d c fuel : Nat) (M : Mem_) (ρm : Rw_) (Zm : Zr_) (γm cs : Rw_), c + d = 9 → d < fuel → IC M n x ρ ρi hi K Z ρm Zm γm cs → Cq M n x ρ ρi hi K Z (fX1_laterHit_L15 K2 fuel M x (Int32.ofNat s) (Int32.ofNat c)) (fr_ (sr_ (wl_ ρ) (d + dn) (9 * s + c))) := by
  intro d
  induction d with
  | zero =>
    intro c fuel M ρm Zm γm cs hc hf h
    obtain ⟨f, rfl⟩ : ∃ f, fuel = f + 1 := ⟨fuel - 1, by omega⟩
    have : c = 9 := by omega
    subst this
    rw [fX1_laterHit_L15, if_pos (by decide), lt_, nS1, Nat.zero_add, show 9 * s + 9 = 9 * (s + 1) by omega]
    exact hK _ _ _ _ _ h
  | succ d ih =>
    intro c fuel M ρm Zm γm cs hc hf h
    obtain ⟨f, rfl⟩ : ∃ f, fuel = f + 1 := ⟨fuel - 1, by omega⟩
    have t := h.later V (by omega) (a := 9 * s + c) (by omega)
    rw [show (9 * s + c) / 9 = s by omega, show (9 * s + c) % 9 = c by omega] at t
    obtain ⟨M1, _, _, _, _, e1, h1, f1⟩ := t
    rw [fX1_laterHit_L15, if_neg (nge9 hc)]
    rw [show d + 1 + dn = (d + dn) + 1 by omega, sr_]
    simp only [h.ck, e1, bw_, lt_, Option.bind_some, nS1]
    cases wl_ ρ (9 * s + c) with
    | false => exact (ih (c + 1) f M1 _ _ _ _ (by omega) (by omega) h1).on f1
    | true =>
      refine ⟨M1, _, _, _, _, ?_, h1, f1⟩
      rw [if_neg b2_t, if_pos rfl, n10]
      show some (_, M1) = some (Int32.ofNat (10 * ((9 * s + c) / 9) + (9 * s + c) % 9), M1)
      rw [show (9 * s + c) / 9 = s by omega, show (9 * s + c) % 9 = c by omega]
theorem lhit_C {n x : Nat} {ρ ρi : Rw_} {hi : Int32} {K : Nat → Rw_} {Z : Zr_} (V : OK_ ρ) : ∀ (e s fuel : Nat) (M : Mem_) (ρm : Rw_) (Zm : Zr_) (γm cs : Rw_), s + e = (ρ 0).toNatClampNeg → e < fuel → IC M n x ρ ρi hi K Z ρm Zm γm cs → Cq M n x ρ ρi hi K Z (fX1_laterHit_L2 fuel M x (Int32.ofNat s)) (fr_ (sr_ (wl_ ρ) (9 * e) (9 * s))) := by
  obtain ⟨N, hN, eN, eN2⟩ := V.n
  intro e
  induction e with
  | zero =>
    intro s fuel M ρm Zm γm cs hs hf h
    obtain ⟨f, rfl⟩ : ∃ f, fuel = f + 1 := ⟨fuel - 1, by omega⟩
    obtain ⟨γ0, h1⟩ := h.2.1
    rw [fX1_laterHit_L2]
    simp only [h.r0, co_i9 h1, Option.bind_some]
    rw [if_pos (by rw [eN, nL (by omega) (by omega)]; omega)]
    exact ⟨M, _, _, _, _, rfl, h, Fc.refl _ _⟩
  | succ e ih =>
    intro s fuel M ρm Zm γm cs hs hf h
    obtain ⟨f, rfl⟩ : ∃ f, fuel = f + 1 := ⟨fuel - 1, by omega⟩
    obtain ⟨γ0, h1⟩ := h.2.1
    rw [fX1_laterHit_L2]
    simp only [h.r0, co_i9 h1, Option.bind_some]
    rw [if_neg (by rw [eN, nL (by omega) (by omega)]; omega)]
    have t := lhit_i V (s := s) (dn := 9 * e) (by omega) (fX1_laterHit_L2 f) (fun M ρm Zm γm cs h => ih (s + 1) f M ρm Zm γm cs (by omega) (by omega) h) 9 0 1000 M ρm Zm γm cs (by omega) (by omega) h
    rw [show 9 + 9 * e = 9 * (e + 1) by omega, Nat.add_zero] at t
    exact t
theorem IT.three {M : Mem_} {x : Nat} {ρ ρi : Rw_} {hi : Int32} {K : Nat → Rw_} {μ γ sc : Rw_} (t : IT M x ρ ρi hi K μ γ sc) (V : OK_ ρ) (hN : 0 < (ρ 0).toNatClampNeg) {a b : Nat} (ha : a < 9 * (ρ 0).toNatClampNeg) (hb : b < 9 * (ρ 0).toNatClampNeg) : Tq M x ρ ρi hi K (fX4_isWonInThree M (x + 47) (Int32.ofNat a) (Int32.ofNat b)) (w3 ρ a b) := by
  obtain ⟨N, hN9, eN, eN2⟩ := V.n
  have hc9 : rg_ 9 (Int32.ofNat (a % 9)) := ⟨a % 9, by omega, rfl⟩
  have hk : (Int32.ofNat (a / 9)).toNatClampNeg < (ρ 0).toNatClampNeg := by rw [nC (by omega)]; omega
  obtain ⟨M1, e1, h1, f1⟩ := t.won V hk ⟨a / 9, by omega, rfl⟩ hc9
  have W1 := V.mv.hit hk hc9
  obtain ⟨M2, e2, h2, f2⟩ := h1.mhit W1 (k := 0) (c := 4) hN rg8_0 rg9_4
  have W2 := W1.hit (k := 0) hN rg9_4
  obtain ⟨M3, e3, h3, f3⟩ := h2.mhit W2 (k := Int32.ofNat (b / 9)) (c := Int32.ofNat (b % 9)) (by rw [nC (by omega)]; omega) ⟨b / 9, by omega, rfl⟩ ⟨b % 9, by omega, rfl⟩
  have da := nD9 (i := a) (by omega)
  have db := nD9 (i := b) (by omega)
  unfold fX4_isWonInThree w3 pB
  simp only [t.ck, da.1, da.2, db.1, db.2, e1, h1.r1, h1.ck, e2, h2.r1, h2.ck, e3, bw_, Option.bind_some]
  cases hB ρ (Int32.ofNat (a / 9)) (Int32.ofNat (a % 9)) with
  | true => exact ⟨M1, _, _, _, rfl, h1, f1⟩
  | false =>
    cases hB (hR ρ (Int32.ofNat (a / 9)) (Int32.ofNat (a % 9))) 0 4 with
    | true => exact ⟨M2, _, _, _, rfl, h2, f1.trans f2⟩
    | false => exact ⟨M3, _, _, _, rfl, h3, f1.trans (f2.trans f3)⟩
def fw_ (w : Int32) (o : Option Nat) : Int32 := match o with
  | none => -4
  | some a => if w = 0 then 3 else Int32.ofNat (10 * (a / 9) + a % 9)
theorem few_i {x : Nat} {ρ ρi : Rw_} {hi : Int32} {K : Nat → Rw_} (V : OK_ ρ) (w y : Int32) {a dn : Nat} (ha : a < 9 * (ρ 0).toNatClampNeg) (K2 : Mem_ → Nat → Int32 → Int32 → Int32 → Int32 → Option (Int32 × Mem_)) (hK : ∀ (M : Mem_) (μ γ sc : Rw_), IT M x ρ ρi hi K μ γ sc → Tq M x ρ ρi hi K (K2 M (x + 47) w y (Int32.ofNat (9 * (ρ 0).toNatClampNeg)) (Int32.ofNat (a + 1))) (fw_ w (sr_ (wl_ ρ) dn (a + 1)))) : ∀ (d b fuel : Nat) (M : Mem_) (μ γ sc : Rw_), b + d = 9 * (ρ 0).toNatClampNeg → d < fuel → IT M x ρ ρi hi K μ γ sc → Tq M x ρ ρi hi K (fX4_fewest_L64 K2 fuel M (x + 47) w y (Int32.ofNat (9 * (ρ 0).toNatClampNeg)) (Int32.ofNat a) (Int32.ofNat b)) (fw_ w (if (sr_ (w3 ρ a) d b).isSome = true then some a else sr_ (wl_ ρ) dn (a + 1))) := by
  obtain ⟨N, hN9, eN, eN2⟩ := V.n
  intro d
  induction d with
  | zero =>
    intro b fuel M μ γ sc hb hf h
    obtain ⟨f, rfl⟩ : ∃ f, fuel = f + 1 := ⟨fuel - 1, by omega⟩
    rw [fX4_fewest_L64, if_pos (by rw [nL (by omega) (by omega)]; omega), lt_, nS1]
    exact hK _ _ _ _ h
  | succ d ih =>
    intro b fuel M μ γ sc hb hf h
    obtain ⟨f, rfl⟩ : ∃ f, fuel = f + 1 := ⟨fuel - 1, by omega⟩
    obtain ⟨M1, _, _, _, e1, h1, f1⟩ := h.three V (by omega) ha (b := b) (by omega)
    have da := nD9 (i := a) (by omega)
    rw [fX4_fewest_L64, if_neg (by rw [nL (by omega) (by omega)]; omega), sr_]
    simp only [h.ck, e1, bw_, lt_, Option.bind_some, nS1, da.1, da.2, n10]
    cases w3 ρ a b with
    | false => exact (ih (b + 1) f M1 _ _ _ (by omega) (by omega) h1).on f1
    | true =>
      refine ⟨M1, _, _, _, ?_, h1, f1⟩
      rw [if_neg b2_t, if_pos rfl]
      show _ = some (if w = 0 then 3 else Int32.ofNat (10 * (a / 9) + a % 9), M1)
      split <;> rfl
theorem few_T {x : Nat} {ρ ρi : Rw_} {hi : Int32} {K : Nat → Rw_} (V : OK_ ρ) (w y : Int32) : ∀ (d a fuel : Nat) (M : Mem_) (μ γ sc : Rw_), a + d = 9 * (ρ 0).toNatClampNeg → d < fuel → IT M x ρ ρi hi K μ γ sc → Tq M x ρ ρi hi K (fX4_fewest_L55 fuel M (x + 47) w y (Int32.ofNat (9 * (ρ 0).toNatClampNeg)) (Int32.ofNat a)) (fw_ w (sr_ (wl_ ρ) d a)) := by
  obtain ⟨N, hN9, eN, eN2⟩ := V.n
  intro d
  induction d with
  | zero =>
    intro a fuel M μ γ sc ha hf h
    obtain ⟨f, rfl⟩ : ∃ f, fuel = f + 1 := ⟨fuel - 1, by omega⟩
    rw [fX4_fewest_L55, if_pos (by rw [nL (by omega) (by omega)]; omega)]
    exact ⟨M, _, _, _, rfl, h, Ft.refl _ _⟩
  | succ d ih =>
    intro a fuel M μ γ sc ha hf h
    obtain ⟨f, rfl⟩ : ∃ f, fuel = f + 1 := ⟨fuel - 1, by omega⟩
    rw [fX4_fewest_L55, if_neg (by rw [nL (by omega) (by omega)]; omega), sr_]
    exact few_i V w y (a := a) (dn := d) (by omega) (fX4_fewest_L55 f) (fun M μ γ sc h => ih (a + 1) f M μ γ sc (by omega) (by omega) h) _ 0 1000 M μ γ sc (by omega) (by omega) h
theorem sr_lt {P : Nat → Bool} : ∀ (d c a : Nat), sr_ P d c = some a → a < c + d := by
  intro d
  induction d with
  | zero => intro c a h; cases h
  | succ d ih =>
    intro c a h
    rw [sr_] at h
    split at h
    · cases h
      omega
    · have := ih _ _ h
      omega
theorem fr_neg {P : Nat → Bool} {d : Nat} (hd : d < 80) : (fr_ (sr_ P d 0) < 0 ↔ sr_ P d 0 = none) := by
  cases e : sr_ P d 0 with
  | none => exact ⟨fun _ => rfl, fun _ => by decide⟩
  | some a =>
    have h := sr_lt _ _ _ e
    refine ⟨fun g => ?_, fun g => by cases g⟩
    exfalso
    have := Int32.lt_iff_toInt_lt.mp g
    have e2 : (fr_ (some a)).toInt = ((10 * (a / 9) + a % 9 : Nat) : Int) := nJ (by omega)
    have e3 : (0 : Int32).toInt = 0 := rfl
    rw [e2, e3] at this
    omega
section Q6
variable {M M' : Mem_} {n x : Nat} {ρ ρi : Rw_} {hi : Int32} {K : Nat → Rw_} {Z : Zr_} {ρm : Rw_} {Zm : Zr_} {γm cs : Rw_} {μ γ sc : Rw_}
theorem o_fewest (h : IC M n x ρ ρi hi K Z ρm Zm γm cs) (t : IT M' x ρ ρi hi K μ γ sc) (V : OK_ ρ) (w : Int32) : ∃ r, Cq M n x ρ ρi hi K Z (fX1_fewest M x w) r ∧ Tq M' x ρ ρi hi K (fX4_fewest M' (x + 47) w) r := by
  obtain ⟨γ0, h1⟩ := h.2.1
  obtain ⟨N, hN9, eN, eN2⟩ := V.n
  unfold fX1_fewest fX4_fewest
  simp only [lt_, show fX1_isIn w 0 1 = fX4_isIn w 0 1 from rfl]
  rcases in1 w with ⟨e, z⟩ | ⟨e, _⟩
  · obtain ⟨⟨M1, _, _, _, _, a1, a2, a3⟩, ⟨M2, _, _, _, b1, b2, b3⟩⟩ := o_forced h t V
    rw [e]
    simp only [if_neg b2_t, h.r0, co_i9 h1, t.r0, ro_a0 t.2.1, h.ck, t.ck, a1, b1, bw_, Option.bind_some]
    by_cases z0 : ρ 0 = 0
    · rw [if_pos z0, if_pos z0]
      exact ⟨-3, ⟨M, _, _, _, _, rfl, h, Fc.refl _ _⟩, ⟨M', _, _, _, rfl, t, Ft.refl _ _⟩⟩
    · have hN : 0 < (ρ 0).toNatClampNeg := by
        rcases Nat.eq_zero_or_pos N with g | g
        · subst g
          exact absurd eN z0
        · omega
      rw [if_neg z0, if_neg z0]
      have F := fr_neg (P := pB ρ) (d := 9 * (ρ 0).toNatClampNeg) (by omega)
      by_cases g : fr_ (sr_ (pB ρ) (9 * (ρ 0).toNatClampNeg) 0) < 0
      · rw [if_pos g, if_pos g]
        obtain ⟨M3, _, _, _, _, c1, c2, c3⟩ := lhit_C V _ 0 1000 M1 _ _ _ _ (Nat.zero_add _) (by omega) a2
        have c1 : fX1_laterHit_L2 1000 M1 x 0 = some (fr_ (sr_ (wl_ ρ) (9 * (ρ 0).toNatClampNeg) 0), M3) := c1
        have e9 : (9 : Int32) * ρ 0 = Int32.ofNat (9 * (ρ 0).toNatClampNeg) := by rw [eN2, eN, show (9 : Int32) = Int32.ofNat 9 from rfl, nM]
        obtain ⟨M4, _, _, _, d1, d2, d3⟩ := few_T V w (fr_ (sr_ (pB ρ) (9 * (ρ 0).toNatClampNeg) 0)) _ 0 1000 M2 _ _ _ (Nat.zero_add _) (by omega) b2
        have d1 : fX4_fewest_L55 1000 M2 (x + 47) w (fr_ (sr_ (pB ρ) (9 * (ρ 0).toNatClampNeg) 0)) (Int32.ofNat (9 * (ρ 0).toNatClampNeg)) 0 = _ := d1
        refine ⟨fw_ w (sr_ (wl_ ρ) (9 * (ρ 0).toNatClampNeg) 0), ?_, ?_⟩
        · unfold fX1_laterHit
          simp only [a2.ck, c1, Option.bind_some]
          refine ⟨M3, _, _, _, _, ?_, c2, a3.trans c3⟩
          have F2 := fr_neg (P := wl_ ρ) (d := 9 * (ρ 0).toNatClampNeg) (by omega)
          rcases z with z | z
          · subst z
            rw [if_neg ne01]
            cases q : sr_ (wl_ ρ) (9 * (ρ 0).toNatClampNeg) 0 with
            | none => rfl
            | some a =>
              rw [q] at F2
              rw [if_pos (Int32.not_lt.mp fun k => by cases F2.mp k)]
              rfl
          · subst z
            rw [if_pos rfl]
            cases q : sr_ (wl_ ρ) (9 * (ρ 0).toNatClampNeg) 0 with
            | none => rfl
            | some a => rfl
        · simp only [b2.r0, ro_a0 b2.2.1, Option.bind_some, e9, d1]
          exact ⟨M4, _, _, _, rfl, d2, b3.trans d3⟩
      · rw [if_neg g, if_neg g]
        by_cases z2 : w = 0
        · rw [if_pos z2, if_pos z2]
          exact ⟨_, ⟨M1, _, _, _, _, rfl, a2, a3⟩, ⟨M2, _, _, _, rfl, b2, b3⟩⟩
        · rw [if_neg z2, if_neg z2]
          exact ⟨_, ⟨M1, _, _, _, _, rfl, a2, a3⟩, ⟨M2, _, _, _, rfl, b2, b3⟩⟩
  · rw [e]
    exact ⟨-1, ⟨M, _, _, _, _, rfl, h, Fc.refl _ _⟩, ⟨M', _, _, _, rfl, t, Ft.refl _ _⟩⟩
end Q6
