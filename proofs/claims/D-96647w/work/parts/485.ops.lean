/-! searches in mind -/
set_option maxRecDepth 100000
def sr_ (P : Nat → Bool) : Nat → Nat → Option Nat
  | 0, _ => none
  | d + 1, c => if P c = true then some c else sr_ P d (c + 1)
def fr_ (o : Option Nat) : Int32 := match o with
  | none => -4
  | some a => Int32.ofNat (10 * (a / 9) + a % 9)
theorem nM (i j : Nat) : Int32.ofNat i * Int32.ofNat j = Int32.ofNat (i * j) := (Int32.ofNat_mul i j).symm
theorem nD9 {i : Nat} (h : i < 80) : Int32.ofNat i / 9 = Int32.ofNat (i / 9) ∧ Int32.ofNat i - Int32.ofNat (i / 9) * 9 = Int32.ofNat (i % 9) := by
  have K : ∀ a : Fin 80, Int32.ofNat a.val / 9 = Int32.ofNat (a.val / 9) ∧ Int32.ofNat a.val - Int32.ofNat (a.val / 9) * 9 = Int32.ofNat (a.val % 9) := by decide +kernel
  exact K ⟨i, h⟩
theorem n10 (s c : Nat) : (10 : Int32) * Int32.ofNat s + Int32.ofNat c = Int32.ofNat (10 * s + c) := by
  rw [show (10 : Int32) = Int32.ofNat 10 from rfl, nM, nS]
/-- whether the hit of a code makes a point -/
def pB (ρ : Rw_) (a : Nat) : Bool := hB ρ (Int32.ofNat (a / 9)) (Int32.ofNat (a % 9))
theorem OK_.n {ρ : Rw_} (V : OK_ ρ) : ∃ N, N < 9 ∧ ρ 0 = Int32.ofNat N ∧ (ρ 0).toNatClampNeg = N := by
  obtain ⟨N, hN, e⟩ := V.1.2.2.2.2.1
  exact ⟨N, hN, e, by rw [e, nC (by omega)]⟩
theorem forced_i {n x : Nat} {ρ ρi : Rw_} {hi : Int32} {K : Nat → Rw_} {Z : Zr_} (V : OK_ ρ) {s dn : Nat} (hs : s < (ρ 0).toNatClampNeg) (K2 : Mem_ → Nat → Int32 → Option (Int32 × Mem_)) (hK : ∀ (M : Mem_) (ρm : Rw_) (Zm : Zr_) (γm cs : Rw_), IC M n x ρ ρi hi K Z ρm Zm γm cs → Cq M n x ρ ρi hi K Z (K2 M x (Int32.ofNat (s + 1))) (fr_ (sr_ (pB ρ) dn (9 * (s + 1))))) : ∀ (d c fuel : Nat) (M : Mem_) (ρm : Rw_) (Zm : Zr_) (γm cs : Rw_), c + d = 9 → d < fuel → IC M n x ρ ρi hi K Z ρm Zm γm cs → Cq M n x ρ ρi hi K Z (fX1_forced_L15 K2 fuel M x (Int32.ofNat s) (Int32.ofNat c)) (fr_ (sr_ (pB ρ) (d + dn) (9 * s + c))) := by
  have s8 : s < 9 := by
    have := (rg_nat (by decide) V.1.2.2.2.2.1).1
    omega
  intro d
  induction d with
  | zero =>
    intro c fuel M ρm Zm γm cs hc hf h
    obtain ⟨f, rfl⟩ : ∃ f, fuel = f + 1 := ⟨fuel - 1, by omega⟩
    have : c = 9 := by omega
    subst this
    rw [fX1_forced_L15, if_pos (by decide), lt_, nS1, Nat.zero_add, show 9 * s + 9 = 9 * (s + 1) by omega]
    exact hK _ _ _ _ _ h
  | succ d ih =>
    intro c fuel M ρm Zm γm cs hc hf h
    obtain ⟨f, rfl⟩ : ∃ f, fuel = f + 1 := ⟨fuel - 1, by omega⟩
    obtain ⟨M1, e1, h1, f1⟩ := h.won V (k := Int32.ofNat s) (by rw [nC (by omega)]; exact hs) ⟨s, by have := (rg_nat (by decide) V.1.2.2.2.2.1).1; omega, rfl⟩ (c := Int32.ofNat c) ⟨c, by omega, rfl⟩
    rw [fX1_forced_L15, if_neg (nge9 hc)]
    have ec : pB ρ (9 * s + c) = hB ρ (Int32.ofNat s) (Int32.ofNat c) := by
      unfold pB
      rw [show (9 * s + c) / 9 = s by omega, show (9 * s + c) % 9 = c by omega]
    rw [show d + 1 + dn = (d + dn) + 1 by omega, sr_, ec]
    simp only [h.ck, e1, bw_, lt_, Option.bind_some, nS1]
    cases hB ρ (Int32.ofNat s) (Int32.ofNat c) with
    | false => exact (ih (c + 1) f M1 _ _ _ _ (by omega) (by omega) h1).on f1
    | true =>
      refine ⟨M1, _, _, _, _, ?_, h1, f1⟩
      rw [if_neg b2_t, if_pos rfl, n10]
      show some (_, M1) = some (Int32.ofNat (10 * ((9 * s + c) / 9) + (9 * s + c) % 9), M1)
      rw [show (9 * s + c) / 9 = s by omega, show (9 * s + c) % 9 = c by omega]
theorem forced_C {n x : Nat} {ρ ρi : Rw_} {hi : Int32} {K : Nat → Rw_} {Z : Zr_} (V : OK_ ρ) : ∀ (e s fuel : Nat) (M : Mem_) (ρm : Rw_) (Zm : Zr_) (γm cs : Rw_), s + e = (ρ 0).toNatClampNeg → e < fuel → IC M n x ρ ρi hi K Z ρm Zm γm cs → Cq M n x ρ ρi hi K Z (fX1_forced_L2 fuel M x (Int32.ofNat s)) (fr_ (sr_ (pB ρ) (9 * e) (9 * s))) := by
  obtain ⟨N, hN, eN, eN2⟩ := V.n
  intro e
  induction e with
  | zero =>
    intro s fuel M ρm Zm γm cs hs hf h
    obtain ⟨f, rfl⟩ : ∃ f, fuel = f + 1 := ⟨fuel - 1, by omega⟩
    obtain ⟨γ0, h1⟩ := h.2.1
    rw [fX1_forced_L2]
    simp only [h.r0, co_i9 h1, Option.bind_some]
    rw [if_pos (by rw [eN, nL (by omega) (by omega)]; omega)]
    exact ⟨M, _, _, _, _, rfl, h, Fc.refl _ _⟩
  | succ e ih =>
    intro s fuel M ρm Zm γm cs hs hf h
    obtain ⟨f, rfl⟩ : ∃ f, fuel = f + 1 := ⟨fuel - 1, by omega⟩
    obtain ⟨γ0, h1⟩ := h.2.1
    rw [fX1_forced_L2]
    simp only [h.r0, co_i9 h1, Option.bind_some]
    rw [if_neg (by rw [eN, nL (by omega) (by omega)]; omega)]
    have t := forced_i V (s := s) (dn := 9 * e) (by omega) (fX1_forced_L2 f) (fun M ρm Zm γm cs h => ih (s + 1) f M ρm Zm γm cs (by omega) (by omega) h) 9 0 1000 M ρm Zm γm cs (by omega) (by omega) h
    rw [show 9 + 9 * e = 9 * (e + 1) by omega, Nat.add_zero] at t
    exact t
theorem forced_T {x : Nat} {ρ ρi : Rw_} {hi : Int32} {K : Nat → Rw_} (V : OK_ ρ) : ∀ (d a fuel : Nat) (M : Mem_) (μ γ sc : Rw_), a + d = 9 * (ρ 0).toNatClampNeg → d < fuel → IT M x ρ ρi hi K μ γ sc → Tq M x ρ ρi hi K (fX4_forced_L2 fuel M (x + 47) (Int32.ofNat a)) (fr_ (sr_ (pB ρ) d a)) := by
  obtain ⟨N, hN, eN, eN2⟩ := V.n
  have e9 : (9 : Int32) * ρ 0 = Int32.ofNat (9 * N) := by rw [eN, show (9 : Int32) = Int32.ofNat 9 from rfl, nM]
  intro d
  induction d with
  | zero =>
    intro a fuel M μ γ sc ha hf h
    obtain ⟨f, rfl⟩ : ∃ f, fuel = f + 1 := ⟨fuel - 1, by omega⟩
    rw [fX4_forced_L2]
    simp only [h.r0, ro_a0 h.2.1, Option.bind_some, e9]
    rw [if_pos (by rw [nL (by omega) (by omega)]; omega)]
    exact ⟨M, _, _, _, rfl, h, Ft.refl _ _⟩
  | succ d ih =>
    intro a fuel M μ γ sc ha hf h
    obtain ⟨f, rfl⟩ : ∃ f, fuel = f + 1 := ⟨fuel - 1, by omega⟩
    have hd := nD9 (i := a) (by omega)
    obtain ⟨M1, e1, h1, f1⟩ := h.won V (k := Int32.ofNat (a / 9)) (by rw [nC (by omega)]; omega) ⟨a / 9, by omega, rfl⟩ (c := Int32.ofNat (a % 9)) ⟨a % 9, by omega, rfl⟩
    rw [fX4_forced_L2]
    simp only [h.r0, ro_a0 h.2.1, Option.bind_some, e9]
    rw [if_neg (by rw [nL (by omega) (by omega)]; omega)]
    simp only [h.ck, hd.1, hd.2, e1, bw_, lt_, Option.bind_some, nS1, sr_, n10]
    show Tq M x ρ ρi hi K _ (fr_ (if hB ρ (Int32.ofNat (a / 9)) (Int32.ofNat (a % 9)) = true then some a else sr_ (pB ρ) d (a + 1)))
    cases hB ρ (Int32.ofNat (a / 9)) (Int32.ofNat (a % 9)) with
    | false => exact (ih (a + 1) f M1 _ _ _ (by omega) (by omega) h1).on f1
    | true => exact ⟨M1, _, _, _, rfl, h1, f1⟩
def awR (ρ : Rw_) (k : Int32) : Nat → Nat → Int32 → Int32 → Int32
  | 0, _, f, _ => f
  | d + 1, c, f, b => if hB ρ k (Int32.ofNat c) = true then awR ρ k d (c + 1) f b else if b < hR ρ k (Int32.ofNat c) (22 + 4 * (hR ρ k (Int32.ofNat c) 2).toNatClampNeg) then awR ρ k d (c + 1) (Int32.ofNat c) (hR ρ k (Int32.ofNat c) (22 + 4 * (hR ρ k (Int32.ofNat c) 2).toNatClampNeg)) else awR ρ k d (c + 1) f b
theorem atw_C {n x : Nat} {ρ ρi : Rw_} {hi : Int32} {K : Nat → Rw_} {Z : Zr_} (V : OK_ ρ) {k : Int32} (hk : k.toNatClampNeg < (ρ 0).toNatClampNeg) (hk8 : rg_ 8 k) : ∀ (d c fuel : Nat) (s b : Int32) (M : Mem_) (ρm : Rw_) (Zm : Zr_) (γm cs : Rw_), c + d = 9 → d < fuel → IC M n x ρ ρi hi K Z ρm Zm γm cs → Cq M n x ρ ρi hi K Z (fX1_atWhom_L22 fuel M x k s b (Int32.ofNat c)) (awR ρ k d c s b) := by
  intro d
  induction d with
  | zero =>
    intro c fuel s b M ρm Zm γm cs hc hf h
    obtain ⟨f, rfl⟩ : ∃ f, fuel = f + 1 := ⟨fuel - 1, by omega⟩
    have : c = 9 := by omega
    subst this
    rw [fX1_atWhom_L22, if_pos (by decide)]
    exact ⟨M, _, _, _, _, rfl, h, Fc.refl _ _⟩
  | succ d ih =>
    intro c fuel s b M ρm Zm γm cs hc hf h
    obtain ⟨f, rfl⟩ : ∃ f, fuel = f + 1 := ⟨fuel - 1, by omega⟩
    have hc9 : rg_ 9 (Int32.ofNat c) := ⟨c, by omega, rfl⟩
    obtain ⟨M1, e1, h1, f1⟩ := h.won V hk hk8 hc9
    have W := V.mv.hit hk hc9
    have A := co_tP h1.2.2.2.1 W.1.2.2.1
    rw [fX1_atWhom_L22, if_neg (nge9 hc)]
    simp only [h.ck, e1, bw_, lt_, Option.bind_some, nS1, awR, h1.r2, co_r3 h1.2.2.2.1, co_i10 h1.2.2.2.1, A.1]
    cases hB ρ k (Int32.ofNat c) with
    | true => exact (ih (c + 1) f _ _ M1 _ _ _ _ (by omega) (by omega) h1).on f1
    | false =>
      rw [if_pos b2_f, if_neg (show ¬ (false = true) by decide)]
      split
      · exact (ih (c + 1) f _ _ M1 _ _ _ _ (by omega) (by omega) h1).on f1
      · exact (ih (c + 1) f _ _ M1 _ _ _ _ (by omega) (by omega) h1).on f1
theorem atw_T {x : Nat} {ρ ρi : Rw_} {hi : Int32} {K : Nat → Rw_} (V : OK_ ρ) {k : Int32} (hk : k.toNatClampNeg < (ρ 0).toNatClampNeg) (hk8 : rg_ 8 k) : ∀ (d c fuel : Nat) (s b : Int32) (M : Mem_) (μ γ sc : Rw_), c + d = 9 → d < fuel → IT M x ρ ρi hi K μ γ sc → Tq M x ρ ρi hi K (fX4_atWhom_L18 fuel M (x + 47) k s b (Int32.ofNat c)) (awR ρ k d c s b) := by
  intro d
  induction d with
  | zero =>
    intro c fuel s b M μ γ sc hc hf h
    obtain ⟨f, rfl⟩ : ∃ f, fuel = f + 1 := ⟨fuel - 1, by omega⟩
    have : c = 9 := by omega
    subst this
    rw [fX4_atWhom_L18, if_pos (by decide)]
    exact ⟨M, _, _, _, rfl, h, Ft.refl _ _⟩
  | succ d ih =>
    intro c fuel s b M μ γ sc hc hf h
    obtain ⟨f, rfl⟩ : ∃ f, fuel = f + 1 := ⟨fuel - 1, by omega⟩
    have hc9 : rg_ 9 (Int32.ofNat c) := ⟨c, by omega, rfl⟩
    obtain ⟨M1, e1, h1, f1⟩ := h.won V hk hk8 hc9
    have W := V.mv.hit hk hc9
    have A := ro_tP h1.2.2.1 W.1.2.2.1
    rw [fX4_atWhom_L18, if_neg (nge9 hc)]
    simp only [h.ck, e1, bw_, lt_, Option.bind_some, nS1, awR, h1.r1, ro_a2 h1.2.2.1, A.1]
    cases hB ρ k (Int32.ofNat c) with
    | true => exact (ih (c + 1) f _ _ M1 _ _ _ (by omega) (by omega) h1).on f1
    | false =>
      rw [if_pos b2_f, if_neg (show ¬ (false = true) by decide)]
      split
      · exact (ih (c + 1) f _ _ M1 _ _ _ (by omega) (by omega) h1).on f1
      · exact (ih (c + 1) f _ _ M1 _ _ _ (by omega) (by omega) h1).on f1
theorem rg_pos {n : Nat} {v : Int32} (hn : n ≤ 1000) (h : rg_ n v) : (-4 : Int32) < v ∧ (-1 : Int32) < v := by
  obtain ⟨i, hi, rfl⟩ := h
  rw [Int32.lt_iff_toInt_lt, Int32.lt_iff_toInt_lt, nJ (by omega)]
  have e1 : (-4 : Int32).toInt = -4 := rfl
  have e2 : (-1 : Int32).toInt = -1 := rfl
  rw [e1, e2]
  constructor <;> omega
theorem aw_eq {ρ : Rw_} (V : OK_ ρ) {k : Int32} (hk : k.toNatClampNeg < (ρ 0).toNatClampNeg) : ∀ (d c : Nat) (f : Int32), c + d = 9 → awR ρ k d c f (-4) = awR ρ k d c f (-1) := by
  intro d
  induction d with
  | zero => intro c f hc; rfl
  | succ d ih =>
    intro c f hc
    have W := V.mv.hit hk (c := Int32.ofNat c) ⟨c, by omega, rfl⟩
    have hh := (rg_nat (by decide) W.1.2.2.1).1
    have P := rg_pos (by decide) (W.1.1 _ hh).2.2.1
    unfold awR
    rw [if_pos P.1, if_pos P.2, ih (c + 1) f (by omega)]
section Q4
variable {M M' : Mem_} {n x : Nat} {ρ ρi : Rw_} {hi : Int32} {K : Nat → Rw_} {Z : Zr_} {ρm : Rw_} {Zm : Zr_} {γm cs : Rw_} {μ γ sc : Rw_}
theorem o_forced (h : IC M n x ρ ρi hi K Z ρm Zm γm cs) (t : IT M' x ρ ρi hi K μ γ sc) (V : OK_ ρ) : Cq M n x ρ ρi hi K Z (fX1_forced M x) (fr_ (sr_ (pB ρ) (9 * (ρ 0).toNatClampNeg) 0)) ∧ Tq M' x ρ ρi hi K (fX4_forced M' (x + 47)) (fr_ (sr_ (pB ρ) (9 * (ρ 0).toNatClampNeg) 0)) := by
  obtain ⟨N, hN, eN, eN2⟩ := V.n
  unfold fX1_forced fX4_forced
  exact ⟨forced_C V (ρ 0).toNatClampNeg 0 1000 M _ _ _ _ (by omega) (by omega) h, forced_T V _ 0 1000 M' _ _ _ (by omega) (by omega) t⟩
theorem o_atWhom (h : IC M n x ρ ρi hi K Z ρm Zm γm cs) (t : IT M' x ρ ρi hi K μ γ sc) (V : OK_ ρ) (k : Int32) : ∃ r, Cq M n x ρ ρi hi K Z (fX1_atWhom M x k) r ∧ Tq M' x ρ ρi hi K (fX4_atWhom M' (x + 47) k) r := by
  unfold fX1_atWhom fX4_atWhom
  simp only [h.r0, h.ck1, h.isStroke, t.ck, t.isStroke, Option.bind_some]
  cases e1 : fX4_isIn k 0 (ρ 0 - 1) with
  | false => exact ⟨-1, ⟨M, _, _, _, _, rfl, h, Fc.refl _ _⟩, ⟨M', _, _, _, rfl, t, Ft.refl _ _⟩⟩
  | true =>
    obtain ⟨hk, hk8⟩ := str_rg V.1.2.2.2.2.1 e1
    rw [if_neg b2_t, if_neg b2_t]
    refine ⟨awR ρ k 9 0 (-4) (-1), ?_, atw_T V hk hk8 9 0 1000 _ _ M' _ _ _ rfl (by decide) t⟩
    have z := atw_C V hk hk8 9 0 1000 (-4) (-4) M _ _ _ _ rfl (by decide) h
    rw [aw_eq V hk 9 0 (-4) rfl] at z
    exact z
end Q4
/-- how far one has to go to a hit -/
def farR (ρ : Rw_) (k c : Int32) : Int32 := if whoR ρ (1 - (ρ 2).toNatClampNeg / 2) (falR ρ k c) = 9 then 99 else fX4_wayOf (ρ (20 + 4 * (whoR ρ (1 - (ρ 2).toNatClampNeg / 2) (falR ρ k c)).toNatClampNeg)) (falR ρ k c)
theorem who_rg {ρ : Rw_} (V : VR ρ) {f : Int32} (h : ¬ whoR ρ (1 - (ρ 2).toNatClampNeg / 2) f = 9) : rg_ 4 (whoR ρ (1 - (ρ 2).toNatClampNeg / 2) f) := by
  have hh := (rg_nat (by decide) V.2.2.1).1
  rcases whoR_cases ρ (1 - (ρ 2).toNatClampNeg / 2) f with e | e | e
  · exact ⟨_, by omega, e⟩
  · exact ⟨_, by omega, e⟩
  · exact absurd e h
theorem IC.far {M : Mem_} {n x : Nat} {ρ ρi : Rw_} {hi : Int32} {K : Nat → Rw_} {Z : Zr_} {ρm : Rw_} {Zm : Zr_} {γm cs : Rw_} (h : IC M n x ρ ρi hi K Z ρm Zm γm cs) (V : OK_ ρ) {k c : Int32} (hk : k.toNatClampNeg < (ρ 0).toNatClampNeg) (hk8 : rg_ 8 k) (hc : rg_ 9 c) : fX1_farFor M x k c = some (farR ρ k c) := by
  obtain ⟨γ0, h1⟩ := h.2.1
  obtain ⟨q, kn, fg, a, b, c1, d, _, _⟩ := h.stroke hk
  have hS := V.1.2.2.2.2.2 _ hk
  have hf : rg_ 9 (falR ρ k c) := fal_rg hS.1 hc V.1.2.2.2.1
  unfold fX1_farFor farR
  simp only [h.r0, h.ck1, co_fal h1 V.1.2.2.2.1 hk8 hc a b c1, co_who h1 V.1 hf, Option.bind_some, co_r1 h1, lt_]
  by_cases z : whoR ρ (1 - (ρ 2).toNatClampNeg / 2) (falR ρ k c) = 9
  · rw [if_pos z, if_pos z]
  · have g := who_rg V.1 z
    rw [if_neg z, if_neg z, (co_tP h1 g).2.1, Option.bind_some, way_eq (V.1.1 _ (rg_nat (by decide) g).1).1 hf]
theorem IT.far {M : Mem_} {x : Nat} {ρ ρi : Rw_} {hi : Int32} {K : Nat → Rw_} {μ γ sc : Rw_} (t : IT M x ρ ρi hi K μ γ sc) (V : OK_ ρ) {k c : Int32} (hk8 : rg_ 8 k) : fX4_leads M (x + 47) k c = some (farR ρ k c) := by
  unfold fX4_leads farR
  simp only [t.ck, t.r0, t.whoNow V.1 c hk8, Option.bind_some, lt_, ro_fal t.2.1 t.2.2.2.2.2.2.1 c hk8]
  by_cases z : whoR ρ (1 - (ρ 2).toNatClampNeg / 2) (falR ρ k c) = 9
  · rw [if_pos z, if_pos z]
  · have g := who_rg V.1 z
    rw [if_neg z, if_neg z, (ro_tP t.2.1 g).2.1, Option.bind_some]
section Q5
variable {M M' : Mem_} {n x : Nat} {ρ ρi : Rw_} {hi : Int32} {K : Nat → Rw_} {Z : Zr_} {ρm : Rw_} {Zm : Zr_} {γm cs : Rw_} {μ γ sc : Rw_}
theorem far_loop (h : IC M n x ρ ρi hi K Z ρm Zm γm cs) (t : IT M' x ρ ρi hi K μ γ sc) (V : OK_ ρ) {k : Int32} (w : Int32) (hk : k.toNatClampNeg < (ρ 0).toNatClampNeg) (hk8 : rg_ 8 k) : ∀ (d c fuel fuel' : Nat) (b : Int32), c + d = 9 → d < fuel → d < fuel' → rg_ 9 b → ∃ r, fX1_farthest_L27 fuel M x k w b (Int32.ofNat c) = some r ∧ fX4_farthest_L24 fuel' M' (x + 47) k w b (Int32.ofNat c) = some r := by
  intro d
  induction d with
  | zero =>
    intro c fuel fuel' b hc hf hf' hb
    obtain ⟨f, rfl⟩ : ∃ f, fuel = f + 1 := ⟨fuel - 1, by omega⟩
    obtain ⟨f', rfl⟩ : ∃ f, fuel' = f + 1 := ⟨fuel' - 1, by omega⟩
    have : c = 9 := by omega
    subst this
    rw [fX1_farthest_L27, if_pos (show (9 : Int32) ≤ Int32.ofNat 9 by decide), fX4_farthest_L24, if_pos (show (9 : Int32) ≤ Int32.ofNat 9 by decide)]
    simp only [h.ck, t.ck, h.far V hk hk8 hb, t.far V hk8, Option.bind_some]
    by_cases z : w = 0
    · simp only [if_pos z]
      exact ⟨_, rfl, rfl⟩
    · simp only [if_neg z]
      exact ⟨_, rfl, rfl⟩
  | succ d ih =>
    intro c fuel fuel' b hc hf hf' hb
    obtain ⟨f, rfl⟩ : ∃ f, fuel = f + 1 := ⟨fuel - 1, by omega⟩
    obtain ⟨f', rfl⟩ : ∃ f, fuel' = f + 1 := ⟨fuel' - 1, by omega⟩
    have hc9 : rg_ 9 (Int32.ofNat c) := ⟨c, by omega, rfl⟩
    rw [fX1_farthest_L27, if_neg (nge9 hc), fX4_farthest_L24, if_neg (nge9 hc)]
    simp only [h.ck, t.ck, h.far V hk hk8 hb, h.far V hk hk8 hc9, t.far V hk8, Option.bind_some, lt_, nS1]
    split
    · exact ih (c + 1) f f' b (by omega) (by omega) (by omega) hb
    · exact ih (c + 1) f f' _ (by omega) (by omega) (by omega) hc9
theorem o_farthest (h : IC M n x ρ ρi hi K Z ρm Zm γm cs) (t : IT M' x ρ ρi hi K μ γ sc) (V : OK_ ρ) (k w : Int32) : ∃ r, fX1_farthest M x k w = some r ∧ fX4_farthest M' (x + 47) k w = some r := by
  have z9 : rg_ 9 (0 : Int32) := ⟨0, by decide, rfl⟩
  unfold fX1_farthest fX4_farthest
  simp only [h.r0, h.ck1, h.isStroke, t.ck, t.isStroke, Option.bind_some, lt_, show fX1_isIn w 0 1 = fX4_isIn w 0 1 from rfl]
  cases e1 : fX4_isIn k 0 (ρ 0 - 1) with
  | false => exact ⟨_, rfl, rfl⟩
  | true =>
    cases e2 : fX4_isIn w 0 1 with
    | false => exact ⟨_, rfl, rfl⟩
    | true =>
      obtain ⟨hk, hk8⟩ := str_rg V.1.2.2.2.2.1 e1
      rw [if_neg b2_t, if_neg b2_t]
      obtain ⟨r, a, b⟩ := far_loop h t V w hk hk8 8 1 1000 999 0 rfl (by decide) (by decide) z9
      refine ⟨r, a, ?_⟩
      rw [show (1000 : Nat) = 999 + 1 from rfl, fX4_farthest_L24, if_neg (by decide)]
      simp only [t.ck, t.far V hk8, Option.bind_some, lt_]
      rw [if_pos (Int32.le_refl _)]
      exact b
end Q5
