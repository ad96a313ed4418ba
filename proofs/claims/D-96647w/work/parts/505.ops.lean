/-! what a rally leaves -/
set_option maxRecDepth 100000
/-- how many, who, the row and how far they went -/
def raR (K : Nat → Rw_) (dn : Nat) : Nat → Nat → Rw_ → Rw_ → Int32 × Int32 × Rw_ × Rw_
  | 0, k, μ, γ => (Int32.ofNat k, 2, μ, γ)
  | j + 1, k, μ, γ => if hB μ (eA K dn k) (eB K dn k) = true then (Int32.ofNat (k + 1), μ 2 / 2, hR μ (eA K dn k) (eB K dn k), hG μ γ (eA K dn k) (eB K dn k)) else raR K dn j (k + 1) (hR μ (eA K dn k) (eB K dn k)) (hG μ γ (eA K dn k) (eB K dn k))
theorem end_ag (ρ γ γ' : Rw_) (s : Nat) (w f t : Int32) (hp4 : ¬ w = 9 → w.toNatClampNeg < 4) (h : ∀ p, p < 4 → γ p = γ' p) : ∀ p, p < 4 → (endR ρ γ s w f t).2.2 p = (endR ρ γ' s w f t).2.2 p := by
  intro p hp
  unfold endR
  by_cases h9 : w = 9
  · rw [if_pos h9, if_pos h9]
    exact h p hp
  · rw [if_neg h9, if_neg h9]
    have h4 := hp4 h9
    have hq := par_lt h4
    by_cases g : fX4_wayOf (ρ (20 + 4 * w.toNatClampNeg)) f ≤ stpR ρ w.toNatClampNeg t
    · rw [if_pos g, if_pos g]
      show upd (upd γ _ _) _ _ p = upd (upd γ' _ _) _ _ p
      rw [updA, updA, updA, updA, h _ h4, h _ hq, h p hp]
    · rw [if_neg g, if_neg g]
      exact h p hp
theorem hG_ag {μ γ γ' : Rw_} (V : VR μ) {a b : Int32} (h : ∀ p, p < 4 → γ p = γ' p) : ∀ p, p < 4 → hG μ γ a b p = hG μ γ' a b p := by
  have hh := (rg_nat (by decide) V.2.2.1).1
  unfold hG
  simp only [hitR]
  refine end_ag _ γ γ' _ _ _ _ (fun h9 => ?_) h
  have hw := whoR_cases μ (1 - (μ 2).toNatClampNeg / 2) (falR μ a b)
  have hs : 1 - (μ 2).toNatClampNeg / 2 < 2 := by omega
  generalize 1 - (μ 2).toNatClampNeg / 2 = s at hw hs h9 ⊢
  generalize whoR μ s (falR μ a b) = w at hw h9 ⊢
  have : s = 0 ∨ s = 1 := by omega
  rcases hw with e | e | e
  · rcases this with z | z <;> subst z <;> subst e <;> decide
  · rcases this with z | z <;> subst z <;> subst e <;> decide
  · exact absurd e h9
theorem ra_ag {ρ : Rw_} (V : OK_ ρ) {K : Nat → Rw_} {dn : Nat} : ∀ (j k : Nat) (μ γ γ' : Rw_), MV μ ρ → (∀ i, k ≤ i → i < k + j → vH ρ K dn i = true) → (∀ p, p < 4 → γ p = γ' p) → (raR K dn j k μ γ).1 = (raR K dn j k μ γ').1 ∧ (raR K dn j k μ γ).2.1 = (raR K dn j k μ γ').2.1 ∧ (raR K dn j k μ γ).2.2.1 = (raR K dn j k μ γ').2.2.1 ∧ ∀ p, p < 4 → (raR K dn j k μ γ).2.2.2 p = (raR K dn j k μ γ').2.2.2 p := by
  intro j
  induction j with
  | zero => intro k μ γ γ' _ _ h; exact ⟨rfl, rfl, rfl, h⟩
  | succ j ih =>
    intro k μ γ γ' W hv h
    unfold raR
    have g := hG_ag W.1 (a := eA K dn k) (b := eB K dn k) h
    obtain ⟨v1, v2, v3⟩ := vH_rg V (hv k (by omega) (by omega))
    split
    · exact ⟨rfl, rfl, rfl, g⟩
    · exact ih (k + 1) _ _ _ (W.hit v1 v3) (fun i h1 h2 => hv i (by omega) (by omega)) g
theorem ra_C {n x : Nat} {ρ ρi : Rw_} {hi : Int32} {K : Nat → Rw_} {Z : Zr_} (V : OK_ ρ) {dn q m : Nat} {f : Rw_} : ∀ (j k fuel : Nat) (M : Mem_) (ρm γm cs : Rw_), k + j = m → j < fuel → (∀ i, k ≤ i → i < k + j → vH ρ K dn i = true) → IC M n x ρ ρi hi K Z ρm Z γm cs → cs 6 = 2 → MV ρm ρ → rowAt M n x K dn q (2 * m) f → ∃ M1 cs1, fX1_rallies_L11 fuel M x q (Int32.ofNat k) = some ((raR K dn j k ρm γm).1, M1) ∧ IC M1 n x ρ ρi hi K Z (raR K dn j k ρm γm).2.2.1 Z (raR K dn j k ρm γm).2.2.2 cs1 ∧ cs1 6 = (raR K dn j k ρm γm).2.1 ∧ Fc M M1 x := by
  intro j
  induction j with
  | zero =>
    intro k fuel M ρm γm cs hk hf hv h hc W R
    obtain ⟨g, rfl⟩ : ∃ g, fuel = g + 1 := ⟨fuel - 1, by omega⟩
    have h100 := R.2.2.2.1
    refine ⟨M, cs, ?_, h, hc, Fc.refl _ _⟩
    rw [fX1_rallies_L11, R.size, Option.bind_some, n2i, if_pos (by rw [nL (by omega) (by omega)]; omega), Option.bind_some, (nD2 (i := 2 * m) (by omega)).1, show 2 * m / 2 = k by omega]
    rfl
  | succ j ih =>
    intro k fuel M ρm γm cs hk hf hv h hc W R
    obtain ⟨g, rfl⟩ : ∃ g, fuel = g + 1 := ⟨fuel - 1, by omega⟩
    have h100 := R.2.2.2.1
    have E := R.eA (k := k) (by omega)
    obtain ⟨v1, v2, v3⟩ := vH_rg V (hv k (by omega) (by omega))
    obtain ⟨M1, e1, h1, f1⟩ := h.mhit rfl W v1 v2 v3
    rw [fX1_rallies_L11, R.size, Option.bind_some, if_neg (by rw [n2i, nL (by omega) (by omega)]; omega)]
    simp only [h.r2, h.ck19, co_turn h.2.2.2.1, E.1, E.2, e1, bw_, lt_, Option.bind_some, nS1]
    unfold raR
    cases hB ρm (eA K dn k) (eB K dn k) with
    | false =>
      obtain ⟨M2, cs1, a, b, c, d⟩ := ih (k + 1) g M1 _ _ _ (by omega) (by omega) (fun i h1 h2 => hv i (by omega) (by omega)) h1 hc (W.hit v1 v3) (R.cg f1)
      exact ⟨M2, cs1, a, b, c, f1.trans d⟩
    | true =>
      obtain ⟨M2, e2, h2, f2⟩ := h1.scal (k := 6) (v := ρm 2 / 2) (.inl rfl)
      rw [if_neg b2_t, e2, Option.bind_some]
      simp only [if_true]
      refine ⟨M2, upd cs 6 (ρm 2 / 2), rfl, h2, ?_, f1.trans f2⟩
      rw [updA, if_pos rfl]
theorem ra_T {x : Nat} {ρ ρi : Rw_} {hi : Int32} {K : Nat → Rw_} (V : OK_ ρ) {dn m : Nat} (hd : dn < 8) (h100 : 2 * m ≤ 100) (hs : K 4 dn = Int32.ofNat (2 * m)) : ∀ (j k fuel : Nat) (M : Mem_) (μ γ sc : Rw_), k + j = m → j + 1 < fuel → (∀ i, k ≤ i → i < k + j → vH ρ K dn i = true) → IT M x ρ ρi hi K μ γ sc → sc 10 = Int32.ofNat k → sc 11 = 2 → MV μ ρ → ∃ M1 sc1, fX4_rallies_L43 fuel M (x + 47) (Int32.ofNat dn) (Int32.ofNat (2 * k)) = some M1 ∧ IT M1 x ρ ρi hi K (raR K dn j k μ γ).2.2.1 (raR K dn j k μ γ).2.2.2 sc1 ∧ sc1 10 = (raR K dn j k μ γ).1 ∧ sc1 11 = (raR K dn j k μ γ).2.1 ∧ Ft M M1 x := by
  have kfa : ∀ {M : Mem_} {μ γ sc : Rw_}, IT M x ρ ρi hi K μ γ sc → aI_ M (x + 58) 0 (Int32.ofNat dn) = some (Int32.ofNat (2 * m)) := fun {M μ γ sc} t => by
    have kf := (t.kf (d := Int32.ofNat dn) ⟨dn, hd, rfl⟩).2.2.2.2
    rw [nC (by omega), hs] at kf
    exact kf
  intro j
  induction j with
  | zero =>
    intro k fuel M μ γ sc hk hf hv t c1 c2 W
    obtain ⟨g, rfl⟩ : ∃ g, fuel = g + 1 := ⟨fuel - 1, by omega⟩
    refine ⟨M, sc, ?_, t, c1, c2, Ft.refl _ _⟩
    rw [fX4_rallies_L43, t.r17, Option.bind_some, kfa t, Option.bind_some, if_pos (by rw [nL (by omega) (by omega)]; omega)]
  | succ j ih =>
    intro k fuel M μ γ sc hk hf hv t c1 c2 W
    obtain ⟨g, rfl⟩ : ∃ g, fuel = g + 1 + 1 := ⟨fuel - 2, by omega⟩
    have E := t.eA hd (k := k) (by omega)
    obtain ⟨v1, v2, v3⟩ := vH_rg V (hv k (by omega) (by omega))
    obtain ⟨M1, e1, h1, f1⟩ := t.mhit W v1 v2 v3
    rw [fX4_rallies_L43, t.r17, Option.bind_some, kfa t, Option.bind_some, if_neg (by rw [nL (by omega) (by omega)]; omega)]
    simp only [t.i11, c2, t.r1, ro_a2 t.2.2.1, t.r18, E.1, E.2, t.ck, e1, bw_, lt_, Option.bind_some, fX4_sideOf, if_true]
    unfold raR
    rw [show Int32.ofNat (2 * k) + 2 = Int32.ofNat (2 * (k + 1)) from nS (2 * k) 2]
    cases hB μ (eA K dn k) (eB K dn k) with
    | false =>
      obtain ⟨M2, e2, h2, f2⟩ := h1.scal (k := 10) (v := sc 10 + 1) (by decide)
      rw [if_pos b2_f, h1.i10, Option.bind_some, e2, Option.bind_some]
      obtain ⟨M3, sc1, a, b, c, d, e⟩ := ih (k + 1) (g + 1) M2 _ _ _ (by omega) (by omega) (fun i h1 h2 => hv i (by omega) (by omega)) h2 (by rw [updA, if_pos rfl, c1, nS1]) c2 (W.hit v1 v3)
      exact ⟨M3, sc1, a, b, c, d, f1.trans (f2.trans e)⟩
    | true =>
      obtain ⟨M2, e2, h2, f2⟩ := h1.scal (k := 11) (v := μ 2 / 2) (by decide)
      obtain ⟨M3, e3, h3, f3⟩ := h2.scal (k := 10) (v := sc 10 + 1) (by decide)
      have i10 : gI_ M2 (x + 47) 3 10 = some (sc 10) := h2.i10
      rw [if_neg b2_t, e2, Option.bind_some, i10, Option.bind_some, e3, Option.bind_some]
      simp only [if_true]
      refine ⟨M3, upd (upd sc 11 (μ 2 / 2)) 10 (sc 10 + 1), ?_, h3, ?_, ?_, f1.trans (f2.trans f3)⟩
      rotate_left
      · rw [updA, if_pos rfl, c1, nS1]
      · rw [updA, if_neg (by decide), updA, if_pos rfl]
      have i11 : gI_ M3 (x + 47) 3 11 = some (μ 2 / 2) := h3.i11
      rw [fX4_rallies_L43, h3.r17, Option.bind_some, kfa h3, Option.bind_some, i11, Option.bind_some]
      have n2 : ¬ μ 2 / 2 = 2 := by
        rcases rg4c W.1.2.2.1 with z | z | z | z <;> rw [z] <;> decide
      rw [if_neg n2]
      split <;> rfl
theorem ra_T0 {M : Mem_} {x : Nat} {ρ ρi : Rw_} {hi : Int32} {K : Nat → Rw_} {μ γ sc : Rw_} (t : IT M x ρ ρi hi K μ γ sc) (V : OK_ ρ) {dn m : Nat} (hd : dn < 8) (h100 : 2 * m ≤ 100) (hs : K 4 dn = Int32.ofNat (2 * m)) (hv : ∀ i, i < m → vH ρ K dn i = true) : ∃ M1 γ1 sc1, fX4_rallies M (x + 47) (Int32.ofNat dn) = some M1 ∧ IT M1 x ρ ρi hi K (raR K dn m 0 ρ (fun _ => 0)).2.2.1 γ1 sc1 ∧ (∀ p, p < 4 → γ1 p = (raR K dn m 0 ρ (fun _ => 0)).2.2.2 p) ∧ sc1 10 = (raR K dn m 0 ρ (fun _ => 0)).1 ∧ sc1 11 = (raR K dn m 0 ρ (fun _ => 0)).2.1 ∧ Ft M M1 x := by
  obtain ⟨M1, e1, t1, f1⟩ := t.cop V.2.1
  have gs : ∀ {M : Mem_} {γ : Rw_} {p : Nat} (t : IT M x ρ ρi hi K ρ γ sc), p < 4 → sI_ M (x + 52) 0 (Int32.ofNat p) 0 = some (ms_ M (x + 52) (eI_ 0 4 (upd γ p 0))) := fun {M γ p} t hp => by
    have s := sIof (i := Int32.ofNat p) (v := 0) t.2.2.2.2.2.2.1 (nB (by decide) hp)
    rw [nC (by omega)] at s
    exact s
  have a0 := t1.gone (γ' := upd γ 0 0)
  have a1 := a0.1.gone (γ' := upd (upd γ 0 0) 1 0)
  have a2 := a1.1.gone (γ' := upd (upd (upd γ 0 0) 1 0) 2 0)
  have a3 := a2.1.gone (γ' := upd (upd (upd (upd γ 0 0) 1 0) 2 0) 3 0)
  obtain ⟨M5, e5, t5, f5⟩ := a3.1.scal (k := 10) (v := 0) (by decide)
  obtain ⟨M6, e6, t6, f6⟩ := t5.scal (k := 11) (v := 2) (by decide)
  have s0 : sI_ M1 (x + 52) 0 0 0 = _ := gs (p := 0) t1 (by decide)
  have s1 : sI_ (ms_ M1 (x + 52) (eI_ 0 4 (upd γ 0 0))) (x + 52) 0 1 0 = _ := gs (p := 1) a0.1 (by decide)
  have s2 : sI_ _ (x + 52) 0 2 0 = _ := gs (p := 2) a1.1 (by decide)
  have s3 : sI_ _ (x + 52) 0 3 0 = _ := gs (p := 3) a2.1 (by decide)
  have L : ∀ fuel, fX4_rallies_L13 (fuel + 1 + 1 + 1 + 1 + 1) M1 (x + 47) (Int32.ofNat dn) 0 = fX4_rallies_L43 1000 M6 (x + 47) (Int32.ofNat dn) 0 := fun fuel => by
    rw [fX4_rallies_L13, if_neg (by decide), t1.r4, Option.bind_some, s0, Option.bind_some, lt_, show ((0 : Int32) + 1) = 1 from rfl]
    rw [fX4_rallies_L13, if_neg (by decide), a0.1.r4, Option.bind_some, s1, Option.bind_some, lt_, show ((1 : Int32) + 1) = 2 from rfl]
    rw [fX4_rallies_L13, if_neg (by decide), a1.1.r4, Option.bind_some, s2, Option.bind_some, lt_, show ((2 : Int32) + 1) = 3 from rfl]
    rw [fX4_rallies_L13, if_neg (by decide), a2.1.r4, Option.bind_some, s3, Option.bind_some, lt_, show ((3 : Int32) + 1) = 4 from rfl]
    rw [fX4_rallies_L13, if_pos (by decide), e5, Option.bind_some, e6, Option.bind_some]
  obtain ⟨M7, sc1, a, b, c, d, e⟩ := ra_T V hd h100 hs m 0 1000 M6 _ _ _ (by omega) (by omega) (fun i _ h => hv i (by omega)) t6 rfl rfl V.mv
  have A := ra_ag V m 0 ρ (upd (upd (upd (upd γ 0 0) 1 0) 2 0) 3 0) (fun _ => 0) (K := K) (dn := dn) V.mv (fun i _ h => hv i (by omega)) (fun p hp => by
    match p, hp with
    | 0, _ => rfl
    | 1, _ => rfl
    | 2, _ => rfl
    | 3, _ => rfl)
  refine ⟨M7, _, sc1, ?_, by rw [← A.2.2.1]; exact b, A.2.2.2, c.trans A.1, d.trans A.2.1, f1.trans (a0.2.trans (a1.2.trans (a2.2.trans (a3.2.trans (f5.trans (f6.trans e))))))⟩
  unfold fX4_rallies
  rw [t.r0, Option.bind_some, t.r1, Option.bind_some, e1, Option.bind_some]
  exact (L 995).trans a
theorem ra_C0 {M : Mem_} {n x : Nat} {ρ ρi : Rw_} {hi : Int32} {K : Nat → Rw_} {Z : Zr_} {ρm : Rw_} {Zm : Zr_} {γm cs : Rw_} (h : IC M n x ρ ρi hi K Z ρm Zm γm cs) (V : OK_ ρ) {dn q m : Nat} {f : Rw_} (R : rowAt M n x K dn q (2 * m) f) (hv : ∀ i, i < m → vH ρ K dn i = true) : ∃ M1 cs1, fX1_rallies M x q = some ((raR K dn m 0 ρ (fun _ => 0)).1, M1) ∧ IC M1 n x ρ ρi hi K Z (raR K dn m 0 ρ (fun _ => 0)).2.2.1 Z (raR K dn m 0 ρ (fun _ => 0)).2.2.2 cs1 ∧ cs1 6 = (raR K dn m 0 ρ (fun _ => 0)).2.1 ∧ Fc M M1 x := by
  obtain ⟨M1, e1, h1, f1⟩ := h.minds
  obtain ⟨M2, e2, h2, f2⟩ := h1.scal (k := 6) (v := 2) (.inl rfl)
  have h100 := R.2.2.2.1
  obtain ⟨M3, cs1, a, b, c, d⟩ := ra_C V m 0 1000 M2 _ _ _ (by omega) (by omega) (fun i _ h => hv i (by omega)) h2 rfl V.mv (R.cg (f1.trans f2))
  refine ⟨M3, cs1, ?_, b, c, f1.trans (f2.trans d)⟩
  unfold fX1_rallies
  rw [h.ck, Option.bind_some, e1, Option.bind_some, e2, Option.bind_some]
  exact a
theorem ra_mv {ρ : Rw_} (V : OK_ ρ) {K : Nat → Rw_} {dn : Nat} : ∀ (j k : Nat) (μ γ : Rw_), MV μ ρ → (∀ i, k ≤ i → i < k + j → vH ρ K dn i = true) → MV (raR K dn j k μ γ).2.2.1 ρ := by
  intro j
  induction j with
  | zero => intro k μ γ W _; exact W
  | succ j ih =>
    intro k μ γ W hv
    obtain ⟨v1, v2, v3⟩ := vH_rg V (hv k (by omega) (by omega))
    unfold raR
    split
    · exact W.hit v1 v3
    · exact ih (k + 1) _ _ (W.hit v1 v3) (fun i h1 h2 => hv i (by omega) (by omega))
theorem whR_ok {M : Mem_} {n x : Nat} {ρ ρi : Rw_} {hi : Int32} {K : Nat → Rw_} {Z : Zr_} {ρm : Rw_} {Zm : Zr_} {γm cs : Rw_} (h : IC M n x ρ ρi hi K Z ρm Zm γm cs) {d : Int32} (e : whR ρ K d = 0) : ∃ dn q m f, dn < 8 ∧ d = Int32.ofNat dn ∧ aR_ M (x + 38) 5 d = some (x + 39 + dn) ∧ gR_ M (x + 39 + dn) 2 0 = some q ∧ rowAt M n x K dn q (2 * m) f ∧ (∀ i, i < m → vH ρ K dn i = true) := by
  unfold whR at e
  by_cases w : wrR K d = 0
  · rw [if_pos w] at e
    obtain ⟨dn, q, sz, f, hd, ed, a, b, R⟩ := h.rowOf w
    have h100 := R.2.2.2.1
    rw [ed, nC (i := dn) (by omega), R.2.2.2.2.1, nC (i := sz) (by omega)] at e
    by_cases z : sz % 2 = 1
    · rw [if_pos z] at e
      exact absurd e (by decide)
    · rw [if_neg z] at e
      obtain ⟨m, rfl⟩ : ∃ m, sz = 2 * m := ⟨sz / 2, by omega⟩
      rw [show 2 * m / 2 = m by omega] at e
      exact ⟨dn, q, m, f, hd, ed, a, b, R, fun i hi => nh_ok m 0 e i (by omega) (by omega)⟩
  · rw [if_neg w] at e
    exact absurd e w
section Q10
variable {M M' : Mem_} {n x : Nat} {ρ ρi : Rw_} {hi : Int32} {K : Nat → Rw_} {Z : Zr_} {ρm : Rw_} {Zm : Zr_} {γm cs : Rw_} {μ γ sc : Rw_}
theorem o_rally (h : IC M n x ρ ρi hi K Z ρm Zm γm cs) (t : IT M' x ρ ρi hi K μ γ sc) (V : OK_ ρ) (d w : Int32) : ∃ r, Cq M n x ρ ρi hi K Z (fX1_rally M x d w) r ∧ Tq M' x ρ ρi hi K (fX4_rally M' (x + 47) d w) r := by
  unfold fX1_rally fX4_rally
  simp only [lt_, show fX1_isIn w 0 1 = fX4_isIn w 0 1 from rfl, h.ck, h.notHits, t.ck, t.wrongRally h, Option.bind_some]
  cases e0 : fX4_isIn w 0 1 with
  | false => exact ⟨_, ⟨M, _, _, _, _, rfl, h, Fc.refl _ _⟩, ⟨M', _, _, _, rfl, t, Ft.refl _ _⟩⟩
  | true =>
    simp only [if_neg b2_t]
    by_cases e : whR ρ K d = 0
    · simp only [if_pos e]
      obtain ⟨dn, q, m, f, hd, ed, a, b, R, hv⟩ := whR_ok h e
      subst ed
      have h100 := R.2.2.2.1
      obtain ⟨M1, cs1, a1, a2, a3, a4⟩ := ra_C0 h V R hv
      obtain ⟨M2, γ1, sc1, b1, b2, b3, b4, b5, b6⟩ := ra_T0 t V hd h100 R.2.2.2.2.1 hv
      simp only [h.r8, a, b, a1, b1, bw_, Option.bind_some, a2.i6, b2.i10, b2.i11, a3, b4, b5]
      by_cases z : w = 0
      · simp only [if_pos z]
        exact ⟨_, ⟨M1, _, _, _, _, rfl, a2, a4⟩, ⟨M2, _, _, _, rfl, b2, b6⟩⟩
      · simp only [if_neg z]
        exact ⟨_, ⟨M1, _, _, _, _, rfl, a2, a4⟩, ⟨M2, _, _, _, rfl, b2, b6⟩⟩
    · simp only [if_neg e]
      exact ⟨_, ⟨M, _, _, _, _, rfl, h, Fc.refl _ _⟩, ⟨M', _, _, _, rfl, t, Ft.refl _ _⟩⟩
theorem o_ways (h : IC M n x ρ ρi hi K Z ρm Zm γm cs) (t : IT M' x ρ ρi hi K μ γ sc) (V : OK_ ρ) (d p : Int32) : ∃ r, Cq M n x ρ ρi hi K Z (fX1_ways M x d p) r ∧ Tq M' x ρ ρi hi K (fX4_ways M' (x + 47) d p) r := by
  unfold fX1_ways fX4_ways
  simp only [lt_, show fX1_isPlayer p = fX4_isIn p 0 3 from rfl, show fX4_isPlayer p = fX4_isIn p 0 3 from rfl, h.ck, h.notHits, t.ck, t.wrongRally h, Option.bind_some]
  cases e0 : fX4_isIn p 0 3 with
  | false => exact ⟨_, ⟨M, _, _, _, _, rfl, h, Fc.refl _ _⟩, ⟨M', _, _, _, rfl, t, Ft.refl _ _⟩⟩
  | true =>
    have hp := in_rg (m := 3) (by decide) e0
    simp only [if_neg b2_t]
    by_cases e : whR ρ K d = 0
    · simp only [if_pos e]
      obtain ⟨dn, q, m, f, hd, ed, a, b, R, hv⟩ := whR_ok h e
      subst ed
      have h100 := R.2.2.2.1
      obtain ⟨M1, cs1, a1, a2, a3, a4⟩ := ra_C0 h V R hv
      obtain ⟨M2, γ1, sc1, b1, b2, b3, b4, b5, b6⟩ := ra_T0 t V hd h100 R.2.2.2.2.1 hv
      have g := aIof (i := p) b2.2.2.2.2.2.2.1 (rg_in (by decide) hp)
      rw [b3 _ (rg_nat (by decide) hp).1] at g
      simp only [h.r8, a, b, a1, b1, bw_, Option.bind_some, a2.r2, co_r7 a2.2.2.2.1, (co_tP a2.2.2.2.1 hp).2.2.2, b2.r4, g]
      exact ⟨_, ⟨M1, _, _, _, _, rfl, a2, a4⟩, ⟨M2, _, _, _, rfl, b2, b6⟩⟩
    · simp only [if_neg e]
      exact ⟨_, ⟨M, _, _, _, _, rfl, h, Fc.refl _ _⟩, ⟨M', _, _, _, rfl, t, Ft.refl _ _⟩⟩
theorem sp_loop (h : IC M n x ρ ρi hi K Z ρm Zm γm cs) (t : IT M' x ρ ρi hi K ρm γ sc) (y1 y2 : Int32) : ∀ (j p b fuel fuel' : Nat), p + j = 4 → b < 4 → j < fuel → j < fuel' → fX1_spent_L31 fuel M x y1 y2 (Int32.ofNat b) (Int32.ofNat p) = some (Int32.ofNat (bsR (fun v => ρm (22 + 4 * v)) j p b), M) ∧ fX4_spent_L22 fuel' M' (x + 47) y1 y2 (Int32.ofNat b) (Int32.ofNat p) = some (Int32.ofNat (bsR (fun v => ρm (22 + 4 * v)) j p b), M') := by
  intro j
  induction j with
  | zero =>
    intro p b fuel fuel' hp hb hf hf'
    obtain ⟨g, rfl⟩ : ∃ g, fuel = g + 1 := ⟨fuel - 1, by omega⟩
    obtain ⟨g', rfl⟩ : ∃ g, fuel' = g + 1 := ⟨fuel' - 1, by omega⟩
    have : p = 4 := by omega
    subst this
    rw [fX1_spent_L31, if_pos (by decide), fX4_spent_L22, if_pos (by decide)]
    exact ⟨rfl, rfl⟩
  | succ j ih =>
    intro p b fuel fuel' hp hb hf hf'
    obtain ⟨g, rfl⟩ : ∃ g, fuel = g + 1 := ⟨fuel - 1, by omega⟩
    obtain ⟨g', rfl⟩ : ∃ g, fuel' = g + 1 := ⟨fuel' - 1, by omega⟩
    have n4 : ¬ (4 : Int32) ≤ Int32.ofNat p := fun w => by
      have := (nL (i := 4) (by omega) (by omega)).mp w
      omega
    have A := (co_tP h.2.2.2.1 (v := Int32.ofNat p) ⟨p, by omega, rfl⟩).1
    have B := (co_tP h.2.2.2.1 (v := Int32.ofNat b) ⟨b, by omega, rfl⟩).1
    have C := (ro_tP t.2.2.1 (v := Int32.ofNat p) ⟨p, by omega, rfl⟩).1
    have D := (ro_tP t.2.2.1 (v := Int32.ofNat b) ⟨b, by omega, rfl⟩).1
    rw [nC (by omega)] at A B C D
    rw [fX1_spent_L31, if_neg n4, fX4_spent_L22, if_neg n4]
    simp only [h.r2, co_r3 h.2.2.2.1, A, B, t.r1, C, D, Option.bind_some, lt_, nS1]
    unfold bsR
    by_cases e : ρm (22 + 4 * p) ≤ ρm (22 + 4 * b)
    · simp only [if_pos e]
      exact ih (p + 1) b g g' (by omega) hb (by omega) (by omega)
    · simp only [if_neg e]
      exact ih (p + 1) p g g' (by omega) (by omega) (by omega) (by omega)
theorem bw_n {α β δ : Type} (a : α) (b : β) (k : α → β → Option δ) : bw_ (some (a, b)) k = k a b := by
  have h : ∀ o : Option (α × β), o = some (a, b) → bw_ o k = k a b := fun o e => by
    subst e
    rfl
  exact h _ rfl
theorem ob_n {α δ : Type} (a : α) (k : α → Option δ) : (some a).bind k = k a := by
  have h : ∀ o : Option α, o = some a → o.bind k = k a := fun o e => by
    subst e
    rfl
  exact h _ rfl
theorem sp_two (h : IC M n x ρ ρi hi K Z ρm Zm γm cs) (t : IT M' x ρ ρi hi K ρm γ sc) (y1 y2 : Int32) (F : Nat) (hF : 4 < F) : ∃ B, fX1_spent_L31 F M x y1 y2 0 1 = some (B, M) ∧ fX4_spent_L22 F M' (x + 47) y1 y2 0 0 = some (B, M') := by
  have S1 := (sp_loop h t y1 y2 3 1 0 F F (by decide) (by decide) (by omega) (by omega)).1
  have S2 := (sp_loop h t y1 y2 4 0 0 F F (by decide) (by decide) (by omega) (by omega)).2
  rw [oN0, oN1] at S1
  rw [oN0] at S2
  refine ⟨_, S1, S2.trans ?_⟩
  rw [bsR, if_pos (Int32.le_refl _)]
theorem o_spent (h : IC M n x ρ ρi hi K Z ρm Zm γm cs) (t : IT M' x ρ ρi hi K μ γ sc) (V : OK_ ρ) (d : Int32) : ∃ r, Cq M n x ρ ρi hi K Z (fX1_spent M x d) r ∧ Tq M' x ρ ρi hi K (fX4_spent M' (x + 47) d) r := by
  unfold fX1_spent fX4_spent
  simp only [h.ck, h.notHits, t.ck, t.wrongRally h, Option.bind_some]
  by_cases e : whR ρ K d = 0
  · simp only [if_pos e]
    obtain ⟨dn, q, m, f, hd, ed, a, b, R, hv⟩ := whR_ok h e
    have h100 := R.2.2.2.1
    obtain ⟨M1, cs1, a1, a2, a3, a4⟩ := ra_C0 h V R hv
    obtain ⟨M2, γ1, sc1, b1, b2, b3, b4, b5, b6⟩ := ra_T0 t V hd h100 R.2.2.2.2.1 hv
    obtain ⟨B, S1, S2⟩ := sp_two a2 b2 d (whR ρ K d) 1000 (by decide)
    rw [← ed] at b1
    simp only [h.r8, a, b, a1, b1, bw_n, ob_n]
    exact ⟨B, ⟨M1, _, _, _, _, S1, a2, a4⟩, ⟨M2, _, _, _, S2, b2, b6⟩⟩
  · simp only [if_neg e]
    exact ⟨_, ⟨M, _, _, _, _, rfl, h, Fc.refl _ _⟩, ⟨M', _, _, _, rfl, t, Ft.refl _ _⟩⟩
end Q10
