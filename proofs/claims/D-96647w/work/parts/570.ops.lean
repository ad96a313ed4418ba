/-! a stroke is learnt -/
set_option maxRecDepth 100000
theorem ct_st (c : Nat) (ρ : Rw_) (Z : Zr_) (γ : Rw_) {k : Nat} (v : Int32) (h1 : 4 ≤ k) (h2 : k < 20) : ∀ i, i < 9 → ct_ c (upd ρ k v) Z γ i = ct_ c ρ Z γ i := by
  intro i hi
  by_cases e : i = 1
  · subst e
    rfl
  · exact cwx c ρ Z γ (upd ρ k v) 1 k v (by decide) rfl (fun _ => by omega) (fun _ p _ => by omega) (fun _ p _ => by omega) (fun _ p _ => by omega) (fun _ p _ => by omega) (fun _ p _ => by omega) (fun _ p _ => by omega) i hi e
theorem cw_cg {M : Mem_} {c : Nat} {ρ ρ' : Rw_} {Z : Zr_} {γ : Rw_} (h : ∀ i, i < 9 → ct_ c ρ' Z γ i = ct_ c ρ Z γ i) : cw_ M c ρ Z γ = cw_ M c ρ' Z γ := by
  funext q
  unfold cw_
  split
  · rename_i w
    rw [h _ (by omega)]
  · rfl
def lnR (ρ : Rw_) (kd fg : Int32) : Rw_ := upd (upd (upd ρ (4 + 2 * (ρ 0).toNatClampNeg) kd) (5 + 2 * (ρ 0).toNatClampNeg) fg) 0 (ρ 0 + 1)
theorem ln_st (ρ : Rw_) (kd fg : Int32) {i : Nat} (hi : i ≠ 0) (h : i ≠ 4 + 2 * (ρ 0).toNatClampNeg) (h2 : i ≠ 5 + 2 * (ρ 0).toNatClampNeg) : lnR ρ kd fg i = ρ i := by
  unfold lnR
  rw [updA, if_neg hi, updA, if_neg h2, updA, if_neg h]
theorem ln_0 (ρ : Rw_) (kd fg : Int32) : lnR ρ kd fg 0 = ρ 0 + 1 := rfl
theorem ln_k (ρ : Rw_) (kd fg : Int32) : lnR ρ kd fg (4 + 2 * (ρ 0).toNatClampNeg) = kd ∧ lnR ρ kd fg (5 + 2 * (ρ 0).toNatClampNeg) = fg := by
  unfold lnR
  constructor
  · rw [updA, if_neg (by omega), updA, if_neg (by omega), updA, if_pos rfl]
  · rw [updA, if_neg (by omega), updA, if_pos rfl]
theorem co_learn {M : Mem_} {c q kn : Nat} {ρ : Rw_} {Z : Zr_} {γ : Rw_} {fg : Int32} (h : Co_ M c ρ Z γ) (hN : rg_ 8 (ρ 0)) (hs : sk_ M q = some (kn, fg)) (kd f : Int32) : fX2_learns M c q = some (ρ 0 + 1 - 1, cw_ M c (lnR ρ kd f) (va_up Z (ρ 0).toNatClampNeg (some q)) γ) := by
  have n8 := (rg_nat (by decide) hN).1
  have e1 : sQ_ M (c + 1) 3 (ρ 0) (some q) = some (cw_ M c ρ (va_up Z (ρ 0).toNatClampNeg (some q)) γ) := by
    unfold sQ_
    rw [aqof (h 1 (by decide)), ob_n, if_neg (rg_in (by decide) hN)]
    have m := ms_cw (M := M) (c := c) (j := 1) (ρ := ρ) (ρ' := ρ) (Z := Z) (Z' := va_up Z (ρ 0).toNatClampNeg (some q)) (γ := γ) (γ' := γ) (e := eQ_ 3 8 (va_up Z (ρ 0).toNatClampNeg (some q))) (by decide) rfl (fun i hi hij => by
      match i, hi with
      | 0, _ => rfl
      | 1, _ => exact absurd rfl hij
      | 2, _ => rfl
      | 3, _ => rfl
      | 4, _ => rfl
      | 5, _ => rfl
      | 6, _ => rfl
      | 7, _ => rfl
      | 8, _ => rfl)
    rw [cw_eq h] at m
    rw [m]
  have e2 : cw_ M c ρ (va_up Z (ρ 0).toNatClampNeg (some q)) γ = cw_ M c (upd (upd ρ (4 + 2 * (ρ 0).toNatClampNeg) kd) (5 + 2 * (ρ 0).toNatClampNeg) f) (va_up Z (ρ 0).toNatClampNeg (some q)) γ := cw_cg fun i hi => (ct_st c _ _ γ f (by omega) (by omega) i hi).trans (ct_st c ρ _ γ kd (by omega) (by omega) i hi)
  rw [e2] at e1
  have c1 : Co_ (cw_ M c (upd (upd ρ (4 + 2 * (ρ 0).toNatClampNeg) kd) (5 + 2 * (ρ 0).toNatClampNeg) f) (va_up Z (ρ 0).toNatClampNeg (some q)) γ) c (upd (upd ρ (4 + 2 * (ρ 0).toNatClampNeg) kd) (5 + 2 * (ρ 0).toNatClampNeg) f) (va_up Z (ρ 0).toNatClampNeg (some q)) γ := cw_co _ _ _ _ _
  have u0 : upd (upd ρ (4 + 2 * (ρ 0).toNatClampNeg) kd) (5 + 2 * (ρ 0).toNatClampNeg) f 0 = ρ 0 := by rw [updA, if_neg (by omega), updA, if_neg (by omega)]
  have i9 := co_i9 c1
  rw [u0] at i9
  have p9 := co_p9 c1 (ρ 0 + 1)
  rw [cw_cw] at p9
  have c2 : Co_ (cw_ M c (lnR ρ kd f) (va_up Z (ρ 0).toNatClampNeg (some q)) γ) c (lnR ρ kd f) (va_up Z (ρ 0).toNatClampNeg (some q)) γ := cw_co _ _ _ _ _
  have i9' := co_i9 c2
  rw [ln_0] at i9'
  have p9' : pF_ (cw_ M c (upd (upd ρ (4 + 2 * (ρ 0).toNatClampNeg) kd) (5 + 2 * (ρ 0).toNatClampNeg) f) (va_up Z (ρ 0).toNatClampNeg (some q)) γ) c 1 9 (.int (ρ 0 + 1)) = some (cw_ M c (lnR ρ kd f) (va_up Z (ρ 0).toNatClampNeg (some q)) γ) := p9
  unfold fX2_learns
  rw [co_r0 h, ob_n, co_i9 h, ob_n, hs, ob_n, e1, ob_n, i9, ob_n, lt_, p9', ob_n, i9', ob_n]
theorem SZ.learn {M : Mem_} {x n q kn : Nat} {Z : Zr_} {ρ : Rw_} {fg : Int32} (h : SZ M x n Z ρ) (hN : rg_ 8 (ρ 0)) (hs : sk_ M q = some (kn, fg)) (h1 : x + 61 ≤ q) (h2 : q < n) : SZ M x n (va_up Z (ρ 0).toNatClampNeg (some q)) (lnR ρ (Int32.ofNat kn) fg) := by
  obtain ⟨N, hN8, eN⟩ := hN
  have en : (ρ 0).toNatClampNeg = N := by rw [eN, nC (by omega)]
  refine ⟨fun i p hp => ?_, fun i hi => ?_⟩
  · by_cases e : i = (ρ 0).toNatClampNeg
    · rw [e, va_up_self] at hp
      cases hp
      exact ⟨h1, h2, by rw [hs]; rfl⟩
    · rw [va_up_ne _ _ e] at hp
      exact h.1 i p hp
  · rw [ln_0, eN, nS1, nC (by omega)] at hi
    by_cases e : i = (ρ 0).toNatClampNeg
    · subst e
      have l := ln_k ρ (Int32.ofNat kn) fg
      exact ⟨q, kn, fg, va_up_self _ _ _, hs, l.1.symm, l.2.symm⟩
    · obtain ⟨p, k, f, a, b, c, d⟩ := h.2 i (by omega)
      exact ⟨p, k, f, by rw [va_up_ne _ _ e]; exact a, b, by rw [ln_st ρ _ _ (by omega) (by omega) (by omega)]; exact c, by rw [ln_st ρ _ _ (by omega) (by omega) (by omega)]; exact d⟩
theorem Zn.learn {Z : Zr_} {ρ : Rw_} (h : Zn Z) (hN : rg_ 8 (ρ 0)) (o : Option Nat) : Zn (va_up Z (ρ 0).toNatClampNeg o) := fun i hi => by
  have n8 := (rg_nat (by decide) hN).1
  rw [va_up_ne _ _ (by omega)]
  exact h i hi
theorem VR.learn {ρ : Rw_} (V : VR ρ) (hN : rg_ 8 (ρ 0)) {kd fg : Int32} (hk : rg_ 8 kd) (hf : rg_ 10 fg) : VR (lnR ρ kd fg) := by
  have n8 := (rg_nat (by decide) hN).1
  have s : ∀ i, i ≠ 0 → i < 4 ∨ 20 ≤ i → lnR ρ kd fg i = ρ i := fun i h0 h => ln_st ρ kd fg h0 (by omega) (by omega)
  obtain ⟨V1, V2, V3, V4, V5, V6⟩ := V
  refine ⟨fun p hp => ?_, fun p hp => ?_, ?_, ?_, ?_, fun i hi => ?_⟩
  · rw [s _ (by omega) (by omega), s _ (by omega) (by omega), s _ (by omega) (by omega), s _ (by omega) (by omega)]
    exact V1 p hp
  · rw [s _ (by omega) (by omega), s _ (by omega) (by omega)]
    exact V2 p hp
  · rw [s _ (by omega) (by omega)]
    exact V3
  · rw [s _ (by omega) (by omega)]
    exact V4
  · rw [ln_0]
    obtain ⟨N, h1, h2⟩ := hN
    exact ⟨N + 1, by omega, by rw [h2, nS1]⟩
  · rw [ln_0] at hi
    obtain ⟨N, h1, h2⟩ := hN
    have en : (ρ 0).toNatClampNeg = N := by rw [h2, nC (by omega)]
    rw [h2, nS1, nC (by omega)] at hi
    by_cases e : i = (ρ 0).toNatClampNeg
    · rw [e, (ln_k ρ kd fg).1, (ln_k ρ kd fg).2]
      exact ⟨hk, hf⟩
    · rw [ln_st ρ _ _ (by omega) (by omega) (by omega), ln_st ρ _ _ (by omega) (by omega) (by omega)]
      exact V6 i (by omega)
theorem OK_.learn {ρ : Rw_} (V : OK_ ρ) (hN : rg_ 8 (ρ 0)) {kd fg : Int32} (hk : rg_ 8 kd) (hf : rg_ 10 fg) : OK_ (lnR ρ kd fg) := by
  have n8 := (rg_nat (by decide) hN).1
  refine ⟨V.1.learn hN hk hf, fun i hi => ?_, ?_, ?_, ?_⟩
  · rw [ln_st ρ _ _ (by omega) (by omega) (by omega)]
    exact V.2.1 i hi
  · rw [ln_st ρ _ _ (by omega) (by omega) (by omega)]
    exact V.2.2.1
  · rw [ln_st ρ _ _ (by omega) (by omega) (by omega)]
    exact V.2.2.2.1
  · rw [ln_st ρ _ _ (by omega) (by omega) (by omega)]
    exact V.2.2.2.2
theorem IT.adds {M : Mem_} {x : Nat} {ρ ρi : Rw_} {hi : Int32} {K : Nat → Rw_} {μ γ sc : Rw_} (t : IT M x ρ ρi hi K μ γ sc) (hN : rg_ 8 (ρ 0)) (kd fg : Int32) : ∃ M1, fX4_adds M (x + 47) kd fg = some M1 ∧ IT M1 x (lnR ρ kd fg) ρi hi K μ γ sc ∧ Ft M M1 x ∧ ∀ q, q ≠ x + 48 → M1 q = M q := by
  obtain ⟨t1, f1⟩ := t.now (ρ' := upd ρ (4 + 2 * (ρ 0).toNatClampNeg) kd)
  obtain ⟨t2, f2⟩ := t1.now (ρ' := upd (upd ρ (4 + 2 * (ρ 0).toNatClampNeg) kd) (5 + 2 * (ρ 0).toNatClampNeg) fg)
  obtain ⟨t3, f3⟩ := t2.now (ρ' := lnR ρ kd fg)
  have u1 : upd ρ (4 + 2 * (ρ 0).toNatClampNeg) kd 0 = ρ 0 := by rw [updA, if_neg (by omega)]
  have u2 : upd (upd ρ (4 + 2 * (ρ 0).toNatClampNeg) kd) (5 + 2 * (ρ 0).toNatClampNeg) fg 0 = ρ 0 := by rw [updA, if_neg (by omega), u1]
  have a1 := ro_a0 t1.2.1
  have a2 := ro_a0 t2.2.1
  rw [u1] at a1
  rw [u2] at a2
  have s3 : sI_ _ (x + 48) 0 0 (ρ 0 + 1) = some (ms_ _ (x + 48) (eI_ 0 42 (lnR ρ kd fg))) := ro_s0 t2.2.1 (ρ 0 + 1)
  refine ⟨_, ?_, t3, f1.trans (f2.trans f3), fun q hq => (ms_ne hq).trans ((ms_ne hq).trans (ms_ne hq))⟩
  unfold fX4_adds
  rw [t.r0, ob_n, ob_n, ro_a0 t.2.1, ob_n, lt_, (ro_sS t.2.1 hN kd).1, ob_n, t1.r0, ob_n, ob_n, a1, ob_n, lt_, (ro_sS t1.2.1 hN fg).2, ob_n, t2.r0, ob_n, a2, ob_n, s3, ob_n]
section Q21
variable {M M' : Mem_} {n x : Nat} {ρ ρi : Rw_} {hi : Int32} {K : Nat → Rw_} {Z : Zr_} {ρm : Rw_} {Zm : Zr_} {γm cs : Rw_} {μ γ sc : Rw_}
theorem o_bad2 (h : IC M n x ρ ρi hi K Z ρm Zm γm cs) (t : IT M' x ρ ρi hi K μ γ sc) (V : OK_ ρ) (j : Nat) (v : Int32) : ∃ (r : Int32) (ρ' : Rw_), CA M n x (some (v, M, n + j)) r ρ' ρi hi K ∧ TG M' x (some (v, M')) r ρ' ρi hi K ∧ OK_ ρ' := ⟨v, ρ, ⟨M, n + j, _, _, _, _, _, rfl, by omega, h.grow (by omega), Fw.refl _ _⟩, ⟨M', _, _, _, rfl, t, Ft.refl _ _⟩, V⟩
theorem rg9_8 {v : Int32} (h : rg_ 9 v) (h8 : ¬ v = 8) : rg_ 8 v := by
  obtain ⟨i, hi, rfl⟩ := h
  by_cases e : i = 8
  · subst e
    exact absurd rfl h8
  · exact ⟨i, by omega, rfl⟩
theorem o_learns (h : IC M n x ρ ρi hi K Z ρm Zm γm cs) (t : IT M' x ρ ρi hi K μ γ sc) (V : OK_ ρ) (d : Int32) : ∃ (r : Int32) (ρ' : Rw_), CA M n x (fX1_learns M n x d) r ρ' ρi hi K ∧ TG M' x (fX4_learns M' (x + 47) d) r ρ' ρi hi K ∧ OK_ ρ' := by
  obtain ⟨γ0, h1⟩ := h.2.1
  unfold fX1_learns fX4_learns
  rw [h.ck, ob_n, t.ck, ob_n, t.wrongKept, ob_n, lt_, show fX1_isShelf x d = fX4_isIn d 0 7 from rfl]
  unfold wkR
  cases e : fX4_isIn d 0 7 with
  | false => exact o_bad2 h t V 0 _
  | true =>
    have hd := in_rg (m := 7) (by decide) e
    obtain ⟨hv, a, b, c⟩ := h.shelf hd
    have k := t.kf hd
    rw [if_neg b2_t, if_pos rfl, h.r8, ob_n, a, ob_n, gNof b, ob_n]
    rcases c with ⟨c1, c2⟩ | ⟨c1, q, kn, fg, c2, cx, cn, c3, c4, c5, c6, c7⟩ | ⟨c1, q, sz, f, c2, _, _, c3, _, _, c4, _⟩
    · rw [c2, if_pos c1]
      exact o_bad2 h t V 0 _
    · have z0 : ¬ K 0 d.toNatClampNeg = 0 := by rw [c1]; decide
      have z2 : ¬ K 0 d.toNatClampNeg = 2 := by rw [c1]; decide
      rw [c2, if_neg z0, if_neg z2, if_pos rfl]
      simp only [no_, tg_str c3, h.r0, co_i9 h1, h.ck1, t.r0, ro_a0 t.2.1, t.ck, t.r14, t.r15, k.2.1, k.2.2.1, ob_n, if_true]
      by_cases g : ρ 0 = 8
      · rw [if_pos g, if_pos g]
        exact o_bad2 h t V 0 _
      · rw [if_neg g, if_neg g]
        have hN := rg9_8 V.1.2.2.2.2.1 g
        obtain ⟨M1, e1, t1, f1, _⟩ := t.adds hN (K 1 d.toNatClampNeg) (K 2 d.toNatClampNeg)
        have L := co_learn h1 hN c3 (K 1 d.toNatClampNeg) (K 2 d.toNatClampNeg)
        have S := h.2.2.2.2.2.2.2.2.1.learn hN c3 cx cn
        rw [c4, c5] at S
        obtain ⟨i1, i2⟩ := h.now (γ' := γ0) S (h.2.2.2.2.2.2.2.2.2.1.learn hN _)
        have r0 := ro_a0 t1.2.1
        rw [ln_0] at r0
        rw [L, bw_n, e1, ob_n, t1.r0, ob_n, r0, ob_n]
        exact ⟨_, _, ⟨_, n, _, _, _, _, _, rfl, Nat.le_refl _, i1, i2.w⟩, ⟨_, _, _, _, rfl, t1, f1⟩, V.learn hN c6 c7⟩
    · have z0 : ¬ K 0 d.toNatClampNeg = 0 := by rw [c1]; decide
      have h3 : ¬ tagOf (K 3 d.toNatClampNeg) = 3 := by
        have := tagLt (s := K 3 d.toNatClampNeg)
        omega
      rw [c2, if_neg z0, if_pos c1]
      simp only [no_, row_tg c3, ob_n, if_neg h3, if_neg (show ¬ (-12 : Int32) = 0 by decide)]
      exact o_bad2 h t V 3 _
end Q21
