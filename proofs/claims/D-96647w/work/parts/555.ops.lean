/-! nights by seeds -/
set_option maxRecDepth 100000
theorem nRm {i j : Nat} (hi : i < 2147483648) (hj : j < 2147483648) : Int32.ofNat i - Int32.ofNat i / Int32.ofNat j * Int32.ofNat j = Int32.ofNat (i % j) := by
  rw [← Int32.ofNat_div (by omega) (by omega), nM]
  have e : Int32.ofNat i = Int32.ofNat (i % j) + Int32.ofNat (i / j * j) := by rw [nS, Nat.mod_add_div']
  rw [e, Int32.add_sub_cancel]
theorem and_i (s : Int32) : ∃ i, i < 2147483648 ∧ s &&& 2147483647 = Int32.ofNat i := by
  refine ⟨s.toBitVec.toNat % 2 ^ 31, Nat.mod_lt _ (by decide), ?_⟩
  apply Int32.toBitVec_inj.mp
  apply BitVec.eq_of_toNat_eq
  show (s.toBitVec &&& 2147483647#32).toNat = (BitVec.ofNat 32 (s.toBitVec.toNat % 2 ^ 31)).toNat
  rw [BitVec.toNat_and, BitVec.toNat_ofNat, BitVec.toNat_ofNat]
  have h1 : s.toBitVec.toNat &&& 2 ^ 31 - 1 = s.toBitVec.toNat % 2 ^ 31 := Nat.and_two_pow_sub_one_eq_mod _ _
  have h2 : 2147483647 % 2 ^ 32 = 2 ^ 31 - 1 := by decide
  rw [h2, h1]
  have h3 : s.toBitVec.toNat % 2 ^ 31 < 2 ^ 31 := Nat.mod_lt _ (by decide)
  exact (Nat.mod_eq_of_lt (by omega)).symm
def dwR (s : Int32) : Int32 := s * 1103515245 + 12345
def dvR (s n : Int32) : Int32 := (s &&& 2147483647) / 65536 - (s &&& 2147483647) / 65536 / n * n
theorem dv_rg (s : Int32) {N : Nat} (h : 0 < N) (hN : N < 1000) : rg_ N (dvR s (Int32.ofNat N)) := by
  obtain ⟨i, hi, e⟩ := and_i s
  unfold dvR
  rw [e, show (65536 : Int32) = Int32.ofNat 65536 from rfl, ← Int32.ofNat_div (by omega) (by decide), nRm (by omega) (by omega)]
  exact ⟨_, Nat.mod_lt _ h, rfl⟩
theorem IC.draw {M : Mem_} {n x : Nat} {ρ ρi : Rw_} {hi : Int32} {K : Nat → Rw_} {Z : Zr_} {ρm : Rw_} {Zm : Zr_} {γm cs : Rw_} (h : IC M n x ρ ρi hi K Z ρm Zm γm cs) {N : Int32} (hN : ¬ N = 0) : ∃ M1, fX1_draw M x N = some (dvR (dwR (cs 7)) N, M1) ∧ IC M1 n x ρ ρi hi K Z ρm Zm γm (upd cs 7 (dwR (cs 7))) ∧ Fc M M1 x := by
  obtain ⟨M1, e1, h1, f1⟩ := h.scal (k := 7) (v := dwR (cs 7)) (.inr rfl)
  refine ⟨M1, ?_, h1, f1⟩
  have i7 : gI_ M1 x 0 7 = some (dwR (cs 7)) := h1.i7
  unfold fX1_draw
  rw [h.i7, ob_n, lt_]
  show (pF_ M x 0 7 (.int (dwR (cs 7)))).bind _ = _
  rw [e1, ob_n, i7, ob_n]
  unfold rm_
  rw [if_neg hN]
  rfl
theorem IT.draw {M : Mem_} {x : Nat} {ρ ρi : Rw_} {hi : Int32} {K : Nat → Rw_} {μ γ sc : Rw_} (t : IT M x ρ ρi hi K μ γ sc) {N : Int32} (hN : ¬ N = 0) : ∃ M1, fX4_drawn M (x + 47) N = some (dvR (dwR (sc 12)) N, M1) ∧ IT M1 x ρ ρi hi K μ γ (upd sc 12 (dwR (sc 12))) ∧ Ft M M1 x := by
  obtain ⟨M1, e1, h1, f1⟩ := t.scal (k := 12) (v := dwR (sc 12)) (by decide)
  refine ⟨M1, ?_, h1, f1⟩
  have i7 : gI_ M1 (x + 47) 3 12 = some (dwR (sc 12)) := h1.i12
  unfold fX4_drawn
  rw [t.i12, ob_n, lt_]
  show (pF_ M (x + 47) 3 12 (.int (dwR (sc 12)))).bind _ = _
  rw [e1, ob_n, i7, ob_n]
  unfold rm_
  rw [if_neg hN]
  rfl
def ngI (ρ : Rw_) : Nat → Int32 → Rw_ → Int32 × Rw_
  | 0, s, μ => (s, μ)
  | d + 1, s, μ => ngI ρ d (dwR (dwR s)) (hR μ (dvR (dwR s) (ρ 0)) (dvR (dwR (dwR s)) 9))
def ngR (ρ : Rw_) (w : Nat) : Nat → Int32 → Int32 → Int32
  | 0, _, v => v
  | d + 1, s, v => ngR ρ w d (ngI ρ 12 s ρ).1 (v + ((ngI ρ 12 s ρ).2 (38 + 3 * w) - ρ (38 + 3 * w)))
theorem pr_eta (p : Int32 × Rw_) : p = (p.1, p.2) := rfl
theorem n12 {c d : Nat} (h : c + (d + 1) = 12) : ¬ (12 : Int32) ≤ Int32.ofNat c := fun g => by
  have := (nL (i := 12) (by omega) (by omega)).mp g
  omega
theorem dv_ok {ρ : Rw_} (V : OK_ ρ) (hN : ¬ ρ 0 = 0) (s : Int32) : (dvR s (ρ 0)).toNatClampNeg < (ρ 0).toNatClampNeg ∧ rg_ 8 (dvR s (ρ 0)) := by
  obtain ⟨N, h1, h2, h3⟩ := V.n
  have hp := V.pos hN
  have g := dv_rg s (N := N) (by omega) (by omega)
  rw [h2, nC (by omega)]
  exact ⟨(rg_nat (by omega) g).1, rg_lt (by omega) g⟩
theorem ng_iC {n x : Nat} {ρ ρi : Rw_} {hi : Int32} {K : Nat → Rw_} {Z : Zr_} (V : OK_ ρ) (hN : ¬ ρ 0 = 0) {w i : Nat} (hw : w < 2) {y1 y2 x4 R S : Int32} {P : Rw_} (K2 : Mem_ → Nat → Int32 → Int32 → Int32 → Int32 → Int32 → Option (Int32 × Mem_)) (hK : ∀ (M : Mem_) (γm cs : Rw_), IC M n x ρ ρi hi K Z P Z γm cs → cs 7 = S → Cq M n x ρ ρi hi K Z (K2 M x y1 y2 (Int32.ofNat w) (x4 + (P (38 + 3 * w) - ρ (38 + 3 * w))) (Int32.ofNat (i + 1))) R) : ∀ (d c fuel : Nat) (M : Mem_) (ρm γm cs : Rw_), c + d = 12 → d < fuel → IC M n x ρ ρi hi K Z ρm Z γm cs → MV ρm ρ → ngI ρ d (cs 7) ρm = (S, P) → Cq M n x ρ ρi hi K Z (fX1_nights_L58 K2 fuel M x y1 y2 (Int32.ofNat w) x4 (Int32.ofNat i) (Int32.ofNat c)) R := by
  intro d
  induction d with
  | zero =>
    intro c fuel M ρm γm cs hc hf h W e
    obtain ⟨f, rfl⟩ : ∃ f, fuel = f + 1 := ⟨fuel - 1, by omega⟩
    have : c = 12 := by omega
    subst this
    injection e with e1 e2
    subst e2
    obtain ⟨γ0, h1⟩ := h.2.1
    rw [fX1_nights_L58, if_pos (by decide), h.r2, ob_n, co_r6 h.2.2.2.1, ob_n, co_pS h.2.2.2.1 hw, ob_n, h.r0, ob_n, co_r6 h1, ob_n, co_pS h1 hw, ob_n, lt_, lt_, nS1]
    exact hK M _ _ h e1
  | succ d ih =>
    intro c fuel M ρm γm cs hc hf h W e
    obtain ⟨f, rfl⟩ : ∃ f, fuel = f + 1 := ⟨fuel - 1, by omega⟩
    obtain ⟨M1, e1, h1, f1⟩ := h.draw hN
    obtain ⟨M2, e2, h2, f2⟩ := h1.draw (N := 9) (by decide)
    have i7 : upd cs 7 (dwR (cs 7)) 7 = dwR (cs 7) := rfl
    rw [i7] at e2 h2
    obtain ⟨v1, v2⟩ := dv_ok V hN (dwR (cs 7))
    have v3 : rg_ 9 (dvR (dwR (dwR (cs 7))) 9) := dv_rg _ (N := 9) (by decide) (by decide)
    obtain ⟨M3, e3, h3, f3⟩ := h2.mhit rfl W v1 v2 v3
    rw [fX1_nights_L58, if_neg (n12 hc), h.r2, ob_n, co_i9 h.2.2.2.1, ob_n, h.ck, ob_n, W.2.2.1, e1, bw_n, h1.r2, ob_n, h1.ck, ob_n, e2, bw_n, h2.ck19, ob_n, e3, bw_n, lt_, nS1]
    exact (ih (c + 1) f M3 _ _ _ (by omega) (by omega) h3 (W.hit v1 v3) e).on (f1.trans (f2.trans f3))
theorem ng_mv {ρ : Rw_} (V : OK_ ρ) (hN : ¬ ρ 0 = 0) : ∀ (d : Nat) (s : Int32) (μ : Rw_), MV μ ρ → MV (ngI ρ d s μ).2 ρ := by
  intro d
  induction d with
  | zero => intro s μ W; exact W
  | succ d ih =>
    intro s μ W
    exact ih _ _ (W.hit (dv_ok V hN (dwR s)).1 (dv_rg _ (N := 9) (by decide) (by decide)))
theorem ng_C {n x : Nat} {ρ ρi : Rw_} {hi : Int32} {K : Nat → Rw_} {Z : Zr_} (V : OK_ ρ) (hN : ¬ ρ 0 = 0) {w m : Nat} (hw : w < 2) (hm : m ≤ 20) (y2 : Int32) : ∀ (d i fuel : Nat) (v : Int32) (M : Mem_) (ρm : Rw_) (Zm : Zr_) (γm cs : Rw_), i + d = m → d < fuel → IC M n x ρ ρi hi K Z ρm Zm γm cs → Cq M n x ρ ρi hi K Z (fX1_nights_L45 fuel M x (Int32.ofNat m) y2 (Int32.ofNat w) v (Int32.ofNat i)) (ngR ρ w d (cs 7) v) := by
  intro d
  induction d with
  | zero =>
    intro i fuel v M ρm Zm γm cs hk hf h
    obtain ⟨f, rfl⟩ : ∃ f, fuel = f + 1 := ⟨fuel - 1, by omega⟩
    rw [fX1_nights_L45, if_pos (by rw [nL (by omega) (by omega)]; omega)]
    exact ⟨M, _, _, _, _, rfl, h, Fc.refl _ _⟩
  | succ d ih =>
    intro i fuel v M ρm Zm γm cs hk hf h
    obtain ⟨f, rfl⟩ : ∃ f, fuel = f + 1 := ⟨fuel - 1, by omega⟩
    obtain ⟨M1, e1, h1, f1⟩ := h.minds
    rw [fX1_nights_L45, if_neg (by rw [nL (by omega) (by omega)]; omega), h.ck, ob_n, e1, ob_n]
    unfold ngR
    refine Cq.on (ng_iC V hN hw (S := (ngI ρ 12 (cs 7) ρ).1) (P := (ngI ρ 12 (cs 7) ρ).2) (fX1_nights_L45 f) ?_ 12 0 1000 M1 ρ _ cs (by omega) (by omega) h1 V.mv (pr_eta _)) f1
    intro M2 γ2 cs2 h2 e2
    have k := ih (i + 1) f (v + ((ngI ρ 12 (cs 7) ρ).2 (38 + 3 * w) - ρ (38 + 3 * w))) M2 _ _ _ _ (by omega) (by omega) h2
    rw [e2] at k
    exact k
theorem ro_pS {M : Mem_} {r : Nat} {ρ : Rw_} (h : M r = some (eI_ 0 42 ρ)) {s : Nat} (hs : s < 2) : aI_ M r 0 (fX4_ofSide (Int32.ofNat s) 2) = some (ρ (38 + 3 * s)) := by
  have : s = 0 ∨ s = 1 := by omega
  rcases this with z | z <;> subst z
  · exact ro_a38 h
  · exact ro_a41 h
theorem ng_iT {x : Nat} {ρ ρi : Rw_} {hi : Int32} {K : Nat → Rw_} (V : OK_ ρ) (hN : ¬ ρ 0 = 0) {w i : Nat} (hw : w < 2) {y1 y2 x4 R S : Int32} {P : Rw_} (K2 : Mem_ → Nat → Int32 → Int32 → Int32 → Int32 → Int32 → Option (Int32 × Mem_)) (hK : ∀ (M : Mem_) (γ sc : Rw_), IT M x ρ ρi hi K P γ sc → sc 12 = S → Tq M x ρ ρi hi K (K2 M (x + 47) y1 y2 (Int32.ofNat w) (x4 + (P (38 + 3 * w) - ρ (38 + 3 * w))) (Int32.ofNat (i + 1))) R) : ∀ (d c fuel : Nat) (M : Mem_) (μ γ sc : Rw_), c + d = 12 → d < fuel → IT M x ρ ρi hi K μ γ sc → MV μ ρ → ngI ρ d (sc 12) μ = (S, P) → Tq M x ρ ρi hi K (fX4_nights_L64 K2 fuel M (x + 47) y1 y2 (Int32.ofNat w) x4 (Int32.ofNat i) (Int32.ofNat c)) R := by
  intro d
  induction d with
  | zero =>
    intro c fuel M μ γ sc hc hf h W e
    obtain ⟨f, rfl⟩ : ∃ f, fuel = f + 1 := ⟨fuel - 1, by omega⟩
    have : c = 12 := by omega
    subst this
    injection e with e1 e2
    subst e2
    rw [fX4_nights_L64, if_pos (by decide), h.r1, ob_n, lt_, ro_pS h.2.2.1 hw, ob_n, h.r0, ob_n, lt_, ro_pS h.2.1 hw, ob_n, lt_, lt_, nS1]
    exact hK M _ _ h e1
  | succ d ih =>
    intro c fuel M μ γ sc hc hf h W e
    obtain ⟨f, rfl⟩ : ∃ f, fuel = f + 1 := ⟨fuel - 1, by omega⟩
    obtain ⟨M1, e1, h1, f1⟩ := h.draw hN
    obtain ⟨M2, e2, h2, f2⟩ := h1.draw (N := 9) (by decide)
    have i7 : upd sc 12 (dwR (sc 12)) 12 = dwR (sc 12) := rfl
    rw [i7] at e2 h2
    obtain ⟨v1, v2⟩ := dv_ok V hN (dwR (sc 12))
    have v3 : rg_ 9 (dvR (dwR (dwR (sc 12))) 9) := dv_rg _ (N := 9) (by decide) (by decide)
    obtain ⟨M3, e3, h3, f3⟩ := h2.mhit W v1 v2 v3
    rw [fX4_nights_L64, if_neg (n12 hc), h.r0, ob_n, ro_a0 h.2.1, ob_n, h.ck, ob_n, e1, bw_n, h1.r1, ob_n, h1.ck, ob_n, e2, bw_n, h2.ck, ob_n, e3, bw_n, lt_, nS1]
    exact (ih (c + 1) f M3 _ _ _ (by omega) (by omega) h3 (W.hit v1 v3) e).on (f1.trans (f2.trans f3))
theorem ng_T {x : Nat} {ρ ρi : Rw_} {hi : Int32} {K : Nat → Rw_} (V : OK_ ρ) (hN : ¬ ρ 0 = 0) {w m : Nat} (hw : w < 2) (hm : m ≤ 20) (y2 : Int32) : ∀ (d i fuel : Nat) (v : Int32) (M : Mem_) (μ γ sc : Rw_), i + d = m → d < fuel → IT M x ρ ρi hi K μ γ sc → Tq M x ρ ρi hi K (fX4_nights_L44 fuel M (x + 47) (Int32.ofNat m) y2 (Int32.ofNat w) v (Int32.ofNat i)) (ngR ρ w d (sc 12) v) := by
  intro d
  induction d with
  | zero =>
    intro i fuel v M μ γ sc hk hf h
    obtain ⟨f, rfl⟩ : ∃ f, fuel = f + 1 := ⟨fuel - 1, by omega⟩
    rw [fX4_nights_L44, if_pos (by rw [nL (by omega) (by omega)]; omega)]
    exact ⟨M, _, _, _, rfl, h, Ft.refl _ _⟩
  | succ d ih =>
    intro i fuel v M μ γ sc hk hf h
    obtain ⟨f, rfl⟩ : ∃ f, fuel = f + 1 := ⟨fuel - 1, by omega⟩
    obtain ⟨M1, e1, h1, f1⟩ := h.cop V.2.1
    rw [fX4_nights_L44, if_neg (by rw [nL (by omega) (by omega)]; omega), h.r0, ob_n, h.r1, ob_n, e1, ob_n]
    unfold ngR
    refine Tq.on (ng_iT V hN hw (S := (ngI ρ 12 (sc 12) ρ).1) (P := (ngI ρ 12 (sc 12) ρ).2) (fX4_nights_L44 f) ?_ 12 0 1000 M1 ρ _ sc (by omega) (by omega) h1 V.mv (pr_eta _)) f1
    intro M2 γ2 sc2 h2 e2
    have k := ih (i + 1) f (v + ((ngI ρ 12 (sc 12) ρ).2 (38 + 3 * w) - ρ (38 + 3 * w))) M2 _ _ _ (by omega) (by omega) h2
    rw [e2] at k
    exact k
theorem in_lo {v l u : Int32} (hl : 0 ≤ l) (h : fX4_isIn v l u = true) : fX4_isIn v 0 u = true := by
  unfold fX4_isIn at h ⊢
  split at h
  · cases h
  · rename_i h1
    split at h
    · cases h
    · rename_i h2
      rw [if_neg (Int32.not_lt.mpr (Int32.le_trans hl (Int32.not_lt.mp h1)))]
      exact if_neg h2
section Q18
variable {M M' : Mem_} {n x : Nat} {ρ ρi : Rw_} {hi : Int32} {K : Nat → Rw_} {Z : Zr_} {ρm : Rw_} {Zm : Zr_} {γm cs : Rw_} {μ γ sc : Rw_}
theorem o_nights (h : IC M n x ρ ρi hi K Z ρm Zm γm cs) (t : IT M' x ρ ρi hi K μ γ sc) (V : OK_ ρ) (m z w : Int32) : ∃ r, Cq M n x ρ ρi hi K Z (fX1_nights M x m z w) r ∧ Tq M' x ρ ρi hi K (fX4_nights M' (x + 47) m z w) r := by
  obtain ⟨γ0, h1⟩ := h.2.1
  unfold fX1_nights fX4_nights
  rw [show fX1_isIn m 1 20 = fX4_isIn m 1 20 from rfl, show fX1_isIn w 0 1 = fX4_isIn w 0 1 from rfl, lt_, lt_, lt_, lt_]
  have none : ∀ v : Int32, ∃ r, Cq M n x ρ ρi hi K Z (some (v, M)) r ∧ Tq M' x ρ ρi hi K (some (v, M')) r := fun v => ⟨_, ⟨M, _, _, _, _, rfl, h, Fc.refl _ _⟩, ⟨M', _, _, _, rfl, t, Ft.refl _ _⟩⟩
  cases e1 : fX4_isIn m 1 20 with
  | false => exact none _
  | true =>
    cases e2 : fX4_isIn w 0 1 with
    | false => exact none _
    | true =>
      rw [if_neg b2_t, if_neg b2_t, if_neg b2_t, if_neg b2_t, h.r0, ob_n, co_i9 h1, ob_n, t.r0, ob_n, ro_a0 t.2.1, ob_n]
      by_cases g : ρ 0 = 0
      · rw [if_pos g, if_pos g]
        exact none _
      · rw [if_neg g, if_neg g]
        obtain ⟨mn, hm, rfl⟩ := in_rg (m := 20) (by decide) (in_lo (by decide) e1)
        obtain ⟨wn, hw, rfl⟩ := in_rg (m := 1) (by decide) e2
        obtain ⟨M1, e3, h3, f3⟩ := h.scal (k := 7) (v := z) (.inr rfl)
        obtain ⟨M2, e4, t4, f4⟩ := t.scal (k := 12) (v := z) (by decide)
        rw [e3, ob_n, e4, ob_n]
        exact ⟨ngR ρ wn mn z 0, (ng_C V g hw (by omega) z mn 0 1000 0 M1 _ _ _ _ (by omega) (by omega) h3).on f3, (ng_T V g hw (by omega) z mn 0 1000 0 M2 _ _ _ (by omega) (by omega) t4).on f4⟩
end Q18
