/-! the statements come one by one; the court out of its text -/
set_option maxRecDepth 100000
def Cr (M : Mem_) (n x : Nat) (ρ ρi : Rw_) (hi : Int32) (K : Nat → Rw_) (o : Option ((Nat ⊕ Int32) × Mem_ × Nat)) (v : Int32) : Prop := ∃ M1 n1 Z ρm Zm γm cs, (o = some (.inr v, M1, n1) ∨ ∃ b, o = some (.inl b, M1, n1) ∧ gX_ M1 b 6 = some v) ∧ n ≤ n1 ∧ IC M1 n1 x ρ ρi hi K Z ρm Zm γm cs ∧ Fw M M1 x
theorem Cr.on {M M1 : Mem_} {n n1 x : Nat} {ρ ρi : Rw_} {hi : Int32} {K : Nat → Rw_} {o : Option ((Nat ⊕ Int32) × Mem_ × Nat)} {v : Int32} (h : Cr M1 n1 x ρ ρi hi K o v) (f : Fw M M1 x) (hn : n ≤ n1) : Cr M n x ρ ρi hi K o v := by
  obtain ⟨M2, n2, Z, ρm, Zm, γm, cs, a, b, c, d⟩ := h
  exact ⟨M2, n2, Z, ρm, Zm, γm, cs, a, by omega, c, f.trans d⟩
theorem L93_end (f : Nat) (M : Mem_) (x : Nat) (y1 y2 y3 : Int32) {v : Int32} (h : ¬ v = 0) : fX4_court_L93 (f + 1) M x y1 y2 y3 v = some (v, M) := by
  rw [fX4_court_L93, if_neg h, if_neg h]
theorem m2k {p : Nat} (h : p ≤ 100) : ¬ (-2000 : Int32) - Int32.ofNat p = 0 ∧ ¬ (-1000 : Int32) - Int32.ofNat p = 0 := by
  have K : ∀ p : Fin 101, ¬ (-2000 : Int32) - Int32.ofNat p.val = 0 ∧ ¬ (-1000 : Int32) - Int32.ofNat p.val = 0 := by decide +kernel
  exact K ⟨p, by omega⟩
theorem cop_back {M : Mem_} {x : Nat} {ρ ρ0 ρi : Rw_} {hi : Int32} {K : Nat → Rw_} {d sz : Nat} {ν : Rw_} {i : Nat} (t : TP M x ρ ρi hi K d sz ρ0 ν i) (h0 : Nm ρ0) (h1 : Nm ρ) : ∃ M1, gR_ M (x + 47) 3 3 = some (x + 51) ∧ fX4_copies M (x + 51) (x + 48) = some M1 ∧ TP M1 x ρ0 ρi hi K d sz ρ0 ν i ∧ Ft M M1 x := by
  have n := t.now ρ0
  obtain ⟨μ, γ, sc, t, e6, e7, e8, e9, e10⟩ := t
  exact ⟨_, t.r3, cop_ok e9 t.2.1 (by omega) h0 h1, n.1, n.2⟩
section CLP
variable {x : Nat} {ρ ρi : Rw_} {hi : Int32} {K : Nat → Rw_} {Z : Zr_} {cs : Rw_} {d sz : Nat}
theorem ct_2 (hd : d < 8) (hz : sz ≤ 100) (by_ : ∀ i, i < sz → fits .byte (.int (K 5 (100 * d + i))) = true) (V0 : OK_ ρ) {r N : Nat} (hr : x + 61 ≤ r) (hps : psR (sgR sz fun j => K 5 (100 * d + j)) N = sz) (hN : N ≤ 51) (hn0 : ∀ k, k ≤ N → psR (sgR sz fun j => K 5 (100 * d + j)) k ≤ sz) (y1 : Nat) (y2 : Int32) : ∀ (e k fuel fuel' : Nat) (M : Mem_) (n : Nat) (M' : Mem_) (ρm : Rw_) (Zm : Zr_) (γm ν : Rw_), k + e = N → e < fuel → e + 1 < fuel' → r + 1 + 2 * N ≤ n → IC M n x ρ ρi hi K Z ρm Zm γm cs → SZ M x n Zm ρm → OK_ ρm → (∃ T, M (x + 37) = some (eQ_ 4 100 T) ∧ ∀ j, j < N → T j = some (r + 1 + 2 * j)) → (∀ j, j < N → Td M (sgR sz fun j => K 5 (100 * d + j)) (r + 1 + 2 * j) (psR (sgR sz fun j => K 5 (100 * d + j)) j)) → TP M' x ρm ρi hi K d sz ρ ν (psR (sgR sz fun j => K 5 (100 * d + j)) k) → ∃ (v : Int32) (ρ' : Rw_), Cr M n x ρ' ρi hi K (fX1_reads_L29 fuel M n x y1 (Int32.ofNat N) (Int32.ofNat k)) v ∧ TG M' x (fX4_court_L93 fuel' M' (x + 47) (Int32.ofNat d) y2 (Int32.ofNat N) 0) v ρ' ρi hi K ∧ OK_ ρ' := by
  have hs1 : ∀ i, sz ≤ i → sgR sz (fun j => K 5 (100 * d + j)) i = -1 := fun i h => if_pos h
  intro e
  induction e with
  | zero =>
    intro k fuel fuel' M n M' ρm Zm γm ν hk hf hf' hn h S V hT hD t
    obtain ⟨g, rfl⟩ : ∃ g, fuel = g + 1 := ⟨fuel - 1, by omega⟩
    obtain ⟨g', rfl⟩ : ∃ g, fuel' = g + 1 := ⟨fuel' - 1, by omega⟩
    have : k = N := by omega
    subst this
    rw [hps] at t
    obtain ⟨γ0, h1⟩ := h.2.1
    have okS : ∀ i, i < 8 → okS_ M (Zm i) = true := fun i _ => by
      unfold okS_
      cases w : Zm i with
      | none => rfl
      | some q => exact (S.1 i q w).2.2
    have tk := takes_ok h1 h.2.2.2.1 (by omega) okS
    rw [zz_eq h.2.2.2.2.2.2.2.2.2.2.1 h.2.2.2.2.2.2.2.2.2.1] at tk
    obtain ⟨a1, a2⟩ := h.now (γ' := fun _ => 0) S h.2.2.2.2.2.2.2.2.2.2.1
    rw [fX1_reads_L29, if_pos (Int32.le_refl _), h.r0, ob_n, h.r2, ob_n, h.ck1, ob_n, tk, ob_n]
    rw [fX4_court_L93, if_pos rfl, t.i6, ob_n, t.i8, ob_n, if_pos (Int32.le_refl _), if_pos rfl]
    obtain ⟨μ, γ, sc, t, _⟩ := t
    exact ⟨_, ρm, ⟨_, n, _, _, _, _, _, .inl rfl, Nat.le_refl _, a1, a2.w⟩, ⟨_, _, _, _, rfl, t, Ft.refl _ _⟩, V⟩
  | succ e ih =>
    intro k fuel fuel' M n M' ρm Zm γm ν hk hf hf' hn h S V hT hD t
    obtain ⟨g, rfl⟩ : ∃ g, fuel = g + 1 := ⟨fuel - 1, by omega⟩
    obtain ⟨g', rfl⟩ : ∃ g, fuel' = g + 1 + 1 := ⟨fuel' - 2, by omega⟩
    have hx := h.nx
    obtain ⟨T, hT1, hT2⟩ := hT
    have D := hD k (by omega)
    have hple := hn0 k (by omega)
    obtain ⟨L1, L2⟩ := st_le hs1 hple
    have d0 : (stR (sgR sz fun j => K 5 (100 * d + j)) (psR (sgR sz fun j => K 5 (100 * d + j)) k)).1 = true := by
      obtain ⟨m, gg, w, _⟩ := D
      exact w
    have L3 := L2 d0
    have Tk : aR_ M (x + 37) 4 (Int32.ofNat k) = some (r + 1 + 2 * k) := by
      unfold aR_ aN_
      rw [aqof hT1, ob_n, if_neg (show ¬ (Int32.ofNat k < 0 ∨ 100 ≤ (Int32.ofNat k).toNatClampNeg) from nB (by decide) (by omega)), nC (by omega), ob_n]
      exact hT2 k (by omega)
    obtain ⟨M1, ν1, r1, r2, r3, r4⟩ := rs_T hd hz by_ hple t
    have sg := sg_hr (sz := sz) (f := fun j => K 5 (100 * d + j)) by_ (psR (sgR sz fun j => K 5 (100 * d + j)) k)
    obtain ⟨b, ρ1, SC, ST, OKb⟩ := step h S V r2 D (by omega) sg (r3 d0)
    obtain ⟨M2, n2, ρm2, Zm2, γm2, c1, c2, c3, c4, c5⟩ := SC
    have fw : Fw M M2 x := fun p _ _ => c4 p (by omega) (by omega)
    have npl : ¬ Int32.ofNat sz ≤ Int32.ofNat (psR (sgR sz fun j => K 5 (100 * d + j)) k) := fun w => by
      have := (nL (by omega) (by omega)).mp w
      omega
    have nk : ¬ Int32.ofNat N ≤ Int32.ofNat k := fun w => by
      have := (nL (by omega) (by omega)).mp w
      omega
    rw [fX1_reads_L29, if_neg nk, h.r5, ob_n, Tk, ob_n, h.ck, ob_n, c1, ba_n]
    rw [fX4_court_L93, if_pos rfl, t.i6, ob_n, t.i8, ob_n, if_neg npl, ob_n, t.ck, ob_n, t.here hd hz (by omega), ob_n, ob_n, r1, bw_n, r2.ck, ob_n]
    rcases ST with ⟨z1, M3, z2, z3, z4⟩ | ⟨z1, z2⟩
    · subst z1
      rw [z2, bw_n, if_neg b2_t, if_neg b2_t, lt_, nS1]
      obtain ⟨c6, c7⟩ := c5 rfl
      subst c6
      obtain ⟨v, ρ', i1, i2, i3⟩ := ih (k + 1) g (g' + 1) M2 n2 M3 ρm2 Zm2 γm2 ν1 (by omega) (by omega) (by omega) (by omega) c3 c7 (OKb rfl) ⟨T, (c4 _ (by omega) (by omega)).trans hT1, hT2⟩ (fun j hj => (hD j hj).cg (c4 _ (by omega) (by omega)) (c4 _ (by omega) (by omega))) z3
      obtain ⟨Mt, μt, γt, sct, j1, j2, j3⟩ := i2
      exact ⟨v, ρ', i1.on fw c2, ⟨Mt, μt, γt, sct, j1, j2, r4.trans (z4.trans j3)⟩, i3⟩
    · subst z1
      obtain ⟨M4, b1, b2, b3, b4⟩ := cop_back r2 V0.2.1 V.2.1
      obtain ⟨a1, a2⟩ := c3.new (eN_ 6)
      have hx2 := c3.nx
      have Tk2 : aR_ (ms_ M2 n2 (eN_ 6)) (x + 37) 4 (Int32.ofNat k) = some (r + 1 + 2 * k) := by
        unfold aR_ aN_
        rw [aqof ((ms_ne (by omega)).trans ((c4 _ (by omega) (by omega)).trans hT1)), ob_n, if_neg (show ¬ (Int32.ofNat k < 0 ∨ 100 ≤ (Int32.ofNat k).toNatClampNeg) from nB (by decide) (by omega)), nC (by omega), ob_n]
        exact hT2 k (by omega)
      obtain ⟨m, gg, w0, w1, w2, w3⟩ := D
      have At : gI_ (ms_ M2 n2 (eN_ 6)) (r + 1 + 2 * k) 5 1 = some (Int32.ofNat (psR (sgR sz fun j => K 5 (100 * d + j)) k)) := gIof ((ms_ne (by omega)).trans ((c4 _ (by omega) (by omega)).trans w1)) rfl
      obtain ⟨c8, c9⟩ := c3.new (eX_ 6 (-2000 - Int32.ofNat (psR (sgR sz fun j => K 5 (100 * d + j)) k)))
      rw [z2, bw_n, if_pos b2_f, if_pos b2_f, lt_, a1.r5, ob_n, Tk2, ob_n, At, ob_n, fX7_init, xIof (ms_at _ _ _), ob_n, ms_ms, gXof (ms_at _ _ _), ob_n, lt_, b1, ob_n, r2.r0, ob_n, b2, ob_n, L93_end _ _ _ _ _ _ (m2k (by omega)).1]
      obtain ⟨μ, γ, sc, t9, _⟩ := b3
      exact ⟨_, ρ, ⟨_, n2 + 1, _, _, _, _, _, .inr ⟨n2, rfl, gXof (ms_at _ _ _)⟩, by omega, c8, fw.trans c9⟩, ⟨M4, _, _, _, rfl, t9, r4.trans b4⟩, V0⟩
end CLP
theorem ps_le {s : Rw_} {sz : Nat} (hs : ∀ i, sz ≤ i → s i = -1) : ∀ k, psR s k ≤ sz := by
  intro k
  induction k with
  | zero => exact Nat.zero_le _
  | succ k ih => exact (st_le hs ih).1
def w0R (K : Nat → Rw_) (d : Int32) : Int32 := if fX4_isIn d 0 7 = true then (if K 0 d.toNatClampNeg = 0 then -11 else if K 0 d.toNatClampNeg = 2 then (if K 3 d.toNatClampNeg = 0 then 0 else -12) else -12) else -1
theorem IT.wrong0 {M : Mem_} {x : Nat} {ρ ρi : Rw_} {hi : Int32} {K : Nat → Rw_} {μ γ sc : Rw_} (t : IT M x ρ ρi hi K μ γ sc) (d : Int32) : fX4_wrongRow M (x + 47) d 0 = some (w0R K d) := by
  unfold fX4_wrongRow w0R
  rw [lt_, show fX4_isShelf d = fX4_isIn d 0 7 from rfl]
  cases e : fX4_isIn d 0 7 with
  | false => rfl
  | true =>
    rw [if_neg b2_t, if_pos rfl]
    have k := t.kf (in_rg (m := 7) (by decide) e)
    rw [t.r13, ob_n, k.1, ob_n]
    by_cases c : K 0 d.toNatClampNeg = 0
    · rw [if_pos c, if_pos c]
    · rw [if_neg c, if_neg c, ob_n, k.1, ob_n]
      by_cases c : K 0 d.toNatClampNeg = 2
      · rw [if_pos c, if_pos c, if_neg (show ¬ (0 : Int32) < 0 by decide), t.r16, ob_n, k.2.2.2.1, ob_n]
        by_cases c : K 3 d.toNatClampNeg = 0
        · rw [if_pos c, if_pos c]
        · rw [if_neg c, if_neg c]
      · rw [if_neg c, if_neg c]
section Q30
variable {M M' : Mem_} {n x : Nat} {ρ ρi : Rw_} {hi : Int32} {K : Nat → Rw_} {Z : Zr_} {ρm : Rw_} {Zm : Zr_} {γm cs : Rw_} {μ γ sc : Rw_}
theorem ct_both (h : IC M n x ρ ρi hi K Z ρm Zm γm cs) (t : IT M' x ρ ρi hi K μ γ sc) (V : OK_ ρ) {d q sz : Nat} {f : Rw_} (hd : d < 8) (R : rowAt M n x K d q sz f) (h0 : K 3 d = 0) (ft : ∀ i, fits (tT_ (tagOf (K 3 d))) (.int (f i)) = true) (y2 : Int32) : ∃ (v : Int32) (ρ' : Rw_), Cr M n x ρ' ρi hi K (fX1_reads M n x q) v ∧ TG M' x (lt_ (100 * Int32.ofNat d) fun v3 => (pF_ M' (x + 47) 3 7 (.int v3)).bind fun M4 => (gR_ M4 (x + 47) 3 17).bind fun v5 => (aI_ M4 v5 0 (Int32.ofNat d)).bind fun v6 => (pF_ M4 (x + 47) 3 8 (.int v6)).bind fun M7 => (pF_ M7 (x + 47) 3 6 (.int 0)).bind fun M8 => fX4_court_L41 1000 M8 (x + 47) (Int32.ofNat d) y2 0 0) v ρ' ρi hi K ∧ OK_ ρ' := by
  obtain ⟨r1, r2, r3, r4, r5, r6, r7⟩ := R
  have hx := h.nx
  rw [h0] at r1 ft
  have r1 : M q = some (eI_ 1 sz f) := r1
  have by_ : ∀ i, i < sz → fits .byte (.int (K 5 (100 * d + i))) = true := fun i hi => by
    rw [← r7 i hi]
    exact ft i
  have hs : ∀ j, sgR sz (fun j => K 5 (100 * d + j)) j = if sz ≤ j then -1 else f j := fun j => by
    unfold sgR
    by_cases w : sz ≤ j
    · rw [if_pos w, if_pos w]
    · rw [if_neg w, if_neg w]
      exact (r7 j (by omega)).symm
  have hs1 : ∀ i, sz ≤ i → sgR sz (fun j => K 5 (100 * d + j)) i = -1 := fun i h => if_pos h
  -- the twin's first pass
  obtain ⟨ω, o1, o2⟩ := t.2.2.2.2.2.1
  obtain ⟨ν, o3⟩ := t.2.2.2.2.2.2.2.1
  obtain ⟨p1, p2, p3⟩ := t.scalX (k := 7) (v := Int32.ofNat (100 * d)) (by decide)
  have kf := (p2.kf (d := Int32.ofNat d) ⟨d, hd, rfl⟩).2.2.2.2
  rw [nC (by omega), r5] at kf
  obtain ⟨p4, p5, p6⟩ := p2.scalX (k := 8) (v := Int32.ofNat sz) (by decide)
  obtain ⟨p7, p8, p9⟩ := p5.scalX (k := 6) (v := 0) (by decide)
  have P : TP _ x ρ ρi hi K d sz ω ν 0 := ⟨μ, γ, _, p8, rfl, rfl, rfl, (ms_ne (by omega)).trans ((ms_ne (by omega)).trans ((ms_ne (by omega)).trans o1)), (ms_ne (by omega)).trans ((ms_ne (by omega)).trans ((ms_ne (by omega)).trans o3))⟩
  obtain ⟨T1, ν1, m, q1, q2, q3, q4, q5⟩ := ct_1T hd r4 by_ V.2.1 y2 (sz + 1) 0 0 1000 _ _ _ (by omega) (by omega) (by omega) (by omega) P
  have e100 : (100 : Int32) * Int32.ofNat d = Int32.ofNat (100 * d) := by
    rw [show (100 : Int32) = Int32.ofNat 100 from rfl, nM]
  rw [lt_, e100, p1, ob_n, p2.r17, ob_n, kf, ob_n, p4, ob_n, p7, ob_n]
  rw [oN0] at q1
  rw [q1]
  have fT : Ft M' T1 x := p3.trans (p6.trans (p9.trans q5))
  -- the component's first pass
  obtain ⟨T0, t0⟩ := h.2.2.2.2.2.1
  have pf : pF_ (ms_ M n (eO_ 4 [.null, .int 0])) n 4 0 (.ref q) = some (ms_ M n (rdE q 0)) := by
    have := pFof (k := 0) (v := .ref q) (ms_at M n (eO_ 4 [.null, .int 0])) (show 0 < 2 by decide)
    rw [ms_ms] at this
    exact this
  have c0 : ms_ M n (rdE q 0) n = some (rdE q 0) := ms_at _ _ _
  obtain ⟨i0, i1⟩ := h.new (rdE q 0)
  have TL : Tl M (ms_ M n (rdE q 0)) x n q (sgR sz fun j => K 5 (100 * d + j)) 0 := ⟨fun y hy _ => ms_ne (by omega), ⟨T0, (ms_ne (by omega)).trans t0, fun j hj => absurd hj (by omega)⟩, c0, fun j hj => absurd hj (by omega)⟩
  have W := cw_L (M0 := M) hs r4 r2 r3 r1 (sz + 1) 0 0 102 _ (by omega) (by omega) (by omega) (by omega) rfl TL
  unfold fX1_reads
  rw [lt_, fX5_init, pf, ob_n, ob_n, i0.r5, ob_n, ckof c0, ob_n]
  unfold fX5_whole
  rcases W with ⟨w1, M1, w2, w3, w4, w5⟩ | ⟨w1, M1, n1, T2, b, w2, w3, w4, w5, w6⟩
  · rw [Nat.mul_zero, Nat.add_zero, oN0] at w2
    rw [w2, bx_r, if_pos w1]
    have e2 := q2 w1
    rw [e2]
    generalize (paR (sgR sz fun j => K 5 (100 * d + j)) sz (sz + 1) 0 0).2 = N at w3 w4 w5
    obtain ⟨v1, ⟨T3, v2, v3⟩, v4, v5⟩ := w3
    have J := h.told (n1 := n + 1 + 2 * N) (by omega) (fun y hy hy2 _ => v1 y hy hy2) v2
    obtain ⟨γ1, j1⟩ := J.2.1
    have tk := takes_ok J.2.2.2.1 j1 (by omega) J.okS
    rw [zz_eq J.2.2.2.2.2.2.2.2.2.1 J.2.2.2.2.2.2.2.2.2.2.1] at tk
    obtain ⟨k1, k2⟩ := J.mind (ρ' := ρ) (Z' := Z) (γ' := fun _ => 0) J.2.2.2.2.2.2.2.2.2.1
    have fw : Fw M (cw_ M1 (x + 19) ρ Z fun _ => 0) x := fun y _ _ => (cw_out (by omega)).trans (v1 y (by omega) (by omega))
    rw [J.r2, ob_n, J.r0, ob_n, J.ck19, ob_n, tk, ob_n]
    obtain ⟨v, ρ', a1, a2, a3⟩ := ct_2 hd r4 by_ V (r := n) (N := N) hx w4 w5 (fun k _ => ps_le hs1 k) q y2 N 0 102 1000 _ (n + 1 + 2 * N) T1 ρ Z (fun _ => 0) ν1 (by omega) (by omega) (by omega) (by omega) k1 k1.2.2.2.2.2.2.2.2.1 V ⟨T3, (cw_out (by omega)).trans v2, v3⟩ (fun j hj => (v5 j hj).cg (cw_out (by omega)) (cw_out (by omega))) q4
    obtain ⟨Mt, μt, γt, sct, g1, g2, g3⟩ := a2
    exact ⟨v, ρ', a1.on fw (by omega), ⟨Mt, μt, γt, sct, g1, g2, fT.trans g3⟩, a3⟩
  · rw [Nat.mul_zero, Nat.add_zero, oN0] at w2
    rw [w2, bx_l, if_neg (by rw [w1]; decide)]
    have J := h.told (n1 := n1) (by omega) (fun y hy hy2 _ => w4 y hy hy2) w5
    obtain ⟨μt, γt, sct, tt, _⟩ := q4
    have L := L93_end 999 T1 (x + 47) (Int32.ofNat d) y2 (Int32.ofNat m) (v := -1000 - Int32.ofNat (paR (sgR sz fun j => K 5 (100 * d + j)) sz (sz + 1) 0 0).2) (by
      by_cases w : (paR (sgR sz fun j => K 5 (100 * d + j)) sz (sz + 1) 0 0).2 ≤ 100
      · exact (m2k w).2
      · have : (paR (sgR sz fun j => K 5 (100 * d + j)) sz (sz + 1) 0 0).2 = 101 := by omega
        rw [this]
        decide)
    exact ⟨_, ρ, ⟨M1, n1, _, _, _, _, _, .inr ⟨b, rfl, w6⟩, by omega, J, fun y _ _ => w4 y (by omega) (by omega)⟩, ⟨T1, _, _, _, L, tt, fT⟩, V⟩
theorem o_court (h : IC M n x ρ ρi hi K Z ρm Zm γm cs) (t : IT M' x ρ ρi hi K μ γ sc) (V : OK_ ρ) (d : Int32) : ∃ (r : Int32) (ρ' : Rw_), CA M n x (fX1_court M n x d) r ρ' ρi hi K ∧ TG M' x (fX4_court M' (x + 47) d) r ρ' ρi hi K ∧ OK_ ρ' := by
  unfold fX1_court fX4_court
  rw [h.ck, ob_n, t.ck, ob_n, t.wrong0, ob_n, lt_, show fX1_isShelf x d = fX4_isIn d 0 7 from rfl]
  unfold w0R
  cases e : fX4_isIn d 0 7 with
  | false => exact o_bad2 h t V 0 _
  | true =>
    obtain ⟨dn, hd, rfl⟩ := in_rg (m := 7) (by decide) e
    have hd8 : dn < 8 := hd
    obtain ⟨hv, a, b, c⟩ := h.shelf (d := Int32.ofNat dn) ⟨dn, hd, rfl⟩
    rw [nC (by omega)] at a b c
    rw [if_neg b2_t, if_pos rfl, h.r8, ob_n, a, ob_n, gNof b, ob_n, nC (by omega)]
    rcases c with ⟨c1, c2⟩ | ⟨c1, q, kn, fg, c2, _, _, c3, _⟩ | ⟨c1, q, sz, f, c2, c3, c4, c5, c6, c7, c8, c9, c10⟩
    · rw [c2, if_pos c1]
      exact o_bad2 h t V 0 _
    · have z0 : ¬ K 0 dn = 0 := by rw [c1]; decide
      have z2 : ¬ K 0 dn = 2 := by rw [c1]; decide
      rw [c2, if_neg z0, if_neg z2, if_neg (show ¬ (-12 : Int32) = 0 by decide), no_s, tg_str c3, ob_n, if_neg (show ¬ (3 : Nat) = 1 by decide)]
      exact o_bad2 h t V 3 _
    · have z0 : ¬ K 0 dn = 0 := by rw [c1]; decide
      rw [c2, if_neg z0, if_pos c1, no_s, row_tg c5, ob_n]
      by_cases g : K 3 dn = 0
      · rw [if_pos g, if_pos rfl, if_pos (show tagOf (K 3 dn) = 1 by rw [g]; decide), ob_n]
        obtain ⟨v, ρ', a1, a2, a3⟩ := ct_both h t V hd8 ⟨c5, c3, c4, c6, c7, c8, c9⟩ g c10 0
        obtain ⟨M1, n1, Z1, ρm1, Zm1, γm1, cs1, b1, b2, b3, b4⟩ := a1
        refine ⟨v, ρ', ?_, a2, a3⟩
        rcases b1 with b1 | ⟨bb, b1, b5⟩
        · rw [b1, bx_r]
          exact ⟨M1, n1, _, _, _, _, _, rfl, b2, b3, b4⟩
        · rw [b1, bx_l, b5, ob_n, ob_n]
          exact ⟨M1, n1, _, _, _, _, _, rfl, b2, b3, b4⟩
      · have g2 : ¬ tagOf (K 3 dn) = 1 := by
          unfold tagOf
          rw [if_neg g]
          split
          · decide
          · decide
        rw [if_neg g, if_neg (show ¬ (-12 : Int32) = 0 by decide), if_neg g2]
        exact o_bad2 h t V 3 _
end Q30
