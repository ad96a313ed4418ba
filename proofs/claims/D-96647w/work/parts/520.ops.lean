/-! hands; the image -/
set_option maxRecDepth 100000
theorem lf_xor {ρ : Rw_} (V : VR ρ) : lf_ ρ ^^^ ((1 : Int32) <<< ((0 : Int32) &&& 31)) = lf_ (upd ρ 23 (ρ 23 ^^^ 1)) ∧ lf_ ρ ^^^ ((1 : Int32) <<< ((1 : Int32) &&& 31)) = lf_ (upd ρ 27 (ρ 27 ^^^ 1)) ∧ lf_ ρ ^^^ ((1 : Int32) <<< ((2 : Int32) &&& 31)) = lf_ (upd ρ 31 (ρ 31 ^^^ 1)) ∧ lf_ ρ ^^^ ((1 : Int32) <<< ((3 : Int32) &&& 31)) = lf_ (upd ρ 35 (ρ 35 ^^^ 1)) := by
  obtain ⟨i0, h0, e0⟩ := (V.1 0 (by decide)).2.2.2
  obtain ⟨i1, h1, e1⟩ := (V.1 1 (by decide)).2.2.2
  obtain ⟨i2, h2, e2⟩ := (V.1 2 (by decide)).2.2.2
  obtain ⟨i3, h3, e3⟩ := (V.1 3 (by decide)).2.2.2
  have e0 : ρ 23 = _ := e0
  have e1 : ρ 27 = _ := e1
  have e2 : ρ 31 = _ := e2
  have e3 : ρ 35 = _ := e3
  have K : ∀ (a b c d : Fin 2), (Int32.ofNat a.val + 2 * Int32.ofNat b.val + 4 * Int32.ofNat c.val + 8 * Int32.ofNat d.val) ^^^ ((1 : Int32) <<< ((0 : Int32) &&& 31)) = (Int32.ofNat a.val ^^^ 1) + 2 * Int32.ofNat b.val + 4 * Int32.ofNat c.val + 8 * Int32.ofNat d.val ∧ (Int32.ofNat a.val + 2 * Int32.ofNat b.val + 4 * Int32.ofNat c.val + 8 * Int32.ofNat d.val) ^^^ ((1 : Int32) <<< ((1 : Int32) &&& 31)) = Int32.ofNat a.val + 2 * (Int32.ofNat b.val ^^^ 1) + 4 * Int32.ofNat c.val + 8 * Int32.ofNat d.val ∧ (Int32.ofNat a.val + 2 * Int32.ofNat b.val + 4 * Int32.ofNat c.val + 8 * Int32.ofNat d.val) ^^^ ((1 : Int32) <<< ((2 : Int32) &&& 31)) = Int32.ofNat a.val + 2 * Int32.ofNat b.val + 4 * (Int32.ofNat c.val ^^^ 1) + 8 * Int32.ofNat d.val ∧ (Int32.ofNat a.val + 2 * Int32.ofNat b.val + 4 * Int32.ofNat c.val + 8 * Int32.ofNat d.val) ^^^ ((1 : Int32) <<< ((3 : Int32) &&& 31)) = Int32.ofNat a.val + 2 * Int32.ofNat b.val + 4 * Int32.ofNat c.val + 8 * (Int32.ofNat d.val ^^^ 1) := by decide +kernel
  have k := K ⟨i0, h0⟩ ⟨i1, h1⟩ ⟨i2, h2⟩ ⟨i3, h3⟩
  have l : ∀ r : Rw_, lf_ r = r 23 + 2 * r 27 + 4 * r 31 + 8 * r 35 := fun _ => rfl
  have u : ∀ (a b : Nat) (v : Int32), upd ρ a v b = if b = a then v else ρ b := fun a b v => rfl
  simp only [l, u, Nat.reduceEqDiff, if_true, if_false, e0, e1, e2, e3]
  exact k
theorem rg_x1 {v : Int32} (h : rg_ 2 v) : rg_ 2 (v ^^^ 1) := rgb_rg (rg_all1 (n := 2) (P := fun v => rgb_ 2 (v ^^^ 1) = true) (by decide +kernel) h)
section P8
variable {M : Mem_} {c : Nat} {ρ : Rw_} {Z : Zr_} {γ : Rw_} (w : Int32)
theorem co_p8_0 (h : Co_ M c ρ Z γ) : pF_ M c 1 8 (.int (lf_ (upd ρ 23 w))) = some (cw_ M c (upd ρ 23 w) Z γ) := by
  have t : pF_ (cw_ M c ρ Z γ) c 1 8 (.int (lf_ (upd ρ 23 w))) = some (cw_ M c (upd ρ 23 w) Z γ) := (pFof cw_0 (Nat.le_of_ble_eq_true rfl)).trans (congrArg some (ms_cw (j := 0) (by decide) rfl (cwx c ρ Z γ _ 0 23 w (by decide) rfl (by decide) (by decide) (by decide) (by decide) (by decide) (by decide) (by decide))))
  rw [cw_eq h] at t
  exact t
theorem co_p8_1 (h : Co_ M c ρ Z γ) : pF_ M c 1 8 (.int (lf_ (upd ρ 27 w))) = some (cw_ M c (upd ρ 27 w) Z γ) := by
  have t : pF_ (cw_ M c ρ Z γ) c 1 8 (.int (lf_ (upd ρ 27 w))) = some (cw_ M c (upd ρ 27 w) Z γ) := (pFof cw_0 (Nat.le_of_ble_eq_true rfl)).trans (congrArg some (ms_cw (j := 0) (by decide) rfl (cwx c ρ Z γ _ 0 27 w (by decide) rfl (by decide) (by decide) (by decide) (by decide) (by decide) (by decide) (by decide))))
  rw [cw_eq h] at t
  exact t
theorem co_p8_2 (h : Co_ M c ρ Z γ) : pF_ M c 1 8 (.int (lf_ (upd ρ 31 w))) = some (cw_ M c (upd ρ 31 w) Z γ) := by
  have t : pF_ (cw_ M c ρ Z γ) c 1 8 (.int (lf_ (upd ρ 31 w))) = some (cw_ M c (upd ρ 31 w) Z γ) := (pFof cw_0 (Nat.le_of_ble_eq_true rfl)).trans (congrArg some (ms_cw (j := 0) (by decide) rfl (cwx c ρ Z γ _ 0 31 w (by decide) rfl (by decide) (by decide) (by decide) (by decide) (by decide) (by decide) (by decide))))
  rw [cw_eq h] at t
  exact t
theorem co_p8_3 (h : Co_ M c ρ Z γ) : pF_ M c 1 8 (.int (lf_ (upd ρ 35 w))) = some (cw_ M c (upd ρ 35 w) Z γ) := by
  have t : pF_ (cw_ M c ρ Z γ) c 1 8 (.int (lf_ (upd ρ 35 w))) = some (cw_ M c (upd ρ 35 w) Z γ) := (pFof cw_0 (Nat.le_of_ble_eq_true rfl)).trans (congrArg some (ms_cw (j := 0) (by decide) rfl (cwx c ρ Z γ _ 0 35 w (by decide) rfl (by decide) (by decide) (by decide) (by decide) (by decide) (by decide) (by decide))))
  rw [cw_eq h] at t
  exact t
end P8
/-- a change of hands in a court that lies in memory -/
theorem co_hand {M : Mem_} {c : Nat} {ρ : Rw_} {Z : Zr_} {γ : Rw_} (h : Co_ M c ρ Z γ) (V : VR ρ) {p : Nat} (hp : p < 4) : pF_ M c 1 8 (.int (lf_ ρ ^^^ ((1 : Int32) <<< (Int32.ofNat p &&& 31)))) = some (cw_ M c (upd ρ (23 + 4 * p) (ρ (23 + 4 * p) ^^^ 1)) Z γ) := by
  obtain ⟨x0, x1, x2, x3⟩ := lf_xor V
  match p, hp with
  | 0, _ =>
    rw [oN0, x0]
    exact co_p8_0 _ h
  | 1, _ =>
    rw [oN1, x1]
    exact co_p8_1 _ h
  | 2, _ =>
    rw [oN2, x2]
    exact co_p8_2 _ h
  | 3, _ =>
    rw [oN3, x3]
    exact co_p8_3 _ h
theorem lf_bit {ρ : Rw_} (V : VR ρ) {p : Nat} (hp : p < 4) : (lf_ ρ >>> (Int32.ofNat p &&& 31)) &&& 1 = ρ (23 + 4 * p) := by
  obtain ⟨b0, b1, b2, b3, _⟩ := lf_bits V
  match p, hp with
  | 0, _ => exact b0
  | 1, _ => exact b1
  | 2, _ => exact b2
  | 3, _ => exact b3
section Q13
variable {M M' : Mem_} {n x : Nat} {ρ ρi : Rw_} {hi : Int32} {K : Nat → Rw_} {Z : Zr_} {ρm : Rw_} {Zm : Zr_} {γm cs : Rw_} {μ γ sc : Rw_}
theorem o_hands (h : IC M n x ρ ρi hi K Z ρm Zm γm cs) (t : IT M' x ρ ρi hi K μ γ sc) (V : OK_ ρ) (p : Int32) : ∃ r ρ', CG M n x (fX1_hands M x p) r ρ' ρi hi K ∧ TG M' x (fX4_hands M' (x + 47) p) r ρ' ρi hi K ∧ OK_ ρ' := by
  obtain ⟨γ0, h1⟩ := h.2.1
  unfold fX1_hands fX4_hands
  simp only [lt_, show fX1_isPlayer p = fX4_isIn p 0 3 from rfl, show fX4_isPlayer p = fX4_isIn p 0 3 from rfl]
  cases e1 : fX4_isIn p 0 3 with
  | false => exact o_none h t V _
  | true =>
    obtain ⟨pn, hp, rfl⟩ := in_rg (m := 3) (by decide) e1
    have V1 := V.1.left hp (rg_x1 (V.1.1 pn hp).2.2.2)
    have O1 := V.up V1 (by omega) (by omega) (by omega) (by omega)
    obtain ⟨a1, a2⟩ := h.nowS V (ρ' := upd ρ (23 + 4 * pn) (ρ (23 + 4 * pn) ^^^ 1)) (γ' := γ0) ((SS.refl ρ).up (by omega))
    have c1 : Co_ (cw_ M (x + 1) (upd ρ (23 + 4 * pn) (ρ (23 + 4 * pn) ^^^ 1)) Z γ0) (x + 1) (upd ρ (23 + 4 * pn) (ρ (23 + 4 * pn) ^^^ 1)) Z γ0 := cw_co _ _ _ _ _
    obtain ⟨b1, b2⟩ := t.now (ρ' := upd ρ (23 + 4 * pn) (ρ (23 + 4 * pn) ^^^ 1))
    have R := ro_sP t.2.1 hp (ρ (23 + 4 * pn) ^^^ 1)
    have R2 := ro_sP b1.2.1 hp 0
    simp only [if_neg b2_t, h.r0, co_i8 h1, co_hand h1 V.1 hp, a1.r0, co_i8 c1, lf_bit V1 hp, t.r0, R.2.2.2.2, R.2.2.2.1, b1.r0, R2.2.2.2.2, Option.bind_some]
    exact ⟨_, _, ⟨_, _, _, _, _, _, rfl, a1, a2.w⟩, ⟨_, _, _, _, rfl, b1, b2⟩, O1⟩
theorem o_image (h : IC M n x ρ ρi hi K Z ρm Zm γm cs) (t : IT M' x ρ ρi hi K μ γ sc) (V : OK_ ρ) : ∃ r, CG M n x (fX1_image M x) r ρ ρ 1 K ∧ TG M' x (fX4_image M' (x + 47)) r ρ ρ 1 K := by
  refine ⟨ρ 1, ?_, ?_⟩
  · have okS := h.okS
    have r0 := h.r0
    have r1 := h.r1
    obtain ⟨h0, ⟨γ0, h1⟩, ⟨ρk, Zk, γk, h2, h3, h4⟩, h5, ⟨ρa, Za, γa, h6, h7⟩, ⟨T, h8⟩, ⟨F, h9, h10⟩, ⟨hv, h11, h12⟩, h13, h14, h15, h16⟩ := h
    have tk := takes_ok h2 h1 (by omega) okS
    rw [zz_eq h14 h3] at tk
    have o1 : ∀ q, q < x + 10 ∨ x + 19 ≤ q → cw_ M (x + 10) ρ Z (fun _ => 0) q = M q := fun q hq => cw_out (by omega)
    have pf : pF_ (cw_ M (x + 10) ρ Z fun _ => 0) x 0 4 (.int 1) = some (ms_ (cw_ M (x + 10) ρ Z fun _ => 0) x (cO_ x 1 cs)) := pFof ((o1 _ (by omega)).trans h0) (Nat.le_of_ble_eq_true rfl)
    have o : ∀ q, q ≠ x → q < x + 10 ∨ x + 19 ≤ q → ms_ (cw_ M (x + 10) ρ Z fun _ => 0) x (cO_ x 1 cs) q = M q := fun q h1 h2 => (ms_ne h1).trans (o1 q h2)
    have e : ∀ q, x + 61 ≤ q → q < n → ms_ (cw_ M (x + 10) ρ Z fun _ => 0) x (cO_ x 1 cs) q = M q := fun q a _ => o q (by omega) (by omega)
    have hI : IC (ms_ (cw_ M (x + 10) ρ Z fun _ => 0) x (cO_ x 1 cs)) n x ρ ρ 1 K Z ρm Zm γm cs := ⟨ms_at _ _ _, ⟨γ0, h1.cg fun q _ _ => o q (by omega) (by omega)⟩, ⟨ρ, Z, fun _ => 0, (cw_co M (x + 10) ρ Z fun _ => 0).cg fun q _ _ => ms_ne (by omega), h14, fun _ => ⟨rfl, h13.cg (Nat.le_refl _) fun q a b => sk_cg (e q a b)⟩⟩, h5.cg fun q _ _ => o q (by omega) (by omega), ⟨ρa, Za, γa, h6.cg fun q _ _ => o q (by omega) (by omega), h7⟩, ⟨T, (o _ (by omega) (by omega)).trans h8⟩, ⟨F, (o _ (by omega) (by omega)).trans h9, h10⟩, ⟨hv, fun d hd => (o _ (by omega) (by omega)).trans (h11 d hd), h12.cg (Nat.le_refl _) e⟩, h13.cg (Nat.le_refl _) fun q a b => sk_cg (e q a b), h14, h15, h16⟩
    refine ⟨_, _, _, _, _, _, ?_, hI, fun q _ _ => o q (by omega) (by omega)⟩
    obtain ⟨γ1, c1⟩ := hI.2.1
    have ck : ck_ M (x + 10) 1 = some () := ckof (h2 0 (by decide))
    unfold fX1_image
    simp only [r0, r1, ck, tk, pf, hI.r0, co_i12 c1, Option.bind_some]
  · have r0 := t.r0
    have r2 := t.r2
    obtain ⟨h0, h1, h2, h3, ⟨ι, h4, h5, h6⟩, ⟨ω, h7, h8⟩, h9, ⟨ν, h10⟩, k0, k1, k2, k3, k4, k5⟩ := t
    have cp := cop_ok h1 h4 (by omega) V.2.1 h5
    have pf : pF_ (ms_ M' (x + 50) (eI_ 0 42 ρ)) (x + 47) 3 5 (.int 1) = some (ms_ (ms_ M' (x + 50) (eI_ 0 42 ρ)) (x + 47) (tO_ x 1 sc)) := pFof ((ms_ne (by omega)).trans h0) (Nat.le_of_ble_eq_true rfl)
    have o : ∀ q, q ≠ x + 47 → q ≠ x + 50 → ms_ (ms_ M' (x + 50) (eI_ 0 42 ρ)) (x + 47) (tO_ x 1 sc) q = M' q := fun q h1 h2 => (ms_ne h1).trans (ms_ne h2)
    have hI : IT (ms_ (ms_ M' (x + 50) (eI_ 0 42 ρ)) (x + 47) (tO_ x 1 sc)) x ρ ρ 1 K μ γ sc := by
      refine ⟨ms_at _ _ _, ?_, ?_, h3, ⟨ρ, (ms_ne (by omega)).trans (ms_at _ _ _), V.2.1, fun _ => rfl⟩, ⟨ω, ?_, h8⟩, ?_, ⟨ν, ?_⟩, ?_, ?_, ?_, ?_, ?_, ?_⟩
      all_goals rw [o _ (by omega) (by omega)]
      all_goals assumption
    refine ⟨_, _, _, _, ?_, hI, fun q hq => o q (by omega) (by omega)⟩
    unfold fX4_image
    simp only [r0, r2, cp, pf, hI.r0, ro_a1 hI.2.1, Option.bind_some]
theorem o_restore (h : IC M n x ρ ρi hi K Z ρm Zm γm cs) (t : IT M' x ρ ρi hi K μ γ sc) (V : VS ρ ρi hi) : ∃ r ρ', CG M n x (fX1_restore M x) r ρ' ρi hi K ∧ TG M' x (fX4_restore M' (x + 47)) r ρ' ρi hi K ∧ OK_ ρ' := by
  unfold fX1_restore fX4_restore
  simp only [h.i4, t.i5, Option.bind_some]
  rcases V with ⟨V, z | ⟨z, Vi⟩⟩
  · subst z
    exact o_none h t V _
  · subst z
    rw [if_neg ne10, if_neg ne10]
    obtain ⟨γ0, h1⟩ := h.2.1
    obtain ⟨ρk, Zk, γk, h2, h3, h4⟩ := h.2.2.1
    obtain ⟨e5, hS⟩ := h4 rfl
    subst e5
    have hz := h.2.2.2.2.2.2.2.2.2.1
    have okS : ∀ i, i < 8 → okS_ M (Zk i) = true := fun i _ => by
      unfold okS_
      cases e : Zk i with
      | none => rfl
      | some q => exact (hS.1 i q e).2.2
    have tk := takes_ok h1 h2 (by omega) okS
    rw [zz_eq h3 hz] at tk
    obtain ⟨a1, a2⟩ := h.now (γ' := fun _ => 0) hS h3
    obtain ⟨γ1, c1⟩ := a1.2.1
    obtain ⟨ι, i1, i2, i3⟩ := t.2.2.2.2.1
    have e6 := i3 rfl
    subst e6
    have cp := cop_ok i1 t.2.1 (by omega) i2 V.2.1
    obtain ⟨b1, b2⟩ := t.now (ρ' := ι)
    simp only [h.r0, h.r1, h.ck1, tk, a1.r0, co_i12 c1, t.r2, t.r0, cp, b1.r0, ro_a1 b1.2.1, Option.bind_some]
    exact ⟨_, _, ⟨_, _, _, _, _, _, rfl, a1, a2.w⟩, ⟨_, _, _, _, rfl, b1, b2⟩, Vi⟩
end Q13
