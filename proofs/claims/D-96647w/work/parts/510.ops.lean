/-! what is told to the court -/
set_option maxRecDepth 100000
def CG {α : Type} (M : Mem_) (n x : Nat) (o : Option (α × Mem_)) (r : α) (ρ ρi : Rw_) (hi : Int32) (K : Nat → Rw_) : Prop := ∃ M1 Z ρm Zm γm cs, o = some (r, M1) ∧ IC M1 n x ρ ρi hi K Z ρm Zm γm cs ∧ Fw M M1 x
def TG {α : Type} (M : Mem_) (x : Nat) (o : Option (α × Mem_)) (r : α) (ρ ρi : Rw_) (hi : Int32) (K : Nat → Rw_) : Prop := ∃ M1 μ γ sc, o = some (r, M1) ∧ IT M1 x ρ ρi hi K μ γ sc ∧ Ft M M1 x
theorem SZ.same {M : Mem_} {x n : Nat} {Z : Zr_} {ρ ρ' : Rw_} (h : SZ M x n Z ρ) (hN : rg_ 9 (ρ 0)) (s : SS ρ' ρ) : SZ M x n Z ρ' := by
  have := (rg_nat (by decide) hN).1
  refine ⟨h.1, fun i hi => ?_⟩
  rw [s.1] at hi
  obtain ⟨q, kn, fg, a, b, c, d⟩ := h.2 i hi
  exact ⟨q, kn, fg, a, b, by rw [s.2 _ (by omega) (by omega)]; exact c, by rw [s.2 _ (by omega) (by omega)]; exact d⟩
theorem IC.now {M : Mem_} {n x : Nat} {ρ ρi : Rw_} {hi : Int32} {K : Nat → Rw_} {Z : Zr_} {ρm : Rw_} {Zm : Zr_} {γm cs : Rw_} (h : IC M n x ρ ρi hi K Z ρm Zm γm cs) {ρ' : Rw_} {Z' : Zr_} {γ' : Rw_} (hS : SZ M x n Z' ρ') (hz : Zn Z') : IC (cw_ M (x + 1) ρ' Z' γ') n x ρ' ρi hi K Z' ρm Zm γm cs ∧ Fc M (cw_ M (x + 1) ρ' Z' γ') x := by
  obtain ⟨h0, ⟨γ, h1⟩, ⟨ρk, Zk, γk, h2, h3, h4⟩, h5, ⟨ρa, Za, γa, h6, h7⟩, ⟨T, h8⟩, ⟨F, h9, h10⟩, ⟨hv, h11, h12⟩, h13, h14, h15, h16⟩ := h
  have o : ∀ q, q < x + 1 ∨ x + 10 ≤ q → cw_ M (x + 1) ρ' Z' γ' q = M q := fun q hq => cw_out (by omega)
  have e : ∀ q, x + 61 ≤ q → q < n → cw_ M (x + 1) ρ' Z' γ' q = M q := fun q a _ => o q (by omega)
  exact ⟨⟨(o _ (by omega)).trans h0, ⟨γ', cw_co _ _ _ _ _⟩, ⟨ρk, Zk, γk, h2.cg fun q _ _ => o q (by omega), h3, fun g => ⟨(h4 g).1, (h4 g).2.cg (Nat.le_refl _) fun q a b => sk_cg (e q a b)⟩⟩, h5.cg fun q _ _ => o q (by omega), ⟨ρa, Za, γa, h6.cg fun q _ _ => o q (by omega), h7⟩, ⟨T, (o _ (by omega)).trans h8⟩, ⟨F, (o _ (by omega)).trans h9, h10⟩, ⟨hv, fun d hd => (o _ (by omega)).trans (h11 d hd), h12.cg (Nat.le_refl _) e⟩, hS.cg (Nat.le_refl _) fun q a b => sk_cg (e q a b), hz, h15, h16⟩, fun q _ => o q (by omega)⟩
theorem IC.nowS {M : Mem_} {n x : Nat} {ρ ρi : Rw_} {hi : Int32} {K : Nat → Rw_} {Z : Zr_} {ρm : Rw_} {Zm : Zr_} {γm cs : Rw_} (h : IC M n x ρ ρi hi K Z ρm Zm γm cs) (V : OK_ ρ) {ρ' γ' : Rw_} (s : SS ρ' ρ) : IC (cw_ M (x + 1) ρ' Z γ') n x ρ' ρi hi K Z ρm Zm γm cs ∧ Fc M (cw_ M (x + 1) ρ' Z γ') x := h.now (h.2.2.2.2.2.2.2.2.1.same V.1.2.2.2.2.1 s) h.2.2.2.2.2.2.2.2.2.1
theorem IT.now {M : Mem_} {x : Nat} {ρ ρi : Rw_} {hi : Int32} {K : Nat → Rw_} {μ γ sc : Rw_} (t : IT M x ρ ρi hi K μ γ sc) {ρ' : Rw_} : IT (ms_ M (x + 48) (eI_ 0 42 ρ')) x ρ' ρi hi K μ γ sc ∧ Ft M (ms_ M (x + 48) (eI_ 0 42 ρ')) x := by
  obtain ⟨h0, h1, h2, h3, ⟨ι, h4, h5, h6⟩, ⟨ω, h7, h8⟩, h9, ⟨ν, h10⟩, k0, k1, k2, k3, k4, k5⟩ := t
  have o : ∀ q, q ≠ x + 48 → ms_ M (x + 48) (eI_ 0 42 ρ') q = M q := fun q hq => ms_ne hq
  refine ⟨⟨?_, ms_at _ _ _, ?_, h3, ⟨ι, ?_, h5, h6⟩, ⟨ω, ?_, h8⟩, ?_, ⟨ν, ?_⟩, ?_, ?_, ?_, ?_, ?_, ?_⟩, fun q hq => o q (by omega)⟩
  all_goals rw [o _ (by omega)]
  all_goals assumption
theorem OK_.up {ρ : Rw_} (V : OK_ ρ) {k : Nat} {v : Int32} (h : VR (upd ρ k v)) (hk : k < 42) (h1 : k ≠ 1) (h2 : k ≠ 38) (h3 : k ≠ 41) : OK_ (upd ρ k v) := ⟨h, V.2.1.up hk, by rw [updA, if_neg (Ne.symm h1)]; exact V.2.2.1, by rw [updA, if_neg (Ne.symm h2)]; exact V.2.2.2.1, by rw [updA, if_neg (Ne.symm h3)]; exact V.2.2.2.2⟩
theorem co_sP {M : Mem_} {c : Nat} {ρ : Rw_} {Z : Zr_} {γ : Rw_} (h : Co_ M c ρ Z γ) {p : Nat} (hp : p < 4) (v : Int32) : sI_ M (c + 2) 0 (Int32.ofNat p) v = some (cw_ M c (upd ρ (20 + 4 * p) v) Z γ) ∧ sI_ M (c + 3) 0 (Int32.ofNat p) v = some (cw_ M c (upd ρ (21 + 4 * p) v) Z γ) ∧ sI_ M (c + 4) 0 (Int32.ofNat p) v = some (cw_ M c (upd ρ (22 + 4 * p) v) Z γ) := by
  match p, hp with
  | 0, _ => exact ⟨co_s2_0 h v, co_s3_0 h v, co_s4_0 h v⟩
  | 1, _ => exact ⟨co_s2_1 h v, co_s3_1 h v, co_s4_1 h v⟩
  | 2, _ => exact ⟨co_s2_2 h v, co_s3_2 h v, co_s4_2 h v⟩
  | 3, _ => exact ⟨co_s2_3 h v, co_s3_3 h v, co_s4_3 h v⟩
theorem ro_sP {M : Mem_} {r : Nat} {ρ : Rw_} (h : M r = some (eI_ 0 42 ρ)) {p : Nat} (hp : p < 4) (v : Int32) : sI_ M r 0 (fX4_ofP (Int32.ofNat p) 0) v = some (ms_ M r (eI_ 0 42 (upd ρ (20 + 4 * p) v))) ∧ sI_ M r 0 (fX4_ofP (Int32.ofNat p) 1) v = some (ms_ M r (eI_ 0 42 (upd ρ (21 + 4 * p) v))) ∧ sI_ M r 0 (fX4_ofP (Int32.ofNat p) 2) v = some (ms_ M r (eI_ 0 42 (upd ρ (22 + 4 * p) v))) ∧ sI_ M r 0 (fX4_ofP (Int32.ofNat p) 3) v = some (ms_ M r (eI_ 0 42 (upd ρ (23 + 4 * p) v))) ∧ aI_ M r 0 (fX4_ofP (Int32.ofNat p) 3) = some (ρ (23 + 4 * p)) := by
  match p, hp with
  | 0, _ => exact ⟨ro_s20 h v, ro_s21 h v, ro_s22 h v, ro_s23 h v, ro_a23 h⟩
  | 1, _ => exact ⟨ro_s24 h v, ro_s25 h v, ro_s26 h v, ro_s27 h v, ro_a27 h⟩
  | 2, _ => exact ⟨ro_s28 h v, ro_s29 h v, ro_s30 h v, ro_s31 h v, ro_a31 h⟩
  | 3, _ => exact ⟨ro_s32 h v, ro_s33 h v, ro_s34 h v, ro_s35 h v, ro_a35 h⟩
theorem in_pace {v : Int32} (h : fX4_isIn v 1 4 = true) : rg_ 5 v := by
  apply in_rg (m := 4) (by decide)
  unfold fX4_isIn at h ⊢
  split at h
  · cases h
  · rename_i h1
    split at h
    · cases h
    · rename_i h2
      have a := Int32.not_lt.mp h1
      rw [if_neg (Int32.not_lt.mpr (Int32.le_trans (by decide) a))]
      exact if_neg h2
section Q11
variable {M M' : Mem_} {n x : Nat} {ρ ρi : Rw_} {hi : Int32} {K : Nat → Rw_} {Z : Zr_} {ρm : Rw_} {Zm : Zr_} {γm cs : Rw_} {μ γ sc : Rw_}
theorem o_none (h : IC M n x ρ ρi hi K Z ρm Zm γm cs) (t : IT M' x ρ ρi hi K μ γ sc) (V : OK_ ρ) (v : Int32) : ∃ r ρ', CG M n x (some (v, M)) r ρ' ρi hi K ∧ TG M' x (some (v, M')) r ρ' ρi hi K ∧ OK_ ρ' := ⟨v, ρ, ⟨M, _, _, _, _, _, rfl, h, (Fc.refl _ _).w⟩, ⟨M', _, _, _, rfl, t, Ft.refl _ _⟩, V⟩
theorem o_stands (h : IC M n x ρ ρi hi K Z ρm Zm γm cs) (t : IT M' x ρ ρi hi K μ γ sc) (V : OK_ ρ) (p c w : Int32) : ∃ r ρ', CG M n x (fX1_stands M x p c w) r ρ' ρi hi K ∧ TG M' x (fX4_stands M' (x + 47) p c w) r ρ' ρi hi K ∧ OK_ ρ' := by
  obtain ⟨γ0, h1⟩ := h.2.1
  unfold fX1_stands fX4_stands
  simp only [lt_, show fX1_isPlayer p = fX4_isIn p 0 3 from rfl, show fX4_isPlayer p = fX4_isIn p 0 3 from rfl, show fX1_isCell c = fX4_isIn c 0 8 from rfl, show fX4_isCell c = fX4_isIn c 0 8 from rfl, show fX1_isIn w 1 4 = fX4_isIn w 1 4 from rfl]
  cases e1 : fX4_isIn p 0 3 with
  | false => exact o_none h t V _
  | true =>
    cases e2 : fX4_isIn c 0 8 with
    | false => exact o_none h t V _
    | true =>
      cases e3 : fX4_isIn w 1 4 with
      | false => exact o_none h t V _
      | true =>
        obtain ⟨pn, hp, rfl⟩ := in_rg (m := 3) (by decide) e1
        have hc := in_rg (m := 8) (by decide) e2
        have hw := in_pace e3
        have V1 := V.1.at hp hc
        have O1 := V.up V1 (by omega) (by omega) (by omega) (by omega)
        have V2 := V1.pace hp hw
        have O2 := O1.up V2 (by omega) (by omega) (by omega) (by omega)
        obtain ⟨a1, a2⟩ := h.nowS V (ρ' := upd ρ (20 + 4 * pn) c) (γ' := γ0) ((SS.refl ρ).up (by omega))
        have c1 : Co_ (cw_ M (x + 1) (upd ρ (20 + 4 * pn) c) Z γ0) (x + 1) (upd ρ (20 + 4 * pn) c) Z γ0 := cw_co _ _ _ _ _
        obtain ⟨a3, a4⟩ := a1.nowS O1 (ρ' := upd (upd ρ (20 + 4 * pn) c) (21 + 4 * pn) w) (γ' := γ0) ((SS.refl _).up (by omega))
        obtain ⟨b1, b2⟩ := t.now (ρ' := upd ρ (20 + 4 * pn) c)
        obtain ⟨b3, b4⟩ := b1.now (ρ' := upd (upd ρ (20 + 4 * pn) c) (21 + 4 * pn) w)
        have rd := (co_tP h1 (v := Int32.ofNat pn) ⟨pn, hp, rfl⟩).2.1
        have rd2 := (ro_tP t.2.1 (v := Int32.ofNat pn) ⟨pn, hp, rfl⟩).2.1
        simp only [if_neg b2_t, h.r0, co_r1 h1, rd, (co_sP h1 hp c).1, a1.r0, co_r2 c1, (co_sP c1 hp w).2.1, t.r0, rd2, (ro_sP t.2.1 hp c).1, b1.r0, (ro_sP b1.2.1 hp w).2.1, Option.bind_some]
        exact ⟨_, _, ⟨_, _, _, _, _, _, rfl, a3, (a2.trans a4).w⟩, ⟨_, _, _, _, rfl, b3, b2.trans b4⟩, O2⟩
theorem o_tires (h : IC M n x ρ ρi hi K Z ρm Zm γm cs) (t : IT M' x ρ ρi hi K μ γ sc) (V : OK_ ρ) (p v : Int32) : ∃ r ρ', CG M n x (fX1_tires M x p v) r ρ' ρi hi K ∧ TG M' x (fX4_tires M' (x + 47) p v) r ρ' ρi hi K ∧ OK_ ρ' := by
  obtain ⟨γ0, h1⟩ := h.2.1
  unfold fX1_tires fX4_tires
  simp only [lt_, show fX1_isPlayer p = fX4_isIn p 0 3 from rfl, show fX4_isPlayer p = fX4_isIn p 0 3 from rfl, show fX1_isIn v 0 99 = fX4_isIn v 0 99 from rfl]
  cases e1 : fX4_isIn p 0 3 with
  | false => exact o_none h t V _
  | true =>
    cases e2 : fX4_isIn v 0 99 with
    | false => exact o_none h t V _
    | true =>
      obtain ⟨pn, hp, rfl⟩ := in_rg (m := 3) (by decide) e1
      have hv := in_rg (m := 99) (by decide) e2
      have O1 := V.up (V.1.tired hp hv) (by omega) (by omega) (by omega) (by omega)
      obtain ⟨a1, a2⟩ := h.nowS V (ρ' := upd ρ (22 + 4 * pn) v) (γ' := γ0) ((SS.refl ρ).up (by omega))
      obtain ⟨b1, b2⟩ := t.now (ρ' := upd ρ (22 + 4 * pn) v)
      have rd := (co_tP h1 (v := Int32.ofNat pn) ⟨pn, hp, rfl⟩).1
      have rd2 := (ro_tP t.2.1 (v := Int32.ofNat pn) ⟨pn, hp, rfl⟩).1
      simp only [if_neg b2_t, h.r0, co_r3 h1, rd, (co_sP h1 hp v).2.2, t.r0, rd2, (ro_sP t.2.1 hp v).2.2.1, Option.bind_some]
      exact ⟨_, _, ⟨_, _, _, _, _, _, rfl, a1, a2.w⟩, ⟨_, _, _, _, rfl, b1, b2⟩, O1⟩
theorem o_blows (h : IC M n x ρ ρi hi K Z ρm Zm γm cs) (t : IT M' x ρ ρi hi K μ γ sc) (V : OK_ ρ) (v : Int32) : ∃ r ρ', CG M n x (fX1_blows M x v) r ρ' ρi hi K ∧ TG M' x (fX4_blows M' (x + 47) v) r ρ' ρi hi K ∧ OK_ ρ' := by
  obtain ⟨γ0, h1⟩ := h.2.1
  unfold fX1_blows fX4_blows
  simp only [lt_, show fX1_isIn v 0 2 = fX4_isIn v 0 2 from rfl]
  cases e1 : fX4_isIn v 0 2 with
  | false => exact o_none h t V _
  | true =>
    have hv := in_rg (m := 2) (by decide) e1
    have O1 := V.up (V.1.draught (v := v - 1) (by obtain ⟨i, hi, e⟩ := hv; exact ⟨i, hi, by rw [e]⟩)) (by omega) (by omega) (by omega) (by omega)
    obtain ⟨a1, a2⟩ := h.nowS V (ρ' := upd ρ 3 (v - 1)) (γ' := γ0) ((SS.refl ρ).up (by decide))
    obtain ⟨b1, b2⟩ := t.now (ρ' := upd ρ 3 (v - 1))
    simp only [if_neg b2_t, h.r0, co_i11 h1, co_p11 h1, t.r0, ro_a3 t.2.1, ro_s3 t.2.1, Option.bind_some]
    exact ⟨_, _, ⟨_, _, _, _, _, _, rfl, a1, a2.w⟩, ⟨_, _, _, _, rfl, b1, b2⟩, O1⟩
theorem o_forms (h : IC M n x ρ ρi hi K Z ρm Zm γm cs) (t : IT M' x ρ ρi hi K μ γ sc) (V : OK_ ρ) (s w v : Int32) : ∃ r ρ', CG M n x (fX1_forms M x s w v) r ρ' ρi hi K ∧ TG M' x (fX4_forms M' (x + 47) s w v) r ρ' ρi hi K ∧ OK_ ρ' := by
  obtain ⟨γ0, h1⟩ := h.2.1
  unfold fX1_forms fX4_forms
  simp only [lt_, show fX1_isIn s 0 1 = fX4_isIn s 0 1 from rfl, show fX1_isIn w 0 1 = fX4_isIn w 0 1 from rfl, show fX1_isIn v 0 1 = fX4_isIn v 0 1 from rfl, show fX1_isIn v 0 3 = fX4_isIn v 0 3 from rfl]
  rcases in1 s with ⟨e1, z1⟩ | ⟨e1, _⟩
  · rcases in1 w with ⟨e2, z2⟩ | ⟨e2, _⟩
    · rw [e1, e2]
      rcases z2 with z2 | z2
      · subst z2
        cases e3 : fX4_isIn v 0 1 with
        | false => exact o_none h t V _
        | true =>
          have hv := in_rg (m := 1) (by decide) e3
          rcases z1 with z1 | z1 <;> subst z1
          · obtain ⟨a1, a2⟩ := h.nowS V (ρ' := upd ρ 36 v) (γ' := γ0) ((SS.refl ρ).up (by decide))
            obtain ⟨b1, b2⟩ := t.now (ρ' := upd ρ 36 v)
            have O1 := V.up (V.1.form (s := 0) (by decide) hv) (by omega) (by omega) (by omega) (by omega)
            simp only [if_neg b2_t, if_true, h.r0, co_r4 h1, co_a5_0 h1, co_s5_0 h1, t.r0, fX4_ofSide, Int32.reduceMul, Int32.reduceAdd, ro_a36 t.2.1, ro_s36 t.2.1, Option.bind_some]
            exact ⟨_, _, ⟨_, _, _, _, _, _, rfl, a1, a2.w⟩, ⟨_, _, _, _, rfl, b1, b2⟩, O1⟩
          · obtain ⟨a1, a2⟩ := h.nowS V (ρ' := upd ρ 39 v) (γ' := γ0) ((SS.refl ρ).up (by decide))
            obtain ⟨b1, b2⟩ := t.now (ρ' := upd ρ 39 v)
            have O1 := V.up (V.1.form (s := 1) (by decide) hv) (by omega) (by omega) (by omega) (by omega)
            simp only [if_neg b2_t, if_true, h.r0, co_r4 h1, co_a5_1 h1, co_s5_1 h1, t.r0, fX4_ofSide, Int32.reduceMul, Int32.reduceAdd, ro_a39 t.2.1, ro_s39 t.2.1, Option.bind_some]
            exact ⟨_, _, ⟨_, _, _, _, _, _, rfl, a1, a2.w⟩, ⟨_, _, _, _, rfl, b1, b2⟩, O1⟩
      · subst z2
        cases e3 : fX4_isIn v 0 3 with
        | false => exact o_none h t V _
        | true =>
          have hv := in_rg (m := 3) (by decide) e3
          rcases z1 with z1 | z1 <;> subst z1
          · obtain ⟨a1, a2⟩ := h.nowS V (ρ' := upd ρ 37 v) (γ' := γ0) ((SS.refl ρ).up (by decide))
            obtain ⟨b1, b2⟩ := t.now (ρ' := upd ρ 37 v)
            have O1 := V.up (V.1.habit (s := 0) (by decide) hv) (by omega) (by omega) (by omega) (by omega)
            simp only [if_neg b2_t, if_neg ne10, h.r0, co_r5 h1, co_a6_0 h1, co_s6_0 h1, t.r0, fX4_ofSide, Int32.reduceMul, Int32.reduceAdd, ro_a37 t.2.1, ro_s37 t.2.1, Option.bind_some]
            exact ⟨_, _, ⟨_, _, _, _, _, _, rfl, a1, a2.w⟩, ⟨_, _, _, _, rfl, b1, b2⟩, O1⟩
          · obtain ⟨a1, a2⟩ := h.nowS V (ρ' := upd ρ 40 v) (γ' := γ0) ((SS.refl ρ).up (by decide))
            obtain ⟨b1, b2⟩ := t.now (ρ' := upd ρ 40 v)
            have O1 := V.up (V.1.habit (s := 1) (by decide) hv) (by omega) (by omega) (by omega) (by omega)
            simp only [if_neg b2_t, if_neg ne10, h.r0, co_r5 h1, co_a6_1 h1, co_s6_1 h1, t.r0, fX4_ofSide, Int32.reduceMul, Int32.reduceAdd, ro_a40 t.2.1, ro_s40 t.2.1, Option.bind_some]
            exact ⟨_, _, ⟨_, _, _, _, _, _, rfl, a1, a2.w⟩, ⟨_, _, _, _, rfl, b1, b2⟩, O1⟩
    · rw [e1, e2]
      exact o_none h t V _
  · rw [e1]
    exact o_none h t V _
end Q11
