/-! rallies -/
set_option maxRecDepth 100000
/-- the two numbers of a told hit -/
def eA (K : Nat → Rw_) (dn k : Nat) : Int32 := K 5 (100 * dn + 2 * k)
def eB (K : Nat → Rw_) (dn k : Nat) : Int32 := K 5 (100 * dn + (2 * k + 1))
def vH (ρ : Rw_) (K : Nat → Rw_) (dn k : Nat) : Bool := fX4_isIn (eA K dn k) 0 (ρ 0 - 1) && fX4_isIn (eB K dn k) 0 8
theorem vH_rg {ρ : Rw_} (V : OK_ ρ) {K : Nat → Rw_} {dn k : Nat} (h : vH ρ K dn k = true) : (eA K dn k).toNatClampNeg < (ρ 0).toNatClampNeg ∧ rg_ 8 (eA K dn k) ∧ rg_ 9 (eB K dn k) := by
  unfold vH at h
  cases e1 : fX4_isIn (eA K dn k) 0 (ρ 0 - 1) with
  | false => rw [e1] at h; cases h
  | true =>
    rw [e1] at h
    have e2 : fX4_isIn (eB K dn k) 0 8 = true := h
    have s := str_rg V.1.2.2.2.2.1 e1
    exact ⟨s.1, s.2, in_rg (m := 8) (by decide) e2⟩
theorem rowAt.eA {M : Mem_} {n x : Nat} {K : Nat → Rw_} {d q sz : Nat} {f : Rw_} (h : rowAt M n x K d q sz f) {k : Nat} (hk : 2 * k + 1 < sz) : fX1_elementOf M q (2 * Int32.ofNat k) = some (eA K d k) ∧ fX1_elementOf M q (2 * Int32.ofNat k + 1) = some (eB K d k) := by
  rw [n2i, nS1]
  exact ⟨h.elem (by omega), h.elem hk⟩
theorem IT.eA {M : Mem_} {x : Nat} {ρ ρi : Rw_} {hi : Int32} {K : Nat → Rw_} {μ γ sc : Rw_} (t : IT M x ρ ρi hi K μ γ sc) {d k : Nat} (hd : d < 8) (hk : 2 * k + 1 < 100) : aI_ M (x + 59) 0 (100 * Int32.ofNat d + Int32.ofNat (2 * k)) = some (eA K d k) ∧ aI_ M (x + 59) 0 ((100 * Int32.ofNat d + Int32.ofNat (2 * k)) + 1) = some (eB K d k) := by
  have a := t.elem hd (i := 2 * k) (by omega)
  have b := t.elem hd (i := 2 * k + 1) (by omega)
  rw [← nS1, ← Int32.add_assoc] at b
  exact ⟨a, b⟩
def foR (ρ : Rw_) (K : Nat → Rw_) (dn : Nat) : Nat → Nat → Bool → Rw_ → Int32
  | 0, _, _, _ => -4
  | j + 1, k, o, μ => if o = true then Int32.ofNat k else if vH ρ K dn k = true then foR ρ K dn j (k + 1) (hB μ (eA K dn k) (eB K dn k)) (hR μ (eA K dn k) (eB K dn k)) else Int32.ofNat k
theorem fo_C {n x : Nat} {ρ ρi : Rw_} {hi : Int32} {K : Nat → Rw_} {Z : Zr_} (V : OK_ ρ) {dn q m : Nat} {f : Rw_} (y1 y2 : Int32) : ∀ (j k fuel : Nat) (o : Bool) (M : Mem_) (ρm γm cs : Rw_), k + j = m → j < fuel → IC M n x ρ ρi hi K Z ρm Z γm cs → MV ρm ρ → rowAt M n x K dn q (2 * m) f → Cq M n x ρ ρi hi K Z (fX1_forged_L45 fuel M x y1 y2 q (b2_ o) (Int32.ofNat k)) (foR ρ K dn j k o ρm) := by
  intro j
  induction j with
  | zero =>
    intro k fuel o M ρm γm cs hk hf h W R
    obtain ⟨g, rfl⟩ : ∃ g, fuel = g + 1 := ⟨fuel - 1, by omega⟩
    have h100 := R.2.2.2.1
    rw [fX1_forged_L45, R.size, Option.bind_some, n2i, if_pos (by rw [nL (by omega) (by omega)]; omega)]
    exact ⟨M, _, _, _, _, rfl, h, Fc.refl _ _⟩
  | succ j ih =>
    intro k fuel o M ρm γm cs hk hf h W R
    obtain ⟨g, rfl⟩ : ∃ g, fuel = g + 1 := ⟨fuel - 1, by omega⟩
    have h100 := R.2.2.2.1
    have E := R.eA (k := k) (by omega)
    rw [fX1_forged_L45, R.size, Option.bind_some, if_neg (by rw [n2i, nL (by omega) (by omega)]; omega), E.1, Option.bind_some, E.2, Option.bind_some]
    unfold foR
    cases o with
    | true =>
      rw [if_neg b2_t, if_pos rfl]
      exact ⟨M, _, _, _, _, rfl, h, Fc.refl _ _⟩
    | false =>
      rw [if_pos b2_f, if_neg (show ¬ (false = true) by decide)]
      simp only [h.ck, h.isHit, Option.bind_some]
      show Cq M n x ρ ρi hi K Z (if b2_ (vH ρ K dn k) = 0 then _ else _) _
      cases e : vH ρ K dn k with
      | false => exact ⟨M, _, _, _, _, rfl, h, Fc.refl _ _⟩
      | true =>
        obtain ⟨v1, v2, v3⟩ := vH_rg V e
        obtain ⟨M1, e1, h1, f1⟩ := h.mhit rfl W v1 v2 v3
        rw [if_neg b2_t, if_pos rfl]
        simp only [h.r2, h.ck19, e1, bw_, Option.bind_some, lt_, nS1]
        exact (ih (k + 1) g _ M1 _ _ _ (by omega) (by omega) h1 (W.hit v1 v3) (R.cg f1)).on f1
theorem fo_T {x : Nat} {ρ ρi : Rw_} {hi : Int32} {K : Nat → Rw_} (V : OK_ ρ) {dn m : Nat} (hd : dn < 8) (h100 : 2 * m ≤ 100) (hs : K 4 dn = Int32.ofNat (2 * m)) (y2 : Int32) : ∀ (j k fuel : Nat) (o : Bool) (M : Mem_) (μ γ sc : Rw_), k + j = m → j < fuel → IT M x ρ ρi hi K μ γ sc → MV μ ρ → Tq M x ρ ρi hi K (fX4_forged_L48 fuel M (x + 47) (Int32.ofNat dn) y2 (b2_ o) (Int32.ofNat (2 * k))) (foR ρ K dn j k o μ) := by
  intro j
  induction j with
  | zero =>
    intro k fuel o M μ γ sc hk hf t W
    obtain ⟨g, rfl⟩ : ∃ g, fuel = g + 1 := ⟨fuel - 1, by omega⟩
    have kf := (t.kf (d := Int32.ofNat dn) ⟨dn, hd, rfl⟩).2.2.2.2
    rw [nC (by omega), hs] at kf
    rw [fX4_forged_L48, t.r17, Option.bind_some, kf, Option.bind_some, if_pos (by rw [nL (by omega) (by omega)]; omega)]
    exact ⟨M, _, _, _, rfl, t, Ft.refl _ _⟩
  | succ j ih =>
    intro k fuel o M μ γ sc hk hf t W
    obtain ⟨g, rfl⟩ : ∃ g, fuel = g + 1 := ⟨fuel - 1, by omega⟩
    have kf := (t.kf (d := Int32.ofNat dn) ⟨dn, hd, rfl⟩).2.2.2.2
    rw [nC (by omega), hs] at kf
    have E := t.eA hd (k := k) (by omega)
    have D := (nD2 (i := 2 * k) (by omega)).1
    rw [show 2 * k / 2 = k by omega] at D
    rw [fX4_forged_L48, t.r17, Option.bind_some, kf, Option.bind_some, if_neg (by rw [nL (by omega) (by omega)]; omega), t.r18, Option.bind_some, E.1, Option.bind_some, Option.bind_some, E.2, Option.bind_some, D]
    unfold foR
    cases o with
    | true =>
      rw [if_neg b2_t, if_pos rfl]
      exact ⟨M, _, _, _, rfl, t, Ft.refl _ _⟩
    | false =>
      rw [if_pos b2_f, if_neg (show ¬ (false = true) by decide)]
      simp only [t.ck, t.isHit, Option.bind_some]
      show Tq M x ρ ρi hi K (if b2_ (vH ρ K dn k) = 0 then _ else _) _
      cases e : vH ρ K dn k with
      | false => exact ⟨M, _, _, _, rfl, t, Ft.refl _ _⟩
      | true =>
        obtain ⟨v1, v2, v3⟩ := vH_rg V e
        obtain ⟨M1, e1, h1, f1⟩ := t.mhit W v1 v2 v3
        rw [if_neg b2_t, if_pos rfl]
        simp only [t.r1, t.ck, e1, bw_, Option.bind_some, lt_]
        rw [show Int32.ofNat (2 * k) + 2 = Int32.ofNat (2 * (k + 1)) from nS (2 * k) 2]
        exact (ih (k + 1) g _ M1 _ _ _ (by omega) (by omega) h1 (W.hit v1 v3)).on f1
section Q9
variable {M M' : Mem_} {n x : Nat} {ρ ρi : Rw_} {hi : Int32} {K : Nat → Rw_} {Z : Zr_} {ρm : Rw_} {Zm : Zr_} {γm cs : Rw_} {μ γ sc : Rw_}
theorem o_forged (h : IC M n x ρ ρi hi K Z ρm Zm γm cs) (t : IT M' x ρ ρi hi K μ γ sc) (V : OK_ ρ) (d : Int32) : ∃ r, Cq M n x ρ ρi hi K Z (fX1_forged M x d) r ∧ Tq M' x ρ ρi hi K (fX4_forged M' (x + 47) d) r := by
  unfold fX1_forged fX4_forged
  simp only [h.ck, h.notRow, t.ck, t.wrong, Option.bind_some]
  by_cases e : wrR K d = 0
  · simp only [if_pos e]
    obtain ⟨dn, q, sz, f, hd, ed, a, b, R⟩ := h.rowOf e
    subst ed
    have h100 := R.2.2.2.1
    have kf := (t.kf (d := Int32.ofNat dn) ⟨dn, hd, rfl⟩).2.2.2.2
    rw [nC (by omega), R.2.2.2.2.1] at kf
    have D := nD2 (i := sz) (by omega)
    simp only [h.r8, a, b, R.size, t.r17, kf, Option.bind_some]
    by_cases z : sz % 2 = 1
    · rw [if_pos (D.2.2.mpr z), if_pos (D.2.2.mpr z)]
      exact ⟨_, ⟨M, _, _, _, _, rfl, h, Fc.refl _ _⟩, ⟨M', _, _, _, rfl, t, Ft.refl _ _⟩⟩
    · rw [if_neg (fun w => z (D.2.2.mp w)), if_neg (fun w => z (D.2.2.mp w))]
      obtain ⟨m, rfl⟩ : ∃ m, sz = 2 * m := ⟨sz / 2, by omega⟩
      obtain ⟨M1, e1, h2, f1⟩ := h.minds
      obtain ⟨M2, e2, t2, f2⟩ := t.cop V.2.1
      simp only [e1, t.r0, t.r1, e2, Option.bind_some]
      exact ⟨_, (fo_C V _ _ m 0 1000 false M1 _ _ _ (by omega) (by omega) h2 V.mv (R.cg f1)).on f1, (fo_T V hd h100 R.2.2.2.2.1 _ m 0 1000 false M2 _ _ _ (by omega) (by omega) t2 V.mv).on f2⟩
  · simp only [if_neg e]
    exact ⟨_, ⟨M, _, _, _, _, rfl, h, Fc.refl _ _⟩, ⟨M', _, _, _, rfl, t, Ft.refl _ _⟩⟩
end Q9
/-! whether a row tells hits -/
def nhR (ρ : Rw_) (K : Nat → Rw_) (dn : Nat) : Nat → Nat → Int32
  | 0, _ => 0
  | j + 1, k => if vH ρ K dn k = true then nhR ρ K dn j (k + 1) else -13
theorem nh_ok {ρ : Rw_} {K : Nat → Rw_} {dn : Nat} : ∀ (j k : Nat), nhR ρ K dn j k = 0 → ∀ i, k ≤ i → i < k + j → vH ρ K dn i = true := by
  intro j
  induction j with
  | zero => intro k _ i h1 h2; omega
  | succ j ih =>
    intro k h i h1 h2
    unfold nhR at h
    split at h
    · rename_i e
      by_cases z : i = k
      · rw [z]
        exact e
      · exact ih (k + 1) h i (by omega) (by omega)
    · exact absurd h (by decide)
def whR (ρ : Rw_) (K : Nat → Rw_) (d : Int32) : Int32 := if wrR K d = 0 then (if (K 4 d.toNatClampNeg).toNatClampNeg % 2 = 1 then -13 else nhR ρ K d.toNatClampNeg ((K 4 d.toNatClampNeg).toNatClampNeg / 2) 0) else wrR K d
theorem nh_C {M : Mem_} {n x : Nat} {ρ ρi : Rw_} {hi : Int32} {K : Nat → Rw_} {Z : Zr_} {ρm : Rw_} {Zm : Zr_} {γm cs : Rw_} (h : IC M n x ρ ρi hi K Z ρm Zm γm cs) {dn q sz : Nat} {f : Rw_} (R : rowAt M n x K dn q sz f) (y1 y2 : Int32) : ∀ (j k fuel : Nat), k + j = sz / 2 → j < fuel → fX1_notHits_L25 fuel M x y1 y2 q (Int32.ofNat k) = some (if sz % 2 = 1 then -13 else nhR ρ K dn j k) := by
  have h100 := R.2.2.2.1
  have D := nD2 (i := sz) (by omega)
  intro j
  induction j with
  | zero =>
    intro k fuel hk hf
    obtain ⟨g, rfl⟩ : ∃ g, fuel = g + 1 := ⟨fuel - 1, by omega⟩
    rw [fX1_notHits_L25, R.size, Option.bind_some, if_pos (by rw [n2i, nS1, nL (by omega) (by omega)]; omega), Option.bind_some]
    by_cases z : sz % 2 = 1
    · rw [if_pos (D.2.2.mpr z), if_pos z]
    · rw [if_neg (fun w => z (D.2.2.mp w)), if_neg z]
      rfl
  | succ j ih =>
    intro k fuel hk hf
    obtain ⟨g, rfl⟩ : ∃ g, fuel = g + 1 := ⟨fuel - 1, by omega⟩
    have E := R.eA (k := k) (by omega)
    rw [fX1_notHits_L25, R.size, Option.bind_some, if_neg (by rw [n2i, nS1, nL (by omega) (by omega)]; omega), E.1, Option.bind_some, E.2, Option.bind_some, h.ck, Option.bind_some, h.isHit, Option.bind_some, lt_, nS1, ih (k + 1) g (by omega) (by omega)]
    show (if b2_ (vH ρ K dn k) = 0 then some (-13) else _) = some (if sz % 2 = 1 then -13 else if vH ρ K dn k = true then nhR ρ K dn j (k + 1) else -13)
    cases vH ρ K dn k with
    | false =>
      rw [if_pos b2_f]
      split <;> rfl
    | true =>
      rw [if_neg b2_t]
      rfl
theorem IC.notHits {M : Mem_} {n x : Nat} {ρ ρi : Rw_} {hi : Int32} {K : Nat → Rw_} {Z : Zr_} {ρm : Rw_} {Zm : Zr_} {γm cs : Rw_} (h : IC M n x ρ ρi hi K Z ρm Zm γm cs) (d : Int32) : fX1_notHits M x d = some (whR ρ K d) := by
  unfold fX1_notHits whR
  simp only [h.ck, h.notRow, Option.bind_some]
  by_cases e : wrR K d = 0
  · obtain ⟨dn, q, sz, f, hd, ed, a, b, R⟩ := h.rowOf e
    have h100 := R.2.2.2.1
    have k := nh_C h R d (wrR K d) (sz / 2) 0 1000 (by omega) (by omega)
    simp only [if_pos e, h.r8, a, b, Option.bind_some]
    refine k.trans ?_
    rw [ed, nC (i := dn) (by omega), R.2.2.2.2.1, nC (i := sz) (by omega)]
  · simp only [if_neg e]
theorem nh_T {M : Mem_} {x : Nat} {ρ ρi : Rw_} {hi : Int32} {K : Nat → Rw_} {μ γ sc : Rw_} (t : IT M x ρ ρi hi K μ γ sc) {dn m : Nat} (hd : dn < 8) (h100 : 2 * m ≤ 100) (hs : K 4 dn = Int32.ofNat (2 * m)) : ∀ (j k fuel : Nat), k + j = m → j + 1 < fuel → fX4_wrongRally_L28 fuel M (x + 47) (Int32.ofNat dn) 0 (Int32.ofNat (2 * k)) = some (nhR ρ K dn j k) := by
  have kf := (t.kf (d := Int32.ofNat dn) ⟨dn, hd, rfl⟩).2.2.2.2
  rw [nC (by omega), hs] at kf
  intro j
  induction j with
  | zero =>
    intro k fuel hk hf
    obtain ⟨g, rfl⟩ : ∃ g, fuel = g + 1 := ⟨fuel - 1, by omega⟩
    rw [fX4_wrongRally_L28, if_pos rfl, t.r17, Option.bind_some, kf, Option.bind_some, if_pos (by rw [nL (by omega) (by omega)]; omega)]
    rfl
  | succ j ih =>
    intro k fuel hk hf
    obtain ⟨g, rfl⟩ : ∃ g, fuel = g + 1 + 1 := ⟨fuel - 2, by omega⟩
    have E := t.eA hd (k := k) (by omega)
    rw [fX4_wrongRally_L28, if_pos rfl, t.r17, Option.bind_some, kf, Option.bind_some, if_neg (by rw [nL (by omega) (by omega)]; omega), t.r18, Option.bind_some, E.1, Option.bind_some, Option.bind_some, E.2, Option.bind_some, t.ck, Option.bind_some, t.isHit, Option.bind_some, lt_, lt_, show Int32.ofNat (2 * k) + 2 = Int32.ofNat (2 * (k + 1)) from nS (2 * k) 2, ih (k + 1) (g + 1) (by omega) (by omega), fX4_wrongRally_L28, if_neg (show ¬ (-13 : Int32) = 0 by decide)]
    show (if b2_ (vH ρ K dn k) = 0 then some (-13) else some (nhR ρ K dn j (k + 1))) = some (if vH ρ K dn k = true then nhR ρ K dn j (k + 1) else -13)
    cases vH ρ K dn k with
    | false => rfl
    | true => rfl
theorem IT.wrongRally {M : Mem_} {x : Nat} {ρ ρi : Rw_} {hi : Int32} {K : Nat → Rw_} {μ γ sc : Rw_} (t : IT M x ρ ρi hi K μ γ sc) {n : Nat} {M0 : Mem_} {Z : Zr_} {ρm : Rw_} {Zm : Zr_} {γm cs : Rw_} (h : IC M0 n x ρ ρi hi K Z ρm Zm γm cs) (d : Int32) : fX4_wrongRally M (x + 47) d = some (whR ρ K d) := by
  have out : ∀ v : Int32, v ≠ 0 → fX4_wrongRally_L28 1000 M (x + 47) d v 0 = some v := fun v hv => by
    rw [show (1000 : Nat) = 999 + 1 from rfl, fX4_wrongRally_L28, if_neg hv]
  unfold fX4_wrongRally whR
  simp only [t.ck, t.wrong, Option.bind_some]
  by_cases e : wrR K d = 0
  · obtain ⟨dn, q, sz, f, hd, ed, a, b, R⟩ := h.rowOf e
    have h100 := R.2.2.2.1
    have kf := (t.kf (d := Int32.ofNat dn) ⟨dn, hd, rfl⟩).2.2.2.2
    rw [nC (by omega), R.2.2.2.2.1] at kf
    have D := nD2 (i := sz) (by omega)
    rw [if_pos e, if_pos e, t.r17, Option.bind_some, ed, kf, Option.bind_some, nC (i := dn) (by omega), R.2.2.2.2.1, nC (i := sz) (by omega)]
    by_cases z : sz % 2 = 1
    · rw [if_pos (D.2.2.mpr z), if_pos z, ← ed]
      exact out _ (by decide)
    · obtain ⟨m, rfl⟩ : ∃ m, sz = 2 * m := ⟨sz / 2, by omega⟩
      rw [if_neg (fun w => z (D.2.2.mp w)), if_neg z, show 2 * m / 2 = m by omega, ← ed, e, ed]
      exact nh_T t hd h100 R.2.2.2.2.1 m 0 1000 (by omega) (by omega)
  · rw [if_neg e, if_neg e]
    exact out _ e
