/-! rows on shelves -/
set_option maxRecDepth 100000
theorem gNof {M : Mem_} {a ci : Nat} {o : Option Nat} (h : M a = some (eO_ ci [hvV o])) : gN_ M a ci 0 = some o := by
  unfold gN_
  rw [foof h]
  cases o with
  | none => rfl
  | some q => rfl
theorem gRo1 {M : Mem_} {a ci q : Nat} (h : M a = some (eO_ ci [hvV (some q)])) : gR_ M a ci 0 = some q := gRof h rfl
theorem tg_row {M : Mem_} {q t n : Nat} {f : Rw_} (h : M q = some (eI_ t n f)) (ht : t < 3) : tg_ M q = some t := by
  unfold tg_
  rw [h]
  exact if_pos ht
theorem tg_str {M : Mem_} {q kn : Nat} {fg : Int32} (h : sk_ M q = some (kn, fg)) : tg_ M q = some 3 := by
  obtain ⟨h1, h2⟩ := sk_spec h
  unfold tg_
  rw [h2]
  exact if_pos ⟨by omega, by have : kn < 8 := h1; omega⟩
theorem tagLt {s : Int32} : tagOf s < 3 := by
  unfold tagOf
  repeat' split
  all_goals decide
theorem rg3c {v : Int32} (h : rg_ 3 v) : v = 0 ∨ v = 1 ∨ v = 2 := by
  obtain ⟨i, hi, rfl⟩ := h
  match i, hi with
  | 0, _ => exact .inl rfl
  | 1, _ => exact .inr (.inl rfl)
  | 2, _ => exact .inr (.inr rfl)
section ROWS
variable {M : Mem_} {q sz : Nat} {f : Rw_} {s : Int32}
theorem row_tg (h : M q = some (eI_ (tagOf s) sz f)) : tg_ M q = some (tagOf s) := tg_row h tagLt
theorem row_size (h : M q = some (eI_ (tagOf s) sz f)) (hs : rg_ 3 s) : fX1_sizeOf M q = some (Int32.ofNat sz) := by
  have t := row_tg h
  unfold fX1_sizeOf cc_
  rcases rg3c hs with e | e | e <;> subst e
  · have l := lIof (t := 1) h
    have t : tg_ M q = some 1 := t
    rw [t, Option.bind_some, if_neg (by decide), Option.bind_some, if_pos rfl, Option.bind_some, l]
    rfl
  · have l := lIof (t := 2) h
    have t : tg_ M q = some 2 := t
    rw [t, Option.bind_some, if_pos (by decide), Option.bind_some, if_neg (by decide), Option.bind_some, if_pos rfl, Option.bind_some, l]
    rfl
  · have l := lIof (t := 0) h
    have t : tg_ M q = some 0 := t
    rw [t, Option.bind_some, if_pos (by decide), Option.bind_some, if_pos (by decide), Option.bind_some, if_pos rfl, Option.bind_some, l]
    rfl
theorem row_elem (h : M q = some (eI_ (tagOf s) sz f)) (hs : rg_ 3 s) {i : Int32} (hi : ¬ (i < 0 ∨ sz ≤ i.toNatClampNeg)) : fX1_elementOf M q i = some (f i.toNatClampNeg) := by
  have t := row_tg h
  unfold fX1_elementOf cc_
  rcases rg3c hs with e | e | e <;> subst e
  · have l := aIof (t := 1) h hi
    have t : tg_ M q = some 1 := t
    rw [t, Option.bind_some, if_neg (by decide), Option.bind_some, if_pos rfl, Option.bind_some, l]
    rfl
  · have l := aIof (t := 2) h hi
    have t : tg_ M q = some 2 := t
    rw [t, Option.bind_some, if_pos (by decide), Option.bind_some, if_neg (by decide), Option.bind_some, if_pos rfl, Option.bind_some, l]
    rfl
  · have l := aIof (t := 0) h hi
    have t : tg_ M q = some 0 := t
    rw [t, Option.bind_some, if_pos (by decide), Option.bind_some, if_pos (by decide), Option.bind_some, if_pos rfl, Option.bind_some, l]
    rfl
theorem row_least (h : M q = some (eI_ (tagOf s) sz f)) (hs : rg_ 3 s) : fX1_leastElement M q = some (fX4_leastOf s) := by
  have t := row_tg h
  unfold fX1_leastElement
  rcases rg3c hs with e | e | e <;> subst e
  · have t : tg_ M q = some 1 := t
    rw [t]
    rfl
  · have t : tg_ M q = some 2 := t
    rw [t]
    rfl
  · have t : tg_ M q = some 0 := t
    rw [t]
    rfl
theorem row_sort (h : M q = some (eI_ (tagOf s) sz f)) (hs : rg_ 3 s) : fX1_sortOf M q = some s := by
  have t := row_tg h
  unfold fX1_sortOf
  rcases rg3c hs with e | e | e <;> subst e
  · have t : tg_ M q = some 1 := t
    rw [t]
    rfl
  · have t : tg_ M q = some 2 := t
    rw [t]
    rfl
  · have t : tg_ M q = some 0 := t
    rw [t]
    rfl
theorem str_sort {kn : Nat} {fg : Int32} (h : sk_ M q = some (kn, fg)) : fX1_sortOf M q = some (-1) := by
  unfold fX1_sortOf
  rw [tg_str h]
  rfl
end ROWS
/-- what both say of a shelf that shall hold a row -/
def wrR (K : Nat → Rw_) (d : Int32) : Int32 := if fX4_isIn d 0 7 = true then (if K 0 d.toNatClampNeg = 0 then -11 else if K 0 d.toNatClampNeg = 2 then 0 else -12) else -1
theorem IC.shelf {M : Mem_} {n x : Nat} {ρ ρi : Rw_} {hi : Int32} {K : Nat → Rw_} {Z : Zr_} {ρm : Rw_} {Zm : Zr_} {γm cs : Rw_} (h : IC M n x ρ ρi hi K Z ρm Zm γm cs) {d : Int32} (hd : rg_ 8 d) : ∃ hv, aR_ M (x + 38) 5 d = some (x + 39 + d.toNatClampNeg) ∧ M (x + 39 + d.toNatClampNeg) = some (eO_ 2 [hvV (hv d.toNatClampNeg)]) ∧ SH1 M x n K hv d.toNatClampNeg := by
  obtain ⟨F, h9, h10⟩ := h.2.2.2.2.2.2.1
  obtain ⟨hv, h11, h12⟩ := h.2.2.2.2.2.2.2.1
  have d8 := (rg_nat (by decide) hd).1
  exact ⟨hv, aRof h9 (rg_in (by decide) hd) (h10 _ d8), h11 _ d8, h12.1 _ d8⟩
theorem IC.notRow {M : Mem_} {n x : Nat} {ρ ρi : Rw_} {hi : Int32} {K : Nat → Rw_} {Z : Zr_} {ρm : Rw_} {Zm : Zr_} {γm cs : Rw_} (h : IC M n x ρ ρi hi K Z ρm Zm γm cs) (d : Int32) : fX1_notRow M x d = some (wrR K d) := by
  unfold fX1_notRow wrR
  rw [h.ck, Option.bind_some, lt_, show fX1_isShelf x d = fX4_isIn d 0 7 from rfl]
  cases e : fX4_isIn d 0 7 with
  | false => rfl
  | true =>
    rw [if_neg b2_t, if_pos rfl]
    obtain ⟨hv, a, b, c⟩ := h.shelf (in_rg (m := 7) (by decide) e)
    simp only [h.r8, a, gNof b, Option.bind_some]
    rcases c with ⟨c1, c2⟩ | ⟨c1, q, kn, fg, c2, _, _, c3, _⟩ | ⟨c1, q, sz, f, c2, _, _, c3, _, _, c4, _⟩
    · rw [c2, if_pos c1]
      rfl
    · rw [c2, if_neg (by rw [c1]; decide), if_neg (by rw [c1]; decide)]
      show ((fX1_sortOf M q).bind _) = _
      rw [str_sort c3]
      rfl
    · rw [c2, if_neg (by rw [c1]; decide), if_pos c1]
      show ((fX1_sortOf M q).bind _) = _
      rw [row_sort c3 c4, Option.bind_some, if_neg]
      intro g
      rcases rg3c c4 with z | z | z <;> rw [z] at g <;> revert g <;> decide
theorem IT.kf {M : Mem_} {x : Nat} {ρ ρi : Rw_} {hi : Int32} {K : Nat → Rw_} {μ γ sc : Rw_} (t : IT M x ρ ρi hi K μ γ sc) {d : Int32} (hd : rg_ 8 d) : aI_ M (x + 54) 0 d = some (K 0 d.toNatClampNeg) ∧ aI_ M (x + 55) 0 d = some (K 1 d.toNatClampNeg) ∧ aI_ M (x + 56) 0 d = some (K 2 d.toNatClampNeg) ∧ aI_ M (x + 57) 0 d = some (K 3 d.toNatClampNeg) ∧ aI_ M (x + 58) 0 d = some (K 4 d.toNatClampNeg) := by
  obtain ⟨h0, h1, h2, h3, _, _, h9, _, k0, k1, k2, k3, k4, k5⟩ := t
  have g := rg_in (by decide) hd
  exact ⟨aIof k0 g, aIof k1 g, aIof k2 g, aIof k3 g, aIof k4 g⟩
theorem IT.wrong {M : Mem_} {x : Nat} {ρ ρi : Rw_} {hi : Int32} {K : Nat → Rw_} {μ γ sc : Rw_} (t : IT M x ρ ρi hi K μ γ sc) (d : Int32) : fX4_wrongRow M (x + 47) d (-1) = some (wrR K d) := by
  unfold fX4_wrongRow wrR
  rw [lt_, show fX4_isShelf d = fX4_isIn d 0 7 from rfl]
  cases e : fX4_isIn d 0 7 with
  | false => rfl
  | true =>
    rw [if_neg b2_t, if_pos rfl]
    have k := t.kf (in_rg (m := 7) (by decide) e)
    simp only [t.r13, k.1, Option.bind_some]
    by_cases c : K 0 d.toNatClampNeg = 0
    · rw [if_pos c, if_pos c]
    · rw [if_neg c, if_neg c]
      by_cases c : K 0 d.toNatClampNeg = 2
      · rw [if_pos c, if_pos c, if_pos (by decide)]
      · rw [if_neg c, if_neg c]
/-- an element of a row, as the twin keeps it -/
theorem IT.elem {M : Mem_} {x : Nat} {ρ ρi : Rw_} {hi : Int32} {K : Nat → Rw_} {μ γ sc : Rw_} (t : IT M x ρ ρi hi K μ γ sc) {d : Nat} {i : Nat} (hd : d < 8) (hi : i < 100) : aI_ M (x + 59) 0 (100 * Int32.ofNat d + Int32.ofNat i) = some (K 5 (100 * d + i)) := by
  obtain ⟨h0, h1, h2, h3, _, _, h9, _, k0, k1, k2, k3, k4, k5⟩ := t
  rw [show (100 : Int32) = Int32.ofNat 100 from rfl, nM, nS]
  have e := aIof (i := Int32.ofNat (100 * d + i)) k5 (nB (by decide) (by omega))
  rw [nC (by omega)] at e
  exact e
/-- a shelf that holds a row -/
def rowAt (M : Mem_) (n x : Nat) (K : Nat → Rw_) (d q sz : Nat) (f : Rw_) : Prop := M q = some (eI_ (tagOf (K 3 d)) sz f) ∧ x + 61 ≤ q ∧ q < n ∧ sz ≤ 100 ∧ K 4 d = Int32.ofNat sz ∧ rg_ 3 (K 3 d) ∧ ∀ i, i < sz → f i = K 5 (100 * d + i)
theorem IC.rowOf {M : Mem_} {n x : Nat} {ρ ρi : Rw_} {hi : Int32} {K : Nat → Rw_} {Z : Zr_} {ρm : Rw_} {Zm : Zr_} {γm cs : Rw_} (h : IC M n x ρ ρi hi K Z ρm Zm γm cs) {d : Int32} (hw : wrR K d = 0) : ∃ dn q sz f, dn < 8 ∧ d = Int32.ofNat dn ∧ aR_ M (x + 38) 5 d = some (x + 39 + dn) ∧ gR_ M (x + 39 + dn) 2 0 = some q ∧ rowAt M n x K dn q sz f := by
  unfold wrR at hw
  cases e : fX4_isIn d 0 7 with
  | false =>
    rw [e, if_neg (show ¬ (false = true) by decide)] at hw
    exact absurd hw (by decide)
  | true =>
    rw [e, if_pos rfl] at hw
    have hd := in_rg (m := 7) (by decide) e
    obtain ⟨hv, a, b, c⟩ := h.shelf hd
    have dd := rg_nat (by decide) hd
    rcases c with ⟨c1, c2⟩ | ⟨c1, _⟩ | ⟨c1, q, sz, f, c2, c3, c4, c5, c6, c7, c8, c9, _⟩
    · rw [if_pos c1] at hw
      exact absurd hw (by decide)
    · rw [if_neg (by rw [c1]; decide), if_neg (by rw [c1]; decide)] at hw
      exact absurd hw (by decide)
    · rw [c2] at b
      exact ⟨_, q, sz, f, dd.1, dd.2, a, gRo1 b, c5, c3, c4, c6, c7, c8, c9⟩
theorem rowAt.cg {M M1 : Mem_} {n x : Nat} {K : Nat → Rw_} {d q sz : Nat} {f : Rw_} (h : rowAt M n x K d q sz f) (g : Fc M M1 x) : rowAt M1 n x K d q sz f := ⟨(g q (by have := h.2.1; omega)).trans h.1, h.2⟩
theorem rowAt.size {M : Mem_} {n x : Nat} {K : Nat → Rw_} {d q sz : Nat} {f : Rw_} (h : rowAt M n x K d q sz f) : fX1_sizeOf M q = some (Int32.ofNat sz) := row_size h.1 h.2.2.2.2.2.1
theorem rowAt.elem {M : Mem_} {n x : Nat} {K : Nat → Rw_} {d q sz : Nat} {f : Rw_} (h : rowAt M n x K d q sz f) {i : Nat} (hi : i < sz) : fX1_elementOf M q (Int32.ofNat i) = some (K 5 (100 * d + i)) := by
  have h100 := h.2.2.2.1
  rw [row_elem h.1 h.2.2.2.2.2.1 (nB (by omega) hi), nC (by omega), h.2.2.2.2.2.2 i hi]
/-- the twin skips an element, the component too -/
def skR (K : Nat → Rw_) (d i : Nat) : Bool := if K 5 (100 * d + i) = fX4_leastOf (K 3 d) then true else false
theorem rowAt.skip {M : Mem_} {n x : Nat} {K : Nat → Rw_} {d q sz : Nat} {f : Rw_} (h : rowAt M n x K d q sz f) {i : Nat} (hi : i < sz) : fX1_isSkipped M q (Int32.ofNat i) = some (skR K d i) := by
  unfold fX1_isSkipped skR
  rw [h.elem hi, Option.bind_some, row_least h.1 h.2.2.2.2.2.1, Option.bind_some]
  split <;> rfl
theorem IT.skip {M : Mem_} {x : Nat} {ρ ρi : Rw_} {hi : Int32} {K : Nat → Rw_} {μ γ sc : Rw_} (t : IT M x ρ ρi hi K μ γ sc) {d : Nat} {i : Nat} (hd : d < 8) (hi : i < 100) : fX4_isSkipped M (x + 47) (Int32.ofNat d) (Int32.ofNat i) = some (skR K d i) := by
  unfold fX4_isSkipped skR
  have k := t.kf (d := Int32.ofNat d) ⟨d, hd, rfl⟩
  rw [nC (by omega)] at k
  simp only [t.r18, t.r16, t.elem hd hi, k.2.2.2.1, lt_, Option.bind_some]
  split <;> rfl
theorem n2i (k : Nat) : (2 : Int32) * Int32.ofNat k = Int32.ofNat (2 * k) := by
  rw [show (2 : Int32) = Int32.ofNat 2 from rfl, nM]
theorem nD2 {i : Nat} (h : i < 110) : Int32.ofNat i / 2 = Int32.ofNat (i / 2) ∧ (Int32.ofNat i - Int32.ofNat i / 2 * 2 = 0 ↔ i % 2 = 0) ∧ (Int32.ofNat i - Int32.ofNat i / 2 * 2 = 1 ↔ i % 2 = 1) := by
  have K : ∀ a : Fin 110, Int32.ofNat a.val / 2 = Int32.ofNat (a.val / 2) ∧ (Int32.ofNat a.val - Int32.ofNat a.val / 2 * 2 = 0 ↔ a.val % 2 = 0) ∧ (Int32.ofNat a.val - Int32.ofNat a.val / 2 * 2 = 1 ↔ a.val % 2 = 1) := by decide +kernel
  exact K ⟨i, h⟩
/-! judge: points told -/
def juC (k : Nat) : Int32 := if k % 2 = 0 then 0 else 8
theorem juC_rg (k : Nat) : rg_ 9 (juC k) := by
  unfold juC
  split
  · exact ⟨0, by decide, rfl⟩
  · exact ⟨8, by decide, rfl⟩
def juR (K : Nat → Rw_) (dn : Nat) : Nat → Nat → Rw_ → Int32
  | 0, _, _ => -4
  | j + 1, k, μ => if skR K dn k = true then juR K dn j (k + 1) (hR μ 0 (juC k)) else if K 5 (100 * dn + k) = μ 38 + μ 41 then juR K dn j (k + 1) (hR μ 0 (juC k)) else Int32.ofNat k
theorem ju_C {n x : Nat} {ρ ρi : Rw_} {hi : Int32} {K : Nat → Rw_} {Z : Zr_} (V : OK_ ρ) (hN : 0 < (ρ 0).toNatClampNeg) {dn q sz : Nat} {f : Rw_} (y1 y2 : Int32) : ∀ (j k fuel : Nat) (M : Mem_) (ρm γm cs : Rw_), k + j = sz → j < fuel → IC M n x ρ ρi hi K Z ρm Z γm cs → MV ρm ρ → rowAt M n x K dn q sz f → Cq M n x ρ ρi hi K Z (fX1_judge_L42 fuel M x y1 y2 q (Int32.ofNat k)) (juR K dn j k ρm) := by
  intro j
  induction j with
  | zero =>
    intro k fuel M ρm γm cs hk hf h W R
    obtain ⟨g, rfl⟩ : ∃ g, fuel = g + 1 := ⟨fuel - 1, by omega⟩
    have h100 := R.2.2.2.1
    rw [fX1_judge_L42, R.size, Option.bind_some, if_pos (by rw [nL (by omega) (by omega)]; omega)]
    exact ⟨M, _, _, _, _, rfl, h, Fc.refl _ _⟩
  | succ j ih =>
    intro k fuel M ρm γm cs hk hf h W R
    obtain ⟨g, rfl⟩ : ∃ g, fuel = g + 1 := ⟨fuel - 1, by omega⟩
    have h100 := R.2.2.2.1
    obtain ⟨M1, e1, h1, f1⟩ := h.mhit rfl W (k := 0) hN rg8_0 (juC_rg k)
    have W1 := W.hit (k := 0) hN (juC_rg k)
    have go := (ih (k + 1) g M1 _ _ _ (by omega) (by omega) h1 W1 (R.cg f1)).on f1
    have step : Cq M n x ρ ρi hi K Z (if Int32.ofNat k - Int32.ofNat k / 2 * 2 = 0 then bw_ (fX2_hits M (x + 19) 0 0) fun r21 M22 => fX1_judge_L42 g M22 x y1 y2 q (Int32.ofNat k + 1) else bw_ (fX2_hits M (x + 19) 0 8) fun r17 M18 => fX1_judge_L42 g M18 x y1 y2 q (Int32.ofNat k + 1)) (juR K dn j (k + 1) (hR ρm 0 (juC k))) := by
      have D := nD2 (i := k) (by omega)
      rw [nS1]
      by_cases z : k % 2 = 0
      · have ej : juC k = 0 := if_pos z
        rw [if_pos (D.2.1.mpr z)]
        rw [ej] at e1
        rw [e1]
        exact go
      · have ej : juC k = 8 := if_neg z
        rw [if_neg (fun w => z (D.2.1.mp w))]
        rw [ej] at e1
        rw [e1]
        exact go
    have ap : fX2_allPoints M (x + 19) = some (ρm 38 + ρm 41) := by
      unfold fX2_allPoints
      simp only [co_r6 h.2.2.2.1, co_a7_0 h.2.2.2.1, co_a7_1 h.2.2.2.1, Option.bind_some]
    rw [fX1_judge_L42, R.size, Option.bind_some, if_neg (by rw [nL (by omega) (by omega)]; omega), R.skip (by omega), Option.bind_some]
    simp only [R.elem (show k < sz by omega), h.r2, h.ck19, ap, Option.bind_some, lt_]
    unfold juR
    cases skR K dn k with
    | true => exact step
    | false =>
      rw [if_pos b2_f, if_neg (show ¬ (false = true) by decide)]
      by_cases e : K 5 (100 * dn + k) = ρm 38 + ρm 41
      · rw [if_pos e, if_pos e]
        exact step
      · rw [if_neg e, if_neg e]
        exact ⟨M, _, _, _, _, rfl, h, Fc.refl _ _⟩
theorem ju_T {x : Nat} {ρ ρi : Rw_} {hi : Int32} {K : Nat → Rw_} (V : OK_ ρ) (hN : 0 < (ρ 0).toNatClampNeg) {dn sz : Nat} (hd : dn < 8) (h100 : sz ≤ 100) (hs : K 4 dn = Int32.ofNat sz) (y2 : Int32) : ∀ (j k fuel : Nat) (M : Mem_) (μ γ sc : Rw_), k + j = sz → j < fuel → IT M x ρ ρi hi K μ γ sc → MV μ ρ → Tq M x ρ ρi hi K (fX4_judge_L42 fuel M (x + 47) (Int32.ofNat dn) y2 (Int32.ofNat k)) (juR K dn j k μ) := by
  intro j
  induction j with
  | zero =>
    intro k fuel M μ γ sc hk hf t W
    obtain ⟨g, rfl⟩ : ∃ g, fuel = g + 1 := ⟨fuel - 1, by omega⟩
    have kf := (t.kf (d := Int32.ofNat dn) ⟨dn, hd, rfl⟩).2.2.2.2
    rw [nC (by omega), hs] at kf
    rw [fX4_judge_L42, t.r17, Option.bind_some, kf, Option.bind_some, if_pos (by rw [nL (by omega) (by omega)]; omega)]
    exact ⟨M, _, _, _, rfl, t, Ft.refl _ _⟩
  | succ j ih =>
    intro k fuel M μ γ sc hk hf t W
    obtain ⟨g, rfl⟩ : ∃ g, fuel = g + 1 := ⟨fuel - 1, by omega⟩
    have kf := (t.kf (d := Int32.ofNat dn) ⟨dn, hd, rfl⟩).2.2.2.2
    rw [nC (by omega), hs] at kf
    obtain ⟨M1, e1, h1, f1⟩ := t.mhit W (k := 0) hN rg8_0 (juC_rg k)
    have W1 := W.hit (k := 0) hN (juC_rg k)
    have go := (ih (k + 1) g M1 _ _ _ (by omega) (by omega) h1 W1).on f1
    have step : Tq M x ρ ρi hi K (if Int32.ofNat k - Int32.ofNat k / 2 * 2 = 0 then bw_ (fX4_hits M (x + 47) (x + 49) 0 0) fun r21 M22 => fX4_judge_L42 g M22 (x + 47) (Int32.ofNat dn) y2 (Int32.ofNat k + 1) else bw_ (fX4_hits M (x + 47) (x + 49) 0 8) fun r17 M18 => fX4_judge_L42 g M18 (x + 47) (Int32.ofNat dn) y2 (Int32.ofNat k + 1)) (juR K dn j (k + 1) (hR μ 0 (juC k))) := by
      have D := nD2 (i := k) (by omega)
      rw [nS1]
      by_cases z : k % 2 = 0
      · have ej : juC k = 0 := if_pos z
        rw [if_pos (D.2.1.mpr z)]
        rw [ej] at e1
        rw [e1]
        exact go
      · have ej : juC k = 8 := if_neg z
        rw [if_neg (fun w => z (D.2.1.mp w))]
        rw [ej] at e1
        rw [e1]
        exact go
    rw [fX4_judge_L42, t.r17, Option.bind_some, kf, Option.bind_some, if_neg (by rw [nL (by omega) (by omega)]; omega)]
    simp only [t.ck, t.skip hd (show k < 100 by omega), t.r18, t.r1, t.elem hd (show k < 100 by omega), ro_a38 t.2.2.1, ro_a41 t.2.2.1, Option.bind_some, lt_, fX4_ofSide, Int32.reduceMul, Int32.reduceAdd]
    unfold juR
    cases skR K dn k with
    | true => exact step
    | false =>
      rw [if_pos b2_f, if_neg (show ¬ (false = true) by decide)]
      by_cases e : K 5 (100 * dn + k) = μ 38 + μ 41
      · rw [if_pos e, if_pos e]
        exact step
      · rw [if_neg e, if_neg e]
        exact ⟨M, _, _, _, rfl, t, Ft.refl _ _⟩
theorem OK_.pos {ρ : Rw_} (V : OK_ ρ) (h : ¬ ρ 0 = 0) : 0 < (ρ 0).toNatClampNeg := by
  obtain ⟨N, hN9, eN, eN2⟩ := V.n
  rcases Nat.eq_zero_or_pos N with g | g
  · subst g
    exact absurd eN h
  · omega
section Q8
variable {M M' : Mem_} {n x : Nat} {ρ ρi : Rw_} {hi : Int32} {K : Nat → Rw_} {Z : Zr_} {ρm : Rw_} {Zm : Zr_} {γm cs : Rw_} {μ γ sc : Rw_}
theorem o_judge (h : IC M n x ρ ρi hi K Z ρm Zm γm cs) (t : IT M' x ρ ρi hi K μ γ sc) (V : OK_ ρ) (d : Int32) : ∃ r, Cq M n x ρ ρi hi K Z (fX1_judge M x d) r ∧ Tq M' x ρ ρi hi K (fX4_judge M' (x + 47) d) r := by
  obtain ⟨γ0, h1⟩ := h.2.1
  unfold fX1_judge fX4_judge
  simp only [h.ck, h.notRow, t.ck, t.wrong, Option.bind_some, h.r0, co_i9 h1, t.r0, ro_a0 t.2.1]
  by_cases e : wrR K d = 0
  · simp only [if_pos e]
    by_cases z0 : ρ 0 = 0
    · simp only [if_pos z0]
      exact ⟨-3, ⟨M, _, _, _, _, rfl, h, Fc.refl _ _⟩, ⟨M', _, _, _, rfl, t, Ft.refl _ _⟩⟩
    · simp only [if_neg z0]
      obtain ⟨dn, q, sz, f, hd, ed, a, b, R⟩ := h.rowOf e
      subst ed
      have h100 := R.2.2.2.1
      obtain ⟨M1, e1, h2, f1⟩ := h.minds
      obtain ⟨M2, e2, t2, f2⟩ := t.cop V.2.1
      simp only [h.r8, a, b, e1, t.r1, e2, Option.bind_some]
      exact ⟨_, (ju_C V (V.pos z0) _ _ sz 0 1000 M1 _ _ _ (by omega) (by omega) h2 V.mv (R.cg f1)).on f1, (ju_T V (V.pos z0) hd h100 R.2.2.2.2.1 _ sz 0 1000 M2 _ _ _ (by omega) (by omega) t2 V.mv).on f2⟩
  · simp only [if_neg e]
    exact ⟨_, ⟨M, _, _, _, _, rfl, h, Fc.refl _ _⟩, ⟨M', _, _, _, rfl, t, Ft.refl _ _⟩⟩
end Q8
