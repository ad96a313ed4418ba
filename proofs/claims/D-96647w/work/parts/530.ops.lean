/-! habits -/
set_option maxRecDepth 100000
def al_ (P : Nat → Bool) : Nat → Nat → Bool
  | 0, _ => true
  | d + 1, c => if P c = true then al_ P d (c + 1) else false
def osR (ρ : Rw_) : Nat := 1 - (ρ 2).toNatClampNeg / 2
/-- the row with another habit of the side that answers -/
def haR (ρ : Rw_) (v : Int32) : Rw_ := upd ρ (37 + 3 * osR ρ) v
def hP (ρ : Rw_) (K : Nat → Rw_) (dn : Nat) (v : Int32) (c : Nat) : Bool := if skR K dn c = true then true else if K 5 (100 * dn + c) = whoR (haR ρ v) (osR ρ) (falR (haR ρ v) 0 (Int32.ofNat c)) then true else false
theorem os_lt {ρ : Rw_} (V : OK_ ρ) : osR ρ < 2 ∧ (1 : Int32) - ρ 2 / 2 = Int32.ofNat (osR ρ) := by
  unfold osR
  rcases rg4c V.1.2.2.1 with e | e | e | e <;> rw [e] <;> exact ⟨by decide, by decide⟩
theorem ha_mv {ρ : Rw_} (V : OK_ ρ) {v : Int32} (hv : rg_ 4 v) : MV (haR ρ v) ρ := V.mv.habit (os_lt V).1 hv
theorem ha_2 (ρ : Rw_) (v : Int32) : haR ρ v 2 = ρ 2 := by
  unfold haR
  rw [updA, if_neg (by omega)]
theorem ws_C {M : Mem_} {n x : Nat} {ρ ρi : Rw_} {hi : Int32} {K : Nat → Rw_} {Z : Zr_} {ρm : Rw_} {Zm : Zr_} {γm cs : Rw_} (h : IC M n x ρ ρi hi K Z ρm Zm γm cs) (V : OK_ ρ) (hZ : Zm = Z) {v : Int32} (hv : rg_ 4 v) (hm : ρm = haR ρ v) (hN : 0 < (ρ 0).toNatClampNeg) {dn q sz : Nat} {f : Rw_} (R : rowAt M n x K dn q sz f) (h9 : sz ≤ 9) : ∀ (d c fuel : Nat), c + d = sz → d < fuel → fX1_wereSo_L2 fuel M x q (Int32.ofNat c) = some (al_ (hP ρ K dn v) d c) := by
  subst hZ
  subst hm
  have W := ha_mv V hv
  intro d
  induction d with
  | zero =>
    intro c fuel hc hf
    obtain ⟨g, rfl⟩ : ∃ g, fuel = g + 1 := ⟨fuel - 1, by omega⟩
    rw [fX1_wereSo_L2, R.size, Option.bind_some, if_pos (by rw [nL (by omega) (by omega)]; omega)]
    rfl
  | succ d ih =>
    intro c fuel hc hf
    obtain ⟨g, rfl⟩ : ∃ g, fuel = g + 1 := ⟨fuel - 1, by omega⟩
    have hc9 : rg_ 9 (Int32.ofNat c) := ⟨c, by omega, rfl⟩
    obtain ⟨s, kn, fg, a, b, c1, d1, _, _⟩ := h.stroke (k := 0) hN
    have hS := W.1.2.2.2.2.2 0 (by rw [W.2.2.1]; exact hN)
    have hf9 : rg_ 9 (falR (haR ρ v) 0 (Int32.ofNat c)) := fal_rg hS.1 hc9 W.1.2.2.2.1
    have F := co_fal h.2.2.2.1 (k := 0) W.1.2.2.2.1 rg8_0 hc9 a b (c1.trans (W.2.2.2 4 (by decide) (by decide)).symm)
    have O := co_who h.2.2.2.1 W.1 hf9
    rw [ha_2] at O
    rw [fX1_wereSo_L2, R.size, Option.bind_some, if_neg (by rw [nL (by omega) (by omega)]; omega), R.skip (by omega), Option.bind_some]
    simp only [R.elem (show c < sz by omega), h.r2, h.ck19, F, O, lt_, nS1, ih (c + 1) g (by omega) (by omega), Option.bind_some]
    show _ = some (if (if skR K dn c = true then true else if K 5 (100 * dn + c) = whoR (haR ρ v) (osR ρ) (falR (haR ρ v) 0 (Int32.ofNat c)) then true else false) = true then al_ (hP ρ K dn v) d (c + 1) else false)
    cases skR K dn c with
    | true => rfl
    | false =>
      rw [if_pos b2_f, if_neg (show ¬ (false = true) by decide)]
      by_cases e : K 5 (100 * dn + c) = whoR (haR ρ v) (osR ρ) (falR (haR ρ v) 0 (Int32.ofNat c))
      · have e' : K 5 (100 * dn + c) = whoR (haR ρ v) (1 - (ρ 2).toNatClampNeg / 2) (falR (haR ρ v) 0 (Int32.ofNat c)) := e
        rw [if_pos e', if_pos e, if_pos rfl]
      · have e' : ¬ K 5 (100 * dn + c) = whoR (haR ρ v) (1 - (ρ 2).toNatClampNeg / 2) (falR (haR ρ v) 0 (Int32.ofNat c)) := e
        rw [if_neg e', if_neg e, if_neg (show ¬ (false = true) by decide)]
def hbR (ρ : Rw_) (K : Nat → Rw_) (dn sz : Nat) : Nat → Nat → Int32 → Int32
  | 0, _, s => s
  | j + 1, v, s => hbR ρ K dn sz j (v + 1) (if al_ (hP ρ K dn (Int32.ofNat v)) sz 0 = true then s ||| (1 <<< (Int32.ofNat v &&& 31)) else s ||| 0)
theorem hb_C {n x : Nat} {ρ ρi : Rw_} {hi : Int32} {K : Nat → Rw_} {Z : Zr_} (V : OK_ ρ) (hN : 0 < (ρ 0).toNatClampNeg) {dn sz : Nat} (hd : dn < 8) (hw : wrR K (Int32.ofNat dn) = 0) (hs : K 4 dn = Int32.ofNat sz) (h9 : sz ≤ 9) (y2 : Int32) : ∀ (j v fuel : Nat) (s : Int32) (M : Mem_) (ρm : Rw_) (Zm : Zr_) (γm cs : Rw_), v + j = 4 → j < fuel → IC M n x ρ ρi hi K Z ρm Zm γm cs → Cq M n x ρ ρi hi K Z (fX1_habits_L30 fuel M x (Int32.ofNat dn) y2 s (Int32.ofNat v)) (hbR ρ K dn sz j v s) := by
  intro j
  induction j with
  | zero =>
    intro v fuel s M ρm Zm γm cs hv hf h
    obtain ⟨g, rfl⟩ : ∃ g, fuel = g + 1 := ⟨fuel - 1, by omega⟩
    have : v = 4 := by omega
    subst this
    rw [fX1_habits_L30, if_pos (by decide)]
    exact ⟨M, _, _, _, _, rfl, h, Fc.refl _ _⟩
  | succ j ih =>
    intro v fuel s M ρm Zm γm cs hv hf h
    obtain ⟨g, rfl⟩ : ∃ g, fuel = g + 1 := ⟨fuel - 1, by omega⟩
    have n4 : ¬ (4 : Int32) ≤ Int32.ofNat v := fun w => by
      have := (nL (i := 4) (by omega) (by omega)).mp w
      omega
    have hv4 : rg_ 4 (Int32.ofNat v) := ⟨v, by omega, rfl⟩
    obtain ⟨M1, e1, h1, f1⟩ := h.minds
    have hz := h.2.2.2.2.2.2.2.2.2.1
    obtain ⟨h2, f2⟩ := h1.mind (ρ' := haR ρ (Int32.ofNat v)) (Z' := Z) (γ' := fun _ => 0) hz
    have e2 : sI_ M1 (x + 19 + 6) 0 (1 - ρ 2 / 2) (Int32.ofNat v) = some (cw_ M1 (x + 19) (haR ρ (Int32.ofNat v)) Z fun _ => 0) := by
      have o := os_lt V
      rw [o.2]
      unfold haR
      have : osR ρ = 0 ∨ osR ρ = 1 := by omega
      rcases this with z | z <;> rw [z]
      · exact co_s6_0 h1.2.2.2.1 _
      · exact co_s6_1 h1.2.2.2.1 _
    obtain ⟨dn', q, sz', f, hd', ed, a, b, R⟩ := h2.rowOf hw
    have edn : dn' = dn := ((nE (by omega) (by omega)).mp ed).symm
    subst edn
    have esz : sz' = sz := by
      have := R.2.2.2.2.1.symm.trans hs
      exact (nE (by have := R.2.2.2.1; omega) (by omega)).mp this
    subst esz
    have S := ws_C h2 V rfl hv4 rfl hN R h9 sz' 0 1000 (by omega) (by omega)
    have S : fX1_wereSo (cw_ M1 (x + 19) (haR ρ (Int32.ofNat v)) Z fun _ => 0) x q = some (al_ (hP ρ K dn' (Int32.ofNat v)) sz' 0) := S
    rw [fX1_habits_L30, if_neg n4]
    simp only [h.ck, e1, h1.r2, co_r5 h1.2.2.2.1, h1.ck19, co_turn h1.2.2.2.1, e2, h2.r8, a, b, h2.ck, S, lt_, nS1, ob_n]
    unfold hbR
    cases al_ (hP ρ K dn' (Int32.ofNat v)) sz' 0 with
    | false => exact (ih (v + 1) g _ _ _ _ _ _ (by omega) (by omega) h2).on (f1.trans f2)
    | true => exact (ih (v + 1) g _ _ _ _ _ _ (by omega) (by omega) h2).on (f1.trans f2)
theorem hb_i {x : Nat} {ρ ρi : Rw_} {hi : Int32} {K : Nat → Rw_} (V : OK_ ρ) {dn sz v : Nat} (hd : dn < 8) (hs : K 4 dn = Int32.ofNat sz) (h9 : sz ≤ 9) (hv : v < 4) {s y2 R : Int32} (K2 : Mem_ → Nat → Int32 → Int32 → Int32 → Int32 → Option (Int32 × Mem_)) {M : Mem_} {γ sc : Rw_} (t : IT M x ρ ρi hi K (haR ρ (Int32.ofNat v)) γ sc) : ∀ (d c fuel : Nat) (b : Bool), c + d = sz → d < fuel → Tq M x ρ ρi hi K (if (b && al_ (hP ρ K dn (Int32.ofNat v)) d c) = true then K2 M (x + 47) (Int32.ofNat dn) y2 (s ||| (1 <<< (Int32.ofNat v &&& 31))) (Int32.ofNat (v + 1)) else K2 M (x + 47) (Int32.ofNat dn) y2 (s ||| 0) (Int32.ofNat (v + 1))) R → Tq M x ρ ρi hi K (fX4_habits_L90 K2 fuel M (x + 47) (Int32.ofNat dn) y2 s (Int32.ofNat v) (b2_ b) (Int32.ofNat c)) R := by
  have kf := (t.kf (d := Int32.ofNat dn) ⟨dn, hd, rfl⟩).2.2.2.2
  rw [nC (by omega), hs] at kf
  intro d
  induction d with
  | zero =>
    intro c fuel b hc hf hK
    obtain ⟨g, rfl⟩ : ∃ g, fuel = g + 1 := ⟨fuel - 1, by omega⟩
    rw [fX4_habits_L90, t.r17, Option.bind_some, kf, Option.bind_some, if_pos (by rw [nL (by omega) (by omega)]; omega), lt_, lt_, lt_, lt_, nS1]
    cases b with
    | false => exact hK
    | true => exact hK
  | succ d ih =>
    intro c fuel b hc hf hK
    obtain ⟨g, rfl⟩ : ∃ g, fuel = g + 1 := ⟨fuel - 1, by omega⟩
    have W := ro_who (ρ := ρ) t.2.2.1 t.2.2.2.2.2.2.1 V.1.2.2.1 (falR (haR ρ (Int32.ofNat v)) 0 (Int32.ofNat c))
    have F := ro_fal t.2.2.1 t.2.2.2.2.2.2.1 (Int32.ofNat c) rg8_0
    have a1 : ∀ b, b2_ b &&& 1 = b2_ b := by decide
    have a0 : ∀ b, b2_ b &&& 0 = b2_ false := by decide
    rw [fX4_habits_L90, t.r17, Option.bind_some, kf, Option.bind_some, if_neg (by rw [nL (by omega) (by omega)]; omega)]
    simp only [t.ck, t.skip hd (show c < 100 by omega), t.r18, t.r1, t.elem hd (show c < 100 by omega), t.other, F, W, lt_, nS1, a1, a0, Option.bind_some]
    have hK : Tq M x ρ ρi hi K (if (b && (if (if skR K dn c = true then true else if K 5 (100 * dn + c) = whoR (haR ρ (Int32.ofNat v)) (osR ρ) (falR (haR ρ (Int32.ofNat v)) 0 (Int32.ofNat c)) then true else false) = true then al_ (hP ρ K dn (Int32.ofNat v)) d (c + 1) else false)) = true then K2 M (x + 47) (Int32.ofNat dn) y2 (s ||| (1 <<< (Int32.ofNat v &&& 31))) (Int32.ofNat (v + 1)) else K2 M (x + 47) (Int32.ofNat dn) y2 (s ||| 0) (Int32.ofNat (v + 1))) R := hK
    cases e0 : skR K dn c with
    | true =>
      rw [e0] at hK
      exact ih (c + 1) g b (by omega) (by omega) hK
    | false =>
      rw [e0] at hK
      rw [if_pos b2_f]
      by_cases e : K 5 (100 * dn + c) = whoR (haR ρ (Int32.ofNat v)) (osR ρ) (falR (haR ρ (Int32.ofNat v)) 0 (Int32.ofNat c))
      · have e' : K 5 (100 * dn + c) = whoR (haR ρ (Int32.ofNat v)) (1 - (ρ 2).toNatClampNeg / 2) (falR (haR ρ (Int32.ofNat v)) 0 (Int32.ofNat c)) := e
        rw [if_pos e']
        rw [if_pos e] at hK
        exact ih (c + 1) g b (by omega) (by omega) hK
      · have e' : ¬ K 5 (100 * dn + c) = whoR (haR ρ (Int32.ofNat v)) (1 - (ρ 2).toNatClampNeg / 2) (falR (haR ρ (Int32.ofNat v)) 0 (Int32.ofNat c)) := e
        rw [if_neg e']
        rw [if_neg e] at hK
        refine ih (c + 1) g false (by omega) (by omega) ?_
        cases b with
        | false => exact hK
        | true => exact hK
theorem hb_T {x : Nat} {ρ ρi : Rw_} {hi : Int32} {K : Nat → Rw_} (V : OK_ ρ) {dn sz : Nat} (hd : dn < 8) (hs : K 4 dn = Int32.ofNat sz) (h9 : sz ≤ 9) (y2 : Int32) : ∀ (j v fuel : Nat) (s : Int32) (M : Mem_) (μ γ sc : Rw_), v + j = 4 → j < fuel → IT M x ρ ρi hi K μ γ sc → Tq M x ρ ρi hi K (fX4_habits_L52 fuel M (x + 47) (Int32.ofNat dn) y2 s (Int32.ofNat v)) (hbR ρ K dn sz j v s) := by
  intro j
  induction j with
  | zero =>
    intro v fuel s M μ γ sc hv hf t
    obtain ⟨g, rfl⟩ : ∃ g, fuel = g + 1 := ⟨fuel - 1, by omega⟩
    have : v = 4 := by omega
    subst this
    rw [fX4_habits_L52, if_pos (by decide)]
    exact ⟨M, _, _, _, rfl, t, Ft.refl _ _⟩
  | succ j ih =>
    intro v fuel s M μ γ sc hv hf t
    obtain ⟨g, rfl⟩ : ∃ g, fuel = g + 1 := ⟨fuel - 1, by omega⟩
    have n4 : ¬ (4 : Int32) ≤ Int32.ofNat v := fun w => by
      have := (nL (i := 4) (by omega) (by omega)).mp w
      omega
    obtain ⟨M1, e1, t1, f1⟩ := t.cop V.2.1
    obtain ⟨t2, f2⟩ := t1.row (μ' := haR ρ (Int32.ofNat v)) (ha_mv V ⟨v, by omega, rfl⟩).2.1
    have e2 : sI_ M1 (x + 49) 0 (fX4_ofSide (1 - ρ 2 / 2) 1) (Int32.ofNat v) = some (ms_ M1 (x + 49) (eI_ 0 42 (haR ρ (Int32.ofNat v)))) := by
      have o := os_lt V
      rw [o.2]
      unfold haR
      have : osR ρ = 0 ∨ osR ρ = 1 := by omega
      rcases this with z | z <;> rw [z]
      · exact ro_s37 t1.2.2.1 _
      · exact ro_s40 t1.2.2.1 _
    rw [fX4_habits_L52, if_neg n4]
    simp only [t.r0, t.r1, e1, t1.r1, t1.ck, t1.other, e2, lt_, ob_n]
    refine (hb_i V hd hs h9 (by omega) (fX4_habits_L52 g) t2 sz 0 1000 true (by omega) (by omega) ?_).on (f1.trans f2)
    unfold hbR
    rw [Bool.true_and]
    cases al_ (hP ρ K dn (Int32.ofNat v)) sz 0 with
    | false => exact ih (v + 1) g _ _ _ _ _ (by omega) (by omega) t2
    | true => exact ih (v + 1) g _ _ _ _ _ (by omega) (by omega) t2
