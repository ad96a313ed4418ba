/-! a new row on a shelf -/
set_option maxRecDepth 100000
def zrR (f : Rw_) (d k : Nat) : Rw_ := fun i => if 100 * d ≤ i ∧ i < 100 * d + k then 0 else f i
theorem ix5 (d i : Nat) : (100 : Int32) * Int32.ofNat d + Int32.ofNat i = Int32.ofNat (100 * d + i) := by
  rw [show (100 : Int32) = Int32.ofNat 100 from rfl, nM, nS]
theorem IT.es {M : Mem_} {x : Nat} {ρ ρi : Rw_} {hi : Int32} {K : Nat → Rw_} {μ γ sc : Rw_} (t : IT M x ρ ρi hi K μ γ sc) {d i : Nat} (hd : d < 8) (hi : i < 100) (v : Int32) : sI_ M (x + 59) 0 (100 * Int32.ofNat d + Int32.ofNat i) v = some (ms_ M (x + 59) (eI_ 0 800 (upd (K 5) (100 * d + i) v))) := by
  have s := sIof (i := Int32.ofNat (100 * d + i)) (v := v) t.2.2.2.2.2.2.2.2.2.2.2.2.2 (nB (by decide) (by omega))
  rw [nC (by omega)] at s
  rw [ix5]
  exact s
theorem kU_kU (K : Nat → Rw_) (j : Nat) (f g : Rw_) : kU (kU K j f) j g = kU K j g := by
  funext i
  show (if i = j then g else if i = j then f else K i) = if i = j then g else K i
  split
  · rfl
  · rfl
theorem kU_id (K : Nat → Rw_) (j : Nat) : kU K j (K j) = K := by
  funext i
  show (if i = j then K j else K i) = K i
  split
  · rename_i e
    rw [e]
  · rfl
theorem rw_T {x : Nat} {ρ ρi : Rw_} {hi : Int32} {K : Nat → Rw_} {d : Nat} (hd : d < 8) (y2 y3 : Int32) : ∀ (j k fuel : Nat) (M : Mem_) (μ γ sc : Rw_), k + j = 100 → j < fuel → IT M x ρ ρi hi (kU K 5 (zrR (K 5) d k)) μ γ sc → TG M x (fX4_row_L55 fuel M (x + 47) (Int32.ofNat d) y2 y3 (Int32.ofNat k)) 0 ρ ρi hi (kU K 5 (zrR (K 5) d 100)) := by
  intro j
  induction j with
  | zero =>
    intro k fuel M μ γ sc hk hf t
    obtain ⟨g, rfl⟩ : ∃ g, fuel = g + 1 := ⟨fuel - 1, by omega⟩
    have : k = 100 := by omega
    subst this
    rw [fX4_row_L55, if_pos (by decide)]
    exact ⟨M, _, _, _, rfl, t, Ft.refl _ _⟩
  | succ j ih =>
    intro k fuel M μ γ sc hk hf t
    obtain ⟨g, rfl⟩ : ∃ g, fuel = g + 1 := ⟨fuel - 1, by omega⟩
    have n1 : ¬ (100 : Int32) ≤ Int32.ofNat k := fun w => by
      have := (nL (i := 100) (by omega) (by omega)).mp w
      omega
    obtain ⟨t1, f1⟩ := t.kset5 (f := zrR (K 5) d (k + 1))
    rw [kU_kU] at t1
    have s := t.es hd (i := k) (by omega) 0
    have e : upd (kU K 5 (zrR (K 5) d k) 5) (100 * d + k) 0 = zrR (K 5) d (k + 1) := by
      rw [kU_s]
      funext i
      show (if i = 100 * d + k then 0 else if 100 * d ≤ i ∧ i < 100 * d + k then 0 else K 5 i) = if 100 * d ≤ i ∧ i < 100 * d + (k + 1) then 0 else K 5 i
      by_cases c1 : i = 100 * d + k
      · rw [if_pos c1, if_pos ⟨by omega, by omega⟩]
      · rw [if_neg c1]
        by_cases c2 : 100 * d ≤ i ∧ i < 100 * d + k
        · rw [if_pos c2, if_pos ⟨by omega, by omega⟩]
        · rw [if_neg c2, if_neg (by omega)]
    rw [e] at s
    rw [fX4_row_L55, if_neg n1, t.r18, ob_n, s, ob_n, lt_, nS1]
    obtain ⟨M2, μ2, γ2, sc2, a, b, c⟩ := ih (k + 1) g _ _ _ _ (by omega) (by omega) t1
    exact ⟨M2, μ2, γ2, sc2, a, b, f1.trans c⟩
def rwR (K : Nat → Rw_) (d : Nat) (s m : Int32) : Nat → Rw_ := kU (kU (kU (kU K 0 (upd (K 0) d 2)) 3 (upd (K 3) d s)) 4 (upd (K 4) d m)) 5 (zrR (K 5) d 100)
theorem rw_o (K : Nat → Rw_) {d : Nat} (hd : d < 8) (s m : Int32) {e : Nat} (he : e ≠ d) : (∀ j, j < 5 → rwR K d s m j e = K j e) ∧ ∀ i, i < 100 → rwR K d s m 5 (100 * e + i) = K 5 (100 * e + i) := by
  refine ⟨fun j hj => ?_, fun i hi => ?_⟩
  · match j, hj with
    | 0, _ => exact (updA _ _ _ _).trans (if_neg he)
    | 1, _ => rfl
    | 2, _ => rfl
    | 3, _ => exact (updA _ _ _ _).trans (if_neg he)
    | 4, _ => exact (updA _ _ _ _).trans (if_neg he)
  · show (if 100 * d ≤ 100 * e + i ∧ 100 * e + i < 100 * d + 100 then 0 else K 5 (100 * e + i)) = _
    rw [if_neg (by omega)]
theorem rw_d (K : Nat → Rw_) (d : Nat) (s m : Int32) : rwR K d s m 0 d = 2 ∧ rwR K d s m 3 d = s ∧ rwR K d s m 4 d = m ∧ ∀ i, i < 100 → rwR K d s m 5 (100 * d + i) = 0 := by
  refine ⟨(updA _ _ _ _).trans (if_pos rfl), (updA _ _ _ _).trans (if_pos rfl), (updA _ _ _ _).trans (if_pos rfl), fun i hi => ?_⟩
  show (if 100 * d ≤ 100 * d + i ∧ 100 * d + i < 100 * d + 100 then 0 else K 5 (100 * d + i)) = _
  rw [if_pos ⟨by omega, by omega⟩]
section Q23
variable {M M' : Mem_} {n x : Nat} {ρ ρi : Rw_} {hi : Int32} {K : Nat → Rw_} {Z : Zr_} {ρm : Rw_} {Zm : Zr_} {γm cs : Rw_} {μ γ sc : Rw_}
theorem IC.rowNew (h : IC M n x ρ ρi hi K Z ρm Zm γm cs) {d m : Nat} {s : Int32} (hd : d < 8) (hm : m ≤ 100) (hs : rg_ 3 s) : CA M n x ((gR_ (ms_ M n (eI_ (tagOf s) m (fun _ => 0))) x 0 8).bind fun v20 => (aR_ (ms_ M n (eI_ (tagOf s) m (fun _ => 0))) v20 5 (Int32.ofNat d)).bind fun v21 => (pF_ (ms_ M n (eI_ (tagOf s) m (fun _ => 0))) v21 2 0 (.ref n)).bind fun M22 => some ((0 : Int32), M22, n + 1)) 0 ρ ρi hi (rwR K d s (Int32.ofNat m)) := by
  have hx := h.nx
  obtain ⟨a1, a2⟩ := h.new (eI_ (tagOf s) m (fun _ => 0))
  obtain ⟨sh1, o, sh2⟩ := a1.shelfAt hd
  rw [a1.r8, ob_n, sh1, ob_n, pFof sh2 (show 0 < 1 by decide), ob_n]
  refine ⟨_, n + 1, _, _, _, _, _, rfl, by omega, h.shelfSet (d := d) (o := some n) (K' := rwR K d s (Int32.ofNat m)) hd (by omega) (fun q hq hq2 _ => (ms_ne hq2).trans (ms_ne (by omega))) (ms_at _ _ _) (fun e _ he => rw_o K hd s _ he) (fun hv => ?_) (fun _ => ⟨n, rfl, Nat.le_refl _⟩), a2.trans fun q _ _ => ms_ne (by omega)⟩
  have kd := rw_d K d s (Int32.ofNat m)
  refine .inr (.inr ⟨kd.1, n, m, fun _ => 0, va_up_self _ _ _, by omega, by omega, ?_, hm, kd.2.2.1, ?_, fun i hi => (kd.2.2.2 i (by omega)).symm, fun i => ?_⟩)
  · rw [kd.2.1]
    exact (ms_ne (by omega)).trans (ms_at _ _ _)
  · rw [kd.2.1]
    exact hs
  · rw [kd.2.1]
    rcases rg3c hs with z | z | z <;> subst z <;> rfl
theorem IT.rowNew (t : IT M x ρ ρi hi K μ γ sc) {d : Nat} (hd : d < 8) (s m : Int32) : TG M x ((gR_ M (x + 47) 3 13).bind fun v3 => (sI_ M v3 0 (Int32.ofNat d) 2).bind fun M4 => (gR_ M4 (x + 47) 3 16).bind fun v5 => (sI_ M4 v5 0 (Int32.ofNat d) s).bind fun M6 => (gR_ M6 (x + 47) 3 17).bind fun v7 => (sI_ M6 v7 0 (Int32.ofNat d) m).bind fun M8 => fX4_row_L55 1000 M8 (x + 47) (Int32.ofNat d) s m 0) 0 ρ ρi hi (rwR K d s m) := by
  obtain ⟨t1, f1⟩ := t.kset (j := 0) (f := upd (K 0) d 2) (by decide)
  obtain ⟨t2, f2⟩ := t1.kset (j := 3) (f := upd (K 3) d s) (by decide)
  obtain ⟨t3, f3⟩ := t2.kset (j := 4) (f := upd (K 4) d m) (by decide)
  have s1 := t.ks hd (j := 0) (by decide) 2
  have s2 := t1.ks hd (j := 3) (by decide) s
  have s3 := t2.ks hd (j := 4) (by decide) m
  rw [kU_n _ _ (by decide)] at s2
  rw [kU_n _ _ (by decide), kU_n _ _ (by decide)] at s3
  rw [t.r13, ob_n, s1, ob_n, t1.r16, ob_n, s2, ob_n, t2.r17, ob_n, s3, ob_n]
  have z0 : zrR (K 5) d 0 = K 5 := by
    funext i
    show (if 100 * d ≤ i ∧ i < 100 * d + 0 then 0 else K 5 i) = _
    rw [if_neg (by omega)]
  have t4 := t3
  rw [← kU_id (kU (kU (kU K 0 (upd (K 0) d 2)) 3 (upd (K 3) d s)) 4 (upd (K 4) d m)) 5] at t4
  have k5 : kU (kU (kU K 0 (upd (K 0) d 2)) 3 (upd (K 3) d s)) 4 (upd (K 4) d m) 5 = K 5 := rfl
  rw [k5, ← z0, ← k5] at t4
  obtain ⟨M2, μ2, γ2, sc2, a, b, c⟩ := rw_T hd s m 100 0 1000 _ _ _ _ (by omega) (by omega) t4
  exact ⟨M2, μ2, γ2, sc2, a, b, f1.trans (f2.trans (f3.trans c))⟩
theorem o_row (h : IC M n x ρ ρi hi K Z ρm Zm γm cs) (t : IT M' x ρ ρi hi K μ γ sc) (d s m : Int32) : ∃ (r : Int32) (K' : Nat → Rw_), CA M n x (fX1_row M n x d s m) r ρ ρi hi K' ∧ TG M' x (fX4_row M' (x + 47) d s m) r ρ ρi hi K' := by
  unfold fX1_row fX4_row
  rw [h.ck, ob_n, lt_, lt_, lt_, lt_, lt_, lt_, lt_, show fX1_isShelf x d = fX4_isIn d 0 7 from rfl, show fX1_isIn s 0 2 = fX4_isIn s 0 2 from rfl, show fX4_isShelf d = fX4_isIn d 0 7 from rfl]
  cases e : fX4_isIn d 0 7 with
  | false => exact o_bad3 h t 0 _
  | true =>
    rw [if_neg b2_t, if_neg b2_t]
    cases e1 : fX4_isIn s 0 2 with
    | false => exact o_bad3 h t 0 _
    | true =>
      rw [if_neg b2_t, if_neg b2_t]
      obtain ⟨dn, hd, rfl⟩ := in_rg (m := 7) (by decide) e
      have hs := in_rg (m := 2) (by decide) e1
      by_cases g : m ≤ 100
      · rw [if_pos g, if_pos g]
        by_cases g0 : m < 0
        · rw [if_neg (show ¬ 0 ≤ m from Int32.not_le.mpr g0), if_pos g0, if_pos g0, if_pos g0]
          rcases rg3c hs with z | z | z <;> subst z
          · rw [if_pos rfl]
            exact o_bad3 h t 3 _
          · rw [if_neg ne10, if_pos rfl]
            exact o_bad3 h t 3 _
          · rw [if_neg ne20, if_neg ne21]
            exact o_bad3 h t 3 _
        · have g1 : 0 ≤ m := Int32.not_lt.mp g0
          obtain ⟨mn, hm, rfl⟩ := in_rg (m := 100) (by decide) (in_iff.mpr ⟨g1, g⟩)
          have h100 : ¬ 100 < (Int32.ofNat mn).toNatClampNeg := by
            rw [nC (by omega)]
            omega
          rw [if_pos g1, if_neg g0, if_neg g0, if_neg g0, if_neg h100, if_neg h100, if_neg h100, nC (by omega)]
          have T := t.rowNew (d := dn) hd s (Int32.ofNat mn)
          have C := h.rowNew (d := dn) (m := mn) hd (by omega) hs
          rcases rg3c hs with z | z | z <;> subst z
          · rw [if_pos rfl]
            exact ⟨0, _, C, T⟩
          · rw [if_neg ne10, if_pos rfl]
            exact ⟨0, _, C, T⟩
          · rw [if_neg ne20, if_neg ne21]
            exact ⟨0, _, C, T⟩
      · rw [if_neg g, if_neg g]
        exact o_bad3 h t 0 _
end Q23
