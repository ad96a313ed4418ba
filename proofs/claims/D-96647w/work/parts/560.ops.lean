/-! draughts: parts of a whole -/
set_option maxRecDepth 100000
theorem lJ {i : Nat} (h : i < 1152921504606846976) : (Int64.ofNat i).toInt = (i : Int) := Int64.toInt_ofNat_of_lt (by omega)
theorem lZ {i : Nat} (h : i < 1152921504606846976) : Int64.ofNat i = 0 ↔ i = 0 := by
  constructor
  · intro e
    have := congrArg Int64.toInt e
    rw [lJ h, show (0 : Int64).toInt = 0 from rfl] at this
    omega
  · intro e
    rw [e]
    rfl
theorem lCmp {i : Nat} (h : i < 1152921504606846976) : lg_cmp (Int64.ofNat i) 0 = 0 ↔ i = 0 := by
  unfold lg_cmp
  by_cases e : i = 0
  · subst e
    exact ⟨fun _ => rfl, fun _ => by decide⟩
  · have g : Int64.ofNat i > 0 := by
      show (0 : Int64) < Int64.ofNat i
      rw [Int64.lt_iff_toInt_lt, lJ h, show (0 : Int64).toInt = 0 from rfl]
      omega
    rw [if_pos g]
    exact ⟨fun w => absurd w (by decide), fun w => absurd w e⟩
theorem lRl {a b : Nat} (ha : a < 1152921504606846976) (hb : b < 1152921504606846976) (h0 : ¬ b = 0) : rl_ (Int64.ofNat a) (Int64.ofNat b) = some (Int64.ofNat (a % b)) := by
  unfold rl_
  rw [if_neg (fun w => h0 ((lZ hb).mp w)), ← Int64.ofNat_div (by omega) (by omega), ← Int64.ofNat_mul]
  have e : Int64.ofNat a = Int64.ofNat (a % b) + Int64.ofNat (a / b * b) := by rw [← Int64.ofNat_add, Nat.mod_add_div']
  rw [e, Int64.add_sub_cancel]
theorem lDl {a b : Nat} (ha : a < 1152921504606846976) (hb : b < 1152921504606846976) (h0 : ¬ b = 0) : dl_ (Int64.ofNat a) (Int64.ofNat b) = some (Int64.ofNat (a / b)) := by
  unfold dl_
  rw [if_neg (fun w => h0 ((lZ hb).mp w)), ← Int64.ofNat_div (by omega) (by omega)]
theorem euc : ∀ (k a b fuel : Nat), b < 2 ^ k → a < 1152921504606846976 → b < 1152921504606846976 → 2 * k + 1 ≤ fuel → fX1_divisor_R fuel (Int64.ofNat a) (Int64.ofNat b) = some (Int64.ofNat (Nat.gcd b a)) ∧ ∀ x0 x2, fX4_gcd_L6 fuel x0 x2 (Int64.ofNat a) (Int64.ofNat b) = some (Int64.ofNat (Nat.gcd b a)) := by
  intro k
  induction k with
  | zero =>
    intro a b fuel h1 h2 h3 h4
    obtain ⟨f, rfl⟩ : ∃ f, fuel = f + 1 := ⟨fuel - 1, by omega⟩
    have : b = 0 := by
      rw [Nat.pow_zero] at h1
      omega
    subst this
    refine ⟨?_, fun x0 x2 => ?_⟩
    · rw [fX1_divisor_R, if_pos ((lCmp h3).mpr rfl), Nat.gcd_zero_left]
    · rw [fX4_gcd_L6, if_pos ((lCmp h3).mpr rfl), Nat.gcd_zero_left]
  | succ k ih =>
    intro a b fuel h1 h2 h3 h4
    obtain ⟨f, rfl⟩ : ∃ f, fuel = f + 1 + 1 := ⟨fuel - 2, by omega⟩
    rw [Nat.pow_succ] at h1
    by_cases e : b = 0
    · subst e
      refine ⟨?_, fun x0 x2 => ?_⟩
      · rw [fX1_divisor_R, if_pos ((lCmp h3).mpr rfl), Nat.gcd_zero_left]
      · rw [fX4_gcd_L6, if_pos ((lCmp h3).mpr rfl), Nat.gcd_zero_left]
    · have hr : a % b < b := Nat.mod_lt _ (by omega)
      have c1 : ¬ lg_cmp (Int64.ofNat b) 0 = 0 := fun w => e ((lCmp h3).mp w)
      have key : ∀ r, r < b → (fX1_divisor_R (f + 1) (Int64.ofNat b) (Int64.ofNat r) = some (Int64.ofNat (Nat.gcd r b))) ∧ ∀ x0 x2, fX4_gcd_L6 (f + 1) x0 x2 (Int64.ofNat b) (Int64.ofNat r) = some (Int64.ofNat (Nat.gcd r b)) := by
        intro r hr
        by_cases g : r = 0
        · subst g
          refine ⟨?_, fun x0 x2 => ?_⟩
          · rw [fX1_divisor_R, if_pos ((lCmp (by omega)).mpr rfl), Nat.gcd_zero_left]
          · rw [fX4_gcd_L6, if_pos ((lCmp (by omega)).mpr rfl), Nat.gcd_zero_left]
        · have c2 : ¬ lg_cmp (Int64.ofNat r) 0 = 0 := fun w => g ((lCmp (by omega)).mp w)
          have hr2 : b % r < r := Nat.mod_lt _ (by omega)
          have h5 : b % r < 2 ^ k := by
            have d := Nat.div_add_mod b r
            have d1 : 1 ≤ b / r := Nat.div_pos (by omega) (by omega)
            have d2 : r * 1 ≤ r * (b / r) := Nat.mul_le_mul_left r d1
            omega
          obtain ⟨i1, i2⟩ := ih r (b % r) f h5 (by omega) (by omega) (by omega)
          rw [Nat.gcd_rec r b]
          refine ⟨?_, fun x0 x2 => ?_⟩
          · rw [fX1_divisor_R, if_neg c2, lRl h3 (by omega) g, ob_n, i1, ob_n]
          · rw [fX4_gcd_L6, if_neg c2, lRl h3 (by omega) g, ob_n, i2]
      obtain ⟨k1, k2⟩ := key (a % b) hr
      rw [Nat.gcd_rec b a]
      refine ⟨?_, fun x0 x2 => ?_⟩
      · rw [fX1_divisor_R, if_neg c1, lRl h2 h3 e, ob_n, k1, ob_n]
      · rw [fX4_gcd_L6, if_neg c1, lRl h2 h3 e, ob_n, k2]
theorem part_eq {u d : Nat} (hu : u < 1152921504606846976) (hd : d < 4194304) (h0 : 0 < d) {p : Int32} (hp : p = 0 ∨ p = 1) : ∃ r, fX1_partOf (Int64.ofNat u) (Int64.ofNat d) p = some r ∧ fX4_partOf (Int64.ofNat u) (Int64.ofNat d) p = some r := by
  have hd' : d < 1152921504606846976 := by omega
  have e1 : fX1_divisor (Int64.ofNat u) (Int64.ofNat d) = some (Int64.ofNat (Nat.gcd d u)) := (euc 22 u d 60 hd hu hd' (by decide)).1
  have e2 : fX4_gcd (Int64.ofNat u) (Int64.ofNat d) = some (Int64.ofNat (Nat.gcd d u)) := (euc 22 u d 1000 hd hu hd' (by decide)).2 _ _
  have g0 : ¬ Nat.gcd d u = 0 := fun w => by
    have := Nat.gcd_pos_of_pos_left u h0
    omega
  have gl : Nat.gcd d u < 1152921504606846976 := by
    have := Nat.gcd_le_left u h0
    omega
  unfold fX1_partOf fX4_partOf
  rw [e1, e2, ob_n, ob_n, lDl hu gl g0, lDl hd' gl g0, ob_n, ob_n]
  by_cases z : u = 0
  · rw [if_pos ((lCmp hu).mpr z)]
    subst z
    rw [Nat.gcd_zero_right, Nat.zero_div, Nat.div_self h0]
    rcases hp with w | w <;> subst w
    · exact ⟨0, rfl, rfl⟩
    · exact ⟨1, rfl, rfl⟩
  · rw [if_neg (fun w => z ((lCmp hu).mp w))]
    rcases hp with w | w <;> subst w
    · exact ⟨_, rfl, rfl⟩
    · exact ⟨_, rfl, rfl⟩
/-! the weights -/
def wtR (t st : Int32) : Nat → Nat → Int64 → Int64
  | 0, _, a => a
  | d + 1, k, a => wtR t st d (k + 1) (if fX4_has st (Int32.ofNat k) = true then a * 1 else a * (t - 1).toInt64)
def dnR (t : Int32) : Nat → Int64 → Int64
  | 0, a => a
  | d + 1, a => dnR t d (a * t.toInt64)
def goR (ρ : Rw_) (st : Int32) : Nat → Nat → Rw_ → Bool
  | 0, _, _ => true
  | d + 1, k, μ => if hB (upd μ 3 (if fX4_has st (Int32.ofNat k) = true then 1 else ρ 3)) (Int32.ofNat k) 2 = true then false else goR ρ st d (k + 1) (hR (upd μ 3 (if fX4_has st (Int32.ofNat k) = true then 1 else ρ 3)) (Int32.ofNat k) 2)
def upR (ρ : Rw_) (t : Int32) (m : Nat) : Nat → Nat → Int64 → Int64
  | 0, _, a => a
  | d + 1, s, a => upR ρ t m d (s + 1) (if goR ρ (Int32.ofNat s) m 0 ρ = true then a + wtR t (Int32.ofNat s) m 0 1 else a + 0)
theorem t64 {T : Nat} (h2 : 2 ≤ T) (hT : T ≤ 20) : (Int32.ofNat T).toInt64 = Int64.ofNat T ∧ (Int32.ofNat T - 1).toInt64 = Int64.ofNat (T - 1) := by
  have k : ∀ i : Fin 19, (Int32.ofNat (i.val + 2)).toInt64 = Int64.ofNat (i.val + 2) ∧ (Int32.ofNat (i.val + 2) - 1).toInt64 = Int64.ofNat (i.val + 2 - 1) := by decide +kernel
  have := k ⟨T - 2, by omega⟩
  rw [show T - 2 + 2 = T by omega] at this
  exact this
theorem wt_rg {T : Nat} (h2 : 2 ≤ T) (hT : T ≤ 20) (st : Int32) : ∀ (d k a : Nat), ∃ b, b ≤ a * 20 ^ d ∧ wtR (Int32.ofNat T) st d k (Int64.ofNat a) = Int64.ofNat b := by
  intro d
  induction d with
  | zero => intro k a; exact ⟨a, by rw [Nat.pow_zero, Nat.mul_one]; exact Nat.le_refl _, rfl⟩
  | succ d ih =>
    intro k a
    unfold wtR
    split
    · rw [Int64.mul_one]
      obtain ⟨b, h, e⟩ := ih (k + 1) a
      exact ⟨b, Nat.le_trans h (Nat.mul_le_mul_left a (Nat.pow_le_pow_right (by decide) (Nat.le_succ d))), e⟩
    · rw [(t64 h2 hT).2, ← Int64.ofNat_mul]
      obtain ⟨b, h, e⟩ := ih (k + 1) (a * (T - 1))
      refine ⟨b, Nat.le_trans h ?_, e⟩
      rw [Nat.pow_succ, Nat.mul_comm (20 ^ d) 20, ← Nat.mul_assoc]
      exact Nat.mul_le_mul_right _ (Nat.mul_le_mul_left a (by omega))
theorem dn_rg {T : Nat} (h2 : 2 ≤ T) (hT : T ≤ 20) : ∀ (d a : Nat), 0 < a → ∃ b, b ≤ a * 20 ^ d ∧ 0 < b ∧ dnR (Int32.ofNat T) d (Int64.ofNat a) = Int64.ofNat b := by
  intro d
  induction d with
  | zero => intro a ha; exact ⟨a, by rw [Nat.pow_zero, Nat.mul_one]; exact Nat.le_refl _, ha, rfl⟩
  | succ d ih =>
    intro a ha
    unfold dnR
    rw [(t64 h2 hT).1, ← Int64.ofNat_mul]
    obtain ⟨b, h, h0, e⟩ := ih (a * T) (Nat.mul_pos ha (by omega))
    refine ⟨b, Nat.le_trans h ?_, h0, e⟩
    rw [Nat.pow_succ, Nat.mul_comm (20 ^ d) 20, ← Nat.mul_assoc]
    exact Nat.mul_le_mul_right _ (Nat.mul_le_mul_left a (by omega))
theorem pw5 {m : Nat} (hm : m ≤ 5) : 20 ^ m ≤ 3200000 := Nat.pow_le_pow_right (n := 20) (by decide) hm
theorem up_rg {ρ : Rw_} {T m : Nat} (h2 : 2 ≤ T) (hT : T ≤ 20) (hm : m ≤ 5) : ∀ (d s a : Nat), ∃ b, b ≤ a + d * 3200000 ∧ upR ρ (Int32.ofNat T) m d s (Int64.ofNat a) = Int64.ofNat b := by
  intro d
  induction d with
  | zero => intro s a; exact ⟨a, by omega, rfl⟩
  | succ d ih =>
    intro s a
    unfold upR
    split
    · obtain ⟨w, hw, ew⟩ := wt_rg h2 hT (Int32.ofNat s) m 0 1
      rw [show (1 : Int64) = Int64.ofNat 1 from rfl, ew, ← Int64.ofNat_add]
      obtain ⟨b, h, e⟩ := ih (s + 1) (a + w)
      have hw' : w ≤ 3200000 := by
        rw [Nat.one_mul] at hw
        exact Nat.le_trans hw (pw5 hm)
      clear hw
      exact ⟨b, by omega, e⟩
    · rename_i w0
      clear w0
      rw [Int64.add_zero]
      obtain ⟨b, h, e⟩ := ih (s + 1) a
      exact ⟨b, Nat.le_trans h (Nat.add_le_add_left (Nat.mul_le_mul_right _ (Nat.le_succ d)) a), e⟩
/-! whether it goes on -/
theorem dr1 : dr_ (1 : Int32) := ⟨2, by decide, rfl⟩
theorem rg9_2 : rg_ 9 (2 : Int32) := ⟨2, by decide, rfl⟩
theorem go_C {n x : Nat} {ρ ρi : Rw_} {hi : Int32} {K : Nat → Rw_} {Z : Zr_} (V : OK_ ρ) {m : Nat} (hm : m ≤ (ρ 0).toNatClampNeg) (st : Int32) : ∀ (d k fuel : Nat) (M : Mem_) (ρm γm cs : Rw_), k + d = m → d + 1 < fuel → IC M n x ρ ρi hi K Z ρm Z γm cs → MV ρm ρ → Cq M n x ρ ρi hi K Z (fX1_goesOn_L9 fuel M x st (Int32.ofNat m) 0 (Int32.ofNat k)) (goR ρ st d k ρm) := by
  have h8 : (ρ 0).toNatClampNeg < 9 := (rg_nat (by decide) V.1.2.2.2.2.1).1
  intro d
  induction d with
  | zero =>
    intro k fuel M ρm γm cs hk hf h W
    obtain ⟨f, rfl⟩ : ∃ f, fuel = f + 1 := ⟨fuel - 1, by omega⟩
    rw [fX1_goesOn_L9, if_pos (by rw [nL (by omega) (by omega)]; omega), if_pos rfl]
    exact ⟨M, _, _, _, _, rfl, h, Fc.refl _ _⟩
  | succ d ih =>
    intro k fuel M ρm γm cs hk hf h W
    obtain ⟨f, rfl⟩ : ∃ f, fuel = f + 1 + 1 := ⟨fuel - 2, by omega⟩
    obtain ⟨γ0, h1⟩ := h.2.1
    have hz := h.2.2.2.2.2.2.2.2.2.1
    have fin : ∀ v : Int32, dr_ v → Cq M n x ρ ρi hi K Z ((gR_ (cw_ M (x + 19) (upd ρm 3 v) Z γm) x 0 2).bind fun v11 => (ck_ (cw_ M (x + 19) (upd ρm 3 v) Z γm) v11 1).bind fun _ => bw_ (fX2_hits (cw_ M (x + 19) (upd ρm 3 v) Z γm) v11 (Int32.ofNat k) 2) fun r13 M14 => lt_ (Int32.ofNat k + 1) fun v15 => fX1_goesOn_L9 (f + 1) M14 x st (Int32.ofNat m) (b2_ r13) v15) (if hB (upd ρm 3 v) (Int32.ofNat k) 2 = true then false else goR ρ st d (k + 1) (hR (upd ρm 3 v) (Int32.ofNat k) 2)) := by
      intro v hv
      obtain ⟨a1, a2⟩ := h.mind (ρ' := upd ρm 3 v) (Z' := Z) (γ' := γm) hz
      have W1 := W.draught hv
      have hk' : (Int32.ofNat k).toNatClampNeg < (ρ 0).toNatClampNeg := by
        rw [nC (by omega)]
        omega
      obtain ⟨M1, e1, b1, b2⟩ := a1.mhit rfl W1 hk' ⟨k, by omega, rfl⟩ rg9_2
      rw [a1.r2, ob_n, a1.ck19, ob_n, e1, bw_n, lt_, nS1]
      cases hB (upd ρm 3 v) (Int32.ofNat k) 2 with
      | false => exact (ih (k + 1) (f + 1) M1 _ _ _ (by omega) (by omega) b1 (W1.hit hk' rg9_2)).on (a2.trans b2)
      | true =>
        have e : fX1_goesOn_L9 (f + 1) M1 x st (Int32.ofNat m) (b2_ true) (Int32.ofNat (k + 1)) = some (false, M1) := by
          rw [fX1_goesOn_L9]
          split
          · exact if_neg b2_t
          · rw [if_neg b2_t, if_neg b2_t]
        rw [e]
        exact ⟨M1, _, _, _, _, rfl, b1, a2.trans b2⟩
    rw [fX1_goesOn_L9, if_neg (by rw [nL (by omega) (by omega)]; omega), if_pos rfl, h.r2, ob_n, lt_, show fX1_has st (Int32.ofNat k) = fX4_has st (Int32.ofNat k) from rfl]
    unfold goR
    cases fX4_has st (Int32.ofNat k) with
    | false =>
      rw [if_pos b2_f, h.r0, ob_n, co_i11 h1, ob_n, co_p11 h.2.2.2.1, ob_n, if_neg (show ¬ false = true by decide)]
      exact fin _ V.1.2.2.2.1
    | true =>
      rw [if_neg b2_t, co_p11 h.2.2.2.1, ob_n, if_pos rfl]
      exact fin _ dr1
theorem IC.goes {M : Mem_} {n x : Nat} {ρ ρi : Rw_} {hi : Int32} {K : Nat → Rw_} {Z : Zr_} {ρm : Rw_} {Zm : Zr_} {γm cs : Rw_} (h : IC M n x ρ ρi hi K Z ρm Zm γm cs) (V : OK_ ρ) {m : Nat} (hm : m ≤ (ρ 0).toNatClampNeg) (st : Int32) : Cq M n x ρ ρi hi K Z (fX1_goesOn M x st (Int32.ofNat m)) (goR ρ st m 0 ρ) := by
  have h8 : (ρ 0).toNatClampNeg < 9 := (rg_nat (by decide) V.1.2.2.2.2.1).1
  obtain ⟨M1, e1, h1, f1⟩ := h.minds
  unfold fX1_goesOn
  rw [h.ck, ob_n, e1, ob_n]
  exact (go_C V hm st m 0 1000 M1 _ _ _ (by omega) (by omega) h1 V.mv).on f1
theorem go_T {x : Nat} {ρ ρi : Rw_} {hi : Int32} {K : Nat → Rw_} (V : OK_ ρ) {m : Nat} (hm : m ≤ (ρ 0).toNatClampNeg) (st : Int32) : ∀ (d k fuel : Nat) (M : Mem_) (μ γ sc : Rw_), k + d = m → d < fuel → IT M x ρ ρi hi K μ γ sc → MV μ ρ → Tq M x ρ ρi hi K (fX4_isPointless_L13 fuel M (x + 47) (Int32.ofNat m) st (Int32.ofNat k)) (goR ρ st d k μ) := by
  have h8 : (ρ 0).toNatClampNeg < 9 := (rg_nat (by decide) V.1.2.2.2.2.1).1
  intro d
  induction d with
  | zero =>
    intro k fuel M μ γ sc hk hf h W
    obtain ⟨f, rfl⟩ : ∃ f, fuel = f + 1 := ⟨fuel - 1, by omega⟩
    rw [fX4_isPointless_L13, if_pos (by rw [nL (by omega) (by omega)]; omega)]
    exact ⟨M, _, _, _, rfl, h, Ft.refl _ _⟩
  | succ d ih =>
    intro k fuel M μ γ sc hk hf h W
    obtain ⟨f, rfl⟩ : ∃ f, fuel = f + 1 := ⟨fuel - 1, by omega⟩
    have fin : ∀ v : Int32, dr_ v → Tq M x ρ ρi hi K ((gR_ (ms_ M (x + 49) (eI_ 0 42 (upd μ 3 v))) (x + 47) 3 1).bind fun v10 => (ck_ (ms_ M (x + 49) (eI_ 0 42 (upd μ 3 v))) (x + 47) 3).bind fun _ => bw_ (fX4_hits (ms_ M (x + 49) (eI_ 0 42 (upd μ 3 v))) (x + 47) v10 (Int32.ofNat k) 2) fun r12 M13 => if (b2_ r12) = 0 then lt_ (Int32.ofNat k + 1) fun v14 => fX4_isPointless_L13 f M13 (x + 47) (Int32.ofNat m) st v14 else some (false, M13)) (if hB (upd μ 3 v) (Int32.ofNat k) 2 = true then false else goR ρ st d (k + 1) (hR (upd μ 3 v) (Int32.ofNat k) 2)) := by
      intro v hv
      have W1 := W.draught hv
      obtain ⟨a1, a2⟩ := h.row W1.2.1
      have hk' : (Int32.ofNat k).toNatClampNeg < (ρ 0).toNatClampNeg := by
        rw [nC (by omega)]
        omega
      obtain ⟨M1, e1, b1, b2⟩ := a1.mhit W1 hk' ⟨k, by omega, rfl⟩ rg9_2
      rw [a1.r1, ob_n, a1.ck, ob_n, e1, bw_n]
      cases hB (upd μ 3 v) (Int32.ofNat k) 2 with
      | false =>
        rw [if_pos b2_f, lt_, nS1]
        exact (ih (k + 1) f M1 _ _ _ (by omega) (by omega) b1 (W1.hit hk' rg9_2)).on (a2.trans b2)
      | true =>
        rw [if_neg b2_t]
        exact ⟨M1, _, _, _, rfl, b1, a2.trans b2⟩
    rw [fX4_isPointless_L13, if_neg (by rw [nL (by omega) (by omega)]; omega), h.r1, ob_n, lt_]
    unfold goR
    cases fX4_has st (Int32.ofNat k) with
    | false =>
      rw [if_pos b2_f, h.r0, ob_n, ro_a3 h.2.1, ob_n, ro_s3 h.2.2.1, ob_n, if_neg (show ¬ false = true by decide)]
      exact fin _ V.1.2.2.2.1
    | true =>
      rw [if_neg b2_t, ro_s3 h.2.2.1, ob_n, if_pos rfl]
      exact fin _ dr1
theorem IT.goes {M : Mem_} {x : Nat} {ρ ρi : Rw_} {hi : Int32} {K : Nat → Rw_} {μ γ sc : Rw_} (t : IT M x ρ ρi hi K μ γ sc) (V : OK_ ρ) {m : Nat} (hm : m ≤ (ρ 0).toNatClampNeg) (st : Int32) : Tq M x ρ ρi hi K (fX4_isPointless M (x + 47) (Int32.ofNat m) st) (goR ρ st m 0 ρ) := by
  have h8 : (ρ 0).toNatClampNeg < 9 := (rg_nat (by decide) V.1.2.2.2.2.1).1
  obtain ⟨M1, e1, h1, f1⟩ := t.cop V.2.1
  unfold fX4_isPointless
  rw [t.r0, ob_n, t.r1, ob_n, e1, ob_n]
  exact (go_T V hm st m 0 1000 M1 _ _ _ (by omega) (by omega) h1 V.mv).on f1
theorem sh5 {m : Nat} (hm : m ≤ 5) : (1 : Int32) <<< (Int32.ofNat m &&& 31) = Int32.ofNat (2 ^ m) ∧ 2 ^ m ≤ 32 := by
  match m, hm with
  | 0, _ => decide
  | 1, _ => decide
  | 2, _ => decide
  | 3, _ => decide
  | 4, _ => decide
  | 5, _ => decide
/-! the loops of both -/
theorem du_iC {n x : Nat} {ρ ρi : Rw_} {hi : Int32} {K : Nat → Rw_} {Z : Zr_} (V : OK_ ρ) {m sn : Nat} (hm : m ≤ (ρ 0).toNatClampNeg) {t p : Int32} {up dn W R : Int64} (K2 : Mem_ → Nat → Int32 → Int32 → Int32 → Int64 → Int64 → Int32 → Option (Int64 × Mem_)) (hK : ∀ (M : Mem_) (ρm : Rw_) (Zm : Zr_) (γm cs : Rw_), IC M n x ρ ρi hi K Z ρm Zm γm cs → Cq M n x ρ ρi hi K Z (K2 M x (Int32.ofNat m) t p (if goR ρ (Int32.ofNat sn) m 0 ρ = true then up + W else up + 0) dn (Int32.ofNat (sn + 1))) R) {M : Mem_} {ρm : Rw_} {Zm : Zr_} {γm cs : Rw_} (h : IC M n x ρ ρi hi K Z ρm Zm γm cs) : ∀ (d k fuel : Nat) (a : Int64), k + d = m → d < fuel → wtR t (Int32.ofNat sn) d k a = W → Cq M n x ρ ρi hi K Z (fX1_draughts_L87 K2 fuel M x (Int32.ofNat m) t p up dn (Int32.ofNat sn) a (Int32.ofNat k)) R := by
  have h8 : (ρ 0).toNatClampNeg < 9 := (rg_nat (by decide) V.1.2.2.2.2.1).1
  intro d
  induction d with
  | zero =>
    intro k fuel a hk hf e
    obtain ⟨f, rfl⟩ : ∃ f, fuel = f + 1 := ⟨fuel - 1, by omega⟩
    have ea : a = W := e
    subst ea
    obtain ⟨M1, _, _, _, _, e1, h1, f1⟩ := h.goes V hm (Int32.ofNat sn)
    have k2 := hK M1 _ _ _ _ h1
    rw [fX1_draughts_L87, if_pos (by rw [nL (by omega) (by omega)]; omega), h.ck, ob_n, e1, bw_n]
    refine Cq.on ?_ f1
    revert k2
    cases goR ρ (Int32.ofNat sn) m 0 ρ with
    | false =>
      intro k2
      rw [if_pos b2_f, lt_, lt_, nS1]
      exact k2
    | true =>
      intro k2
      rw [if_neg b2_t, lt_, lt_, nS1]
      exact k2
  | succ d ih =>
    intro k fuel a hk hf e
    obtain ⟨f, rfl⟩ : ∃ f, fuel = f + 1 := ⟨fuel - 1, by omega⟩
    unfold wtR at e
    rw [fX1_draughts_L87, if_neg (by rw [nL (by omega) (by omega)]; omega), lt_, show fX1_has (Int32.ofNat sn) (Int32.ofNat k) = fX4_has (Int32.ofNat sn) (Int32.ofNat k) from rfl]
    revert e
    cases fX4_has (Int32.ofNat sn) (Int32.ofNat k) with
    | false =>
      intro e
      rw [if_pos b2_f, lt_, lt_, nS1]
      exact ih (k + 1) f _ (by omega) (by omega) e
    | true =>
      intro e
      rw [if_neg b2_t, lt_, lt_, nS1]
      exact ih (k + 1) f _ (by omega) (by omega) e
theorem du_C {n x : Nat} {ρ ρi : Rw_} {hi : Int32} {K : Nat → Rw_} {Z : Zr_} (V : OK_ ρ) {m : Nat} (hm : m ≤ (ρ 0).toNatClampNeg) (hm5 : m ≤ 5) {t p : Int32} {dn R : Int64} : ∀ (d sn fuel : Nat) (up : Int64) (M : Mem_) (ρm : Rw_) (Zm : Zr_) (γm cs : Rw_), sn + d = 2 ^ m → d < fuel → IC M n x ρ ρi hi K Z ρm Zm γm cs → fX1_partOf (upR ρ t m d sn up) dn p = some R → Cq M n x ρ ρi hi K Z (fX1_draughts_L73 fuel M x (Int32.ofNat m) t p up dn (Int32.ofNat sn)) R := by
  obtain ⟨s1, s2⟩ := sh5 hm5
  intro d
  induction d with
  | zero =>
    intro sn fuel up M ρm Zm γm cs hk hf h e
    obtain ⟨f, rfl⟩ : ∃ f, fuel = f + 1 := ⟨fuel - 1, by omega⟩
    have e : fX1_partOf up dn p = some R := e
    rw [fX1_draughts_L73, s1, if_pos (by rw [nL (by omega) (by omega)]; omega), e, ob_n]
    exact ⟨M, _, _, _, _, rfl, h, Fc.refl _ _⟩
  | succ d ih =>
    intro sn fuel up M ρm Zm γm cs hk hf h e
    obtain ⟨f, rfl⟩ : ∃ f, fuel = f + 1 := ⟨fuel - 1, by omega⟩
    rw [fX1_draughts_L73, s1, if_neg (by rw [nL (by omega) (by omega)]; omega)]
    exact du_iC V hm (fX1_draughts_L73 f) (fun M1 _ _ _ _ h1 => ih (sn + 1) f _ M1 _ _ _ _ (by omega) (by omega) h1 e) h m 0 1000 1 (by omega) (by omega) rfl
theorem du_1C (M : Mem_) (x : Nat) {m : Nat} (hm5 : m ≤ 5) (t p : Int32) (up : Int64) : ∀ (d k fuel : Nat) (dn : Int64), k + d = m → d < fuel → fX1_draughts_L51 fuel M x (Int32.ofNat m) t p up dn (Int32.ofNat k) = fX1_draughts_L73 1000 M x (Int32.ofNat m) t p up (dnR t d dn) 0 := by
  intro d
  induction d with
  | zero =>
    intro k fuel dn hk hf
    obtain ⟨f, rfl⟩ : ∃ f, fuel = f + 1 := ⟨fuel - 1, by omega⟩
    rw [show dnR t 0 dn = dn from rfl, fX1_draughts_L51, if_pos (by rw [nL (by omega) (by omega)]; omega)]
  | succ d ih =>
    intro k fuel dn hk hf
    obtain ⟨f, rfl⟩ : ∃ f, fuel = f + 1 := ⟨fuel - 1, by omega⟩
    rw [show dnR t (d + 1) dn = dnR t d (dn * t.toInt64) from rfl, fX1_draughts_L51, if_neg (by rw [nL (by omega) (by omega)]; omega), lt_, lt_, nS1]
    exact ih (k + 1) f _ (by omega) (by omega)
theorem du_iT {x : Nat} {ρ ρi : Rw_} {hi : Int32} {K : Nat → Rw_} (V : OK_ ρ) {m sn : Nat} (hm : m ≤ (ρ 0).toNatClampNeg) {t p : Int32} {up dn W R : Int64} (K2 : Mem_ → Nat → Int32 → Int32 → Int32 → Int64 → Int64 → Int32 → Option (Int64 × Mem_)) (hK : ∀ (M : Mem_) (μ γ sc : Rw_), IT M x ρ ρi hi K μ γ sc → Tq M x ρ ρi hi K (K2 M (x + 47) (Int32.ofNat m) t p (if goR ρ (Int32.ofNat sn) m 0 ρ = true then up + W else up + 0) dn (Int32.ofNat (sn + 1))) R) {M : Mem_} {μ γ sc : Rw_} (h : IT M x ρ ρi hi K μ γ sc) : ∀ (d k fuel : Nat) (a : Int64), k + d = m → d < fuel → wtR t (Int32.ofNat sn) d k a = W → Tq M x ρ ρi hi K (fX4_draughts_L87 K2 fuel M (x + 47) (Int32.ofNat m) t p up dn (Int32.ofNat sn) a (Int32.ofNat k)) R := by
  have h8 : (ρ 0).toNatClampNeg < 9 := (rg_nat (by decide) V.1.2.2.2.2.1).1
  intro d
  induction d with
  | zero =>
    intro k fuel a hk hf e
    obtain ⟨f, rfl⟩ : ∃ f, fuel = f + 1 := ⟨fuel - 1, by omega⟩
    have ea : a = W := e
    subst ea
    obtain ⟨M1, _, _, _, e1, h1, f1⟩ := h.goes V hm (Int32.ofNat sn)
    have k2 := hK M1 _ _ _ h1
    rw [fX4_draughts_L87, if_pos (by rw [nL (by omega) (by omega)]; omega), h.ck, ob_n, e1, bw_n]
    refine Tq.on ?_ f1
    revert k2
    cases goR ρ (Int32.ofNat sn) m 0 ρ with
    | false =>
      intro k2
      rw [if_pos b2_f, lt_, lt_, nS1]
      exact k2
    | true =>
      intro k2
      rw [if_neg b2_t, lt_, lt_, nS1]
      exact k2
  | succ d ih =>
    intro k fuel a hk hf e
    obtain ⟨f, rfl⟩ : ∃ f, fuel = f + 1 := ⟨fuel - 1, by omega⟩
    unfold wtR at e
    rw [fX4_draughts_L87, if_neg (by rw [nL (by omega) (by omega)]; omega), lt_]
    revert e
    cases fX4_has (Int32.ofNat sn) (Int32.ofNat k) with
    | false =>
      intro e
      rw [if_pos b2_f, lt_, lt_, nS1]
      exact ih (k + 1) f _ (by omega) (by omega) e
    | true =>
      intro e
      rw [if_neg b2_t, lt_, lt_, nS1]
      exact ih (k + 1) f _ (by omega) (by omega) e
theorem du_T {x : Nat} {ρ ρi : Rw_} {hi : Int32} {K : Nat → Rw_} (V : OK_ ρ) {m : Nat} (hm : m ≤ (ρ 0).toNatClampNeg) (hm5 : m ≤ 5) {t p : Int32} {dn R : Int64} : ∀ (d sn fuel : Nat) (up : Int64) (M : Mem_) (μ γ sc : Rw_), sn + d = 2 ^ m → d < fuel → IT M x ρ ρi hi K μ γ sc → fX4_partOf (upR ρ t m d sn up) dn p = some R → Tq M x ρ ρi hi K (fX4_draughts_L73 fuel M (x + 47) (Int32.ofNat m) t p up dn (Int32.ofNat sn)) R := by
  obtain ⟨s1, s2⟩ := sh5 hm5
  intro d
  induction d with
  | zero =>
    intro sn fuel up M μ γ sc hk hf h e
    obtain ⟨f, rfl⟩ : ∃ f, fuel = f + 1 := ⟨fuel - 1, by omega⟩
    have e : fX4_partOf up dn p = some R := e
    rw [fX4_draughts_L73, s1, if_pos (by rw [nL (by omega) (by omega)]; omega), e, ob_n]
    exact ⟨M, _, _, _, rfl, h, Ft.refl _ _⟩
  | succ d ih =>
    intro sn fuel up M μ γ sc hk hf h e
    obtain ⟨f, rfl⟩ : ∃ f, fuel = f + 1 := ⟨fuel - 1, by omega⟩
    rw [fX4_draughts_L73, s1, if_neg (by rw [nL (by omega) (by omega)]; omega)]
    exact du_iT V hm (fX4_draughts_L73 f) (fun M1 _ _ _ h1 => ih (sn + 1) f _ M1 _ _ _ (by omega) (by omega) h1 e) h m 0 1000 1 (by omega) (by omega) rfl
theorem du_1T (M : Mem_) (x : Nat) {m : Nat} (hm5 : m ≤ 5) (t p : Int32) (up : Int64) : ∀ (d k fuel : Nat) (dn : Int64), k + d = m → d < fuel → fX4_draughts_L51 fuel M x (Int32.ofNat m) t p up dn (Int32.ofNat k) = fX4_draughts_L73 1000 M x (Int32.ofNat m) t p up (dnR t d dn) 0 := by
  intro d
  induction d with
  | zero =>
    intro k fuel dn hk hf
    obtain ⟨f, rfl⟩ : ∃ f, fuel = f + 1 := ⟨fuel - 1, by omega⟩
    rw [show dnR t 0 dn = dn from rfl, fX4_draughts_L51, if_pos (by rw [nL (by omega) (by omega)]; omega)]
  | succ d ih =>
    intro k fuel dn hk hf
    obtain ⟨f, rfl⟩ : ∃ f, fuel = f + 1 := ⟨fuel - 1, by omega⟩
    rw [show dnR t (d + 1) dn = dnR t d (dn * t.toInt64) from rfl, fX4_draughts_L51, if_neg (by rw [nL (by omega) (by omega)]; omega), lt_, lt_, nS1]
    exact ih (k + 1) f _ (by omega) (by omega)
section Q19
variable {M M' : Mem_} {n x : Nat} {ρ ρi : Rw_} {hi : Int32} {K : Nat → Rw_} {Z : Zr_} {ρm : Rw_} {Zm : Zr_} {γm cs : Rw_} {μ γ sc : Rw_}
theorem in_iff {v l u : Int32} : fX4_isIn v l u = true ↔ l ≤ v ∧ v ≤ u := by
  unfold fX4_isIn
  by_cases h1 : v < l
  · rw [if_pos h1]
    exact ⟨fun w => absurd w (by decide), fun w => absurd w.1 (Int32.not_le.mpr h1)⟩
  · rw [if_neg h1]
    by_cases h2 : u < v
    · rw [if_pos h2]
      exact ⟨fun w => absurd w (by decide), fun w => absurd w.2 (Int32.not_le.mpr h2)⟩
    · rw [if_neg h2]
      exact ⟨fun _ => ⟨Int32.not_lt.mp h1, Int32.not_lt.mp h2⟩, fun _ => rfl⟩
theorem in_low {T : Nat} {l u : Int32} {m : Nat} (hm : m < 10000) (hT : T < 10000) (hl : l = Int32.ofNat m) (h : fX4_isIn (Int32.ofNat T) l u = true) : m ≤ T := by
  have := (in_iff.mp h).1
  rw [hl, nL (by omega) (by omega)] at this
  exact this
theorem o_draughts (h : IC M n x ρ ρi hi K Z ρm Zm γm cs) (t : IT M' x ρ ρi hi K μ γ sc) (V : OK_ ρ) (m z w : Int32) : ∃ r, Cq M n x ρ ρi hi K Z (fX1_draughts M x m z w) r ∧ Tq M' x ρ ρi hi K (fX4_draughts M' (x + 47) m z w) r := by
  obtain ⟨γ0, h1⟩ := h.2.1
  have none : ∀ v : Int64, ∃ r, Cq M n x ρ ρi hi K Z (some (v, M)) r ∧ Tq M' x ρ ρi hi K (some (v, M')) r := fun v => ⟨_, ⟨M, _, _, _, _, rfl, h, Fc.refl _ _⟩, ⟨M', _, _, _, rfl, t, Ft.refl _ _⟩⟩
  unfold fX1_draughts fX4_draughts
  rw [h.r0, ob_n, co_i9 h1, ob_n, lt_, lt_, lt_, lt_, t.r0, ob_n, ro_a0 t.2.1, ob_n, lt_, lt_, lt_]
  rw [show fX1_isIn m 0 (if ρ 0 < 5 then ρ 0 else 5) = fX4_isIn m 0 (if ρ 0 < 5 then ρ 0 else 5) from rfl, show fX1_isIn z 2 20 = fX4_isIn z 2 20 from rfl, show fX1_isIn w 0 1 = fX4_isIn w 0 1 from rfl]
  have A : fX4_isIn m 0 (if ρ 0 < 5 then ρ 0 else 5) = true ↔ fX4_isIn m 0 5 = true ∧ ¬ ρ 0 < m := by
    rw [in_iff, in_iff]
    by_cases g : ρ 0 < 5
    · rw [if_pos g]
      exact ⟨fun w => ⟨⟨w.1, Int32.le_of_lt (Int32.lt_of_le_of_lt w.2 g)⟩, Int32.not_lt.mpr w.2⟩, fun w => ⟨w.1.1, Int32.not_lt.mp w.2⟩⟩
    · rw [if_neg g]
      exact ⟨fun w => ⟨w, Int32.not_lt.mpr (Int32.le_trans w.2 (Int32.not_lt.mp g))⟩, fun w => w.1⟩
  by_cases a : fX4_isIn m 0 (if ρ 0 < 5 then ρ 0 else 5) = true
  · obtain ⟨a1, a2⟩ := A.mp a
    rw [a, a1, if_neg b2_t, if_neg b2_t, if_neg a2]
    cases e2 : fX4_isIn z 2 20 with
    | false => exact none _
    | true =>
      rw [if_neg b2_t, if_neg b2_t]
      cases e3 : fX4_isIn w 0 1 with
      | false => exact none _
      | true =>
        rw [if_neg b2_t, if_neg b2_t]
        obtain ⟨mn, hm, rfl⟩ := in_rg (m := 5) (by decide) a1
        obtain ⟨T, hT, rfl⟩ := in_rg (m := 20) (by decide) (in_lo (by decide) e2)
        have hT2 : 2 ≤ T := in_low (m := 2) (by decide) (by omega) rfl e2
        have hp : w = 0 ∨ w = 1 := by
          obtain ⟨i, hi, rfl⟩ := in_rg (m := 1) (by decide) e3
          have : i = 0 ∨ i = 1 := by omega
          rcases this with z | z <;> subst z
          · exact .inl rfl
          · exact .inr rfl
        obtain ⟨N, hN, eN, eN2⟩ := V.n
        have hmN : mn ≤ (ρ 0).toNatClampNeg := by
          rw [eN, nT (by omega) (by omega)] at a2
          omega
        obtain ⟨ub, u1, u2⟩ := up_rg (ρ := ρ) hT2 (show T ≤ 20 by omega) (show mn ≤ 5 by omega) (2 ^ mn) 0 0
        obtain ⟨db, d1, d0, d2⟩ := dn_rg hT2 (show T ≤ 20 by omega) mn 1 (by decide)
        have p5 := pw5 (show mn ≤ 5 by omega)
        have s5 := (sh5 (show mn ≤ 5 by omega)).2
        obtain ⟨r, r1, r2⟩ := part_eq (u := ub) (d := db) (by omega) (by omega) d0 hp
        rw [← u2, ← d2] at r1 r2
        refine ⟨r, ?_, ?_⟩
        · have k := du_1C M x (show mn ≤ 5 by omega) (Int32.ofNat T) w 0 mn 0 1000 1 (by omega) (by omega)
          rw [oN0] at k
          rw [k]
          exact du_C V hmN (by omega) (2 ^ mn) 0 1000 0 M _ _ _ _ (by omega) (by omega) h r1
        · have k := du_1T M' (x + 47) (show mn ≤ 5 by omega) (Int32.ofNat T) w 0 mn 0 1000 1 (by omega) (by omega)
          rw [oN0] at k
          rw [k]
          exact du_T V hmN (by omega) (2 ^ mn) 0 1000 0 M' _ _ _ (by omega) (by omega) t r2
  · have e0 : fX4_isIn m 0 (if ρ 0 < 5 then ρ 0 else 5) = false := by
      cases e : fX4_isIn m 0 (if ρ 0 < 5 then ρ 0 else 5) with
      | false => rfl
      | true => exact absurd e a
    rw [e0, if_pos b2_f]
    cases e1 : fX4_isIn m 0 5 with
    | false => exact none _
    | true =>
      have g : ρ 0 < m := by
        by_cases g : ρ 0 < m
        · exact g
        · exact absurd (A.mpr ⟨e1, g⟩) a
      rw [if_neg b2_t, if_pos g]
      exact none _
end Q19
