/-! a statement, as the twin reads it; the first pass of the twin -/
set_option maxRecDepth 100000
section TST
variable {x : Nat} {ρ ρi : Rw_} {hi : Int32} {K : Nat → Rw_} {d sz : Nat} {ω : Rw_}
theorem ts1 (x0 : Nat) (M : Mem_) : tsQ x0 (nb_ 0 [1]) M = (ck_ M x0 3).bind fun _ => bw_ (fX4_readsNumber M x0 0 1) fun r8 M9 => if (b2_ r8) = 0 then some (false, M9) else (ck_ M9 x0 3).bind fun _ => (fX4_here M9 x0).bind fun r17 => if r17 = 59 then (gI_ M9 x0 3 6).bind fun v18 => lt_ (v18 + 1) fun v19 => (pF_ M9 x0 3 6 (.int v19)).bind fun M20 => some (true, M20) else some (false, M9) := rfl
theorem ts2 (x0 : Nat) (M : Mem_) : tsQ x0 (nb_ 0 [1, 1]) M = (ck_ M x0 3).bind fun _ => bw_ (fX4_readsNumber M x0 0 1) fun r8 M9 => if (b2_ r8) = 0 then some (false, M9) else (ck_ M9 x0 3).bind fun _ => bw_ (fX4_readsNumber M9 x0 1 1) fun r12 M13 => if (b2_ r12) = 0 then some (false, M13) else (ck_ M13 x0 3).bind fun _ => (fX4_here M13 x0).bind fun r17 => if r17 = 59 then (gI_ M13 x0 3 6).bind fun v18 => lt_ (v18 + 1) fun v19 => (pF_ M13 x0 3 6 (.int v19)).bind fun M20 => some (true, M20) else some (false, M13) := rfl
theorem ts22 (x0 : Nat) (M : Mem_) : tsQ x0 (nb_ 0 [1, 2]) M = (ck_ M x0 3).bind fun _ => bw_ (fX4_readsNumber M x0 0 1) fun r8 M9 => if (b2_ r8) = 0 then some (false, M9) else (ck_ M9 x0 3).bind fun _ => bw_ (fX4_readsNumber M9 x0 1 2) fun r12 M13 => if (b2_ r12) = 0 then some (false, M13) else (ck_ M13 x0 3).bind fun _ => (fX4_here M13 x0).bind fun r17 => if r17 = 59 then (gI_ M13 x0 3 6).bind fun v18 => lt_ (v18 + 1) fun v19 => (pF_ M13 x0 3 6 (.int v19)).bind fun M20 => some (true, M20) else some (false, M13) := rfl
theorem ts3 (x0 : Nat) (M : Mem_) : tsQ x0 (nb_ 0 [1, 1, 1]) M = (ck_ M x0 3).bind fun _ => bw_ (fX4_readsNumber M x0 0 1) fun r8 M9 => if (b2_ r8) = 0 then some (false, M9) else (ck_ M9 x0 3).bind fun _ => bw_ (fX4_readsNumber M9 x0 1 1) fun r12 M13 => if (b2_ r12) = 0 then some (false, M13) else (ck_ M13 x0 3).bind fun _ => bw_ (fX4_readsNumber M13 x0 2 1) fun r92 M93 => if (b2_ r92) = 0 then some (false, M93) else (ck_ M93 x0 3).bind fun _ => (fX4_here M93 x0).bind fun r17 => if r17 = 59 then (gI_ M93 x0 3 6).bind fun v18 => lt_ (v18 + 1) fun v19 => (pF_ M93 x0 3 6 (.int v19)).bind fun M20 => some (true, M20) else some (false, M93) := rfl
theorem rs_T (hd : d < 8) (hz : sz ≤ 100) (by_ : ∀ i, i < sz → fits .byte (.int (K 5 (100 * d + i))) = true) {i : Nat} {M : Mem_} {ν : Rw_} (hi' : i ≤ sz) (h : TP M x ρ ρi hi K d sz ω ν i) : ∃ M1 ν1, fX4_readsStatement M (x + 47) = some ((stR (sgR sz fun j => K 5 (100 * d + j)) i).1, M1) ∧ TP M1 x ρ ρi hi K d sz ω ν1 (stR (sgR sz fun j => K 5 (100 * d + j)) i).2.1 ∧ ((stR (sgR sz fun j => K 5 (100 * d + j)) i).1 = true → ∀ j v, (stR (sgR sz fun j => K 5 (100 * d + j)) i).2.2[j]? = some v → ν1 j = v) ∧ Ft M M1 x := by
  have S := sg_hr (sz := sz) (f := fun j => K 5 (100 * d + j)) by_ i
  obtain ⟨M1, a1, b1, c1⟩ := h.place (i + 1)
  have one : ¬ sgR sz (fun j => K 5 (100 * d + j)) i = -1 → i + 1 ≤ sz := fun g => by
    by_cases c : sz ≤ i
    · exact absurd (if_pos c) g
    · omega
  have T : ∀ l : List Nat, l.length ≤ 3 → (∀ D ∈ l, D ≤ 2) → ¬ sgR sz (fun j => K 5 (100 * d + j)) i = -1 → ∃ M2 ν1, tsQ (x + 47) (nb_ 0 l) M1 = some ((seR (sgR sz fun j => K 5 (100 * d + j)) (nsR (sgR sz fun j => K 5 (100 * d + j)) l (i + 1))).1, M2) ∧ TP M2 x ρ ρi hi K d sz ω ν1 (seR (sgR sz fun j => K 5 (100 * d + j)) (nsR (sgR sz fun j => K 5 (100 * d + j)) l (i + 1))).2.1 ∧ ((seR (sgR sz fun j => K 5 (100 * d + j)) (nsR (sgR sz fun j => K 5 (100 * d + j)) l (i + 1))).1 = true → ∀ j v, (seR (sgR sz fun j => K 5 (100 * d + j)) (nsR (sgR sz fun j => K 5 (100 * d + j)) l (i + 1))).2.2[j]? = some v → ν1 j = v) ∧ Ft M M2 x := by
    intro l h1 h2 h3
    obtain ⟨M2, ν2, a2, b2, c2, d2, f2⟩ := ts_ok hd hz by_ l 0 (i + 1) M1 ν (by omega) h2 (one h3) b1
    exact ⟨M2, ν2, a2, b2, fun w j v hj => by have := c2 w j v hj; rw [Nat.zero_add] at this; exact this, c1.trans f2⟩
  unfold fX4_readsStatement
  rw [h.ck, ob_n, h.here hd hz (by omega), ob_n, h.i6, ob_n, lt_, nS1, a1, ob_n]
  unfold stR shp
  generalize hs : sgR sz (fun j => K 5 (100 * d + j)) = s at T S
  have s98 := S.1 98 (by decide)
  have s100 := S.1 100 (by decide)
  have s102 := S.1 102 (by decide)
  have s104 := S.1 104 (by decide)
  have s108 := S.1 108 (by decide)
  have s112 := S.1 112 (by decide)
  have s116 := S.1 116 (by decide)
  have s120 := S.1 120 (by decide)
  by_cases g : s i = 98
  · rw [if_pos (s98.mpr g), if_pos g, ← ts2]
    exact T [1, 1] (by decide) (by decide) (by rw [g]; decide)
  rw [if_neg (fun w => g (s98.mp w)), if_neg g]
  by_cases g : s i = 100
  · rw [if_pos (s100.mpr g), if_pos g, ← ts1]
    exact T [1] (by decide) (by decide) (by rw [g]; decide)
  rw [if_neg (fun w => g (s100.mp w)), if_neg g]
  by_cases g : s i = 102
  · rw [if_pos (s102.mpr g), if_pos g, ← ts2]
    exact T [1, 1] (by decide) (by decide) (by rw [g]; decide)
  rw [if_neg (fun w => g (s102.mp w)), if_neg g]
  by_cases g : s i = 104
  · rw [if_pos (s104.mpr g), if_pos g, ← ts2]
    exact T [1, 1] (by decide) (by decide) (by rw [g]; decide)
  rw [if_neg (fun w => g (s104.mp w)), if_neg g]
  by_cases g : s i = 108
  · rw [if_pos (s108.mpr g), if_pos g, ← ts1]
    exact T [1] (by decide) (by decide) (by rw [g]; decide)
  rw [if_neg (fun w => g (s108.mp w)), if_neg g]
  by_cases g : s i = 112
  · rw [if_pos (s112.mpr g), if_pos g, ← ts3]
    exact T [1, 1, 1] (by decide) (by decide) (by rw [g]; decide)
  rw [if_neg (fun w => g (s112.mp w)), if_neg g]
  by_cases g : s i = 116
  · rw [if_pos (s116.mpr g), if_pos g, ← ts22]
    exact T [1, 2] (by decide) (by decide) (by rw [g]; decide)
  rw [if_neg (fun w => g (s116.mp w)), if_neg g]
  by_cases g : s i = 120
  · rw [if_pos (s120.mpr g), if_pos g, ← ts2]
    exact T [1, 1] (by decide) (by decide) (by rw [g]; decide)
  rw [if_neg (fun w => g (s120.mp w)), if_neg g]
  obtain ⟨M2, a2, b2, c2⟩ := b1.place i
  have e : Int32.ofNat (i + 1) - 1 = Int32.ofNat i := by rw [← nS1, Int32.add_sub_cancel]
  rw [b1.i6, ob_n, lt_, e, a2, ob_n]
  exact ⟨M2, ν, rfl, b2, fun w => absurd w nft, c1.trans c2⟩
/-- how the reading of the whole ends: so many statements, or where it breaks -/
def paR (s : Rw_) (sz : Nat) : Nat → Nat → Nat → Bool × Nat
  | 0, i, _ => (false, i)
  | e + 1, i, k => if (stR s i).1 = true then (if (stR s i).2.1 < sz then paR s sz e (stR s i).2.1 (k + 1) else (true, k + 1)) else (false, (stR s i).2.1)
theorem cop_was {M : Mem_} {x : Nat} {ρ ρi : Rw_} {hi : Int32} {K : Nat → Rw_} {μ γ sc : Rw_} (t : IT M x ρ ρi hi K μ γ sc) (hN : Nm ρ) : ∃ M1, fX4_copies M (x + 48) (x + 51) = some M1 ∧ IT M1 x ρ ρi hi K μ γ sc ∧ Ft M M1 x ∧ M1 (x + 51) = some (eI_ 0 42 ρ) ∧ M1 (x + 53) = M (x + 53) := by
  obtain ⟨h0, h1, h2, h3, ⟨ι, h4, h5, h6⟩, ⟨ω, h7, h8⟩, h9, ⟨ν, h10⟩, k0, k1, k2, k3, k4, k5⟩ := t
  have c := cop_ok h1 h7 (by omega) hN h8
  have o : ∀ q, q ≠ x + 51 → ms_ M (x + 51) (eI_ 0 42 ρ) q = M q := fun q hq => ms_ne hq
  exact ⟨_, c, ⟨(o _ (by omega)).trans h0, (o _ (by omega)).trans h1, (o _ (by omega)).trans h2, h3, ⟨ι, (o _ (by omega)).trans h4, h5, h6⟩, ⟨ρ, ms_at _ _ _, hN⟩, (o _ (by omega)).trans h9, ⟨ν, (o _ (by omega)).trans h10⟩, (o _ (by omega)).trans k0, (o _ (by omega)).trans k1, (o _ (by omega)).trans k2, (o _ (by omega)).trans k3, (o _ (by omega)).trans k4, (o _ (by omega)).trans k5⟩, fun q hq => o q (by omega), ms_at _ _ _, o _ (by omega)⟩
theorem TP.save {M : Mem_} {ν : Rw_} {i : Nat} (hN : Nm ρ) (h : TP M x ρ ρi hi K d sz ω ν i) : ∃ M1 M2, gR_ M (x + 47) 3 0 = some (x + 48) ∧ gR_ M (x + 47) 3 3 = some (x + 51) ∧ fX4_copies M (x + 48) (x + 51) = some M1 ∧ pF_ M1 (x + 47) 3 6 (.int 0) = some M2 ∧ TP M2 x ρ ρi hi K d sz ρ ν 0 ∧ Ft M M2 x := by
  obtain ⟨μ, γ, sc, t, e6, e7, e8, e9, e10⟩ := h
  obtain ⟨M1, a1, b1, c1, d1, g1⟩ := cop_was t hN
  have P : TP M1 x ρ ρi hi K d sz ρ ν i := ⟨μ, γ, sc, b1, e6, e7, e8, d1, g1.trans e10⟩
  obtain ⟨M2, a2, b2, c2⟩ := P.place 0
  exact ⟨M1, M2, t.r0, t.r3, a1, a2, b2, c1.trans c2⟩
theorem ct_1T (hd : d < 8) (hz : sz ≤ 100) (by_ : ∀ i, i < sz → fits .byte (.int (K 5 (100 * d + i))) = true) (hN : Nm ρ) (y2 : Int32) : ∀ (e i k fuel : Nat) (M : Mem_) (ω ν : Rw_), sz < i + e → i ≤ sz → e ≤ fuel → k ≤ i → TP M x ρ ρi hi K d sz ω ν i → ∃ M1 ν1 m, fX4_court_L41 fuel M (x + 47) (Int32.ofNat d) y2 (Int32.ofNat k) 0 = fX4_court_L93 1000 M1 (x + 47) (Int32.ofNat d) y2 (Int32.ofNat m) (if (paR (sgR sz fun j => K 5 (100 * d + j)) sz e i k).1 = true then 0 else -1000 - Int32.ofNat (paR (sgR sz fun j => K 5 (100 * d + j)) sz e i k).2) ∧ ((paR (sgR sz fun j => K 5 (100 * d + j)) sz e i k).1 = true → m = (paR (sgR sz fun j => K 5 (100 * d + j)) sz e i k).2) ∧ (paR (sgR sz fun j => K 5 (100 * d + j)) sz e i k).2 ≤ sz + 1 ∧ TP M1 x ρ ρi hi K d sz ρ ν1 0 ∧ Ft M M1 x := by
  have hs : ∀ i, sz ≤ i → sgR sz (fun j => K 5 (100 * d + j)) i = -1 := fun i h => if_pos h
  intro e
  induction e with
  | zero => intro i k fuel M ω ν h1 h2; omega
  | succ e ih =>
    intro i k fuel M ω ν h1 h2 h3 h4 h
    obtain ⟨f, rfl⟩ : ∃ f, fuel = f + 1 := ⟨fuel - 1, by omega⟩
    obtain ⟨M1, ν1, a1, b1, c1, f1⟩ := rs_T hd hz by_ h2 h
    obtain ⟨L1, L2⟩ := st_le hs h2
    obtain ⟨M2, M3, s0, s3, s4, s5, s6, s7⟩ := b1.save hN
    rw [fX4_court_L41, h.ck, ob_n, a1, bw_n]
    unfold paR
    cases g : (stR (sgR sz fun j => K 5 (100 * d + j)) i).1 with
    | false =>
      have n0 : ¬ (-1000 : Int32) - Int32.ofNat (stR (sgR sz fun j => K 5 (100 * d + j)) i).2.1 = 0 := by
        generalize (stR (sgR sz fun j => K 5 (100 * d + j)) i).2.1 = p at L1
        have K : ∀ p : Fin 101, ¬ (-1000 : Int32) - Int32.ofNat p.val = 0 := by decide +kernel
        exact K ⟨p, by omega⟩
      rw [if_pos b2_f, b1.i6, ob_n, lt_, lt_, nS1, if_neg n0, s0, ob_n, s3, ob_n, s4, ob_n, s5, ob_n, if_neg (show ¬ false = true by decide)]
      exact ⟨M3, ν1, k + 1, rfl, fun w => absurd w nft, by show (stR (sgR sz fun j => K 5 (100 * d + j)) i).2.1 ≤ sz + 1; omega, s6, f1.trans s7⟩
    | true =>
      have L3 := L2 g
      rw [if_neg b2_t, lt_, nS1, if_pos rfl, b1.i6, ob_n, b1.i8, ob_n, if_pos rfl]
      by_cases z : (stR (sgR sz fun j => K 5 (100 * d + j)) i).2.1 < sz
      · obtain ⟨M4, ν4, m, a4, b4, c4, d4, f4⟩ := ih (stR (sgR sz fun j => K 5 (100 * d + j)) i).2.1 (k + 1) f M1 ω ν1 (by omega) L1 (by omega) (by omega) b1
        rw [if_pos ((nT (by omega) (by omega)).mpr z), if_pos z, a4]
        exact ⟨M4, ν4, m, rfl, b4, c4, d4, f1.trans f4⟩
      · rw [if_neg (fun w => z ((nT (by omega) (by omega)).mp w)), if_neg z, s0, ob_n, s3, ob_n, s4, ob_n, s5, ob_n]
        exact ⟨M3, ν1, k + 1, rfl, fun _ => rfl, by show k + 1 ≤ sz + 1; omega, s6, f1.trans s7⟩
end TST
