/-! the component's reading -/
set_option maxRecDepth 100000
abbrev rdE (q i : Nat) : Ent_ := eO_ 4 [.ref q, .int (Int32.ofNat i)]
abbrev tdE (c p : Int32) (a m : Nat) : Ent_ := eO_ 5 [.int c, .int p, .ref (a + 1), .int (Int32.ofNat m)]
/-- the memory with the reader at a place and a statement told so far -/
def tdw (M : Mem_) (r q i a : Nat) (c p : Int32) (m : Nat) (g : Rw_) : Mem_ := ms_ (ms_ (ms_ M r (rdE q i)) (a + 1) (eI_ 0 3 g)) a (tdE c p a m)
theorem ms_id {M : Mem_} {a : Nat} {e : Ent_} (h : M a = some e) : ms_ M a e = M := by
  funext q
  show (if q = a then some e else M q) = M q
  split
  · rename_i w
    rw [w, h]
  · rfl
theorem ms_sw {M : Mem_} {a b : Nat} {e f : Ent_} (h : a ≠ b) : ms_ (ms_ M a e) b f = ms_ (ms_ M b f) a e := by
  funext q
  show (if q = b then some f else if q = a then some e else M q) = if q = a then some e else if q = b then some f else M q
  by_cases h1 : q = b
  · rw [if_pos h1, if_neg (by omega), if_pos h1]
  · rw [if_neg h1, if_neg h1]
section TDW
variable {M : Mem_} {r q i a : Nat} {c p : Int32} {m : Nat} {g : Rw_}
theorem tdw_a : tdw M r q i a c p m g a = some (tdE c p a m) := ms_at _ _ _
theorem tdw_g : tdw M r q i a c p m g (a + 1) = some (eI_ 0 3 g) := (ms_ne (by omega)).trans (ms_at _ _ _)
theorem tdw_r (h : r < a) : tdw M r q i a c p m g r = some (rdE q i) := (ms_ne (by omega)).trans ((ms_ne (by omega)).trans (ms_at _ _ _))
theorem tdw_o {y : Nat} (h1 : y ≠ r) (h2 : y ≠ a) (h3 : y ≠ a + 1) : tdw M r q i a c p m g y = M y := (ms_ne h2).trans ((ms_ne h3).trans (ms_ne h1))
theorem tdw_i (h : r < a) (j : Nat) : ms_ (tdw M r q i a c p m g) r (rdE q j) = tdw M r q j a c p m g := by
  unfold tdw
  rw [ms_sw (show a ≠ r by omega), ms_sw (show a + 1 ≠ r by omega), ms_ms]
theorem tdw_gs (g' : Rw_) : ms_ (tdw M r q i a c p m g) (a + 1) (eI_ 0 3 g') = tdw M r q i a c p m g' := by
  unfold tdw
  rw [ms_sw (show a ≠ a + 1 by omega), ms_ms]
theorem tdw_m (m' : Nat) : ms_ (tdw M r q i a c p m g) a (tdE c p a m') = tdw M r q i a c p m' g := by
  unfold tdw
  rw [ms_ms]
end TDW
/-! signs, numbers -/
section CRD
variable {W : Mem_} {r q i sz n : Nat} {f s : Rw_}
theorem cr_sg (hr : W r = some (rdE q i)) (hq : W q = some (eI_ 1 sz f)) (hs : ∀ j, s j = if sz ≤ j then -1 else f j) (hz : sz ≤ 100) (hi : i < 1000) : fX5_sign W r = some (s i) := by
  unfold fX5_sign
  rw [gIof hr rfl, ob_n, gRof hr rfl, ob_n, lIof hq, ob_n, hs i]
  by_cases g : sz ≤ i
  · rw [if_pos ((nL (by omega) (by omega)).mpr g), if_pos g]
  · have a := aIof (i := Int32.ofNat i) hq (nB (by omega) (by omega))
    rw [nC (by omega)] at a
    rw [if_neg (fun w => g ((nL (by omega) (by omega)).mp w)), if_neg g, ob_n, ob_n, a, ob_n]
theorem cr_br (hr : W r = some (rdE q i)) (hn : r ≠ n) : fX5_broken W n r = some (n, ms_ W n (eX_ 6 (-1000 - Int32.ofNat i)), n + 1) := by
  have hr' : ms_ W n (eN_ 6) r = some (rdE q i) := (ms_ne hn).trans hr
  unfold fX5_broken
  rw [lt_, gIof hr' rfl, ob_n, fX7_init, xIof (ms_at _ _ _), ob_n, ms_ms]
theorem cr_L (hs : ∀ j, s j = if sz ≤ j then -1 else f j) (hz : sz ≤ 100) (hqr : q ≠ r) (hn : r ≠ n) {D : Nat} (hD : D ≤ 2) : ∀ (e i fuel : Nat) (v : Int32) (W : Mem_), e ≤ D → e < fuel → i ≤ sz → W r = some (rdE q i) → W q = some (eI_ 1 sz f) → fX5_number_L4 fuel W n r (Int32.ofNat D) v (Int32.ofNat (D - e)) = if (nmR s e i v).1 = true then some (.inr (nmR s e i v).2.2, ms_ W r (rdE q (nmR s e i v).2.1), n) else some (.inl n, ms_ (ms_ W r (rdE q (nmR s e i v).2.1)) n (eX_ 6 (-1000 - Int32.ofNat (nmR s e i v).2.1)), n + 1) := by
  intro e
  induction e with
  | zero =>
    intro i fuel v W he hf hi hr hq
    obtain ⟨g, rfl⟩ : ∃ g, fuel = g + 1 := ⟨fuel - 1, by omega⟩
    rw [fX5_number_L4, if_pos (by rw [nL (by omega) (by omega)]; omega)]
    show _ = if true = true then some (Sum.inr v, ms_ W r (rdE q i), n) else _
    rw [if_pos rfl, ms_id hr]
  | succ e ih =>
    intro i fuel v W he hf hi hr hq
    obtain ⟨g, rfl⟩ : ∃ g, fuel = g + 1 := ⟨fuel - 1, by omega⟩
    have sg := cr_sg hr hq hs hz (by omega)
    rw [fX5_number_L4, if_neg (by rw [nL (by omega) (by omega)]; omega), ckof hr, ob_n, sg, ob_n, lt_, show fX1_isIn (s i) 48 57 = fX4_isIn (s i) 48 57 from rfl]
    unfold nmR
    cases c : fX4_isIn (s i) 48 57 with
    | false =>
      rw [if_pos b2_f, if_neg (show ¬ false = true by decide), ob_n, cr_br hr hn, ba_n, gXof (ms_at _ _ _), ob_n]
      show _ = if false = true then _ else some (Sum.inl n, ms_ (ms_ W r (rdE q i)) n (eX_ 6 (-1000 - Int32.ofNat i)), n + 1)
      rw [if_neg (show ¬ false = true by decide), ms_id hr]
    | true =>
      have hlt : i < sz := by
        by_cases z : sz ≤ i
        · rw [hs i, if_pos z] at c
          exact absurd c (by decide)
        · omega
      have e1 : D - (e + 1) + 1 = D - e := by omega
      have k := ih (i + 1) g (10 * v + s i - 48) (ms_ W r (rdE q (i + 1))) (by omega) (by omega) (by omega) (ms_at _ _ _) ((ms_ne hqr).trans hq)
      rw [ms_ms] at k
      have pf : pF_ W r 4 1 (.int (Int32.ofNat (i + 1))) = some (ms_ W r (rdE q (i + 1))) := pFof hr (show 1 < 2 by decide)
      rw [if_neg b2_t, if_pos rfl, ob_n, ob_n, lt_, gIof hr rfl, ob_n, lt_, nS1, pf, ob_n, lt_, nS1, e1, k]
theorem cr_N (hs : ∀ j, s j = if sz ≤ j then -1 else f j) (hz : sz ≤ 100) (hqr : q ≠ r) (hn : r ≠ n) {D : Nat} (hD : D ≤ 2) (hi : i ≤ sz) (hr : W r = some (rdE q i)) (hq : W q = some (eI_ 1 sz f)) : fX5_number W n r (Int32.ofNat D) = if (nmR s D i 0).1 = true then some (.inr (nmR s D i 0).2.2, ms_ W r (rdE q (nmR s D i 0).2.1), n) else some (.inl n, ms_ (ms_ W r (rdE q (nmR s D i 0).2.1)) n (eX_ 6 (-1000 - Int32.ofNat (nmR s D i 0).2.1)), n + 1) := by
  have k := cr_L (f := f) hs hz hqr hn hD D i 1000 0 W (Nat.le_refl _) (by omega) hi hr hq
  rw [Nat.sub_self, oN0] at k
  exact k
end CRD
section CST
variable {M : Mem_} {r q sz n a : Nat} {c p : Int32} {f s : Rw_}
theorem td_tell {i m : Nat} {g : Rw_} (hm : m < 3) (v : Int32) : fX6_tells (tdw M r q i a c p m g) a v = some (tdw M r q i a c p (m + 1) (upd g m v)) := by
  have s1 := sIof (i := Int32.ofNat m) (v := v) (tdw_g (M := M) (r := r) (q := q) (i := i) (a := a) (c := c) (p := p) (m := m) (g := g)) (nB (by decide) hm)
  rw [nC (by omega), tdw_gs] at s1
  have p1 : pF_ (tdw M r q i a c p m (upd g m v)) a 5 3 (.int (Int32.ofNat (m + 1))) = some (ms_ (tdw M r q i a c p m (upd g m v)) a (tdE c p a (m + 1))) := pFof tdw_a (show 3 < 4 by decide)
  rw [tdw_m] at p1
  unfold fX6_tells
  rw [gRof tdw_a rfl, ob_n, gIof tdw_a rfl, ob_n, s1, ob_n, gIof tdw_a rfl, ob_n, lt_, nS1, p1, ob_n]
/-- how the numbers of a statement end -/
def Rd (o : Option ((Nat ⊕ Unit) × Mem_ × Nat)) (M : Mem_) (r q a : Nat) (c p : Int32) (m : Nat) (g : Rw_) (n : Nat) (z : Bool × Nat × List Int32) : Prop :=
  (z.1 = true ∧ ∃ m' g', o = some (.inr (), tdw M r q z.2.1 a c p m' g', n) ∧ (∀ l v, z.2.2[l]? = some v → g' (m + l) = v) ∧ ∀ l, l < m → g' l = g l) ∨ (z.1 = false ∧ ∃ m' g', o = some (.inl n, ms_ (tdw M r q z.2.1 a c p m' g') n (eX_ 6 (-1000 - Int32.ofNat z.2.1)), n + 1))
theorem cd_L (hs : ∀ j, s j = if sz ≤ j then -1 else f j) (hz : sz ≤ 100) (hqr : q ≠ r) (hra : r < a) (hqa : q < a) (hn : a + 1 < n) (hq : M q = some (eI_ 1 sz f)) {D : Nat} (hD : D ≤ 3) : ∀ (e i m fuel : Nat) (g : Rw_), e ≤ D → e < fuel → i ≤ sz → m + e ≤ 3 → Rd (fX5_digits_L2 fuel (tdw M r q i a c p m g) n r a (Int32.ofNat D) (Int32.ofNat (D - e))) M r q a c p m g n (nsR s (List.replicate e 1) i) := by
  have hs1 : ∀ j, sz ≤ j → s j = -1 := fun j h => by rw [hs j, if_pos h]
  intro e
  induction e with
  | zero =>
    intro i m fuel g he hf hi hm
    obtain ⟨h, rfl⟩ : ∃ h, fuel = h + 1 := ⟨fuel - 1, by omega⟩
    rw [fX5_digits_L2, if_pos (by rw [nL (by omega) (by omega)]; omega)]
    exact .inl ⟨rfl, m, g, rfl, fun l v w => absurd w (by simp [nsR]), fun _ _ => rfl⟩
  | succ e ih =>
    intro i m fuel g he hf hi hm
    obtain ⟨h, rfl⟩ : ∃ h, fuel = h + 1 := ⟨fuel - 1, by omega⟩
    have hq' : tdw M r q i a c p m g q = some (eI_ 1 sz f) := (tdw_o hqr (by omega) (by omega)).trans hq
    have N := cr_N (n := n) (D := 1) hs hz hqr (by omega) (by decide) hi (tdw_r hra) hq'
    have le := nm_le hs1 1 i 0 hi
    rw [tdw_i hra, oN1] at N
    have e1 : D - (e + 1) + 1 = D - e := by omega
    rw [fX5_digits_L2, if_neg (by rw [nL (by omega) (by omega)]; omega), ckof (tdw_r hra), ob_n, N, List.replicate_succ]
    unfold nsR
    cases b : (nmR s 1 i 0).1 with
    | false =>
      rw [if_neg (show ¬ false = true by decide), bx_l, if_neg (show ¬ false = true by decide)]
      exact .inr ⟨rfl, m, g, rfl⟩
    | true =>
      rw [if_pos rfl, bx_r, if_pos rfl, ckof tdw_a, ob_n, td_tell (by omega), ob_n, lt_, nS1, e1]
      rcases ih (nmR s 1 i 0).2.1 (m + 1) h (upd g m (nmR s 1 i 0).2.2) (by omega) (by omega) le.2 (by omega) with ⟨z1, m', g', z2, z3, z4⟩ | ⟨z1, m', g', z2⟩
      · refine .inl ⟨z1, m', g', z2, fun l v w => ?_, fun l hl => (z4 l (by omega)).trans (by rw [updA, if_neg (by omega)])⟩
        cases l with
        | zero =>
          have w : (nmR s 1 i 0).2.2 = v := by simpa using w
          rw [← w, Nat.add_zero, z4 m (by omega), updA, if_pos rfl]
        | succ l =>
          have := z3 l v (by simpa using w)
          rw [show m + (l + 1) = m + 1 + l by omega]
          exact this
      · exact .inr ⟨z1, m', g', z2⟩
theorem cd_D (hs : ∀ j, s j = if sz ≤ j then -1 else f j) (hz : sz ≤ 100) (hqr : q ≠ r) (hra : r < a) (hqa : q < a) (hn : a + 1 < n) (hq : M q = some (eI_ 1 sz f)) {D : Nat} (hD : D ≤ 3) {i : Nat} (hi : i ≤ sz) {g : Rw_} : Rd (fX5_digits (tdw M r q i a c p 0 g) n r a (Int32.ofNat D)) M r q a c p 0 g n (nsR s (List.replicate D 1) i) := by
  have k := cd_L (c := c) (p := p) hs hz hqr hra hqa hn hq hD D i 0 6 g (Nat.le_refl _) (by omega) hi (by omega)
  rw [Nat.sub_self, oN0] at k
  exact k
theorem Rd.bx {o : Option ((Nat ⊕ Unit) × Mem_ × Nat)} {m : Nat} {g : Rw_} {z : Bool × Nat × List Int32} (h : Rd o M r q a c p m g n z) : Rd (bx_ o (fun xe5 M6 n7 => some ((.inl xe5 : Nat ⊕ Unit), M6, n7)) (fun _ M9 n10 => some (.inr (), M9, n10))) M r q a c p m g n z := by
  rcases h with ⟨z1, m', g', z2, z3⟩ | ⟨z1, m', g', z2⟩
  · rw [z2, bx_r]
    exact .inl ⟨z1, m', g', rfl, z3⟩
  · rw [z2, bx_l]
    exact .inr ⟨z1, m', g', rfl⟩
theorem cr_rd (hs : ∀ j, s j = if sz ≤ j then -1 else f j) (hz : sz ≤ 100) (hqr : q ≠ r) (hra : r < a) (hqa : q < a) (hn : a + 1 < n) (hq : M q = some (eI_ 1 sz f)) {i : Nat} (hi : i ≤ sz) (hc : c = s i) {g : Rw_} : Rd (fX5_reads (tdw M r q (i + 1) a c p 0 g) n r a) M r q a c p 0 g n (match shp c with | none => (false, i, []) | some l => nsR s l (i + 1)) := by
  have one : ¬ s i = -1 → i + 1 ≤ sz := fun g => by
    by_cases w : sz ≤ i
    · rw [hs i, if_pos w] at g
      exact absurd rfl g
    · omega
  have ckr : ck_ (tdw M r q (i + 1) a c p 0 g) r 4 = some () := ckof (tdw_r hra)
  have hs1 : ∀ j, sz ≤ j → s j = -1 := fun j h => by rw [hs j, if_pos h]
  unfold fX5_reads
  rw [gIof tdw_a rfl, ob_n]
  unfold shp
  by_cases h : c = 98
  · rw [if_pos h, if_pos h, ckr, ob_n]
    exact (cd_D hs hz hqr hra hqa hn hq (D := 2) (by decide) (one (by rw [← hc, h]; decide))).bx
  rw [if_neg h, if_neg h]
  by_cases h : c = 100
  · rw [if_pos h, if_pos h, ckr, ob_n]
    exact (cd_D hs hz hqr hra hqa hn hq (D := 1) (by decide) (one (by rw [← hc, h]; decide))).bx
  rw [if_neg h, if_neg h]
  by_cases h : c = 102
  · rw [if_pos h, if_pos h, ckr, ob_n]
    exact (cd_D hs hz hqr hra hqa hn hq (D := 2) (by decide) (one (by rw [← hc, h]; decide))).bx
  rw [if_neg h, if_neg h]
  by_cases h : c = 104
  · rw [if_pos h, if_pos h, ckr, ob_n]
    exact (cd_D hs hz hqr hra hqa hn hq (D := 2) (by decide) (one (by rw [← hc, h]; decide))).bx
  rw [if_neg h, if_neg h]
  by_cases h : c = 108
  · rw [if_pos h, if_pos h, ckr, ob_n]
    exact (cd_D hs hz hqr hra hqa hn hq (D := 1) (by decide) (one (by rw [← hc, h]; decide))).bx
  rw [if_neg h, if_neg h]
  by_cases h : c = 112
  · rw [if_pos h, if_pos h, ckr, ob_n]
    exact (cd_D hs hz hqr hra hqa hn hq (D := 3) (by decide) (one (by rw [← hc, h]; decide))).bx
  rw [if_neg h, if_neg h]
  by_cases h : c = 116
  · have h1 := one (by rw [← hc, h]; decide)
    have hq1 : ∀ (j m : Nat) (g : Rw_), tdw M r q j a c p m g q = some (eI_ 1 sz f) := fun j m g => (tdw_o hqr (by omega) (by omega)).trans hq
    have N1 := cr_N (n := n) (D := 1) hs hz hqr (by omega) (by decide) h1 (tdw_r (M := M) (q := q) (c := c) (p := p) (m := 0) (g := g) hra) (hq1 _ _ _)
    have le1 := nm_le hs1 1 (i + 1) 0 h1
    rw [tdw_i hra, oN1] at N1
    rw [if_pos h, if_pos h, ckr, ob_n, N1]
    show Rd _ M r q a c p 0 g n (nsR s [1, 2] (i + 1))
    unfold nsR
    cases b : (nmR s 1 (i + 1) 0).1 with
    | false =>
      rw [if_neg (show ¬ false = true by decide), bx_l, if_neg (show ¬ false = true by decide)]
      exact .inr ⟨rfl, 0, g, rfl⟩
    | true =>
      rw [if_pos rfl, bx_r, if_pos rfl, ckof tdw_a, ob_n, td_tell (by decide), ob_n, ckof (tdw_r hra), ob_n]
      have N2 := cr_N (n := n) (D := 2) hs hz hqr (by omega) (by decide) le1.2 (tdw_r (M := M) (q := q) (i := (nmR s 1 (i + 1) 0).2.1) (c := c) (p := p) (m := 0 + 1) (g := upd g 0 (nmR s 1 (i + 1) 0).2.2) hra) (hq1 _ _ _)
      rw [tdw_i hra, oN2] at N2
      rw [N2]
      unfold nsR
      cases b2 : (nmR s 2 (nmR s 1 (i + 1) 0).2.1 0).1 with
      | false =>
        rw [if_neg (show ¬ false = true by decide), bx_l, if_neg (show ¬ false = true by decide)]
        exact .inr ⟨rfl, _, _, rfl⟩
      | true =>
        rw [if_pos rfl, bx_r, if_pos rfl, ckof tdw_a, ob_n, td_tell (by decide), ob_n]
        refine .inl ⟨rfl, _, _, rfl, fun l v w => ?_, fun l hl => absurd hl (by omega)⟩
        rw [Nat.zero_add]
        match l with
        | 0 =>
          have w : (nmR s 1 (i + 1) 0).2.2 = v := by simpa [nsR] using w
          rw [updA, if_neg (by decide), updA, if_pos rfl, w]
        | 1 =>
          have w : (nmR s 2 (nmR s 1 (i + 1) 0).2.1 0).2.2 = v := by simpa [nsR] using w
          rw [updA, if_pos rfl, w]
        | l + 2 => exact absurd w (by simp [nsR])
  rw [if_neg h, if_neg h]
  by_cases h : c = 120
  · rw [if_pos h, if_pos h, ckr, ob_n]
    exact (cd_D hs hz hqr hra hqa hn hq (D := 2) (by decide) (one (by rw [← hc, h]; decide))).bx
  rw [if_neg h, if_neg h]
  have e : Int32.ofNat (i + 1) - 1 = Int32.ofNat i := by rw [← nS1, Int32.add_sub_cancel]
  have pf : pF_ (tdw M r q (i + 1) a c p 0 g) r 4 1 (.int (Int32.ofNat i)) = some (ms_ (tdw M r q (i + 1) a c p 0 g) r (rdE q i)) := pFof (tdw_r hra) (show 1 < 2 by decide)
  rw [tdw_i hra] at pf
  rw [gIof (tdw_r hra) rfl, ob_n, lt_, e, pf, ob_n, ckof (tdw_r hra), ob_n, cr_br (tdw_r hra) (by omega), ba_n, gXof (ms_at _ _ _), ob_n]
  exact .inr ⟨rfl, 0, g, rfl⟩
/-- a statement told: where, and what -/
theorem cr_st (hs : ∀ j, s j = if sz ≤ j then -1 else f j) (hz : sz ≤ 100) (hqr : q ≠ r) (hrn : r < n) (hqn : q < n) (hq : M q = some (eI_ 1 sz f)) {i : Nat} (hi : i ≤ sz) (hr : M r = some (rdE q i)) : ((stR s i).1 = true ∧ ∃ m g, fX5_statement M n r = some (.inr n, tdw M r q (stR s i).2.1 n (s i) (Int32.ofNat i) m g, n + 2) ∧ ∀ l v, (stR s i).2.2[l]? = some v → g l = v) ∨ ((stR s i).1 = false ∧ ∃ m g, fX5_statement M n r = some (.inl (n + 2), ms_ (tdw M r q (stR s i).2.1 n (s i) (Int32.ofNat i) m g) (n + 2) (eX_ 6 (-1000 - Int32.ofNat (stR s i).2.1)), n + 3)) := by
  have hs1 : ∀ j, sz ≤ j → s j = -1 := fun j h => by rw [hs j, if_pos h]
  have m1r : ms_ M n (eO_ 5 [.int 0, .int 0, .null, .int 0]) r = some (rdE q i) := (ms_ne (by omega)).trans hr
  have m1q : ms_ M n (eO_ 5 [.int 0, .int 0, .null, .int 0]) q = some (eI_ 1 sz f) := (ms_ne (by omega)).trans hq
  have I : fX6_init (ms_ M n (eO_ 5 [.int 0, .int 0, .null, .int 0])) (n + 1) n (s i) (Int32.ofNat i) = some (tdw M r q i n (s i) (Int32.ofNat i) 0 (fun _ => 0), n + 2) := by
    have a0 : ms_ (ms_ M n (eO_ 5 [.int 0, .int 0, .null, .int 0])) (n + 1) (eI_ 0 3 (fun _ => 0)) n = some (eO_ 5 [.int 0, .int 0, .null, .int 0]) := (ms_ne (by omega)).trans (ms_at _ _ _)
    unfold fX6_init
    rw [lt_, pFof a0 (show 2 < 4 by decide), ob_n, pFof (ms_at _ _ _) (show 0 < 4 by decide), ob_n, ms_ms, pFof (ms_at _ _ _) (show 1 < 4 by decide), ob_n, ms_ms]
    unfold tdw
    rw [ms_id hr, ms_sw (show n ≠ n + 1 by omega), ms_ms]
    rfl
  have pf : pF_ (tdw M r q i n (s i) (Int32.ofNat i) 0 (fun _ => 0)) r 4 1 (.int (Int32.ofNat (i + 1))) = some (ms_ (tdw M r q i n (s i) (Int32.ofNat i) 0 (fun _ => 0)) r (rdE q (i + 1))) := pFof (tdw_r hrn) (show 1 < 2 by decide)
  rw [tdw_i hrn] at pf
  have R := cr_rd (n := n + 2) (a := n) (p := Int32.ofNat i) (g := fun _ => 0) hs hz hqr hrn hqn (by omega) hq hi (c := s i) rfl
  unfold fX5_statement
  rw [lt_, ckof m1r, ob_n, cr_sg m1r m1q hs hz (by omega), ob_n, gIof m1r rfl, ob_n, I, bw_n, gIof (tdw_r hrn) rfl, ob_n, lt_, nS1, pf, ob_n, ckof (tdw_r hrn), ob_n]
  revert R
  cases e : shp (s i) with
  | none =>
    intro R
    have eS : stR s i = (false, i, []) := by
      unfold stR
      rw [e]
    rw [eS]
    rcases R with ⟨z1, _⟩ | ⟨z1, m, g, z2⟩
    · exact absurd z1 nft
    · rw [z2, bx_l]
      exact .inr ⟨rfl, m, g, rfl⟩
  | some l =>
    intro R
    have hlt : i < sz := by
      by_cases w : sz ≤ i
      · exact absurd (hs1 i w) (sh_lt e).2
      · omega
    have le := ns_le hs1 l (i + 1) (by omega)
    have R : Rd _ M r q n (s i) (Int32.ofNat i) 0 (fun _ => 0) (n + 2) (nsR s l (i + 1)) := R
    have eS : stR s i = seR s (nsR s l (i + 1)) := by
      unfold stR
      rw [e]
    rw [eS]
    unfold seR
    rcases R with ⟨z1, m, g, z2, z3, z4⟩ | ⟨z1, m, g, z2⟩
    · rw [z2, bx_r, ckof (tdw_r hrn), ob_n, cr_sg (tdw_r hrn) ((tdw_o hqr (by omega) (by omega)).trans hq) hs hz (by omega), ob_n, if_pos z1]
      by_cases w : s (nsR s l (i + 1)).2.1 = 59
      · have pf2 : pF_ (tdw M r q (nsR s l (i + 1)).2.1 n (s i) (Int32.ofNat i) m g) r 4 1 (.int (Int32.ofNat ((nsR s l (i + 1)).2.1 + 1))) = some (ms_ (tdw M r q (nsR s l (i + 1)).2.1 n (s i) (Int32.ofNat i) m g) r (rdE q ((nsR s l (i + 1)).2.1 + 1))) := pFof (tdw_r hrn) (show 1 < 2 by decide)
        rw [tdw_i hrn] at pf2
        rw [if_pos w, if_pos w, gIof (tdw_r hrn) rfl, ob_n, lt_, nS1, pf2, ob_n]
        refine .inl ⟨rfl, m, g, rfl, fun l' v hv => ?_⟩
        have := z3 l' v hv
        rw [Nat.zero_add] at this
        exact this
      · rw [if_neg w, if_neg w, ob_n, cr_br (tdw_r hrn) (by omega), ba_n, gXof (ms_at _ _ _), ob_n]
        exact .inr ⟨rfl, m, g, rfl⟩
    · rw [z2, bx_l, if_neg (by rw [z1]; decide)]
      exact .inr ⟨rfl, m, g, rfl⟩
end CST
