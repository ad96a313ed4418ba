/-! the text of a court: what both read -/
set_option maxRecDepth 100000
theorem nft : ¬ (false = true) := by decide
def sgR (sz : Nat) (f : Rw_) (i : Nat) : Int32 := if sz ≤ i then -1 else f i
def hrR (sz : Nat) (f : Rw_) (i : Nat) : Int32 := if sz ≤ i then -1 else f i &&& 255
def lets : List Int32 := [98, 100, 102, 104, 108, 112, 116, 120, 59]
def chB (v : Int32) : Bool := (lets.all fun c => (v &&& 255 == c) == (v == c)) && (fX4_isIn (v &&& 255) 48 57 == fX4_isIn v 48 57) && (!(fX4_isIn v 48 57) || v &&& 255 == v)
theorem byv {v : Int32} (h : fits .byte (.int v) = true) : ∃ i, i < 256 ∧ v = Int32.ofNat i - 128 := by
  have h : (decide (-128 ≤ v) && decide (v ≤ 127)) = true := h
  rw [Bool.and_eq_true, decide_eq_true_iff, decide_eq_true_iff, Int32.le_iff_toInt_le, Int32.le_iff_toInt_le] at h
  have a : (-128 : Int32).toInt = -128 := rfl
  have b : (127 : Int32).toInt = 127 := rfl
  rw [a, b] at h
  refine ⟨(v.toInt + 128).toNat, by omega, ?_⟩
  apply Int32.toInt_inj.mp
  rw [Int32.toInt_sub, nJ (by omega), show (128 : Int32).toInt = 128 from rfl, Int.bmod_eq_of_le (by omega) (by omega)]
  omega
theorem ch_all {v : Int32} (h : fits .byte (.int v) = true) : chB v = true := by
  obtain ⟨i, hi, rfl⟩ := byv h
  have K : ∀ i : Fin 256, chB (Int32.ofNat i.val - 128) = true := by decide +kernel
  exact K ⟨i, hi⟩
/-- what the two signs have in common -/
def Sg (s h : Int32) : Prop := (∀ c ∈ lets, (h = c ↔ s = c)) ∧ fX4_isIn h 48 57 = fX4_isIn s 48 57 ∧ (fX4_isIn s 48 57 = true → h = s)
theorem Sg.rf (s : Int32) : Sg s s := ⟨fun _ _ => Iff.rfl, rfl, fun _ => rfl⟩
theorem Sg.of {v : Int32} (h : fits .byte (.int v) = true) : Sg v (v &&& 255) := by
  have k := ch_all h
  unfold chB at k
  rw [Bool.and_eq_true, Bool.and_eq_true] at k
  obtain ⟨⟨k1, k2⟩, k3⟩ := k
  refine ⟨fun c hc => ?_, eq_of_beq k2, fun g => ?_⟩
  · have := eq_of_beq (List.all_eq_true.mp k1 c hc)
    constructor
    · intro e
      rw [e, beq_self_eq_true] at this
      exact eq_of_beq this.symm
    · intro e
      rw [e, beq_self_eq_true] at this
      rw [e]
      exact eq_of_beq this
  · rw [g] at k3
    exact eq_of_beq k3
theorem sg_hr {sz : Nat} {f : Rw_} (h : ∀ i, i < sz → fits .byte (.int (f i)) = true) (i : Nat) : Sg (sgR sz f i) (hrR sz f i) := by
  unfold sgR hrR
  by_cases g : sz ≤ i
  · rw [if_pos g, if_pos g]
    exact Sg.rf _
  · rw [if_neg g, if_neg g]
    exact Sg.of (h i (by omega))
/-! the reader, over a row of signs -/
def nmR (s : Rw_) : Nat → Nat → Int32 → Bool × Nat × Int32
  | 0, i, v => (true, i, v)
  | d + 1, i, v => if fX4_isIn (s i) 48 57 = true then nmR s d (i + 1) (10 * v + s i - 48) else (false, i, v)
def nsR (s : Rw_) : List Nat → Nat → Bool × Nat × List Int32
  | [], i => (true, i, [])
  | D :: l, i => if (nmR s D i 0).1 = true then ((nsR s l (nmR s D i 0).2.1).1, (nsR s l (nmR s D i 0).2.1).2.1, (nmR s D i 0).2.2 :: (nsR s l (nmR s D i 0).2.1).2.2) else (false, (nmR s D i 0).2.1, [])
def shp (c : Int32) : Option (List Nat) := if c = 98 then some [1, 1] else if c = 100 then some [1] else if c = 102 then some [1, 1] else if c = 104 then some [1, 1] else if c = 108 then some [1] else if c = 112 then some [1, 1, 1] else if c = 116 then some [1, 2] else if c = 120 then some [1, 1] else none
def seR (s : Rw_) (q : Bool × Nat × List Int32) : Bool × Nat × List Int32 := if q.1 = true then (if s q.2.1 = 59 then (true, q.2.1 + 1, q.2.2) else (false, q.2.1, [])) else (false, q.2.1, [])
def stR (s : Rw_) (i : Nat) : Bool × Nat × List Int32 := match shp (s i) with
  | none => (false, i, [])
  | some l => seR s (nsR s l (i + 1))
theorem nm_le {sz : Nat} {s : Rw_} (hs : ∀ i, sz ≤ i → s i = -1) : ∀ (d i : Nat) (v : Int32), i ≤ sz → i ≤ (nmR s d i v).2.1 ∧ (nmR s d i v).2.1 ≤ sz := by
  intro d
  induction d with
  | zero => intro i v h; exact ⟨Nat.le_refl _, h⟩
  | succ d ih =>
    intro i v h
    unfold nmR
    split
    · rename_i g
      have hi : i < sz := by
        by_cases c : sz ≤ i
        · rw [hs i c] at g
          exact absurd g (by decide)
        · omega
      have := ih (i + 1) (10 * v + s i - 48) (by omega)
      omega
    · exact ⟨Nat.le_refl _, h⟩
theorem ns_le {sz : Nat} {s : Rw_} (hs : ∀ i, sz ≤ i → s i = -1) : ∀ (l : List Nat) (i : Nat), i ≤ sz → i ≤ (nsR s l i).2.1 ∧ (nsR s l i).2.1 ≤ sz := by
  intro l
  induction l with
  | nil => intro i h; exact ⟨Nat.le_refl _, h⟩
  | cons D l ih =>
    intro i h
    have a := nm_le hs D i 0 h
    unfold nsR
    split
    · have := ih _ a.2
      show i ≤ (nsR s l (nmR s D i 0).2.1).2.1 ∧ (nsR s l (nmR s D i 0).2.1).2.1 ≤ sz
      omega
    · exact a
theorem ns_len (s : Rw_) : ∀ (l : List Nat) (i : Nat), (nsR s l i).1 = true → (nsR s l i).2.2.length = l.length := by
  intro l
  induction l with
  | nil => intro i _; rfl
  | cons D l ih =>
    intro i h
    unfold nsR at h ⊢
    split at h
    · rename_i g
      rw [if_pos g]
      show (_ :: _).length = _
      rw [List.length_cons, ih _ h, List.length_cons]
    · exact absurd h nft
theorem sh_lt {c : Int32} {l : List Nat} (h : shp c = some l) : l.length ≤ 3 ∧ ¬ c = -1 := by
  constructor
  · unfold shp at h
    repeat' split at h
    all_goals first | (injection h with h; subst h; decide) | cases h
  · intro e
    rw [e, show shp (-1) = none by decide] at h
    cases h
theorem st_le {sz : Nat} {s : Rw_} (hs : ∀ i, sz ≤ i → s i = -1) {i : Nat} (h : i ≤ sz) : (stR s i).2.1 ≤ sz ∧ ((stR s i).1 = true → i + 1 < (stR s i).2.1) := by
  unfold stR
  split
  · exact ⟨h, fun w => absurd w nft⟩
  · rename_i l e
    have hi : i < sz := by
      by_cases c : sz ≤ i
      · exact absurd (hs i c) (sh_lt e).2
      · omega
    have a := ns_le hs l (i + 1) (by omega)
    unfold seR
    split
    · split
      · rename_i g
        have hj : (nsR s l (i + 1)).2.1 < sz := by
          by_cases c : sz ≤ (nsR s l (i + 1)).2.1
          · rw [hs _ c] at g
            exact absurd g (by decide)
          · omega
        show (nsR s l (i + 1)).2.1 + 1 ≤ sz ∧ (_ → i + 1 < (nsR s l (i + 1)).2.1 + 1)
        omega
      · exact ⟨a.2, fun w => absurd w nft⟩
    · exact ⟨a.2, fun w => absurd w nft⟩
/-! the twin's reading -/
theorem IT.scalX {M : Mem_} {x : Nat} {ρ ρi : Rw_} {hi : Int32} {K : Nat → Rw_} {μ γ sc : Rw_} (t : IT M x ρ ρi hi K μ γ sc) {k : Nat} {v : Int32} (hk : k = 6 ∨ k = 7 ∨ k = 8 ∨ k = 10 ∨ k = 11 ∨ k = 12 ∨ k = 19) : pF_ M (x + 47) 3 k (.int v) = some (ms_ M (x + 47) (tO_ x hi (upd sc k v))) ∧ IT (ms_ M (x + 47) (tO_ x hi (upd sc k v))) x ρ ρi hi K μ γ (upd sc k v) ∧ Ft M (ms_ M (x + 47) (tO_ x hi (upd sc k v))) x := by
  have e : pF_ M (x + 47) 3 k (.int v) = some (ms_ M (x + 47) (tO_ x hi (upd sc k v))) := by
    rcases hk with z | z | z | z | z | z | z <;> subst z <;> exact pFof t.1 (Nat.le_of_ble_eq_true rfl)
  obtain ⟨M1, e1, t1, f1⟩ := t.scal (v := v) hk
  have := Option.some.inj (e.symm.trans e1)
  subst this
  exact ⟨e, t1, f1⟩
theorem IT.nums {M : Mem_} {x : Nat} {ρ ρi : Rw_} {hi : Int32} {K : Nat → Rw_} {μ γ sc : Rw_} (t : IT M x ρ ρi hi K μ γ sc) {ν : Rw_} : IT (ms_ M (x + 53) (eI_ 0 3 ν)) x ρ ρi hi K μ γ sc ∧ Ft M (ms_ M (x + 53) (eI_ 0 3 ν)) x := by
  obtain ⟨h0, h1, h2, h3, ⟨ι, h4, h5, h6⟩, ⟨ω, h7, h8⟩, h9, ⟨ν', h10⟩, k0, k1, k2, k3, k4, k5⟩ := t
  have o : ∀ q, q ≠ x + 53 → ms_ M (x + 53) (eI_ 0 3 ν) q = M q := fun q hq => ms_ne hq
  exact ⟨⟨(o _ (by omega)).trans h0, (o _ (by omega)).trans h1, (o _ (by omega)).trans h2, h3, ⟨ι, (o _ (by omega)).trans h4, h5, h6⟩, ⟨ω, (o _ (by omega)).trans h7, h8⟩, (o _ (by omega)).trans h9, ⟨ν, ms_at _ _ _⟩, (o _ (by omega)).trans k0, (o _ (by omega)).trans k1, (o _ (by omega)).trans k2, (o _ (by omega)).trans k3, (o _ (by omega)).trans k4, (o _ (by omega)).trans k5⟩, fun q hq => o q (by omega)⟩
/-- the twin at a place of the text of shelf d: its numbers ν, the court as it was ω -/
def TP (M : Mem_) (x : Nat) (ρ ρi : Rw_) (hi : Int32) (K : Nat → Rw_) (d sz : Nat) (ω ν : Rw_) (i : Nat) : Prop := ∃ μ γ sc, IT M x ρ ρi hi K μ γ sc ∧ sc 6 = Int32.ofNat i ∧ sc 7 = Int32.ofNat (100 * d) ∧ sc 8 = Int32.ofNat sz ∧ M (x + 51) = some (eI_ 0 42 ω) ∧ M (x + 53) = some (eI_ 0 3 ν)
section TPL
variable {M : Mem_} {x : Nat} {ρ ρi : Rw_} {hi : Int32} {K : Nat → Rw_} {d sz : Nat} {ω ν : Rw_} {i : Nat}
theorem TP.ck (h : TP M x ρ ρi hi K d sz ω ν i) : ck_ M (x + 47) 3 = some () := by
  obtain ⟨μ, γ, sc, t, _⟩ := h
  exact t.ck
theorem TP.i6 (h : TP M x ρ ρi hi K d sz ω ν i) : gI_ M (x + 47) 3 6 = some (Int32.ofNat i) := by
  obtain ⟨μ, γ, sc, t, e, _⟩ := h
  rw [← e]
  exact t.i6
theorem TP.i8 (h : TP M x ρ ρi hi K d sz ω ν i) : gI_ M (x + 47) 3 8 = some (Int32.ofNat sz) := by
  obtain ⟨μ, γ, sc, t, _, _, e, _⟩ := h
  rw [← e]
  exact t.i8
theorem TP.r9 (h : TP M x ρ ρi hi K d sz ω ν i) : gR_ M (x + 47) 3 9 = some (x + 53) := by
  obtain ⟨μ, γ, sc, t, _⟩ := h
  exact t.r9
theorem TP.nu (h : TP M x ρ ρi hi K d sz ω ν i) {k : Nat} (hk : k < 3) : aI_ M (x + 53) 0 (Int32.ofNat k) = some (ν k) := by
  obtain ⟨μ, γ, sc, t, _, _, _, _, e⟩ := h
  have a := aIof (i := Int32.ofNat k) e (nB (by decide) hk)
  rw [nC (by omega)] at a
  exact a
theorem TP.here (h : TP M x ρ ρi hi K d sz ω ν i) (hd : d < 8) (hz : sz ≤ 100) (hi : i < 1000) : fX4_here M (x + 47) = some (hrR sz (fun j => K 5 (100 * d + j)) i) := by
  have i6 := h.i6
  have i8 := h.i8
  obtain ⟨μ, γ, sc, t, e6, e7, e8, _, _⟩ := h
  unfold fX4_here hrR
  rw [i6, ob_n, i8, ob_n]
  by_cases g : sz ≤ i
  · rw [if_pos ((nL (by omega) (by omega)).mpr g), if_pos g]
  · rw [if_neg (fun w => g ((nL (by omega) (by omega)).mp w)), if_neg g, t.r18, ob_n, t.i7, ob_n, ob_n, e7, nS]
    have a := aIof (i := Int32.ofNat (100 * d + i)) t.2.2.2.2.2.2.2.2.2.2.2.2.2 (nB (by decide) (by omega))
    rw [nC (by omega)] at a
    rw [a, ob_n]
theorem TP.place (h : TP M x ρ ρi hi K d sz ω ν i) (j : Nat) : ∃ M1, pF_ M (x + 47) 3 6 (.int (Int32.ofNat j)) = some M1 ∧ TP M1 x ρ ρi hi K d sz ω ν j ∧ Ft M M1 x := by
  obtain ⟨μ, γ, sc, t, e6, e7, e8, e9, e10⟩ := h
  obtain ⟨a, b, c⟩ := t.scalX (k := 6) (v := Int32.ofNat j) (.inl rfl)
  exact ⟨_, a, ⟨μ, γ, _, b, rfl, e7, e8, (ms_ne (by omega)).trans e9, (ms_ne (by omega)).trans e10⟩, c⟩
theorem TP.put (h : TP M x ρ ρi hi K d sz ω ν i) {k : Nat} (hk : k < 3) (v : Int32) : ∃ M1, sI_ M (x + 53) 0 (Int32.ofNat k) v = some M1 ∧ TP M1 x ρ ρi hi K d sz ω (upd ν k v) i ∧ Ft M M1 x := by
  obtain ⟨μ, γ, sc, t, e6, e7, e8, e9, e10⟩ := h
  obtain ⟨b, c⟩ := t.nums (ν := upd ν k v)
  have s := sIof (i := Int32.ofNat k) (v := v) e10 (nB (by decide) hk)
  rw [nC (by omega)] at s
  exact ⟨_, s, ⟨μ, γ, sc, b, e6, e7, e8, (ms_ne (by omega)).trans e9, ms_at _ _ _⟩, c⟩
end TPL
section TRD
variable {x : Nat} {ρ ρi : Rw_} {hi : Int32} {K : Nat → Rw_} {d sz : Nat} {ω : Rw_}
theorem tr_L (hd : d < 8) (hz : sz ≤ 100) (by_ : ∀ i, i < sz → fits .byte (.int (K 5 (100 * d + i))) = true) {k D : Nat} (hk : k < 3) (hD : D ≤ 2) : ∀ (e i fuel : Nat) (v : Int32) (M : Mem_) (ν : Rw_), e ≤ D → e < fuel → i ≤ sz → ν k = v → TP M x ρ ρi hi K d sz ω ν i → ∃ M1 ν1, fX4_readsNumber_L9 fuel M (x + 47) (Int32.ofNat k) (Int32.ofNat D) (Int32.ofNat (D - e)) = some ((nmR (sgR sz fun j => K 5 (100 * d + j)) e i v).1, M1) ∧ TP M1 x ρ ρi hi K d sz ω ν1 (nmR (sgR sz fun j => K 5 (100 * d + j)) e i v).2.1 ∧ ν1 k = (nmR (sgR sz fun j => K 5 (100 * d + j)) e i v).2.2 ∧ (∀ l, l ≠ k → ν1 l = ν l) ∧ Ft M M1 x := by
  intro e
  induction e with
  | zero =>
    intro i fuel v M ν he hf hi' hv h
    obtain ⟨f, rfl⟩ : ∃ f, fuel = f + 1 := ⟨fuel - 1, by omega⟩
    refine ⟨M, ν, ?_, h, hv, fun _ _ => rfl, Ft.refl _ _⟩
    rw [fX4_readsNumber_L9, if_pos (by rw [nL (by omega) (by omega)]; omega)]
    rfl
  | succ e ih =>
    intro i fuel v M ν he hf hi' hv h
    obtain ⟨f, rfl⟩ : ∃ f, fuel = f + 1 := ⟨fuel - 1, by omega⟩
    have S := sg_hr (sz := sz) (f := fun j => K 5 (100 * d + j)) by_ i
    rw [fX4_readsNumber_L9, if_neg (by rw [nL (by omega) (by omega)]; omega), h.ck, ob_n, h.here hd hz (by omega), ob_n, lt_, S.2.1]
    unfold nmR
    by_cases g : fX4_isIn (sgR sz (fun j => K 5 (100 * d + j)) i) 48 57 = true
    · have hlt : i < sz := by
        by_cases c : sz ≤ i
        · unfold sgR at g
          rw [if_pos c] at g
          exact absurd g (by decide)
        · omega
      obtain ⟨M1, a1, b1, c1⟩ := h.put hk (10 * ν k + sgR sz (fun j => K 5 (100 * d + j)) i - 48)
      obtain ⟨M2, a2, b2, c2⟩ := b1.place (i + 1)
      obtain ⟨M3, ν3, a3, b3, c3, d3, f3⟩ := ih (i + 1) f (10 * v + sgR sz (fun j => K 5 (100 * d + j)) i - 48) M2 _ (by omega) (by omega) (by omega) (by rw [updA, if_pos rfl, hv]) b2
      have e1 : D - (e + 1) + 1 = D - e := by omega
      rw [g, if_neg b2_t, if_pos rfl, h.r9, ob_n, ob_n, h.nu hk, ob_n, ob_n, ob_n, S.2.2 g, a1, ob_n, b1.i6, ob_n, lt_, nS1, a2, ob_n, lt_, nS1, e1, a3]
      exact ⟨M3, ν3, rfl, b3, c3, fun l hl => (d3 l hl).trans (by rw [updA, if_neg hl]), c1.trans (c2.trans f3)⟩
    · have g' : fX4_isIn (sgR sz (fun j => K 5 (100 * d + j)) i) 48 57 = false := by
        cases w : fX4_isIn (sgR sz (fun j => K 5 (100 * d + j)) i) 48 57 with
        | false => rfl
        | true => exact absurd w g
      rw [g', if_pos b2_f, if_neg (show ¬ false = true by decide)]
      exact ⟨M, ν, rfl, h, hv, fun _ _ => rfl, Ft.refl _ _⟩
theorem tr_N (hd : d < 8) (hz : sz ≤ 100) (by_ : ∀ i, i < sz → fits .byte (.int (K 5 (100 * d + i))) = true) {k D : Nat} (hk : k < 3) (hD : D ≤ 2) {i : Nat} {M : Mem_} {ν : Rw_} (hi' : i ≤ sz) (h : TP M x ρ ρi hi K d sz ω ν i) : ∃ M1 ν1, fX4_readsNumber M (x + 47) (Int32.ofNat k) (Int32.ofNat D) = some ((nmR (sgR sz fun j => K 5 (100 * d + j)) D i 0).1, M1) ∧ TP M1 x ρ ρi hi K d sz ω ν1 (nmR (sgR sz fun j => K 5 (100 * d + j)) D i 0).2.1 ∧ ν1 k = (nmR (sgR sz fun j => K 5 (100 * d + j)) D i 0).2.2 ∧ (∀ l, l ≠ k → ν1 l = ν l) ∧ Ft M M1 x := by
  obtain ⟨M1, a1, b1, c1⟩ := h.put hk 0
  obtain ⟨M2, ν2, a2, b2, c2, d2, f2⟩ := tr_L hd hz by_ hk hD D i 1000 0 M1 _ (Nat.le_refl _) (by omega) hi' (by rw [updA, if_pos rfl]) b1
  rw [Nat.sub_self, oN0] at a2
  refine ⟨M2, ν2, ?_, b2, c2, fun l hl => (d2 l hl).trans (by rw [updA, if_neg hl]), c1.trans f2⟩
  unfold fX4_readsNumber
  rw [h.r9, ob_n, a1, ob_n]
  exact a2
/-- the rest of a statement, as the twin reads it -/
def tsQ (x0 : Nat) : List (Nat × Nat) → Mem_ → Option (Bool × Mem_)
  | [], M => (ck_ M x0 3).bind fun _ => (fX4_here M x0).bind fun r => if r = 59 then (gI_ M x0 3 6).bind fun v => lt_ (v + 1) fun w => (pF_ M x0 3 6 (.int w)).bind fun M' => some (true, M') else some (false, M)
  | (k, D) :: l, M => (ck_ M x0 3).bind fun _ => bw_ (fX4_readsNumber M x0 (Int32.ofNat k) (Int32.ofNat D)) fun r M' => if (b2_ r) = 0 then some (false, M') else tsQ x0 l M'
def nb_ : Nat → List Nat → List (Nat × Nat)
  | _, [] => []
  | k, D :: l => (k, D) :: nb_ (k + 1) l
theorem ts_ok (hd : d < 8) (hz : sz ≤ 100) (by_ : ∀ i, i < sz → fits .byte (.int (K 5 (100 * d + i))) = true) : ∀ (l : List Nat) (k i : Nat) (M : Mem_) (ν : Rw_), k + l.length ≤ 3 → (∀ D ∈ l, D ≤ 2) → i ≤ sz → TP M x ρ ρi hi K d sz ω ν i → ∃ M1 ν1, tsQ (x + 47) (nb_ k l) M = some ((seR (sgR sz fun j => K 5 (100 * d + j)) (nsR (sgR sz fun j => K 5 (100 * d + j)) l i)).1, M1) ∧ TP M1 x ρ ρi hi K d sz ω ν1 (seR (sgR sz fun j => K 5 (100 * d + j)) (nsR (sgR sz fun j => K 5 (100 * d + j)) l i)).2.1 ∧ ((seR (sgR sz fun j => K 5 (100 * d + j)) (nsR (sgR sz fun j => K 5 (100 * d + j)) l i)).1 = true → ∀ j v, (seR (sgR sz fun j => K 5 (100 * d + j)) (nsR (sgR sz fun j => K 5 (100 * d + j)) l i)).2.2[j]? = some v → ν1 (k + j) = v) ∧ (∀ j, j < k → ν1 j = ν j) ∧ Ft M M1 x := by
  have hs : ∀ i, sz ≤ i → sgR sz (fun j => K 5 (100 * d + j)) i = -1 := fun i h => if_pos h
  intro l
  induction l with
  | nil =>
    intro k i M ν hk _ hi' h
    have S := sg_hr (sz := sz) (f := fun j => K 5 (100 * d + j)) by_ i
    have s59 := S.1 59 (by decide)
    show ∃ M1 ν1, ((ck_ M (x + 47) 3).bind fun _ => (fX4_here M (x + 47)).bind fun r => if r = 59 then (gI_ M (x + 47) 3 6).bind fun v => lt_ (v + 1) fun w => (pF_ M (x + 47) 3 6 (.int w)).bind fun M' => some (true, M') else some (false, M)) = _ ∧ _
    rw [h.ck, ob_n, h.here hd hz (by omega), ob_n]
    show ∃ M1 ν1, _ = some ((if sgR sz (fun j => K 5 (100 * d + j)) i = 59 then (true, i + 1, ([] : List Int32)) else (false, i, [])).1, M1) ∧ TP M1 x ρ ρi hi K d sz ω ν1 (if sgR sz (fun j => K 5 (100 * d + j)) i = 59 then (true, i + 1, ([] : List Int32)) else (false, i, [])).2.1 ∧ ((if sgR sz (fun j => K 5 (100 * d + j)) i = 59 then (true, i + 1, ([] : List Int32)) else (false, i, [])).1 = true → ∀ (j : Nat) (v : Int32), (if sgR sz (fun j => K 5 (100 * d + j)) i = 59 then (true, i + 1, ([] : List Int32)) else (false, i, [])).2.2[j]? = some v → ν1 (k + j) = v) ∧ _
    by_cases g : sgR sz (fun j => K 5 (100 * d + j)) i = 59
    · obtain ⟨M1, a1, b1, c1⟩ := h.place (i + 1)
      rw [if_pos g, if_pos (s59.mpr g), h.i6, ob_n, lt_, nS1, a1, ob_n]
      exact ⟨M1, ν, rfl, b1, fun _ j v hj => absurd hj (by simp), fun _ _ => rfl, c1⟩
    · rw [if_neg g, if_neg (fun w => g (s59.mp w))]
      exact ⟨M, ν, rfl, h, fun w => absurd w nft, fun _ _ => rfl, Ft.refl _ _⟩
  | cons D l ih =>
    intro k i M ν hk hl hi' h
    rw [List.length_cons] at hk
    obtain ⟨M1, ν1, a1, b1, c1, d1, f1⟩ := tr_N (k := k) (D := D) hd hz by_ (by omega) (hl D List.mem_cons_self) hi' h
    have le := nm_le hs D i 0 hi'
    obtain ⟨M2, ν2, a2, b2, c2, d2, f2⟩ := ih (k + 1) _ M1 ν1 (by omega) (fun D' h' => hl D' (List.mem_cons_of_mem _ h')) le.2 b1
    show ∃ M1 ν1, ((ck_ M (x + 47) 3).bind fun _ => bw_ (fX4_readsNumber M (x + 47) (Int32.ofNat k) (Int32.ofNat D)) fun r M' => if (b2_ r) = 0 then some (false, M') else tsQ (x + 47) (nb_ (k + 1) l) M') = _ ∧ _
    rw [h.ck, ob_n, a1, bw_n]
    unfold nsR
    cases g : (nmR (sgR sz fun j => K 5 (100 * d + j)) D i 0).1 with
    | false =>
      rw [if_pos b2_f, if_neg (show ¬ false = true by decide)]
      exact ⟨M1, ν1, rfl, b1, fun w => absurd w nft, fun j hj => d1 j (by omega), f1⟩
    | true =>
      rw [if_neg b2_t, if_pos rfl, a2]
      generalize hq : nsR (sgR sz fun j => K 5 (100 * d + j)) l (nmR (sgR sz fun j => K 5 (100 * d + j)) D i 0).2.1 = q at b2 c2 ⊢
      obtain ⟨q1, q2, q3⟩ := q
      refine ⟨M2, ν2, ?_, ?_, ?_, fun j hj => (d2 j (by omega)).trans (d1 j (by omega)), f1.trans f2⟩
      · cases q1 with
        | false => rfl
        | true =>
          show some ((if sgR sz (fun j => K 5 (100 * d + j)) q2 = 59 then (true, q2 + 1, q3) else (false, q2, [])).1, M2) = some ((if sgR sz (fun j => K 5 (100 * d + j)) q2 = 59 then (true, q2 + 1, _ :: q3) else (false, q2, [])).1, M2)
          split <;> rfl
      · cases q1 with
        | false => exact b2
        | true =>
          revert b2
          show TP M2 x ρ ρi hi K d sz ω ν2 (if sgR sz (fun j => K 5 (100 * d + j)) q2 = 59 then (true, q2 + 1, q3) else (false, q2, [])).2.1 → TP M2 x ρ ρi hi K d sz ω ν2 (if sgR sz (fun j => K 5 (100 * d + j)) q2 = 59 then (true, q2 + 1, _ :: q3) else (false, q2, [])).2.1
          split
          · exact fun w => w
          · exact fun w => w
      · cases q1 with
        | false => exact fun w => absurd w nft
        | true =>
          revert c2
          show ((if sgR sz (fun j => K 5 (100 * d + j)) q2 = 59 then (true, q2 + 1, q3) else (false, q2, [])).1 = true → ∀ (j : Nat) (v : Int32), (if sgR sz (fun j => K 5 (100 * d + j)) q2 = 59 then (true, q2 + 1, q3) else (false, q2, [])).2.2[j]? = some v → ν2 (k + 1 + j) = v) → ((if sgR sz (fun j => K 5 (100 * d + j)) q2 = 59 then (true, q2 + 1, (nmR (sgR sz fun j => K 5 (100 * d + j)) D i 0).2.2 :: q3) else (false, q2, [])).1 = true → ∀ (j : Nat) (v : Int32), (if sgR sz (fun j => K 5 (100 * d + j)) q2 = 59 then (true, q2 + 1, (nmR (sgR sz fun j => K 5 (100 * d + j)) D i 0).2.2 :: q3) else (false, q2, [])).2.2[j]? = some v → ν2 (k + j) = v)
          split
          · intro w _ j v hj
            cases j with
            | zero =>
              have e : (nmR (sgR sz fun j => K 5 (100 * d + j)) D i 0).2.2 = v := by simpa using hj
              rw [← e, ← c1]
              exact d2 k (by omega)
            | succ j =>
              have := w rfl j v (by simpa using hj)
              rw [show k + (j + 1) = k + 1 + j by omega]
              exact this
          · exact fun _ w => absurd w nft
end TRD
