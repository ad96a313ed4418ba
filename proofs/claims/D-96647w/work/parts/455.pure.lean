/-! numbers; the twin's copies; what a hit leaves alone -/
set_option maxRecDepth 100000
theorem nJ {i : Nat} (h : i < 100000) : (Int32.ofNat i).toInt = (i : Int) := Int32.toInt_ofNat_of_lt (by omega)
theorem nC {i : Nat} (h : i < 100000) : (Int32.ofNat i).toNatClampNeg = i := by
  show (Int32.ofNat i).toInt.toNat = i
  rw [nJ h]
  rfl
theorem nS (i j : Nat) : Int32.ofNat i + Int32.ofNat j = Int32.ofNat (i + j) := (Int32.ofNat_add i j).symm
theorem nS1 (i : Nat) : Int32.ofNat i + 1 = Int32.ofNat (i + 1) := nS i 1
theorem nL {i j : Nat} (hi : i < 100000) (hj : j < 100000) : Int32.ofNat i ≤ Int32.ofNat j ↔ i ≤ j := by
  rw [Int32.le_iff_toInt_le, nJ hi, nJ hj]
  omega
theorem nT {i j : Nat} (hi : i < 100000) (hj : j < 100000) : Int32.ofNat i < Int32.ofNat j ↔ i < j := by
  rw [Int32.lt_iff_toInt_lt, nJ hi, nJ hj]
  omega
theorem nE {i j : Nat} (hi : i < 100000) (hj : j < 100000) : Int32.ofNat i = Int32.ofNat j ↔ i = j := by
  constructor
  · intro h
    have := congrArg Int32.toInt h
    rw [nJ hi, nJ hj] at this
    omega
  · intro h
    rw [h]
theorem nB {i n : Nat} (hn : n ≤ 1000) (hi : i < n) : ¬ (Int32.ofNat i < 0 ∨ n ≤ (Int32.ofNat i).toNatClampNeg) := rg_in hn ⟨i, hi, rfl⟩
def Nm (ρ : Rw_) : Prop := ∀ i, 42 ≤ i → ρ i = 0
theorem Nm.up {ρ : Rw_} (h : Nm ρ) {k : Nat} {v : Int32} (hk : k < 42) : Nm (upd ρ k v) := fun i hi => by
  rw [updA, if_neg (by omega)]
  exact h i hi
def mix_ (ρs ρm : Rw_) (k : Nat) : Rw_ := fun i => if i < k then ρs i else ρm i
theorem cop_loop {M : Mem_} {s m : Nat} {ρs ρm : Rw_} (hs : M s = some (eI_ 0 42 ρs)) (hsm : s ≠ m) : ∀ (d k fuel : Nat), k + d = 42 → d < fuel → fX4_copies_L2 fuel (ms_ M m (eI_ 0 42 (mix_ ρs ρm k))) s m (Int32.ofNat k) = some (ms_ M m (eI_ 0 42 (mix_ ρs ρm 42))) := by
  intro d
  induction d with
  | zero =>
    intro k fuel hk hf
    obtain ⟨f, rfl⟩ : ∃ f, fuel = f + 1 := ⟨fuel - 1, by omega⟩
    have : k = 42 := by omega
    subst this
    rw [fX4_copies_L2, if_pos (by decide)]
  | succ d ih =>
    intro k fuel hk hf
    obtain ⟨f, rfl⟩ : ∃ f, fuel = f + 1 := ⟨fuel - 1, by omega⟩
    have hk42 : k < 42 := by omega
    have g : ¬ (42 : Int32) ≤ Int32.ofNat k := fun h => by
      have := (nL (i := 42) (by omega) (by omega)).mp h
      omega
    rw [fX4_copies_L2, if_neg g, aIof ((ms_ne hsm).trans hs) (nB (by decide) hk42), Option.bind_some, sIof (ms_at _ _ _) (nB (by decide) hk42), Option.bind_some, ms_ms, nC (by omega), lt_, nS1]
    have e : upd (mix_ ρs ρm k) k (ρs k) = mix_ ρs ρm (k + 1) := by
      funext i
      show (if i = k then ρs k else if i < k then ρs i else ρm i) = if i < k + 1 then ρs i else ρm i
      by_cases h : i = k
      · subst h
        rw [if_pos rfl, if_pos (by omega)]
      · rw [if_neg h]
        by_cases h2 : i < k
        · rw [if_pos h2, if_pos (by omega)]
        · rw [if_neg h2, if_neg (by omega)]
    rw [e]
    exact ih (k + 1) f (by omega) (by omega)
theorem cop_ok {M : Mem_} {s m : Nat} {ρs ρm : Rw_} (hs : M s = some (eI_ 0 42 ρs)) (hm : M m = some (eI_ 0 42 ρm)) (hsm : s ≠ m) (h1 : Nm ρs) (h2 : Nm ρm) : fX4_copies M s m = some (ms_ M m (eI_ 0 42 ρs)) := by
  have k := cop_loop (ρm := ρm) hs hsm 42 0 1000 (by omega) (by omega)
  have e0 : ms_ M m (eI_ 0 42 (mix_ ρs ρm 0)) = M := by
    funext q
    show (if q = m then _ else _) = _
    split
    · rename_i e
      rw [e, hm]
      rfl
    · rfl
  have e1 : mix_ ρs ρm 42 = ρs := by
    funext i
    show (if i < 42 then ρs i else ρm i) = _
    split
    · rfl
    · rw [h1 i (by omega), h2 i (by omega)]
  rw [e0, e1] at k
  exact k
/-! the row that a hit leaves; whether it makes a point; how far they have gone -/
def hB (ρ : Rw_) (k c : Int32) : Bool := (hitR ρ (fun _ => 0) k c).1
def hR (ρ : Rw_) (k c : Int32) : Rw_ := (hitR ρ (fun _ => 0) k c).2.1
def hG (ρ γ : Rw_) (k c : Int32) : Rw_ := (hitR ρ γ k c).2.2
theorem end_g (ρ γ γ' : Rw_) (s : Nat) (p f t : Int32) : (endR ρ γ s p f t).1 = (endR ρ γ' s p f t).1 ∧ (endR ρ γ s p f t).2.1 = (endR ρ γ' s p f t).2.1 := by
  unfold endR
  split
  · exact ⟨rfl, rfl⟩
  · split
    · exact ⟨rfl, rfl⟩
    · exact ⟨rfl, rfl⟩
theorem hit_g (ρ γ γ' : Rw_) (k c : Int32) : (hitR ρ γ k c).1 = (hitR ρ γ' k c).1 ∧ (hitR ρ γ k c).2.1 = (hitR ρ γ' k c).2.1 := by
  simp only [hitR]
  exact end_g _ _ _ _ _ _ _
theorem hit_eq (ρ γ : Rw_) (k c : Int32) : hitR ρ γ k c = (hB ρ k c, hR ρ k c, hG ρ γ k c) := by
  have h := hit_g ρ γ (fun _ => 0) k c
  unfold hB hR hG
  rw [← h.1, ← h.2]
/-- what a row keeps of another: its strokes -/
def SS (ρ ρ' : Rw_) : Prop := ρ 0 = ρ' 0 ∧ ∀ i, 4 ≤ i → i < 20 → ρ i = ρ' i
theorem SS.refl (ρ : Rw_) : SS ρ ρ := ⟨rfl, fun _ _ _ => rfl⟩
theorem SS.up {ρ ρ' : Rw_} (h : SS ρ ρ') {k : Nat} {v : Int32} (hk : k ≠ 0 ∧ (k < 4 ∨ 20 ≤ k)) : SS (upd ρ k v) ρ' := ⟨by rw [updA, if_neg (by omega)]; exact h.1, fun i h1 h2 => by rw [updA, if_neg (by omega)]; exact h.2 i h1 h2⟩
/-- a row in mind: as the court is, with the same strokes -/
def MV (ρ ρ0 : Rw_) : Prop := VR ρ ∧ Nm ρ ∧ SS ρ ρ0
theorem mv_up (P : Rw_ → Prop) (hP : ∀ (ρ : Rw_) (k : Nat) (v : Int32), P ρ → k ≠ 0 ∧ (k < 4 ∨ 20 ≤ k) ∧ k < 42 → P (upd ρ k v)) {ρ : Rw_} (h : P ρ) (γ : Rw_) {k c : Int32} (hh : (ρ 2).toNatClampNeg < 4) : P (hitR ρ γ k c).2.1 := by
  have ht : ∀ (ρ : Rw_) (p : Nat) (v : Int32), p < 4 → P ρ → P (tirR ρ p v) := fun ρ p v hp h => hP ρ _ _ h (by omega)
  have hpo : ∀ (ρ : Rw_) (s : Nat), s < 2 → P ρ → P (poiR ρ s) := fun ρ s hs h => hP _ _ _ (hP ρ _ _ h (by omega)) (by omega)
  have hs : 1 - (ρ 2).toNatClampNeg / 2 < 2 := by omega
  simp only [hitR]
  have h1 : P (tirR (upd ρ 1 (ρ 1 + 1)) (ρ 2).toNatClampNeg (fX4_tiresBy (kS_r ρ k) (fS_r ρ k))) := ht _ _ _ hh (hP _ _ _ h (by omega))
  have hw := whoR_cases ρ (1 - (ρ 2).toNatClampNeg / 2) (falR ρ k c)
  generalize tirR (upd ρ 1 (ρ 1 + 1)) (ρ 2).toNatClampNeg (fX4_tiresBy (kS_r ρ k) (fS_r ρ k)) = ρ1 at h1 ⊢
  generalize 1 - (ρ 2).toNatClampNeg / 2 = s at hs hw ⊢
  generalize whoR ρ s (falR ρ k c) = p at hw ⊢
  have h2 : P (if botR ρ1 s (falR ρ k c) = true then tirR (tirR ρ1 (2 * s) 3) (2 * s + 1) 3 else ρ1) := by
    split
    · exact ht _ _ _ (by omega) (ht _ _ _ (by omega) h1)
    · exact h1
  generalize (if botR ρ1 s (falR ρ k c) = true then tirR (tirR ρ1 (2 * s) 3) (2 * s + 1) 3 else ρ1) = ρ2 at h2 ⊢
  unfold endR
  split
  · exact hpo _ _ (by omega) h2
  · rename_i h9
    have hp4 : p.toNatClampNeg < 4 := by
      have : s = 0 ∨ s = 1 := by omega
      rcases hw with e | e | e
      · rcases this with z | z <;> subst z <;> subst e <;> decide
      · rcases this with z | z <;> subst z <;> subst e <;> decide
      · exact absurd e h9
    have hq := par_lt hp4
    split
    · exact hP _ _ _ (hP _ _ _ (ht _ _ _ hp4 (hP _ _ _ h2 (by omega))) (by omega)) (by omega)
    · exact hpo _ _ (by omega) h2
theorem MV.hit {ρ ρ0 : Rw_} (h : MV ρ ρ0) {k c : Int32} (hk : k.toNatClampNeg < (ρ0 0).toNatClampNeg) (hc : rg_ 9 c) : MV (hR ρ k c) ρ0 := by
  have hh := (rg_nat (by decide) h.1.2.2.1).1
  refine ⟨h.1.hit _ (by rw [h.2.2.1]; exact hk) hc, ?_, ?_⟩
  · exact mv_up Nm (fun ρ k v hN hk => hN.up hk.2.2) h.2.1 _ hh
  · exact mv_up (fun r => SS r ρ0) (fun ρ k v hN hk => hN.up ⟨hk.1, hk.2.1⟩) h.2.2 _ hh
