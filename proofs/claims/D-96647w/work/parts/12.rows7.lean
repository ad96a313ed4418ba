/-! a chain of superclasses is no longer than the table: what its first part lacks all of it lacks -/
set_option maxRecDepth 100000
theorem ph_ : ∀ (n : Nat) (f : Nat → Nat), (∀ i, i ≤ n → f i < n) → ∃ i j, i < j ∧ j ≤ n ∧ f i = f j
  | 0, f, h => absurd (h 0 (Nat.le_refl 0)) (Nat.not_lt_zero _)
  | n + 1, f, h => by
    by_cases hx : ∃ i, i ≤ n ∧ f i = f (n + 1)
    · obtain ⟨i, hi, he⟩ := hx
      exact ⟨i, n + 1, by omega, Nat.le_refl _, he⟩
    · have hv := h (n + 1) (Nat.le_refl _)
      have hne : ∀ i, i ≤ n → f i ≠ f (n + 1) := fun i hi he => hx ⟨i, hi, he⟩
      obtain ⟨i, j, h1, h2, h3⟩ := ph_ n (fun i => if f i = n then f (n + 1) else f i) (fun i hi => by
        have := h i (by omega)
        have := hne i hi
        split
        · omega
        · omega)
      refine ⟨i, j, h1, by omega, ?_⟩
      have a1 := hne i (by omega)
      have a2 := hne j h2
      split at h3 <;> split at h3 <;> omega
def sc_ (vm : Vm) (c : ClassId) : Nat → Option ClassId
  | 0 => some c
  | k + 1 => (sc_ vm c k).bind fun q => (vm.classes[q]?).bind (·.super)
theorem sc_shift (vm : Vm) (c q : ClassId) (h : (vm.classes[c]?).bind (·.super) = some q) : ∀ k, sc_ vm q k = sc_ vm c (k + 1)
  | 0 => by simp [sc_, h]
  | k + 1 => by
    show (sc_ vm q k).bind _ = (sc_ vm c (k + 1)).bind _
    rw [sc_shift vm c q h k]
theorem sc_mem (vm : Vm) : ∀ (n : Nat) (c p : ClassId), p ∈ vm.superclassesAux n c ↔ ∃ k, 1 ≤ k ∧ k ≤ n ∧ sc_ vm c k = some p
  | 0, c, p => by
    constructor
    · intro h; simp [Vm.superclassesAux] at h
    · rintro ⟨k, h1, h2, -⟩; omega
  | n + 1, c, p => by
    simp only [Vm.superclassesAux]
    cases hs : (vm.classes[c]?).bind (·.super) with
    | none =>
      constructor
      · intro h; simp at h
      · rintro ⟨k, h1, h2, h3⟩
        obtain ⟨k, rfl⟩ : ∃ j, k = j + 1 := ⟨k - 1, by omega⟩
        have key : ∀ j, sc_ vm c (j + 1) = none := fun j => by
          induction j with
          | zero => simp [sc_, hs]
          | succ j ih =>
            show (sc_ vm c (j + 1)).bind _ = none
            rw [ih]; rfl
        rw [key] at h3
        cases h3
    | some q =>
      simp only [List.mem_cons, sc_mem vm n q p]
      constructor
      · rintro (rfl | ⟨k, h1, h2, h3⟩)
        · exact ⟨1, by omega, by omega, by simp [sc_, hs]⟩
        · exact ⟨k + 1, by omega, by omega, by rw [← sc_shift vm c q hs]; exact h3⟩
      · rintro ⟨k, h1, h2, h3⟩
        obtain ⟨k, rfl⟩ : ∃ j, k = j + 1 := ⟨k - 1, by omega⟩
        rw [← sc_shift vm c q hs] at h3
        cases k with
        | zero =>
          left
          simpa [sc_] using h3.symm
        | succ k => exact Or.inr ⟨k + 1, by omega, by omega, h3⟩
theorem sc_per {vm : Vm} {c : ClassId} {i j : Nat} (h : sc_ vm c i = sc_ vm c j) : ∀ k, sc_ vm c (i + k) = sc_ vm c (j + k)
  | 0 => h
  | k + 1 => by
    show (sc_ vm c (i + k)).bind _ = (sc_ vm c (j + k)).bind _
    rw [sc_per h k]
theorem sc_lt {vm : Vm} {c p : ClassId} : ∀ (k n : Nat), sc_ vm c n = some p → k < n → ∃ q, sc_ vm c k = some q ∧ q < vm.classes.size := by
  intro k n
  induction n generalizing p with
  | zero => intro _ h; omega
  | succ n ih =>
    intro h hk
    have h : (sc_ vm c n).bind (fun q => (vm.classes[q]?).bind (·.super)) = some p := h
    obtain ⟨q, h1, h2⟩ := Option.bind_eq_some_iff.mp h
    by_cases hkn : k = n
    · subst hkn
      refine ⟨q, h1, ?_⟩
      obtain ⟨kq, h3, -⟩ := Option.bind_eq_some_iff.mp h2
      exact (Array.getElem?_eq_some_iff.mp h3).1
    · exact ih h1 (by omega)
theorem sc_all {vm : Vm} {c p : ClassId} (h : p ∈ vm.superclassesAux (vm.classes.size + 1) c) : p ∈ vm.superclassesAux vm.classes.size c ∨ p = c := by
  obtain ⟨k, h1, h2, h3⟩ := (sc_mem vm _ c p).mp h
  by_cases hk : k ≤ vm.classes.size
  · exact Or.inl ((sc_mem vm _ c p).mpr ⟨k, h1, hk, h3⟩)
  · have hk : k = vm.classes.size + 1 := by omega
    subst hk
    obtain ⟨i, j, g1, g2, g3⟩ := ph_ vm.classes.size (fun i => (sc_ vm c i).getD 0) (fun i hi => by
      obtain ⟨q, e1, e2⟩ := sc_lt i _ h3 (by omega)
      show (sc_ vm c i).getD 0 < _
      rw [e1]; exact e2)
    have e : sc_ vm c i = sc_ vm c j := by
      obtain ⟨q1, e1, -⟩ := sc_lt i _ h3 (by omega)
      obtain ⟨q2, e2, -⟩ := sc_lt j _ h3 (by omega)
      have g3 : (sc_ vm c i).getD 0 = (sc_ vm c j).getD 0 := g3
      rw [e1, e2] at g3 ⊢
      simpa using g3
    have e4 := sc_per e (vm.classes.size + 1 - j)
    rw [show j + (vm.classes.size + 1 - j) = vm.classes.size + 1 by omega, h3] at e4
    by_cases hz : i + (vm.classes.size + 1 - j) = 0
    · omega
    · exact Or.inl ((sc_mem vm _ c p).mpr ⟨i + (vm.classes.size + 1 - j), by omega, by omega, e4⟩)
/-- what the class chain declares nothing of, and the tables give to one default: super's lookup finds that default -/
theorem ls_default {vm : Vm} {c : ClassId} {r0 : MethodId} {r : Method} {k kr : Class} {name desc : String} (hk : vm.classes[c]? = some k) (hni : k.isInterface = false) (hrm : vm.method? r0 = some r) (hst : r.isStatic = false) (hn : r.name = name) (hd : r.desc = desc)
    (hup : vm.lookupUp c name desc = some r0) (hsel : selectMethod {} vm c r0 = .method r0) (hkr : vm.classes[r0.cls]? = some kr) (hki : kr.isInterface = true) (hpr : r.isPrivate = false) : lookupSpecial vm c name desc = .method r0 := by
  cases hL : lookupInSuperclasses vm name desc (vm.classes.size + 1) c with
  | some x => exact lookupSpecial_of_lookupUp hk hni hup (by rw [hL]; rfl) hrm hst
  | none =>
    obtain ⟨g1, g2⟩ := ls_none vm name desc _ c hL
    have hown : (vm.classes[c]?.bind (·.findMethod name desc)) = none := g1
    have habove : superclassMethods vm c name desc = [] := by
      unfold superclassMethods
      rw [List.filterMap_eq_nil_iff]
      intro q hq
      have : (vm.classes[q]?.bind (·.findMethod name desc)) = none := by
        rcases sc_all hq with h | h
        · exact g2 q h
        · rw [h]; exact g1
      rw [this]; rfl
    have hsS : ∀ n, selectInSuperclasses vm r0 name desc n c = none := by
      have key : ∀ (n : Nat) (q : ClassId), (∀ j p, sc_ vm q j = some p → (vm.classes[p]?.bind (·.findMethod name desc)) = none) → selectInSuperclasses vm r0 name desc n q = none := by
        intro n
        induction n with
        | zero => intro q _; rfl
        | succ n ih =>
          intro q hq
          cases hkq : vm.classes[q]? with
          | none => simp [selectInSuperclasses, hkq]
          | some kq =>
            have h0 := hq 0 q rfl
            simp only [hkq, Option.bind_some] at h0
            cases hs : kq.super with
            | none => simp [selectInSuperclasses, hkq, h0, hs]
            | some q' =>
              have := ih q' (fun j p hp => hq (j + 1) p (by rw [← sc_shift vm q q' (by simp [hkq, hs])]; exact hp))
              simp [selectInSuperclasses, hkq, h0, hs, this]
      have hall : ∀ j p, sc_ vm c j = some p → (vm.classes[p]?.bind (·.findMethod name desc)) = none := by
        intro j
        induction j using Nat.strongRecOn with
        | _ j ih =>
          intro p hp
          by_cases hj : j ≤ vm.classes.size
          · cases j with
            | zero =>
              have : c = p := by simpa [sc_] using hp
              rw [← this]; exact g1
            | succ j => exact g2 p ((sc_mem vm _ c p).mpr ⟨j + 1, by omega, hj, hp⟩)
          · obtain ⟨i, j', b1, b2, b3⟩ := ph_ vm.classes.size (fun i => (sc_ vm c i).getD 0) (fun i hi => by
              obtain ⟨q, e1, e2⟩ := sc_lt i _ hp (by omega)
              show (sc_ vm c i).getD 0 < _
              rw [e1]; exact e2)
            have e : sc_ vm c i = sc_ vm c j' := by
              obtain ⟨q1, e1, -⟩ := sc_lt i _ hp (by omega)
              obtain ⟨q2, e2, -⟩ := sc_lt j' _ hp (by omega)
              have b3 : (sc_ vm c i).getD 0 = (sc_ vm c j').getD 0 := b3
              rw [e1, e2] at b3 ⊢
              simpa using b3
            have e4 := sc_per e (j - j')
            rw [show j' + (j - j') = j by omega, hp] at e4
            exact ih (i + (j - j')) (by omega) p e4
      exact fun n => key n c hall
    have hms : (maximallySpecific vm c name desc).filter (fun m => (vm.method? m).any (!·.isAbstract)) = [r0] := by
      have h := hsel
      unfold selectMethod at h
      simp only [hrm, hpr, hn, hd, hkr, hki, Option.any_some, Bool.not_true, Bool.and_false, Bool.false_eq_true, if_false, hsS] at h
      split at h
      · cases h
      · split at h
        · rename_i m hm
          cases h
          exact hm
        · cases h
        · cases h
    unfold lookupSpecial
    simp [hown, habove, hms]
