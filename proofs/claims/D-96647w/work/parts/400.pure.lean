/-! the pure part: the memory of a court and of a row -/
set_option maxRecDepth 100000
abbrev Rw_ : Type := Nat → Int32
abbrev Zr_ : Type := Nat → Option Nat
theorem updA (f : Rw_) (k : Nat) (x : Int32) (j : Nat) : upd f k x j = if j = k then x else f j := rfl
def nz_ (n : Nat) (f : Rw_) : Rw_ := fun p => if p < n then f p else 0
def lf_ (ρ : Rw_) : Int32 := ρ 23 + 2 * ρ 27 + 4 * ρ 31 + 8 * ρ 35
def ct_ (c : Nat) (ρ : Rw_) (Z : Zr_) (γ : Rw_) (j : Nat) : Ent_ := match j with
  | 0 => eO_ 1 [.ref (c + 1), .ref (c + 2), .ref (c + 3), .ref (c + 4), .ref (c + 5), .ref (c + 6), .ref (c + 7), .ref (c + 8), .int (lf_ ρ), .int (ρ 0), .int (ρ 2), .int (ρ 3), .int (ρ 1)]
  | 1 => eQ_ 3 8 Z
  | 2 => eI_ 0 4 (nz_ 4 fun p => ρ (20 + 4 * p))
  | 3 => eI_ 0 4 (nz_ 4 fun p => ρ (21 + 4 * p))
  | 4 => eI_ 0 4 (nz_ 4 fun p => ρ (22 + 4 * p))
  | 5 => eI_ 0 2 (nz_ 2 fun p => ρ (36 + 3 * p))
  | 6 => eI_ 0 2 (nz_ 2 fun p => ρ (37 + 3 * p))
  | 7 => eI_ 0 2 (nz_ 2 fun p => ρ (38 + 3 * p))
  | _ => eI_ 0 4 (nz_ 4 γ)
def cw_ (M : Mem_) (c : Nat) (ρ : Rw_) (Z : Zr_) (γ : Rw_) : Mem_ := fun q => if c ≤ q ∧ q < c + 9 then some (ct_ c ρ Z γ (q - c)) else M q
def Co_ (M : Mem_) (c : Nat) (ρ : Rw_) (Z : Zr_) (γ : Rw_) : Prop := ∀ j, j < 9 → M (c + j) = some (ct_ c ρ Z γ j)
theorem cw_at {M : Mem_} {c : Nat} {ρ : Rw_} {Z : Zr_} {γ : Rw_} {j : Nat} (hj : j < 9) : cw_ M c ρ Z γ (c + j) = some (ct_ c ρ Z γ j) := by
  unfold cw_
  rw [if_pos ⟨by omega, by omega⟩, Nat.add_sub_cancel_left]
theorem cw_out {M : Mem_} {c : Nat} {ρ : Rw_} {Z : Zr_} {γ : Rw_} {q : Nat} (h : q < c ∨ c + 9 ≤ q) : cw_ M c ρ Z γ q = M q := by
  unfold cw_
  rw [if_neg (by omega)]
theorem cw_eq {M : Mem_} {c : Nat} {ρ : Rw_} {Z : Zr_} {γ : Rw_} (h : Co_ M c ρ Z γ) : cw_ M c ρ Z γ = M := by
  funext q
  unfold cw_
  split
  · rename_i w
    have e := h (q - c) (by omega)
    rw [show c + (q - c) = q by omega] at e
    exact e.symm
  · rfl
theorem cw_co (M : Mem_) (c : Nat) (ρ : Rw_) (Z : Zr_) (γ : Rw_) : Co_ (cw_ M c ρ Z γ) c ρ Z γ := fun _ hj => cw_at hj
theorem cw_cw (M : Mem_) (c : Nat) (ρ ρ' : Rw_) (Z Z' : Zr_) (γ γ' : Rw_) : cw_ (cw_ M c ρ Z γ) c ρ' Z' γ' = cw_ M c ρ' Z' γ' := by
  funext q
  unfold cw_
  split
  · rfl
  · rfl
theorem Co_.off {M : Mem_} {c d : Nat} {ρ ρ' : Rw_} {Z Z' : Zr_} {γ γ' : Rw_} (h : Co_ M d ρ Z γ) (hd : d + 9 ≤ c ∨ c + 9 ≤ d) : Co_ (cw_ M c ρ' Z' γ') d ρ Z γ := fun j hj => (cw_out (by omega)).trans (h j hj)
theorem Co_.ms {M : Mem_} {d a : Nat} {ρ : Rw_} {Z : Zr_} {γ : Rw_} {e : Ent_} (h : Co_ M d ρ Z γ) (hd : a < d ∨ d + 9 ≤ a) : Co_ (ms_ M a e) d ρ Z γ := fun j hj => (show ms_ M a e (d + j) = M (d + j) from if_neg (by omega)).trans (h j hj)
theorem ms_cw {M : Mem_} {c j : Nat} {ρ ρ' : Rw_} {Z Z' : Zr_} {γ γ' : Rw_} {e : Ent_} (hj : j < 9) (h1 : ct_ c ρ' Z' γ' j = e) (h2 : ∀ i, i < 9 → i ≠ j → ct_ c ρ' Z' γ' i = ct_ c ρ Z γ i) : ms_ (cw_ M c ρ Z γ) (c + j) e = cw_ M c ρ' Z' γ' := by
  funext q
  by_cases hq : q = c + j
  · subst hq
    rw [cw_at hj, h1]
    exact if_pos rfl
  · show (if q = c + j then some e else cw_ M c ρ Z γ q) = _
    rw [if_neg hq]
    by_cases hw : c ≤ q ∧ q < c + 9
    · have e1 : q = c + (q - c) := by omega
      rw [e1, cw_at (by omega), cw_at (by omega), h2 _ (by omega) (by omega)]
    · rw [cw_out (by omega), cw_out (by omega)]
theorem aIof {M : Mem_} {a t n : Nat} {f : Rw_} {i : Int32} (h : M a = some (eI_ t n f)) (hi : ¬ (i < 0 ∨ n ≤ i.toNatClampNeg)) : aI_ M a t i = some (f i.toNatClampNeg) := by
  have e : ai_ M a t = some (n, f) := by
    unfold ai_
    rw [h]
    exact if_pos rfl
  unfold aI_
  rw [e]
  exact if_neg hi
theorem sIof {M : Mem_} {a t n : Nat} {f : Rw_} {i v : Int32} (h : M a = some (eI_ t n f)) (hi : ¬ (i < 0 ∨ n ≤ i.toNatClampNeg)) : sI_ M a t i v = some (ms_ M a (eI_ t n (upd f i.toNatClampNeg v))) := by
  have e : ai_ M a t = some (n, f) := by
    unfold ai_
    rw [h]
    exact if_pos rfl
  unfold sI_
  rw [e]
  exact if_neg hi
theorem lIof {M : Mem_} {a t n : Nat} {f : Rw_} (h : M a = some (eI_ t n f)) : lI_ M a t = some (Int32.ofNat n) := by
  have e : ai_ M a t = some (n, f) := by
    unfold ai_
    rw [h]
    exact if_pos rfl
  unfold lI_
  rw [e]
  rfl
theorem foof {M : Mem_} {a ci : Nat} {fs : List Value} (h : M a = some (eO_ ci fs)) : fo_ M a ci = some fs := by
  unfold fo_
  rw [h]
  exact if_pos rfl
theorem ckof {M : Mem_} {a ci : Nat} {fs : List Value} (h : M a = some (eO_ ci fs)) : ck_ M a ci = some () := by
  unfold ck_
  rw [foof h]
  rfl
theorem gIof {M : Mem_} {a ci k : Nat} {v : Int32} {fs : List Value} (h : M a = some (eO_ ci fs)) (hv : fs[k]? = some (.int v)) : gI_ M a ci k = some v := by
  unfold gI_
  rw [foof h]
  show (match fs[k]? with | some (.int v) => some v | _ => none) = _
  rw [hv]
theorem gRof {M : Mem_} {a ci k : Nat} {v : Nat} {fs : List Value} (h : M a = some (eO_ ci fs)) (hv : fs[k]? = some (.ref v)) : gR_ M a ci k = some v := by
  unfold gR_
  rw [foof h]
  show (match fs[k]? with | some (.ref v) => some v | _ => none) = _
  rw [hv]
theorem pFof {M : Mem_} {a ci k : Nat} {v : Value} {fs : List Value} (h : M a = some (eO_ ci fs)) (hv : k < fs.length) : pF_ M a ci k v = some (ms_ M a (eO_ ci (fs.set k v))) := by
  unfold pF_
  rw [foof h]
  exact if_pos hv
theorem cw_0 {M : Mem_} {c : Nat} {ρ : Rw_} {Z : Zr_} {γ : Rw_} : cw_ M c ρ Z γ c = some (ct_ c ρ Z γ 0) := cw_at (j := 0) (by decide)
section CW
variable (M : Mem_) (c : Nat) (ρ : Rw_) (Z : Zr_) (γ : Rw_)
theorem cw_ck : ck_ (cw_ M c ρ Z γ) c 1 = some () := ckof cw_0
theorem cw_r0 : gR_ (cw_ M c ρ Z γ) c 1 0 = some (c + 1) := gRof cw_0 rfl
theorem cw_r1 : gR_ (cw_ M c ρ Z γ) c 1 1 = some (c + 2) := gRof cw_0 rfl
theorem cw_r2 : gR_ (cw_ M c ρ Z γ) c 1 2 = some (c + 3) := gRof cw_0 rfl
theorem cw_r3 : gR_ (cw_ M c ρ Z γ) c 1 3 = some (c + 4) := gRof cw_0 rfl
theorem cw_r4 : gR_ (cw_ M c ρ Z γ) c 1 4 = some (c + 5) := gRof cw_0 rfl
theorem cw_r5 : gR_ (cw_ M c ρ Z γ) c 1 5 = some (c + 6) := gRof cw_0 rfl
theorem cw_r6 : gR_ (cw_ M c ρ Z γ) c 1 6 = some (c + 7) := gRof cw_0 rfl
theorem cw_r7 : gR_ (cw_ M c ρ Z γ) c 1 7 = some (c + 8) := gRof cw_0 rfl
theorem cw_i8 : gI_ (cw_ M c ρ Z γ) c 1 8 = some (lf_ ρ) := gIof cw_0 rfl
theorem cw_i9 : gI_ (cw_ M c ρ Z γ) c 1 9 = some (ρ 0) := gIof cw_0 rfl
theorem cw_i10 : gI_ (cw_ M c ρ Z γ) c 1 10 = some (ρ 2) := gIof cw_0 rfl
theorem cw_i11 : gI_ (cw_ M c ρ Z γ) c 1 11 = some (ρ 3) := gIof cw_0 rfl
theorem cw_i12 : gI_ (cw_ M c ρ Z γ) c 1 12 = some (ρ 1) := gIof cw_0 rfl
theorem cwx (ρ' : Rw_) (j : Nat) (k : Nat) (v : Int32) (hj : j < 9) (e : ρ' = upd ρ k v)
    (h0 : j ≠ 0 → ¬ (k = 0 ∨ k = 1 ∨ k = 2 ∨ k = 3 ∨ k = 23 ∨ k = 27 ∨ k = 31 ∨ k = 35))
    (h2 : j ≠ 2 → ∀ p, p < 4 → 20 + 4 * p ≠ k) (h3 : j ≠ 3 → ∀ p, p < 4 → 21 + 4 * p ≠ k) (h4 : j ≠ 4 → ∀ p, p < 4 → 22 + 4 * p ≠ k)
    (h5 : j ≠ 5 → ∀ p, p < 2 → 36 + 3 * p ≠ k) (h6 : j ≠ 6 → ∀ p, p < 2 → 37 + 3 * p ≠ k) (h7 : j ≠ 7 → ∀ p, p < 2 → 38 + 3 * p ≠ k) : ∀ i, i < 9 → i ≠ j → ct_ c ρ' Z γ i = ct_ c ρ Z γ i := by
  subst e
  have nzz : ∀ (n a b : Nat), (∀ p, p < n → a + b * p ≠ k) → nz_ n (fun p => upd ρ k v (a + b * p)) = nz_ n (fun p => ρ (a + b * p)) := fun n a b h => by
    funext p
    unfold nz_
    by_cases hp : p < n
    · rw [if_pos hp, if_pos hp]
      show upd ρ k v (a + b * p) = ρ (a + b * p)
      rw [updA, if_neg (h p hp)]
    · rw [if_neg hp, if_neg hp]
  intro i hi hij
  match i, hi with
  | 0, _ =>
    have h := h0 (fun e => hij e.symm)
    have g : ∀ t, t ≠ k → upd ρ k v t = ρ t := fun t ht => by rw [updA, if_neg ht]
    show eO_ 1 [_, _, _, _, _, _, _, _, .int (upd ρ k v 23 + 2 * upd ρ k v 27 + 4 * upd ρ k v 31 + 8 * upd ρ k v 35), .int (upd ρ k v 0), .int (upd ρ k v 2), .int (upd ρ k v 3), .int (upd ρ k v 1)] = _
    rw [g 23 (by omega), g 27 (by omega), g 31 (by omega), g 35 (by omega), g 0 (by omega), g 1 (by omega), g 2 (by omega), g 3 (by omega)]
    rfl
  | 1, _ => rfl
  | 2, _ => exact congrArg (eI_ 0 4) (nzz 4 20 4 (h2 (fun e => hij e.symm)))
  | 3, _ => exact congrArg (eI_ 0 4) (nzz 4 21 4 (h3 (fun e => hij e.symm)))
  | 4, _ => exact congrArg (eI_ 0 4) (nzz 4 22 4 (h4 (fun e => hij e.symm)))
  | 5, _ => exact congrArg (eI_ 0 2) (nzz 2 36 3 (h5 (fun e => hij e.symm)))
  | 6, _ => exact congrArg (eI_ 0 2) (nzz 2 37 3 (h6 (fun e => hij e.symm)))
  | 7, _ => exact congrArg (eI_ 0 2) (nzz 2 38 3 (h7 (fun e => hij e.symm)))
  | 8, _ => rfl
theorem nzu (n a b p : Nat) (v : Int32) (hb : 0 < b) (hp : p < n) : nz_ n (fun q => upd ρ (a + b * p) v (a + b * q)) = upd (nz_ n fun q => ρ (a + b * q)) p v := by
  funext q
  show (if q < n then (if a + b * q = a + b * p then v else ρ (a + b * q)) else 0) = if q = p then v else if q < n then ρ (a + b * q) else 0
  by_cases e : q = p
  · subst e
    rw [if_pos hp, if_pos rfl, if_pos rfl]
  · rw [if_neg e]
    have e2 : ¬ a + b * q = a + b * p := fun h => e (Nat.eq_of_mul_eq_mul_left hb (by omega))
    rw [if_neg e2]
theorem nzg (n p : Nat) (v : Int32) (hp : p < n) : nz_ n (upd γ p v) = upd (nz_ n γ) p v := by
  funext q
  show (if q < n then (if q = p then v else γ q) else 0) = if q = p then v else if q < n then γ q else 0
  by_cases e : q = p
  · subst e
    rw [if_pos hp, if_pos rfl, if_pos rfl]
  · rw [if_neg e, if_neg e]
theorem cw_a2_0 : aI_ (cw_ M c ρ Z γ) (c + 2) 0 0 = some (ρ 20) := (aIof (cw_at (j := 2) (by decide)) (by decide)).trans rfl
theorem cw_s2_0 (v : Int32) : sI_ (cw_ M c ρ Z γ) (c + 2) 0 0 v = some (cw_ M c (upd ρ 20 v) Z γ) := (sIof (cw_at (j := 2) (by decide)) (by decide)).trans (congrArg some (ms_cw (by decide) (congrArg (eI_ 0 4) (nzu ρ 4 20 4 0 v (by decide) (by decide))) (cwx c ρ Z γ _ 2 20 v (by decide) rfl (by decide) (by decide) (by decide) (by decide) (by decide) (by decide) (by decide))))
theorem cw_a2_1 : aI_ (cw_ M c ρ Z γ) (c + 2) 0 1 = some (ρ 24) := (aIof (cw_at (j := 2) (by decide)) (by decide)).trans rfl
theorem cw_s2_1 (v : Int32) : sI_ (cw_ M c ρ Z γ) (c + 2) 0 1 v = some (cw_ M c (upd ρ 24 v) Z γ) := (sIof (cw_at (j := 2) (by decide)) (by decide)).trans (congrArg some (ms_cw (by decide) (congrArg (eI_ 0 4) (nzu ρ 4 20 4 1 v (by decide) (by decide))) (cwx c ρ Z γ _ 2 24 v (by decide) rfl (by decide) (by decide) (by decide) (by decide) (by decide) (by decide) (by decide))))
theorem cw_a2_2 : aI_ (cw_ M c ρ Z γ) (c + 2) 0 2 = some (ρ 28) := (aIof (cw_at (j := 2) (by decide)) (by decide)).trans rfl
theorem cw_s2_2 (v : Int32) : sI_ (cw_ M c ρ Z γ) (c + 2) 0 2 v = some (cw_ M c (upd ρ 28 v) Z γ) := (sIof (cw_at (j := 2) (by decide)) (by decide)).trans (congrArg some (ms_cw (by decide) (congrArg (eI_ 0 4) (nzu ρ 4 20 4 2 v (by decide) (by decide))) (cwx c ρ Z γ _ 2 28 v (by decide) rfl (by decide) (by decide) (by decide) (by decide) (by decide) (by decide) (by decide))))
theorem cw_a2_3 : aI_ (cw_ M c ρ Z γ) (c + 2) 0 3 = some (ρ 32) := (aIof (cw_at (j := 2) (by decide)) (by decide)).trans rfl
theorem cw_s2_3 (v : Int32) : sI_ (cw_ M c ρ Z γ) (c + 2) 0 3 v = some (cw_ M c (upd ρ 32 v) Z γ) := (sIof (cw_at (j := 2) (by decide)) (by decide)).trans (congrArg some (ms_cw (by decide) (congrArg (eI_ 0 4) (nzu ρ 4 20 4 3 v (by decide) (by decide))) (cwx c ρ Z γ _ 2 32 v (by decide) rfl (by decide) (by decide) (by decide) (by decide) (by decide) (by decide) (by decide))))
theorem cw_a3_0 : aI_ (cw_ M c ρ Z γ) (c + 3) 0 0 = some (ρ 21) := (aIof (cw_at (j := 3) (by decide)) (by decide)).trans rfl
theorem cw_s3_0 (v : Int32) : sI_ (cw_ M c ρ Z γ) (c + 3) 0 0 v = some (cw_ M c (upd ρ 21 v) Z γ) := (sIof (cw_at (j := 3) (by decide)) (by decide)).trans (congrArg some (ms_cw (by decide) (congrArg (eI_ 0 4) (nzu ρ 4 21 4 0 v (by decide) (by decide))) (cwx c ρ Z γ _ 3 21 v (by decide) rfl (by decide) (by decide) (by decide) (by decide) (by decide) (by decide) (by decide))))
theorem cw_a3_1 : aI_ (cw_ M c ρ Z γ) (c + 3) 0 1 = some (ρ 25) := (aIof (cw_at (j := 3) (by decide)) (by decide)).trans rfl
theorem cw_s3_1 (v : Int32) : sI_ (cw_ M c ρ Z γ) (c + 3) 0 1 v = some (cw_ M c (upd ρ 25 v) Z γ) := (sIof (cw_at (j := 3) (by decide)) (by decide)).trans (congrArg some (ms_cw (by decide) (congrArg (eI_ 0 4) (nzu ρ 4 21 4 1 v (by decide) (by decide))) (cwx c ρ Z γ _ 3 25 v (by decide) rfl (by decide) (by decide) (by decide) (by decide) (by decide) (by decide) (by decide))))
theorem cw_a3_2 : aI_ (cw_ M c ρ Z γ) (c + 3) 0 2 = some (ρ 29) := (aIof (cw_at (j := 3) (by decide)) (by decide)).trans rfl
theorem cw_s3_2 (v : Int32) : sI_ (cw_ M c ρ Z γ) (c + 3) 0 2 v = some (cw_ M c (upd ρ 29 v) Z γ) := (sIof (cw_at (j := 3) (by decide)) (by decide)).trans (congrArg some (ms_cw (by decide) (congrArg (eI_ 0 4) (nzu ρ 4 21 4 2 v (by decide) (by decide))) (cwx c ρ Z γ _ 3 29 v (by decide) rfl (by decide) (by decide) (by decide) (by decide) (by decide) (by decide) (by decide))))
theorem cw_a3_3 : aI_ (cw_ M c ρ Z γ) (c + 3) 0 3 = some (ρ 33) := (aIof (cw_at (j := 3) (by decide)) (by decide)).trans rfl
theorem cw_s3_3 (v : Int32) : sI_ (cw_ M c ρ Z γ) (c + 3) 0 3 v = some (cw_ M c (upd ρ 33 v) Z γ) := (sIof (cw_at (j := 3) (by decide)) (by decide)).trans (congrArg some (ms_cw (by decide) (congrArg (eI_ 0 4) (nzu ρ 4 21 4 3 v (by decide) (by decide))) (cwx c ρ Z γ _ 3 33 v (by decide) rfl (by decide) (by decide) (by decide) (by decide) (by decide) (by decide) (by decide))))
theorem cw_a4_0 : aI_ (cw_ M c ρ Z γ) (c + 4) 0 0 = some (ρ 22) := (aIof (cw_at (j := 4) (by decide)) (by decide)).trans rfl
theorem cw_s4_0 (v : Int32) : sI_ (cw_ M c ρ Z γ) (c + 4) 0 0 v = some (cw_ M c (upd ρ 22 v) Z γ) := (sIof (cw_at (j := 4) (by decide)) (by decide)).trans (congrArg some (ms_cw (by decide) (congrArg (eI_ 0 4) (nzu ρ 4 22 4 0 v (by decide) (by decide))) (cwx c ρ Z γ _ 4 22 v (by decide) rfl (by decide) (by decide) (by decide) (by decide) (by decide) (by decide) (by decide))))
theorem cw_a4_1 : aI_ (cw_ M c ρ Z γ) (c + 4) 0 1 = some (ρ 26) := (aIof (cw_at (j := 4) (by decide)) (by decide)).trans rfl
theorem cw_s4_1 (v : Int32) : sI_ (cw_ M c ρ Z γ) (c + 4) 0 1 v = some (cw_ M c (upd ρ 26 v) Z γ) := (sIof (cw_at (j := 4) (by decide)) (by decide)).trans (congrArg some (ms_cw (by decide) (congrArg (eI_ 0 4) (nzu ρ 4 22 4 1 v (by decide) (by decide))) (cwx c ρ Z γ _ 4 26 v (by decide) rfl (by decide) (by decide) (by decide) (by decide) (by decide) (by decide) (by decide))))
theorem cw_a4_2 : aI_ (cw_ M c ρ Z γ) (c + 4) 0 2 = some (ρ 30) := (aIof (cw_at (j := 4) (by decide)) (by decide)).trans rfl
theorem cw_s4_2 (v : Int32) : sI_ (cw_ M c ρ Z γ) (c + 4) 0 2 v = some (cw_ M c (upd ρ 30 v) Z γ) := (sIof (cw_at (j := 4) (by decide)) (by decide)).trans (congrArg some (ms_cw (by decide) (congrArg (eI_ 0 4) (nzu ρ 4 22 4 2 v (by decide) (by decide))) (cwx c ρ Z γ _ 4 30 v (by decide) rfl (by decide) (by decide) (by decide) (by decide) (by decide) (by decide) (by decide))))
theorem cw_a4_3 : aI_ (cw_ M c ρ Z γ) (c + 4) 0 3 = some (ρ 34) := (aIof (cw_at (j := 4) (by decide)) (by decide)).trans rfl
theorem cw_s4_3 (v : Int32) : sI_ (cw_ M c ρ Z γ) (c + 4) 0 3 v = some (cw_ M c (upd ρ 34 v) Z γ) := (sIof (cw_at (j := 4) (by decide)) (by decide)).trans (congrArg some (ms_cw (by decide) (congrArg (eI_ 0 4) (nzu ρ 4 22 4 3 v (by decide) (by decide))) (cwx c ρ Z γ _ 4 34 v (by decide) rfl (by decide) (by decide) (by decide) (by decide) (by decide) (by decide) (by decide))))
theorem cw_a5_0 : aI_ (cw_ M c ρ Z γ) (c + 5) 0 0 = some (ρ 36) := (aIof (cw_at (j := 5) (by decide)) (by decide)).trans rfl
theorem cw_s5_0 (v : Int32) : sI_ (cw_ M c ρ Z γ) (c + 5) 0 0 v = some (cw_ M c (upd ρ 36 v) Z γ) := (sIof (cw_at (j := 5) (by decide)) (by decide)).trans (congrArg some (ms_cw (by decide) (congrArg (eI_ 0 2) (nzu ρ 2 36 3 0 v (by decide) (by decide))) (cwx c ρ Z γ _ 5 36 v (by decide) rfl (by decide) (by decide) (by decide) (by decide) (by decide) (by decide) (by decide))))
theorem cw_a5_1 : aI_ (cw_ M c ρ Z γ) (c + 5) 0 1 = some (ρ 39) := (aIof (cw_at (j := 5) (by decide)) (by decide)).trans rfl
theorem cw_s5_1 (v : Int32) : sI_ (cw_ M c ρ Z γ) (c + 5) 0 1 v = some (cw_ M c (upd ρ 39 v) Z γ) := (sIof (cw_at (j := 5) (by decide)) (by decide)).trans (congrArg some (ms_cw (by decide) (congrArg (eI_ 0 2) (nzu ρ 2 36 3 1 v (by decide) (by decide))) (cwx c ρ Z γ _ 5 39 v (by decide) rfl (by decide) (by decide) (by decide) (by decide) (by decide) (by decide) (by decide))))
theorem cw_a6_0 : aI_ (cw_ M c ρ Z γ) (c + 6) 0 0 = some (ρ 37) := (aIof (cw_at (j := 6) (by decide)) (by decide)).trans rfl
theorem cw_s6_0 (v : Int32) : sI_ (cw_ M c ρ Z γ) (c + 6) 0 0 v = some (cw_ M c (upd ρ 37 v) Z γ) := (sIof (cw_at (j := 6) (by decide)) (by decide)).trans (congrArg some (ms_cw (by decide) (congrArg (eI_ 0 2) (nzu ρ 2 37 3 0 v (by decide) (by decide))) (cwx c ρ Z γ _ 6 37 v (by decide) rfl (by decide) (by decide) (by decide) (by decide) (by decide) (by decide) (by decide))))
theorem cw_a6_1 : aI_ (cw_ M c ρ Z γ) (c + 6) 0 1 = some (ρ 40) := (aIof (cw_at (j := 6) (by decide)) (by decide)).trans rfl
theorem cw_s6_1 (v : Int32) : sI_ (cw_ M c ρ Z γ) (c + 6) 0 1 v = some (cw_ M c (upd ρ 40 v) Z γ) := (sIof (cw_at (j := 6) (by decide)) (by decide)).trans (congrArg some (ms_cw (by decide) (congrArg (eI_ 0 2) (nzu ρ 2 37 3 1 v (by decide) (by decide))) (cwx c ρ Z γ _ 6 40 v (by decide) rfl (by decide) (by decide) (by decide) (by decide) (by decide) (by decide) (by decide))))
theorem cw_a7_0 : aI_ (cw_ M c ρ Z γ) (c + 7) 0 0 = some (ρ 38) := (aIof (cw_at (j := 7) (by decide)) (by decide)).trans rfl
theorem cw_s7_0 (v : Int32) : sI_ (cw_ M c ρ Z γ) (c + 7) 0 0 v = some (cw_ M c (upd ρ 38 v) Z γ) := (sIof (cw_at (j := 7) (by decide)) (by decide)).trans (congrArg some (ms_cw (by decide) (congrArg (eI_ 0 2) (nzu ρ 2 38 3 0 v (by decide) (by decide))) (cwx c ρ Z γ _ 7 38 v (by decide) rfl (by decide) (by decide) (by decide) (by decide) (by decide) (by decide) (by decide))))
theorem cw_a7_1 : aI_ (cw_ M c ρ Z γ) (c + 7) 0 1 = some (ρ 41) := (aIof (cw_at (j := 7) (by decide)) (by decide)).trans rfl
theorem cw_s7_1 (v : Int32) : sI_ (cw_ M c ρ Z γ) (c + 7) 0 1 v = some (cw_ M c (upd ρ 41 v) Z γ) := (sIof (cw_at (j := 7) (by decide)) (by decide)).trans (congrArg some (ms_cw (by decide) (congrArg (eI_ 0 2) (nzu ρ 2 38 3 1 v (by decide) (by decide))) (cwx c ρ Z γ _ 7 41 v (by decide) rfl (by decide) (by decide) (by decide) (by decide) (by decide) (by decide) (by decide))))
theorem cw_a8_0 : aI_ (cw_ M c ρ Z γ) (c + 8) 0 0 = some (γ 0) := (aIof (cw_at (j := 8) (by decide)) (by decide)).trans rfl
theorem cw_s8_0 (v : Int32) : sI_ (cw_ M c ρ Z γ) (c + 8) 0 0 v = some (cw_ M c ρ Z (upd γ 0 v)) := (sIof (cw_at (j := 8) (by decide)) (by decide)).trans (congrArg some (ms_cw (by decide) (congrArg (eI_ 0 4) (nzg γ 4 0 v (by decide))) (fun i hi hij => by match i, hi with | 0, _ => rfl | 1, _ => rfl | 2, _ => rfl | 3, _ => rfl | 4, _ => rfl | 5, _ => rfl | 6, _ => rfl | 7, _ => rfl | 8, _ => exact absurd rfl hij)))
theorem cw_a8_1 : aI_ (cw_ M c ρ Z γ) (c + 8) 0 1 = some (γ 1) := (aIof (cw_at (j := 8) (by decide)) (by decide)).trans rfl
theorem cw_s8_1 (v : Int32) : sI_ (cw_ M c ρ Z γ) (c + 8) 0 1 v = some (cw_ M c ρ Z (upd γ 1 v)) := (sIof (cw_at (j := 8) (by decide)) (by decide)).trans (congrArg some (ms_cw (by decide) (congrArg (eI_ 0 4) (nzg γ 4 1 v (by decide))) (fun i hi hij => by match i, hi with | 0, _ => rfl | 1, _ => rfl | 2, _ => rfl | 3, _ => rfl | 4, _ => rfl | 5, _ => rfl | 6, _ => rfl | 7, _ => rfl | 8, _ => exact absurd rfl hij)))
theorem cw_a8_2 : aI_ (cw_ M c ρ Z γ) (c + 8) 0 2 = some (γ 2) := (aIof (cw_at (j := 8) (by decide)) (by decide)).trans rfl
theorem cw_s8_2 (v : Int32) : sI_ (cw_ M c ρ Z γ) (c + 8) 0 2 v = some (cw_ M c ρ Z (upd γ 2 v)) := (sIof (cw_at (j := 8) (by decide)) (by decide)).trans (congrArg some (ms_cw (by decide) (congrArg (eI_ 0 4) (nzg γ 4 2 v (by decide))) (fun i hi hij => by match i, hi with | 0, _ => rfl | 1, _ => rfl | 2, _ => rfl | 3, _ => rfl | 4, _ => rfl | 5, _ => rfl | 6, _ => rfl | 7, _ => rfl | 8, _ => exact absurd rfl hij)))
theorem cw_a8_3 : aI_ (cw_ M c ρ Z γ) (c + 8) 0 3 = some (γ 3) := (aIof (cw_at (j := 8) (by decide)) (by decide)).trans rfl
theorem cw_s8_3 (v : Int32) : sI_ (cw_ M c ρ Z γ) (c + 8) 0 3 v = some (cw_ M c ρ Z (upd γ 3 v)) := (sIof (cw_at (j := 8) (by decide)) (by decide)).trans (congrArg some (ms_cw (by decide) (congrArg (eI_ 0 4) (nzg γ 4 3 v (by decide))) (fun i hi hij => by match i, hi with | 0, _ => rfl | 1, _ => rfl | 2, _ => rfl | 3, _ => rfl | 4, _ => rfl | 5, _ => rfl | 6, _ => rfl | 7, _ => rfl | 8, _ => exact absurd rfl hij)))
theorem cw_p9 (v : Int32) : pF_ (cw_ M c ρ Z γ) c 1 9 (.int v) = some (cw_ M c (upd ρ 0 v) Z γ) := (pFof cw_0 (Nat.le_of_ble_eq_true rfl)).trans (congrArg some (ms_cw (j := 0) (by decide) rfl (cwx c ρ Z γ _ 0 0 v (by decide) rfl (by decide) (by decide) (by decide) (by decide) (by decide) (by decide) (by decide))))
theorem cw_p10 (v : Int32) : pF_ (cw_ M c ρ Z γ) c 1 10 (.int v) = some (cw_ M c (upd ρ 2 v) Z γ) := (pFof cw_0 (Nat.le_of_ble_eq_true rfl)).trans (congrArg some (ms_cw (j := 0) (by decide) rfl (cwx c ρ Z γ _ 0 2 v (by decide) rfl (by decide) (by decide) (by decide) (by decide) (by decide) (by decide) (by decide))))
theorem cw_p11 (v : Int32) : pF_ (cw_ M c ρ Z γ) c 1 11 (.int v) = some (cw_ M c (upd ρ 3 v) Z γ) := (pFof cw_0 (Nat.le_of_ble_eq_true rfl)).trans (congrArg some (ms_cw (j := 0) (by decide) rfl (cwx c ρ Z γ _ 0 3 v (by decide) rfl (by decide) (by decide) (by decide) (by decide) (by decide) (by decide) (by decide))))
theorem cw_p12 (v : Int32) : pF_ (cw_ M c ρ Z γ) c 1 12 (.int v) = some (cw_ M c (upd ρ 1 v) Z γ) := (pFof cw_0 (Nat.le_of_ble_eq_true rfl)).trans (congrArg some (ms_cw (j := 0) (by decide) rfl (cwx c ρ Z γ _ 0 1 v (by decide) rfl (by decide) (by decide) (by decide) (by decide) (by decide) (by decide) (by decide))))
end CW
/-! a row of the twin and its 'gone' -/
def tw_ (M : Mem_) (r g : Nat) (ρ γ : Rw_) : Mem_ := fun q => if q = r then some (eI_ 0 42 ρ) else if q = g then some (eI_ 0 4 γ) else M q
theorem tw_r {M : Mem_} {r g : Nat} {ρ γ : Rw_} : tw_ M r g ρ γ r = some (eI_ 0 42 ρ) := if_pos rfl
theorem tw_g {M : Mem_} {r g : Nat} {ρ γ : Rw_} (h : g ≠ r) : tw_ M r g ρ γ g = some (eI_ 0 4 γ) := by
  unfold tw_
  rw [if_neg h, if_pos rfl]
theorem tw_o {M : Mem_} {r g q : Nat} {ρ γ : Rw_} (h : q ≠ r) (h2 : q ≠ g) : tw_ M r g ρ γ q = M q := by
  unfold tw_
  rw [if_neg h, if_neg h2]
theorem tw_eq {M : Mem_} {r g : Nat} {ρ γ : Rw_} (h : M r = some (eI_ 0 42 ρ)) (h2 : M g = some (eI_ 0 4 γ)) : tw_ M r g ρ γ = M := by
  funext q
  unfold tw_
  split
  · rename_i e
    rw [e, h]
  · split
    · rename_i e
      rw [e, h2]
    · rfl
theorem tw_tw (M : Mem_) (r g : Nat) (ρ γ ρ' γ' : Rw_) : tw_ (tw_ M r g ρ γ) r g ρ' γ' = tw_ M r g ρ' γ' := by
  funext q
  unfold tw_
  split
  · rfl
  · split
    · rfl
    · rfl
theorem ms_r (M : Mem_) (r g : Nat) (ρ γ ρ' : Rw_) : ms_ (tw_ M r g ρ γ) r (eI_ 0 42 ρ') = tw_ M r g ρ' γ := by
  funext q
  show (if q = r then _ else if q = r then _ else _) = if q = r then _ else _
  split
  · rfl
  · rfl
theorem ms_g {M : Mem_} {r g : Nat} (ρ γ γ' : Rw_) (h : g ≠ r) : ms_ (tw_ M r g ρ γ) g (eI_ 0 4 γ') = tw_ M r g ρ γ' := by
  funext q
  show (if q = g then _ else if q = r then _ else if q = g then _ else _) = if q = r then _ else if q = g then _ else _
  by_cases e : q = g
  · subst e
    rw [if_pos rfl, if_neg h, if_pos rfl]
  · rw [if_neg e, if_neg e, if_neg e]
section TW
variable (M : Mem_) (r g : Nat) (ρ γ : Rw_)
theorem tw_a {i : Int32} (hi : ¬ (i < 0 ∨ 42 ≤ i.toNatClampNeg)) : aI_ (tw_ M r g ρ γ) r 0 i = some (ρ i.toNatClampNeg) := aIof tw_r hi
theorem tw_s {i : Int32} (v : Int32) (hi : ¬ (i < 0 ∨ 42 ≤ i.toNatClampNeg)) : sI_ (tw_ M r g ρ γ) r 0 i v = some (tw_ M r g (upd ρ i.toNatClampNeg v) γ) := (sIof tw_r hi).trans (congrArg some (ms_r M r g ρ γ _))
theorem tw_a0 : aI_ (tw_ M r g ρ γ) r 0 0 = some (ρ 0) := tw_a M r g ρ γ (i := 0) (by decide)
theorem tw_s0 (v : Int32) : sI_ (tw_ M r g ρ γ) r 0 0 v = some (tw_ M r g (upd ρ 0 v) γ) := tw_s M r g ρ γ (i := 0) v (by decide)
theorem tw_a1 : aI_ (tw_ M r g ρ γ) r 0 1 = some (ρ 1) := tw_a M r g ρ γ (i := 1) (by decide)
theorem tw_s1 (v : Int32) : sI_ (tw_ M r g ρ γ) r 0 1 v = some (tw_ M r g (upd ρ 1 v) γ) := tw_s M r g ρ γ (i := 1) v (by decide)
theorem tw_a2 : aI_ (tw_ M r g ρ γ) r 0 2 = some (ρ 2) := tw_a M r g ρ γ (i := 2) (by decide)
theorem tw_s2 (v : Int32) : sI_ (tw_ M r g ρ γ) r 0 2 v = some (tw_ M r g (upd ρ 2 v) γ) := tw_s M r g ρ γ (i := 2) v (by decide)
theorem tw_a3 : aI_ (tw_ M r g ρ γ) r 0 3 = some (ρ 3) := tw_a M r g ρ γ (i := 3) (by decide)
theorem tw_s3 (v : Int32) : sI_ (tw_ M r g ρ γ) r 0 3 v = some (tw_ M r g (upd ρ 3 v) γ) := tw_s M r g ρ γ (i := 3) v (by decide)
theorem tw_a20 : aI_ (tw_ M r g ρ γ) r 0 20 = some (ρ 20) := tw_a M r g ρ γ (i := 20) (by decide)
theorem tw_s20 (v : Int32) : sI_ (tw_ M r g ρ γ) r 0 20 v = some (tw_ M r g (upd ρ 20 v) γ) := tw_s M r g ρ γ (i := 20) v (by decide)
theorem tw_a21 : aI_ (tw_ M r g ρ γ) r 0 21 = some (ρ 21) := tw_a M r g ρ γ (i := 21) (by decide)
theorem tw_s21 (v : Int32) : sI_ (tw_ M r g ρ γ) r 0 21 v = some (tw_ M r g (upd ρ 21 v) γ) := tw_s M r g ρ γ (i := 21) v (by decide)
theorem tw_a22 : aI_ (tw_ M r g ρ γ) r 0 22 = some (ρ 22) := tw_a M r g ρ γ (i := 22) (by decide)
theorem tw_s22 (v : Int32) : sI_ (tw_ M r g ρ γ) r 0 22 v = some (tw_ M r g (upd ρ 22 v) γ) := tw_s M r g ρ γ (i := 22) v (by decide)
theorem tw_a23 : aI_ (tw_ M r g ρ γ) r 0 23 = some (ρ 23) := tw_a M r g ρ γ (i := 23) (by decide)
theorem tw_s23 (v : Int32) : sI_ (tw_ M r g ρ γ) r 0 23 v = some (tw_ M r g (upd ρ 23 v) γ) := tw_s M r g ρ γ (i := 23) v (by decide)
theorem tw_a24 : aI_ (tw_ M r g ρ γ) r 0 24 = some (ρ 24) := tw_a M r g ρ γ (i := 24) (by decide)
theorem tw_s24 (v : Int32) : sI_ (tw_ M r g ρ γ) r 0 24 v = some (tw_ M r g (upd ρ 24 v) γ) := tw_s M r g ρ γ (i := 24) v (by decide)
theorem tw_a25 : aI_ (tw_ M r g ρ γ) r 0 25 = some (ρ 25) := tw_a M r g ρ γ (i := 25) (by decide)
theorem tw_s25 (v : Int32) : sI_ (tw_ M r g ρ γ) r 0 25 v = some (tw_ M r g (upd ρ 25 v) γ) := tw_s M r g ρ γ (i := 25) v (by decide)
theorem tw_a26 : aI_ (tw_ M r g ρ γ) r 0 26 = some (ρ 26) := tw_a M r g ρ γ (i := 26) (by decide)
theorem tw_s26 (v : Int32) : sI_ (tw_ M r g ρ γ) r 0 26 v = some (tw_ M r g (upd ρ 26 v) γ) := tw_s M r g ρ γ (i := 26) v (by decide)
theorem tw_a27 : aI_ (tw_ M r g ρ γ) r 0 27 = some (ρ 27) := tw_a M r g ρ γ (i := 27) (by decide)
theorem tw_s27 (v : Int32) : sI_ (tw_ M r g ρ γ) r 0 27 v = some (tw_ M r g (upd ρ 27 v) γ) := tw_s M r g ρ γ (i := 27) v (by decide)
theorem tw_a28 : aI_ (tw_ M r g ρ γ) r 0 28 = some (ρ 28) := tw_a M r g ρ γ (i := 28) (by decide)
theorem tw_s28 (v : Int32) : sI_ (tw_ M r g ρ γ) r 0 28 v = some (tw_ M r g (upd ρ 28 v) γ) := tw_s M r g ρ γ (i := 28) v (by decide)
theorem tw_a29 : aI_ (tw_ M r g ρ γ) r 0 29 = some (ρ 29) := tw_a M r g ρ γ (i := 29) (by decide)
theorem tw_s29 (v : Int32) : sI_ (tw_ M r g ρ γ) r 0 29 v = some (tw_ M r g (upd ρ 29 v) γ) := tw_s M r g ρ γ (i := 29) v (by decide)
theorem tw_a30 : aI_ (tw_ M r g ρ γ) r 0 30 = some (ρ 30) := tw_a M r g ρ γ (i := 30) (by decide)
theorem tw_s30 (v : Int32) : sI_ (tw_ M r g ρ γ) r 0 30 v = some (tw_ M r g (upd ρ 30 v) γ) := tw_s M r g ρ γ (i := 30) v (by decide)
theorem tw_a31 : aI_ (tw_ M r g ρ γ) r 0 31 = some (ρ 31) := tw_a M r g ρ γ (i := 31) (by decide)
theorem tw_s31 (v : Int32) : sI_ (tw_ M r g ρ γ) r 0 31 v = some (tw_ M r g (upd ρ 31 v) γ) := tw_s M r g ρ γ (i := 31) v (by decide)
theorem tw_a32 : aI_ (tw_ M r g ρ γ) r 0 32 = some (ρ 32) := tw_a M r g ρ γ (i := 32) (by decide)
theorem tw_s32 (v : Int32) : sI_ (tw_ M r g ρ γ) r 0 32 v = some (tw_ M r g (upd ρ 32 v) γ) := tw_s M r g ρ γ (i := 32) v (by decide)
theorem tw_a33 : aI_ (tw_ M r g ρ γ) r 0 33 = some (ρ 33) := tw_a M r g ρ γ (i := 33) (by decide)
theorem tw_s33 (v : Int32) : sI_ (tw_ M r g ρ γ) r 0 33 v = some (tw_ M r g (upd ρ 33 v) γ) := tw_s M r g ρ γ (i := 33) v (by decide)
theorem tw_a34 : aI_ (tw_ M r g ρ γ) r 0 34 = some (ρ 34) := tw_a M r g ρ γ (i := 34) (by decide)
theorem tw_s34 (v : Int32) : sI_ (tw_ M r g ρ γ) r 0 34 v = some (tw_ M r g (upd ρ 34 v) γ) := tw_s M r g ρ γ (i := 34) v (by decide)
theorem tw_a35 : aI_ (tw_ M r g ρ γ) r 0 35 = some (ρ 35) := tw_a M r g ρ γ (i := 35) (by decide)
theorem tw_s35 (v : Int32) : sI_ (tw_ M r g ρ γ) r 0 35 v = some (tw_ M r g (upd ρ 35 v) γ) := tw_s M r g ρ γ (i := 35) v (by decide)
theorem tw_a36 : aI_ (tw_ M r g ρ γ) r 0 36 = some (ρ 36) := tw_a M r g ρ γ (i := 36) (by decide)
theorem tw_s36 (v : Int32) : sI_ (tw_ M r g ρ γ) r 0 36 v = some (tw_ M r g (upd ρ 36 v) γ) := tw_s M r g ρ γ (i := 36) v (by decide)
theorem tw_a37 : aI_ (tw_ M r g ρ γ) r 0 37 = some (ρ 37) := tw_a M r g ρ γ (i := 37) (by decide)
theorem tw_s37 (v : Int32) : sI_ (tw_ M r g ρ γ) r 0 37 v = some (tw_ M r g (upd ρ 37 v) γ) := tw_s M r g ρ γ (i := 37) v (by decide)
theorem tw_a38 : aI_ (tw_ M r g ρ γ) r 0 38 = some (ρ 38) := tw_a M r g ρ γ (i := 38) (by decide)
theorem tw_s38 (v : Int32) : sI_ (tw_ M r g ρ γ) r 0 38 v = some (tw_ M r g (upd ρ 38 v) γ) := tw_s M r g ρ γ (i := 38) v (by decide)
theorem tw_a39 : aI_ (tw_ M r g ρ γ) r 0 39 = some (ρ 39) := tw_a M r g ρ γ (i := 39) (by decide)
theorem tw_s39 (v : Int32) : sI_ (tw_ M r g ρ γ) r 0 39 v = some (tw_ M r g (upd ρ 39 v) γ) := tw_s M r g ρ γ (i := 39) v (by decide)
theorem tw_a40 : aI_ (tw_ M r g ρ γ) r 0 40 = some (ρ 40) := tw_a M r g ρ γ (i := 40) (by decide)
theorem tw_s40 (v : Int32) : sI_ (tw_ M r g ρ γ) r 0 40 v = some (tw_ M r g (upd ρ 40 v) γ) := tw_s M r g ρ γ (i := 40) v (by decide)
theorem tw_a41 : aI_ (tw_ M r g ρ γ) r 0 41 = some (ρ 41) := tw_a M r g ρ γ (i := 41) (by decide)
theorem tw_s41 (v : Int32) : sI_ (tw_ M r g ρ γ) r 0 41 v = some (tw_ M r g (upd ρ 41 v) γ) := tw_s M r g ρ γ (i := 41) v (by decide)
theorem tw_ga0 (h : g ≠ r) : aI_ (tw_ M r g ρ γ) g 0 0 = some (γ 0) := aIof (i := 0) (tw_g h) (by decide)
theorem tw_gs0 (h : g ≠ r) (v : Int32) : sI_ (tw_ M r g ρ γ) g 0 0 v = some (tw_ M r g ρ (upd γ 0 v)) := (sIof (i := 0) (tw_g h) (by decide)).trans (congrArg some (ms_g ρ γ _ h))
theorem tw_ga1 (h : g ≠ r) : aI_ (tw_ M r g ρ γ) g 0 1 = some (γ 1) := aIof (i := 1) (tw_g h) (by decide)
theorem tw_gs1 (h : g ≠ r) (v : Int32) : sI_ (tw_ M r g ρ γ) g 0 1 v = some (tw_ M r g ρ (upd γ 1 v)) := (sIof (i := 1) (tw_g h) (by decide)).trans (congrArg some (ms_g ρ γ _ h))
theorem tw_ga2 (h : g ≠ r) : aI_ (tw_ M r g ρ γ) g 0 2 = some (γ 2) := aIof (i := 2) (tw_g h) (by decide)
theorem tw_gs2 (h : g ≠ r) (v : Int32) : sI_ (tw_ M r g ρ γ) g 0 2 v = some (tw_ M r g ρ (upd γ 2 v)) := (sIof (i := 2) (tw_g h) (by decide)).trans (congrArg some (ms_g ρ γ _ h))
theorem tw_ga3 (h : g ≠ r) : aI_ (tw_ M r g ρ γ) g 0 3 = some (γ 3) := aIof (i := 3) (tw_g h) (by decide)
theorem tw_gs3 (h : g ≠ r) (v : Int32) : sI_ (tw_ M r g ρ γ) g 0 3 v = some (tw_ M r g ρ (upd γ 3 v)) := (sIof (i := 3) (tw_g h) (by decide)).trans (congrArg some (ms_g ρ γ _ h))
end TW
