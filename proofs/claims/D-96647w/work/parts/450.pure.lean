/-! copies of courts and rows -/
set_option maxRecDepth 100000
def cg_ (M : Mem_) (a : Nat) (E : Nat → Ent_) : Mem_ := fun q => if a ≤ q ∧ q < a + 9 then some (E (q - a)) else M q
def eu_ (E : Nat → Ent_) (j : Nat) (e : Ent_) : Nat → Ent_ := fun i => if i = j then e else E i
theorem cg_at {M : Mem_} {a : Nat} {E : Nat → Ent_} {j : Nat} (hj : j < 9) : cg_ M a E (a + j) = some (E j) := by
  unfold cg_
  rw [if_pos ⟨by omega, by omega⟩, Nat.add_sub_cancel_left]
theorem cg_0 {M : Mem_} {a : Nat} {E : Nat → Ent_} : cg_ M a E a = some (E 0) := cg_at (j := 0) (by decide)
theorem cg_out {M : Mem_} {a : Nat} {E : Nat → Ent_} {q : Nat} (h : q < a ∨ a + 9 ≤ q) : cg_ M a E q = M q := by
  unfold cg_
  rw [if_neg (by omega)]
theorem cg_ms {M : Mem_} {a : Nat} {E : Nat → Ent_} {j : Nat} {e : Ent_} (hj : j < 9) : ms_ (cg_ M a E) (a + j) e = cg_ M a (eu_ E j e) := by
  funext q
  by_cases hq : q = a + j
  · subst hq
    rw [cg_at hj]
    show (if a + j = a + j then _ else _) = some (if j = j then e else E j)
    rw [if_pos rfl, if_pos rfl]
  · show (if q = a + j then _ else cg_ M a E q) = _
    rw [if_neg hq]
    by_cases hw : a ≤ q ∧ q < a + 9
    · have e1 : q = a + (q - a) := by omega
      rw [e1, cg_at (by omega), cg_at (by omega)]
      show _ = some (if q - a = j then e else E (q - a))
      rw [if_neg (by omega)]
    · rw [cg_out (by omega), cg_out (by omega)]
theorem cg_ms0 {M : Mem_} {a : Nat} {E : Nat → Ent_} {e : Ent_} : ms_ (cg_ M a E) a e = cg_ M a (eu_ E 0 e) := cg_ms (j := 0) (by decide)
theorem cg_ext {M : Mem_} {a : Nat} {E E' : Nat → Ent_} (h : ∀ j, j < 9 → E j = E' j) : cg_ M a E = cg_ M a E' := by
  funext q
  unfold cg_
  split
  · rw [h _ (by omega)]
  · rfl
theorem aqof {M : Mem_} {a t n : Nat} {f : Zr_} (h : M a = some (eQ_ t n f)) : aq_ M a t = some (n, f) := by
  unfold aq_
  rw [h]
  exact if_pos rfl
theorem aiof {M : Mem_} {a t n : Nat} {f : Rw_} (h : M a = some (eI_ t n f)) : ai_ M a t = some (n, f) := by
  unfold ai_
  rw [h]
  exact if_pos rfl
theorem cSof {M : Mem_} {a0 a : Nat} {f g : Zr_} (h0 : M a0 = some (eQ_ 3 8 f)) (h1 : M a = some (eQ_ 3 8 g)) (hok : ∀ i, i < 8 → okS_ M (f i) = true) : cS_ M a0 0 a 0 8 = some (ms_ M a (eQ_ 3 8 (va_cpy f g 0 0 8))) := by
  unfold cS_
  rw [aqof h0, aqof h1, Option.bind_some, Option.bind_some]
  exact if_pos ⟨by decide, by decide, by decide, Nat.le_of_ble_eq_true rfl, Nat.le_of_ble_eq_true rfl, List.all_eq_true.mpr fun i hi => by
    rw [show ((0 : Int32).toNatClampNeg + i) = i from Nat.zero_add i]
    exact hok i (List.mem_range.mp hi)⟩
theorem cop4 {M : Mem_} {a0 a : Nat} {f g : Rw_} (h0 : M a0 = some (eI_ 0 4 f)) (h1 : M a = some (eI_ 0 4 g)) : fX2_copies M a0 a = some (ms_ M a (eI_ 0 4 (va_cpy f g 0 0 4))) := by
  unfold fX2_copies cI_
  rw [lIof h1, Option.bind_some, aiof h0, aiof h1, Option.bind_some, Option.bind_some, if_pos ⟨by decide, by decide, by decide, Nat.le_of_ble_eq_true rfl, Nat.le_of_ble_eq_true rfl, List.all_eq_true.mpr fun i hi => rfl⟩, Option.bind_some]
  rfl
theorem cop2 {M : Mem_} {a0 a : Nat} {f g : Rw_} (h0 : M a0 = some (eI_ 0 2 f)) (h1 : M a = some (eI_ 0 2 g)) : fX2_copies M a0 a = some (ms_ M a (eI_ 0 2 (va_cpy f g 0 0 2))) := by
  unfold fX2_copies cI_
  rw [lIof h1, Option.bind_some, aiof h0, aiof h1, Option.bind_some, Option.bind_some, if_pos ⟨by decide, by decide, by decide, Nat.le_of_ble_eq_true rfl, Nat.le_of_ble_eq_true rfl, List.all_eq_true.mpr fun i hi => rfl⟩, Option.bind_some]
  rfl
theorem ms_ms (M : Mem_) (a : Nat) (e e' : Ent_) : ms_ (ms_ M a e) a e' = ms_ M a e' := by
  funext q
  show (if q = a then _ else if q = a then _ else _) = if q = a then _ else _
  split <;> rfl
theorem ms_at (M : Mem_) (a : Nat) (e : Ent_) : ms_ M a e a = some e := if_pos rfl
theorem ms_ne {M : Mem_} {a q : Nat} {e : Ent_} (h : q ≠ a) : ms_ M a e q = M q := if_neg h
theorem fill4' {M : Mem_} {a : Nat} {f : Rw_} (fuel : Nat) (h : M a = some (eI_ 0 4 f)) : fJ5_fill_L5 (fuel + 1 + 1 + 1 + 1 + 1) M a 0 0 4 = some (ms_ M a (eI_ 0 4 (upd (upd (upd (upd f 0 0) 1 0) 2 0) 3 0))) := by
  rw [fJ5_fill_L5, if_neg (by decide), sIof h (by decide), Option.bind_some, lt_, show ((0 : Int32) + 1) = 1 from rfl]
  rw [fJ5_fill_L5, if_neg (by decide), sIof (ms_at _ _ _) (by decide), ms_ms, Option.bind_some, lt_, show ((1 : Int32) + 1) = 2 from rfl]
  rw [fJ5_fill_L5, if_neg (by decide), sIof (ms_at _ _ _) (by decide), ms_ms, Option.bind_some, lt_, show ((2 : Int32) + 1) = 3 from rfl]
  rw [fJ5_fill_L5, if_neg (by decide), sIof (ms_at _ _ _) (by decide), ms_ms, Option.bind_some, lt_, show ((3 : Int32) + 1) = 4 from rfl]
  rw [fJ5_fill_L5, if_pos (by decide)]
  rfl
theorem fill4 {M : Mem_} {a : Nat} {f : Rw_} (h : M a = some (eI_ 0 4 f)) : fJ5_fill M a 0 = some (ms_ M a (eI_ 0 4 (upd (upd (upd (upd f 0 0) 1 0) 2 0) 3 0))) := by
  unfold fJ5_fill
  rw [lIof h, Option.bind_some, show Int32.ofNat 4 = 4 from rfl, show 1000 = 995 + 1 + 1 + 1 + 1 + 1 from rfl]
  exact fill4' 995 h
theorem nz_cpy (n : Nat) (f g : Rw_) : va_cpy (nz_ n f) (nz_ n g) 0 0 n = nz_ n f := by
  funext q
  show (if 0 ≤ q ∧ q < 0 + n then nz_ n f (0 + (q - 0)) else nz_ n g q) = _
  by_cases h : q < n
  · rw [if_pos ⟨by omega, by omega⟩, Nat.zero_add, Nat.sub_zero]
  · rw [if_neg (by omega)]
    unfold nz_
    rw [if_neg h, if_neg h]
theorem nz_fill (f : Rw_) : upd (upd (upd (upd (nz_ 4 f) 0 0) 1 0) 2 0) 3 0 = nz_ 4 (fun _ => 0) := by
  funext q
  show (if q = 3 then 0 else if q = 2 then 0 else if q = 1 then 0 else if q = 0 then 0 else if q < 4 then f q else 0) = if q < 4 then 0 else (0 : Int32)
  by_cases h : q < 4
  · rw [if_pos h]
    repeat' split
    all_goals first | rfl | omega
  · rw [if_neg h]
    repeat' split
    all_goals rfl
/-- an array of strokes up to its eighth -/
def zz_ (Z Z' : Zr_) : Zr_ := va_cpy Z Z' 0 0 8
def nine (a : Nat) (l0 l1 l2 l3 l4 : Int32) (Z : Zr_) (f2 f3 f4 f5 f6 f7 f8 : Rw_) (j : Nat) : Ent_ := match j with
  | 0 => eO_ 1 [.ref (a + 1), .ref (a + 2), .ref (a + 3), .ref (a + 4), .ref (a + 5), .ref (a + 6), .ref (a + 7), .ref (a + 8), .int l0, .int l1, .int l2, .int l3, .int l4]
  | 1 => eQ_ 3 8 Z
  | 2 => eI_ 0 4 f2
  | 3 => eI_ 0 4 f3
  | 4 => eI_ 0 4 f4
  | 5 => eI_ 0 2 f5
  | 6 => eI_ 0 2 f6
  | 7 => eI_ 0 2 f7
  | _ => eI_ 0 4 f8
set_option maxHeartbeats 4000000 in
theorem takes_ok {M : Mem_} {a b : Nat} {ρa ρb : Rw_} {Za Zb : Zr_} {γa γb : Rw_} (ha : Co_ M a ρa Za γa) (hb : Co_ M b ρb Zb γb) (hd : b + 9 ≤ a ∨ a + 9 ≤ b) (hok : ∀ i, i < 8 → okS_ M (Zb i) = true) : fX2_takes M a b = some (cw_ M a ρb (zz_ Zb Za) (fun _ => 0)) := by
  have n9 : ∀ {l0 l1 l2 l3 l4 : Int32} {Z : Zr_} {f2 f3 f4 f5 f6 f7 f8 : Rw_} {ρ : Rw_} {γ : Rw_}, lf_ ρ = l0 → ρ 0 = l1 → ρ 2 = l2 → ρ 3 = l3 → ρ 1 = l4 → (nz_ 4 fun p => ρ (20 + 4 * p)) = f2 → (nz_ 4 fun p => ρ (21 + 4 * p)) = f3 → (nz_ 4 fun p => ρ (22 + 4 * p)) = f4 → (nz_ 2 fun p => ρ (36 + 3 * p)) = f5 → (nz_ 2 fun p => ρ (37 + 3 * p)) = f6 → (nz_ 2 fun p => ρ (38 + 3 * p)) = f7 → nz_ 4 γ = f8 → cg_ M a (ct_ a ρ Z γ) = cg_ M a (nine a l0 l1 l2 l3 l4 Z f2 f3 f4 f5 f6 f7 f8) := by
    intro l0 l1 l2 l3 l4 Z f2 f3 f4 f5 f6 f7 f8 ρ γ e0 e1 e2 e3 e4 e5 e6 e7 e8 e9 e10 e11
    subst e0 e1 e2 e3 e4 e5 e6 e7 e8 e9 e10 e11
    exact cg_ext fun j hj => by
      match j, hj with
      | 0, _ => rfl
      | 1, _ => rfl
      | 2, _ => rfl
      | 3, _ => rfl
      | 4, _ => rfl
      | 5, _ => rfl
      | 6, _ => rfl
      | 7, _ => rfl
      | 8, _ => rfl
  have hM : M = cg_ M a (nine a (lf_ ρa) (ρa 0) (ρa 2) (ρa 3) (ρa 1) Za (nz_ 4 fun p => ρa (20 + 4 * p)) (nz_ 4 fun p => ρa (21 + 4 * p)) (nz_ 4 fun p => ρa (22 + 4 * p)) (nz_ 2 fun p => ρa (36 + 3 * p)) (nz_ 2 fun p => ρa (37 + 3 * p)) (nz_ 2 fun p => ρa (38 + 3 * p)) (nz_ 4 γa)) := (cw_eq ha).symm.trans (n9 rfl rfl rfl rfl rfl rfl rfl rfl rfl rfl rfl rfl)
  have hfin : cw_ M a ρb (zz_ Zb Za) (fun _ => 0) = cg_ M a (nine a (lf_ ρb) (ρb 0) (ρb 2) (ρb 3) (ρb 1) (zz_ Zb Za) (nz_ 4 fun p => ρb (20 + 4 * p)) (nz_ 4 fun p => ρb (21 + 4 * p)) (nz_ 4 fun p => ρb (22 + 4 * p)) (nz_ 2 fun p => ρb (36 + 3 * p)) (nz_ 2 fun p => ρb (37 + 3 * p)) (nz_ 2 fun p => ρb (38 + 3 * p)) (nz_ 4 (fun _ => 0))) := n9 rfl rfl rfl rfl rfl rfl rfl rfl rfl rfl rfl rfl
  have hok' := hok
  rw [hM] at hok'
  rw [hfin]
  refine (congrArg (fun m => fX2_takes m a b) hM).trans ?_
  show fX2_takes _ a b = _
  generalize lf_ ρa = l0 at hok' ⊢
  generalize ρa 0 = l1 at hok' ⊢
  generalize ρa 2 = l2 at hok' ⊢
  generalize ρa 3 = l3 at hok' ⊢
  generalize ρa 1 = l4 at hok' ⊢
  have o : ∀ (E : Nat → Ent_) (j : Nat), j < 9 → cg_ M a E (b + j) = some (ct_ b ρb Zb γb j) := fun E j hj => (cg_out (by omega)).trans (hb j hj)
  have o0 : ∀ (E : Nat → Ent_), cg_ M a E b = some (ct_ b ρb Zb γb 0) := fun E => o E 0 (by decide)
  have b0 : ∀ E, gR_ (cg_ M a E) b 1 0 = some (b + 1) := fun E => gRof (o0 E) rfl
  have b1 : ∀ E, gR_ (cg_ M a E) b 1 1 = some (b + 2) := fun E => gRof (o0 E) rfl
  have b2 : ∀ E, gR_ (cg_ M a E) b 1 2 = some (b + 3) := fun E => gRof (o0 E) rfl
  have b3 : ∀ E, gR_ (cg_ M a E) b 1 3 = some (b + 4) := fun E => gRof (o0 E) rfl
  have b4 : ∀ E, gR_ (cg_ M a E) b 1 4 = some (b + 5) := fun E => gRof (o0 E) rfl
  have b5 : ∀ E, gR_ (cg_ M a E) b 1 5 = some (b + 6) := fun E => gRof (o0 E) rfl
  have b6 : ∀ E, gR_ (cg_ M a E) b 1 6 = some (b + 7) := fun E => gRof (o0 E) rfl
  have i8 : ∀ E, gI_ (cg_ M a E) b 1 8 = some (lf_ ρb) := fun E => gIof (o0 E) rfl
  have i9 : ∀ E, gI_ (cg_ M a E) b 1 9 = some (ρb 0) := fun E => gIof (o0 E) rfl
  have i10 : ∀ E, gI_ (cg_ M a E) b 1 10 = some (ρb 2) := fun E => gIof (o0 E) rfl
  have i11 : ∀ E, gI_ (cg_ M a E) b 1 11 = some (ρb 3) := fun E => gIof (o0 E) rfl
  have i12 : ∀ E, gI_ (cg_ M a E) b 1 12 = some (ρb 1) := fun E => gIof (o0 E) rfl
  have a0 : ∀ l0 l1 l2 l3 l4 Z f2 f3 f4 f5 f6 f7 f8, gR_ (cg_ M a (nine a l0 l1 l2 l3 l4 Z f2 f3 f4 f5 f6 f7 f8)) a 1 0 = some (a + 1) := fun _ _ _ _ _ _ _ _ _ _ _ _ _ => gRof cg_0 rfl
  have a1 : ∀ l0 l1 l2 l3 l4 Z f2 f3 f4 f5 f6 f7 f8, gR_ (cg_ M a (nine a l0 l1 l2 l3 l4 Z f2 f3 f4 f5 f6 f7 f8)) a 1 1 = some (a + 2) := fun _ _ _ _ _ _ _ _ _ _ _ _ _ => gRof cg_0 rfl
  have a2 : ∀ l0 l1 l2 l3 l4 Z f2 f3 f4 f5 f6 f7 f8, gR_ (cg_ M a (nine a l0 l1 l2 l3 l4 Z f2 f3 f4 f5 f6 f7 f8)) a 1 2 = some (a + 3) := fun _ _ _ _ _ _ _ _ _ _ _ _ _ => gRof cg_0 rfl
  have a3 : ∀ l0 l1 l2 l3 l4 Z f2 f3 f4 f5 f6 f7 f8, gR_ (cg_ M a (nine a l0 l1 l2 l3 l4 Z f2 f3 f4 f5 f6 f7 f8)) a 1 3 = some (a + 4) := fun _ _ _ _ _ _ _ _ _ _ _ _ _ => gRof cg_0 rfl
  have a4 : ∀ l0 l1 l2 l3 l4 Z f2 f3 f4 f5 f6 f7 f8, gR_ (cg_ M a (nine a l0 l1 l2 l3 l4 Z f2 f3 f4 f5 f6 f7 f8)) a 1 4 = some (a + 5) := fun _ _ _ _ _ _ _ _ _ _ _ _ _ => gRof cg_0 rfl
  have a5 : ∀ l0 l1 l2 l3 l4 Z f2 f3 f4 f5 f6 f7 f8, gR_ (cg_ M a (nine a l0 l1 l2 l3 l4 Z f2 f3 f4 f5 f6 f7 f8)) a 1 5 = some (a + 6) := fun _ _ _ _ _ _ _ _ _ _ _ _ _ => gRof cg_0 rfl
  have a6 : ∀ l0 l1 l2 l3 l4 Z f2 f3 f4 f5 f6 f7 f8, gR_ (cg_ M a (nine a l0 l1 l2 l3 l4 Z f2 f3 f4 f5 f6 f7 f8)) a 1 6 = some (a + 7) := fun _ _ _ _ _ _ _ _ _ _ _ _ _ => gRof cg_0 rfl
  have a7 : ∀ l0 l1 l2 l3 l4 Z f2 f3 f4 f5 f6 f7 f8, gR_ (cg_ M a (nine a l0 l1 l2 l3 l4 Z f2 f3 f4 f5 f6 f7 f8)) a 1 7 = some (a + 8) := fun _ _ _ _ _ _ _ _ _ _ _ _ _ => gRof cg_0 rfl
  have c2 : ∀ l0 l1 l2 l3 l4 Z f2 f3 f4 f5 f6 f7 f8, fX2_copies (cg_ M a (nine a l0 l1 l2 l3 l4 Z f2 f3 f4 f5 f6 f7 f8)) (b + 2) (a + 2) = some (cg_ M a (nine a l0 l1 l2 l3 l4 Z (va_cpy (nz_ 4 fun p => ρb (20 + 4 * p)) f2 0 0 4) f3 f4 f5 f6 f7 f8)) := fun l0 l1 l2 l3 l4 Z f2 f3 f4 f5 f6 f7 f8 => (cop4 (o _ 2 (by decide)) (cg_at (j := 2) (by decide))).trans (congrArg some ((cg_ms (by decide)).trans (cg_ext fun j hj => by
    match j, hj with
    | 0, _ => rfl
    | 1, _ => rfl
    | 2, _ => rfl
    | 3, _ => rfl
    | 4, _ => rfl
    | 5, _ => rfl
    | 6, _ => rfl
    | 7, _ => rfl
    | 8, _ => rfl)))
  have c3 : ∀ l0 l1 l2 l3 l4 Z f2 f3 f4 f5 f6 f7 f8, fX2_copies (cg_ M a (nine a l0 l1 l2 l3 l4 Z f2 f3 f4 f5 f6 f7 f8)) (b + 3) (a + 3) = some (cg_ M a (nine a l0 l1 l2 l3 l4 Z f2 (va_cpy (nz_ 4 fun p => ρb (21 + 4 * p)) f3 0 0 4) f4 f5 f6 f7 f8)) := fun l0 l1 l2 l3 l4 Z f2 f3 f4 f5 f6 f7 f8 => (cop4 (o _ 3 (by decide)) (cg_at (j := 3) (by decide))).trans (congrArg some ((cg_ms (by decide)).trans (cg_ext fun j hj => by
    match j, hj with
    | 0, _ => rfl
    | 1, _ => rfl
    | 2, _ => rfl
    | 3, _ => rfl
    | 4, _ => rfl
    | 5, _ => rfl
    | 6, _ => rfl
    | 7, _ => rfl
    | 8, _ => rfl)))
  have c4 : ∀ l0 l1 l2 l3 l4 Z f2 f3 f4 f5 f6 f7 f8, fX2_copies (cg_ M a (nine a l0 l1 l2 l3 l4 Z f2 f3 f4 f5 f6 f7 f8)) (b + 4) (a + 4) = some (cg_ M a (nine a l0 l1 l2 l3 l4 Z f2 f3 (va_cpy (nz_ 4 fun p => ρb (22 + 4 * p)) f4 0 0 4) f5 f6 f7 f8)) := fun l0 l1 l2 l3 l4 Z f2 f3 f4 f5 f6 f7 f8 => (cop4 (o _ 4 (by decide)) (cg_at (j := 4) (by decide))).trans (congrArg some ((cg_ms (by decide)).trans (cg_ext fun j hj => by
    match j, hj with
    | 0, _ => rfl
    | 1, _ => rfl
    | 2, _ => rfl
    | 3, _ => rfl
    | 4, _ => rfl
    | 5, _ => rfl
    | 6, _ => rfl
    | 7, _ => rfl
    | 8, _ => rfl)))
  have c5 : ∀ l0 l1 l2 l3 l4 Z f2 f3 f4 f5 f6 f7 f8, fX2_copies (cg_ M a (nine a l0 l1 l2 l3 l4 Z f2 f3 f4 f5 f6 f7 f8)) (b + 5) (a + 5) = some (cg_ M a (nine a l0 l1 l2 l3 l4 Z f2 f3 f4 (va_cpy (nz_ 2 fun p => ρb (36 + 3 * p)) f5 0 0 2) f6 f7 f8)) := fun l0 l1 l2 l3 l4 Z f2 f3 f4 f5 f6 f7 f8 => (cop2 (o _ 5 (by decide)) (cg_at (j := 5) (by decide))).trans (congrArg some ((cg_ms (by decide)).trans (cg_ext fun j hj => by
    match j, hj with
    | 0, _ => rfl
    | 1, _ => rfl
    | 2, _ => rfl
    | 3, _ => rfl
    | 4, _ => rfl
    | 5, _ => rfl
    | 6, _ => rfl
    | 7, _ => rfl
    | 8, _ => rfl)))
  have c6 : ∀ l0 l1 l2 l3 l4 Z f2 f3 f4 f5 f6 f7 f8, fX2_copies (cg_ M a (nine a l0 l1 l2 l3 l4 Z f2 f3 f4 f5 f6 f7 f8)) (b + 6) (a + 6) = some (cg_ M a (nine a l0 l1 l2 l3 l4 Z f2 f3 f4 f5 (va_cpy (nz_ 2 fun p => ρb (37 + 3 * p)) f6 0 0 2) f7 f8)) := fun l0 l1 l2 l3 l4 Z f2 f3 f4 f5 f6 f7 f8 => (cop2 (o _ 6 (by decide)) (cg_at (j := 6) (by decide))).trans (congrArg some ((cg_ms (by decide)).trans (cg_ext fun j hj => by
    match j, hj with
    | 0, _ => rfl
    | 1, _ => rfl
    | 2, _ => rfl
    | 3, _ => rfl
    | 4, _ => rfl
    | 5, _ => rfl
    | 6, _ => rfl
    | 7, _ => rfl
    | 8, _ => rfl)))
  have c7 : ∀ l0 l1 l2 l3 l4 Z f2 f3 f4 f5 f6 f7 f8, fX2_copies (cg_ M a (nine a l0 l1 l2 l3 l4 Z f2 f3 f4 f5 f6 f7 f8)) (b + 7) (a + 7) = some (cg_ M a (nine a l0 l1 l2 l3 l4 Z f2 f3 f4 f5 f6 (va_cpy (nz_ 2 fun p => ρb (38 + 3 * p)) f7 0 0 2) f8)) := fun l0 l1 l2 l3 l4 Z f2 f3 f4 f5 f6 f7 f8 => (cop2 (o _ 7 (by decide)) (cg_at (j := 7) (by decide))).trans (congrArg some ((cg_ms (by decide)).trans (cg_ext fun j hj => by
    match j, hj with
    | 0, _ => rfl
    | 1, _ => rfl
    | 2, _ => rfl
    | 3, _ => rfl
    | 4, _ => rfl
    | 5, _ => rfl
    | 6, _ => rfl
    | 7, _ => rfl
    | 8, _ => rfl)))
  have c8 : ∀ l0 l1 l2 l3 l4 Z f2 f3 f4 f5 f6 f7 f8, fJ5_fill (cg_ M a (nine a l0 l1 l2 l3 l4 Z f2 f3 f4 f5 f6 f7 f8)) (a + 8) 0 = some (cg_ M a (nine a l0 l1 l2 l3 l4 Z f2 f3 f4 f5 f6 f7 (upd (upd (upd (upd f8 0 0) 1 0) 2 0) 3 0))) := fun l0 l1 l2 l3 l4 Z f2 f3 f4 f5 f6 f7 f8 => (fill4 (cg_at (j := 8) (by decide))).trans (congrArg some ((cg_ms (by decide)).trans (cg_ext fun j hj => by
    match j, hj with
    | 0, _ => rfl
    | 1, _ => rfl
    | 2, _ => rfl
    | 3, _ => rfl
    | 4, _ => rfl
    | 5, _ => rfl
    | 6, _ => rfl
    | 7, _ => rfl
    | 8, _ => rfl)))
  have p8 : ∀ v l0 l1 l2 l3 l4 Z f2 f3 f4 f5 f6 f7 f8, pF_ (cg_ M a (nine a l0 l1 l2 l3 l4 Z f2 f3 f4 f5 f6 f7 f8)) a 1 8 (.int v) = some (cg_ M a (nine a (v) l1 l2 l3 l4 Z f2 f3 f4 f5 f6 f7 f8)) := fun v l0 l1 l2 l3 l4 Z f2 f3 f4 f5 f6 f7 f8 => (pFof cg_0 (Nat.le_of_ble_eq_true rfl)).trans (congrArg some (cg_ms0.trans (cg_ext fun j hj => by
    match j, hj with
    | 0, _ => rfl
    | 1, _ => rfl
    | 2, _ => rfl
    | 3, _ => rfl
    | 4, _ => rfl
    | 5, _ => rfl
    | 6, _ => rfl
    | 7, _ => rfl
    | 8, _ => rfl)))
  have p9 : ∀ v l0 l1 l2 l3 l4 Z f2 f3 f4 f5 f6 f7 f8, pF_ (cg_ M a (nine a l0 l1 l2 l3 l4 Z f2 f3 f4 f5 f6 f7 f8)) a 1 9 (.int v) = some (cg_ M a (nine a l0 (v) l2 l3 l4 Z f2 f3 f4 f5 f6 f7 f8)) := fun v l0 l1 l2 l3 l4 Z f2 f3 f4 f5 f6 f7 f8 => (pFof cg_0 (Nat.le_of_ble_eq_true rfl)).trans (congrArg some (cg_ms0.trans (cg_ext fun j hj => by
    match j, hj with
    | 0, _ => rfl
    | 1, _ => rfl
    | 2, _ => rfl
    | 3, _ => rfl
    | 4, _ => rfl
    | 5, _ => rfl
    | 6, _ => rfl
    | 7, _ => rfl
    | 8, _ => rfl)))
  have p10 : ∀ v l0 l1 l2 l3 l4 Z f2 f3 f4 f5 f6 f7 f8, pF_ (cg_ M a (nine a l0 l1 l2 l3 l4 Z f2 f3 f4 f5 f6 f7 f8)) a 1 10 (.int v) = some (cg_ M a (nine a l0 l1 (v) l3 l4 Z f2 f3 f4 f5 f6 f7 f8)) := fun v l0 l1 l2 l3 l4 Z f2 f3 f4 f5 f6 f7 f8 => (pFof cg_0 (Nat.le_of_ble_eq_true rfl)).trans (congrArg some (cg_ms0.trans (cg_ext fun j hj => by
    match j, hj with
    | 0, _ => rfl
    | 1, _ => rfl
    | 2, _ => rfl
    | 3, _ => rfl
    | 4, _ => rfl
    | 5, _ => rfl
    | 6, _ => rfl
    | 7, _ => rfl
    | 8, _ => rfl)))
  have p11 : ∀ v l0 l1 l2 l3 l4 Z f2 f3 f4 f5 f6 f7 f8, pF_ (cg_ M a (nine a l0 l1 l2 l3 l4 Z f2 f3 f4 f5 f6 f7 f8)) a 1 11 (.int v) = some (cg_ M a (nine a l0 l1 l2 (v) l4 Z f2 f3 f4 f5 f6 f7 f8)) := fun v l0 l1 l2 l3 l4 Z f2 f3 f4 f5 f6 f7 f8 => (pFof cg_0 (Nat.le_of_ble_eq_true rfl)).trans (congrArg some (cg_ms0.trans (cg_ext fun j hj => by
    match j, hj with
    | 0, _ => rfl
    | 1, _ => rfl
    | 2, _ => rfl
    | 3, _ => rfl
    | 4, _ => rfl
    | 5, _ => rfl
    | 6, _ => rfl
    | 7, _ => rfl
    | 8, _ => rfl)))
  have p12 : ∀ v l0 l1 l2 l3 l4 Z f2 f3 f4 f5 f6 f7 f8, pF_ (cg_ M a (nine a l0 l1 l2 l3 l4 Z f2 f3 f4 f5 f6 f7 f8)) a 1 12 (.int v) = some (cg_ M a (nine a l0 l1 l2 l3 (v) Z f2 f3 f4 f5 f6 f7 f8)) := fun v l0 l1 l2 l3 l4 Z f2 f3 f4 f5 f6 f7 f8 => (pFof cg_0 (Nat.le_of_ble_eq_true rfl)).trans (congrArg some (cg_ms0.trans (cg_ext fun j hj => by
    match j, hj with
    | 0, _ => rfl
    | 1, _ => rfl
    | 2, _ => rfl
    | 3, _ => rfl
    | 4, _ => rfl
    | 5, _ => rfl
    | 6, _ => rfl
    | 7, _ => rfl
    | 8, _ => rfl)))
  have c1 := cSof (o (nine a l0 l1 l2 l3 l4 Za (nz_ 4 fun p => ρa (20 + 4 * p)) (nz_ 4 fun p => ρa (21 + 4 * p)) (nz_ 4 fun p => ρa (22 + 4 * p)) (nz_ 2 fun p => ρa (36 + 3 * p)) (nz_ 2 fun p => ρa (37 + 3 * p)) (nz_ 2 fun p => ρa (38 + 3 * p)) (nz_ 4 γa)) 1 (by decide)) (cg_at (j := 1) (by decide)) hok'
  have c1 := c1.trans (congrArg some ((cg_ms (by decide)).trans (cg_ext (E' := nine a l0 l1 l2 l3 l4 (zz_ Zb Za) (nz_ 4 fun p => ρa (20 + 4 * p)) (nz_ 4 fun p => ρa (21 + 4 * p)) (nz_ 4 fun p => ρa (22 + 4 * p)) (nz_ 2 fun p => ρa (36 + 3 * p)) (nz_ 2 fun p => ρa (37 + 3 * p)) (nz_ 2 fun p => ρa (38 + 3 * p)) (nz_ 4 γa)) fun j hj => by
    match j, hj with
    | 0, _ => rfl
    | 1, _ => rfl
    | 2, _ => rfl
    | 3, _ => rfl
    | 4, _ => rfl
    | 5, _ => rfl
    | 6, _ => rfl
    | 7, _ => rfl
    | 8, _ => rfl)))
  unfold fX2_takes
  simp only [b0, b1, b2, b3, b4, b5, b6, a0, a1, a2, a3, a4, a5, a6, a7, c1, c2, c3, c4, c5, c6, c7, c8, i8, i9, i10, i11, i12, p8, p9, p10, p11, p12, nz_cpy, nz_fill, Option.bind_some]
