/-! elements of rows -/
set_option maxRecDepth 100000
theorem IC.rowF {M : Mem_} {n x : Nat} {ρ ρi : Rw_} {hi : Int32} {K : Nat → Rw_} {Z : Zr_} {ρm : Rw_} {Zm : Zr_} {γm cs : Rw_} (h : IC M n x ρ ρi hi K Z ρm Zm γm cs) {d : Nat} (hd : d < 8) (k2 : K 0 d = 2) : ∃ q sz f, M (x + 39 + d) = some (eO_ 2 [hvV (some q)]) ∧ rowAt M n x K d q sz f ∧ ∀ i, fits (tT_ (tagOf (K 3 d))) (.int (f i)) = true := by
  obtain ⟨hv, a, b, c⟩ := h.shelf (d := Int32.ofNat d) ⟨d, hd, rfl⟩
  rw [nC (by omega)] at b c
  rcases c with ⟨c1, _⟩ | ⟨c1, _⟩ | ⟨c1, q, sz, f, c2, c3, c4, c5, c6, c7, c8, c9, c10⟩
  · rw [k2] at c1
    exact absurd c1 (by decide)
  · rw [k2] at c1
    exact absurd c1 (by decide)
  · rw [c2] at b
    exact ⟨q, sz, f, b, ⟨c5, c3, c4, c6, c7, c8, c9⟩, c10⟩
theorem sk_row {M : Mem_} {q t n : Nat} {f : Rw_} (h : M q = some (eI_ t n f)) : sk_ M q = none := by
  unfold sk_
  rw [h]
theorem IC.rowPut {M : Mem_} {n x : Nat} {ρ ρi : Rw_} {hi : Int32} {K : Nat → Rw_} {Z : Zr_} {ρm : Rw_} {Zm : Zr_} {γm cs : Rw_} (h : IC M n x ρ ρi hi K Z ρm Zm γm cs) {d q sz : Nat} {f f' K5 : Rw_} (hd : d < 8) (k2 : K 0 d = 2) (g : M (x + 39 + d) = some (eO_ 2 [hvV (some q)])) (R : rowAt M n x K d q sz f) (e5 : ∀ i, i < sz → f' i = K5 (100 * d + i)) (o5 : ∀ e i, e < 8 → e ≠ d → i < 100 → K5 (100 * e + i) = K 5 (100 * e + i)) (ft : ∀ i, fits (tT_ (tagOf (K 3 d))) (.int (f' i)) = true) : IC (ms_ M q (eI_ (tagOf (K 3 d)) sz f')) n x ρ ρi hi (kU K 5 K5) Z ρm Zm γm cs ∧ Fw M (ms_ M q (eI_ (tagOf (K 3 d)) sz f')) x := by
  obtain ⟨r1, r2, r3, r4, r5, r6, r7⟩ := R
  obtain ⟨h0, ⟨γ, h1⟩, ⟨ρk, Zk, γk, h2, h3, h4⟩, h5, ⟨ρa, Za, γa, h6, h7⟩, ⟨T, h8⟩, ⟨F, h9, h10⟩, ⟨hv, h11, h12⟩, h13, h14, h15, h16⟩ := h
  have hq : hv d = some q := by
    have w := (h11 d hd).symm.trans g
    injection w with w
    injection w with w
    injection w with w
    injection w with w
    injection w with w1 w2
    injection w2 with w3 w4
    revert w3
    cases hv d with
    | none => intro w3; exact absurd w3 (by intro z; cases z)
    | some p =>
      intro w3
      injection w3 with w3
      rw [w3]
  have o : ∀ p, p ≠ q → ms_ M q (eI_ (tagOf (K 3 d)) sz f') p = M p := fun p hp => ms_ne hp
  have s : ∀ p, x + 61 ≤ p → p < n → sk_ (ms_ M q (eI_ (tagOf (K 3 d)) sz f')) p = sk_ M p := fun p _ _ => by
    by_cases e : p = q
    · subst e
      rw [sk_row r1, sk_row (ms_at _ _ _)]
    · exact sk_cg (o p e)
  refine ⟨⟨(o _ (by omega)).trans h0, ⟨γ, h1.cg fun p _ _ => o p (by omega)⟩, ⟨ρk, Zk, γk, h2.cg fun p _ _ => o p (by omega), h3, fun g => ⟨(h4 g).1, (h4 g).2.cg (Nat.le_refl _) s⟩⟩, h5.cg fun p _ _ => o p (by omega), ⟨ρa, Za, γa, h6.cg fun p _ _ => o p (by omega), h7⟩, ⟨T, (o _ (by omega)).trans h8⟩, ⟨F, (o _ (by omega)).trans h9, h10⟩, ⟨hv, fun c hc => (o _ (by omega)).trans (h11 c hc), fun c hc => ?_, h12.2⟩, h13.cg (Nat.le_refl _) s, h14, h15, h16⟩, fun p _ _ => o p (by omega)⟩
  by_cases e : c = d
  · subst e
    exact .inr (.inr ⟨k2, q, sz, f', hq, r2, r3, ms_at _ _ _, r4, r5, r6, e5, ft⟩)
  · refine SH1.kk (K := K) (hv := hv) ?_ (fun j hj => by rw [kU_n _ _ (by omega)]) (fun i hi => by rw [kU_s]; exact o5 c i hc e hi) rfl
    rcases h12.1 c hc with z | ⟨z, p, kn, fg, a, b, c', g⟩ | ⟨z, p, sz2, f2, a, b, c', g, g2⟩
    · exact .inl z
    · exact .inr (.inl ⟨z, p, kn, fg, a, b, c', by rw [s p b c']; exact g⟩)
    · have ne : p ≠ q := fun w => h12.2 c d hc hd e z k2 (by rw [a, hq, w])
      exact .inr (.inr ⟨z, p, sz2, f2, a, b, c', (o p ne).trans g, g2⟩)
theorem in_sz {i : Int32} {sz : Nat} (h : sz ≤ 100) : fX4_isIn i 0 (Int32.ofNat sz - 1) = true ↔ ¬ (i < 0 ∨ sz ≤ i.toNatClampNeg) := by
  rw [in_iff]
  have e : (Int32.ofNat sz - 1).toInt = (sz : Int) - 1 := by
    cases sz with
    | zero => rfl
    | succ j =>
      rw [← nS1, Int32.add_sub_cancel, nJ (by omega)]
      omega
  have z : (0 : Int32).toInt = 0 := rfl
  have t : i.toNatClampNeg = i.toInt.toNat := rfl
  rw [Int32.le_iff_toInt_le, Int32.le_iff_toInt_le, Int32.lt_iff_toInt_lt, e, z, t]
  omega
theorem oIof {M : Mem_} {a t n : Nat} {f : Rw_} {i : Int32} (h : M a = some (eI_ t n f)) (hn : n ≤ 1000) : oI_ M a t i = some (decide (i < 0 ∨ n ≤ i.toNatClampNeg)) := by
  unfold oI_
  rw [aiof h, ob_n]
  exact if_pos hn
theorem fit_b (v : Int32) : fits .byte (.int (v.toInt8.toInt32)) = true := by
  have h1 := Int8.le_toInt v.toInt8
  have h2 := Int8.toInt_lt v.toInt8
  show (decide (-128 ≤ v.toInt8.toInt32) && decide (v.toInt8.toInt32 ≤ 127)) = true
  rw [Bool.and_eq_true, decide_eq_true_iff, decide_eq_true_iff, Int32.le_iff_toInt_le, Int32.le_iff_toInt_le, Int8.toInt_toInt32]
  have a : (-128 : Int32).toInt = -128 := rfl
  have b : (127 : Int32).toInt = 127 := rfl
  rw [a, b]
  omega
theorem fit_s (v : Int32) : fits .short (.int (v.toInt16.toInt32)) = true := by
  have h1 := Int16.le_toInt v.toInt16
  have h2 := Int16.toInt_lt v.toInt16
  show (decide (-32768 ≤ v.toInt16.toInt32) && decide (v.toInt16.toInt32 ≤ 32767)) = true
  rw [Bool.and_eq_true, decide_eq_true_iff, decide_eq_true_iff, Int32.le_iff_toInt_le, Int32.le_iff_toInt_le, Int16.toInt_toInt32]
  have a : (-32768 : Int32).toInt = -32768 := rfl
  have b : (32767 : Int32).toInt = 32767 := rfl
  rw [a, b]
  omega
theorem nar_b (v : Int32) : vp_nar .byte (v.toInt8.toInt32) = v.toInt8.toInt32 := by
  rw [vp_nar_byte, Int8.toInt8_toInt32]
theorem nar_s (v : Int32) : vp_nar .short (v.toInt16.toInt32) = v.toInt16.toInt32 := by
  rw [vp_nar_short, Int16.toInt16_toInt32]
/-- a value as a row of a sort takes it -/
def narR (s v : Int32) : Int32 := if s = 0 then v.toInt8.toInt32 else if s = 1 then v.toInt16.toInt32 else v
theorem nar_fit {s : Int32} (hs : rg_ 3 s) (v : Int32) : fits (tT_ (tagOf s)) (.int (narR s v)) = true := by
  rcases rg3c hs with z | z | z <;> subst z
  · exact fit_b v
  · exact fit_s v
  · rfl
section Q24
variable {M M' : Mem_} {n x : Nat} {ρ ρi : Rw_} {hi : Int32} {K : Nat → Rw_} {Z : Zr_} {ρm : Rw_} {Zm : Zr_} {γm cs : Rw_} {μ γ sc : Rw_}
theorem IC.put1 (h : IC M n x ρ ρi hi K Z ρm Zm γm cs) {d q sz i : Nat} {f : Rw_} (hd : d < 8) (k2 : K 0 d = 2) (g : M (x + 39 + d) = some (eO_ 2 [hvV (some q)])) (R : rowAt M n x K d q sz f) (ft : ∀ i, fits (tT_ (tagOf (K 3 d))) (.int (f i)) = true) (hi' : i < sz) (v : Int32) : sI_ M q (tagOf (K 3 d)) (Int32.ofNat i) (narR (K 3 d) v) = some (ms_ M q (eI_ (tagOf (K 3 d)) sz (upd f i (narR (K 3 d) v)))) ∧ IC (ms_ M q (eI_ (tagOf (K 3 d)) sz (upd f i (narR (K 3 d) v)))) n x ρ ρi hi (kU K 5 (upd (K 5) (100 * d + i) (narR (K 3 d) v))) Z ρm Zm γm cs ∧ Fw M (ms_ M q (eI_ (tagOf (K 3 d)) sz (upd f i (narR (K 3 d) v)))) x := by
  have h100 := R.2.2.2.1
  have s := sIof (i := Int32.ofNat i) (v := narR (K 3 d) v) R.1 (nB (by omega) hi')
  rw [nC (by omega)] at s
  refine ⟨s, h.rowPut hd k2 g R (fun j hj => ?_) (fun e j he hed hj => ?_) (fun j => ?_)⟩
  · rw [updA, updA]
    by_cases c : j = i
    · rw [if_pos c, if_pos (by omega)]
    · rw [if_neg c, if_neg (by omega)]
      exact R.2.2.2.2.2.2 j hj
  · rw [updA, if_neg (by omega)]
  · rw [updA]
    split
    · exact nar_fit R.2.2.2.2.2.1 v
    · exact ft j
theorem o_put (h : IC M n x ρ ρi hi K Z ρm Zm γm cs) (t : IT M' x ρ ρi hi K μ γ sc) (d i v : Int32) : ∃ (r : Int32) (K' : Nat → Rw_), CA M n x (fX1_put M n x d i v) r ρ ρi hi K' ∧ TG M' x (fX4_put M' (x + 47) d i v) r ρ ρi hi K' := by
  unfold fX1_put fX4_put
  rw [h.ck, ob_n, t.ck, ob_n, t.wrong, ob_n, lt_, show fX1_isShelf x d = fX4_isIn d 0 7 from rfl]
  unfold wrR
  cases e : fX4_isIn d 0 7 with
  | false => exact o_bad3 h t 0 _
  | true =>
    obtain ⟨dn, hd, rfl⟩ := in_rg (m := 7) (by decide) e
    have hd8 : dn < 8 := hd
    obtain ⟨hv, a, b, c⟩ := h.shelf (d := Int32.ofNat dn) ⟨dn, hd, rfl⟩
    have k := t.kf (d := Int32.ofNat dn) ⟨dn, hd, rfl⟩
    rw [nC (by omega)] at a b c k
    rw [if_neg b2_t, if_pos rfl, h.r8, ob_n, a, ob_n, gNof b, ob_n, nC (by omega)]
    rcases c with ⟨c1, c2⟩ | ⟨c1, q, kn, fg, c2, _, _, c3, _⟩ | ⟨c1, q, sz, f, c2, c3, c4, c5, c6, c7, c8, c9, c10⟩
    · rw [c2, if_pos c1]
      exact o_bad3 h t 0 _
    · have z0 : ¬ K 0 dn = 0 := by rw [c1]; decide
      have z2 : ¬ K 0 dn = 2 := by rw [c1]; decide
      rw [c2, if_neg z0, if_neg z2]
      simp only [no_, tg_str c3, ob_n]
      exact o_bad3 h t 3 _
    · have z0 : ¬ K 0 dn = 0 := by rw [c1]; decide
      rw [c2] at b
      have R : rowAt M n x K dn q sz f := ⟨c5, c3, c4, c6, c7, c8, c9⟩
      have key : ∃ (r : Int32) (K' : Nat → Rw_), CA M n x ((oI_ M q (tagOf (K 3 dn)) i).bind fun b11 => if b11 = true then some (-13, M, n + 3) else (sI_ M q (tagOf (K 3 dn)) i (narR (K 3 dn) v)).bind fun M13 => some (0, M13, n)) r ρ ρi hi K' ∧ TG M' x (if b2_ (fX4_isIn i 0 (K 4 dn - 1)) = 0 then some (-13, M') else (sI_ M' (x + 59) 0 (100 * Int32.ofNat dn + i) (narR (K 3 dn) v)).bind fun M11 => some (0, M11)) r ρ ρi hi K' := by
        rw [oIof c5 (by omega), ob_n, c7]
        by_cases g : i < 0 ∨ sz ≤ i.toNatClampNeg
        · have g2 : fX4_isIn i 0 (Int32.ofNat sz - 1) = false := by
            cases w : fX4_isIn i 0 (Int32.ofNat sz - 1) with
            | false => rfl
            | true => exact absurd g ((in_sz c6).mp w)
          rw [g2, if_pos b2_f, if_pos (decide_eq_true g)]
          exact o_bad3 h t 3 _
        · rw [(in_sz c6).mpr g, if_neg b2_t, if_neg (by rw [decide_eq_true_iff]; exact g)]
          have hi0 : 0 ≤ i := Int32.not_lt.mp fun w => g (.inl w)
          have hin : i.toNatClampNeg < sz := Nat.lt_of_not_le fun w => g (.inr w)
          have ei : i = Int32.ofNat i.toNatClampNeg := (Int32.ofNat_toNatClampNeg i hi0).symm
          generalize i.toNatClampNeg = j at hin ei
          subst ei
          obtain ⟨p1, p2, p3⟩ := h.put1 hd8 c1 b R c10 hin v
          have T1 := t.es hd8 (i := j) (by omega) (narR (K 3 dn) v)
          obtain ⟨t1, f1⟩ := t.kset5 (f := upd (K 5) (100 * dn + j) (narR (K 3 dn) v))
          rw [p1, ob_n, T1, ob_n]
          exact ⟨0, _, ⟨_, n, _, _, _, _, _, rfl, Nat.le_refl _, p2, p3⟩, ⟨_, _, _, _, rfl, t1, f1⟩⟩
      rw [c2, if_neg z0, if_pos c1, if_pos rfl]
      simp only [no_, row_tg c5, ob_n, t.r16, t.r17, t.r18, k.2.2.2.1, k.2.2.2.2, lt_]
      rcases rg3c c8 with z | z | z
      · rw [z] at key ⊢
        rw [if_neg (show ¬ b2_ (decide (tagOf 0 = 1)) = 0 by decide), if_pos (show tagOf 0 = 1 by decide), if_pos rfl, nar_b]
        exact key
      · rw [z] at key ⊢
        rw [if_pos (show b2_ (decide (tagOf 1 = 1)) = 0 by decide), if_neg (show ¬ b2_ (decide (tagOf 1 = 2)) = 0 by decide), if_pos (show tagOf 1 = 2 by decide), if_neg ne10, if_pos rfl, nar_s]
        exact key
      · rw [z] at key ⊢
        rw [if_pos (show b2_ (decide (tagOf 2 = 1)) = 0 by decide), if_pos (show b2_ (decide (tagOf 2 = 2)) = 0 by decide), if_pos (show tagOf 2 = 0 by decide), if_neg ne20, if_neg ne21]
        exact key
end Q24
