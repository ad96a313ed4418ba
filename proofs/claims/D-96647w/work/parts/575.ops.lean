/-! shelves: something else is put onto one -/
set_option maxRecDepth 100000
theorem SH1.kk {M : Mem_} {x n : Nat} {K K' : Nat → Rw_} {hv hv' : Zr_} {e : Nat} (h : SH1 M x n K hv e) (hK : ∀ j, j < 5 → K' j e = K j e) (h5 : ∀ i, i < 100 → K' 5 (100 * e + i) = K 5 (100 * e + i)) (hh : hv' e = hv e) : SH1 M x n K' hv' e := by
  unfold SH1 at h ⊢
  rw [hK 0 (by decide), hK 1 (by decide), hK 2 (by decide), hK 3 (by decide), hK 4 (by decide), hh]
  rcases h with h | h | ⟨a, q, sz, f, b1, b2, b3, b4, b5, b6, b7, b8, b9⟩
  · exact .inl h
  · exact .inr (.inl h)
  · exact .inr (.inr ⟨a, q, sz, f, b1, b2, b3, b4, b5, b6, b7, fun i hi => (b8 i hi).trans (h5 i (by omega)).symm, b9⟩)
theorem SH1.row {M : Mem_} {x n : Nat} {K : Nat → Rw_} {hv : Zr_} {e : Nat} (h : SH1 M x n K hv e) (h2 : K 0 e = 2) : ∃ q, hv e = some q ∧ x + 61 ≤ q ∧ q < n ∧ (∃ t sz f, M q = some (eI_ t sz f)) := by
  rcases h with ⟨a, _⟩ | ⟨a, _⟩ | ⟨a, q, sz, f, b1, b2, b3, b4, _⟩
  · rw [h2] at a
    exact absurd a (by decide)
  · rw [h2] at a
    exact absurd a (by decide)
  · exact ⟨q, b1, b2, b3, _, _, _, b4⟩
theorem IC.shelfSet {M : Mem_} {n x : Nat} {ρ ρi : Rw_} {hi : Int32} {K : Nat → Rw_} {Z : Zr_} {ρm : Rw_} {Zm : Zr_} {γm cs : Rw_} (h : IC M n x ρ ρi hi K Z ρm Zm γm cs) {d n1 : Nat} {o : Option Nat} {K' : Nat → Rw_} {M1 : Mem_} (hd : d < 8) (hn : n ≤ n1) (f : ∀ q, q < n → q ≠ x + 39 + d → q < x + 47 ∨ x + 61 ≤ q → M1 q = M q) (m : M1 (x + 39 + d) = some (eO_ 2 [hvV o])) (kk : ∀ e, e < 8 → e ≠ d → (∀ j, j < 5 → K' j e = K j e) ∧ ∀ i, i < 100 → K' 5 (100 * e + i) = K 5 (100 * e + i)) (s1 : ∀ hv, SH1 M1 x n1 K' (va_up hv d o) d) (ap : K' 0 d = 2 → ∃ q, o = some q ∧ n ≤ q) : IC M1 n1 x ρ ρi hi K' Z ρm Zm γm cs := by
  obtain ⟨h0, ⟨γ, h1⟩, ⟨ρk, Zk, γk, h2, h3, h4⟩, h5, ⟨ρa, Za, γa, h6, h7⟩, ⟨T, h8⟩, ⟨F, h9, h10⟩, ⟨hv, h11, h12⟩, h13, h14, h15, h16⟩ := h
  have e : ∀ q, x + 61 ≤ q → q < n → M1 q = M q := fun q a b => f q b (by omega) (by omega)
  refine ⟨(f _ (by omega) (by omega) (by omega)).trans h0, ⟨γ, h1.cg fun q _ _ => f q (by omega) (by omega) (by omega)⟩, ⟨ρk, Zk, γk, h2.cg fun q _ _ => f q (by omega) (by omega) (by omega), h3, fun g => ⟨(h4 g).1, (h4 g).2.cg hn fun q a b => sk_cg (e q a b)⟩⟩, h5.cg fun q _ _ => f q (by omega) (by omega) (by omega), ⟨ρa, Za, γa, h6.cg fun q _ _ => f q (by omega) (by omega) (by omega), h7⟩, ⟨T, (f _ (by omega) (by omega) (by omega)).trans h8⟩, ⟨F, (f _ (by omega) (by omega) (by omega)).trans h9, h10⟩, ⟨va_up hv d o, fun c hc => ?_, fun c hc => ?_, fun a b ha hb hab ka kb => ?_⟩, h13.cg hn fun q a b => sk_cg (e q a b), h14, h15, by omega⟩
  · by_cases g : c = d
    · subst g
      rw [va_up_self]
      exact m
    · rw [va_up_ne _ _ g]
      exact (f _ (by omega) (by omega) (by omega)).trans (h11 c hc)
  · by_cases g : c = d
    · subst g
      exact s1 hv
    · exact ((h12.1 c hc).cg hn e).kk (kk c hc g).1 (kk c hc g).2 (va_up_ne _ _ g)
  · by_cases ga : a = d
    · subst ga
      have gb : b ≠ a := fun w => hab w.symm
      rw [va_up_self, va_up_ne _ _ gb]
      obtain ⟨q, e1, e2⟩ := ap ka
      obtain ⟨q2, e3, e4, e5, _⟩ := (h12.1 b hb).row ((kk b hb gb).1 0 (by decide) ▸ kb)
      rw [e1, e3]
      intro w
      injection w with w
      omega
    · by_cases gb : b = d
      · subst gb
        rw [va_up_self, va_up_ne _ _ ga]
        obtain ⟨q, e1, e2⟩ := ap kb
        obtain ⟨q2, e3, e4, e5, _⟩ := (h12.1 a ha).row ((kk a ha ga).1 0 (by decide) ▸ ka)
        rw [e1, e3]
        intro w
        injection w with w
        omega
      · rw [va_up_ne _ _ ga, va_up_ne _ _ gb]
        exact h12.2 a b ha hb hab ((kk a ha ga).1 0 (by decide) ▸ ka) ((kk b hb gb).1 0 (by decide) ▸ kb)
def kU (K : Nat → Rw_) (j : Nat) (f : Rw_) : Nat → Rw_ := fun i => if i = j then f else K i
theorem kU_s (K : Nat → Rw_) (j : Nat) (f : Rw_) : kU K j f j = f := if_pos rfl
theorem kU_n (K : Nat → Rw_) {j i : Nat} (f : Rw_) (h : i ≠ j) : kU K j f i = K i := if_neg h
theorem IT.kset {M : Mem_} {x : Nat} {ρ ρi : Rw_} {hi : Int32} {K : Nat → Rw_} {μ γ sc : Rw_} (t : IT M x ρ ρi hi K μ γ sc) {j : Nat} {f : Rw_} (hj : j < 5) : IT (ms_ M (x + 54 + j) (eI_ 0 8 f)) x ρ ρi hi (kU K j f) μ γ sc ∧ Ft M (ms_ M (x + 54 + j) (eI_ 0 8 f)) x := by
  obtain ⟨h0, h1, h2, h3, ⟨ι, h4, h5, h6⟩, ⟨ω, h7, h8⟩, h9, ⟨ν, h10⟩, k0, k1, k2, k3, k4, k5⟩ := t
  have o : ∀ q, q ≠ x + 54 + j → ms_ M (x + 54 + j) (eI_ 0 8 f) q = M q := fun q hq => ms_ne hq
  refine ⟨⟨(o _ (by omega)).trans h0, (o _ (by omega)).trans h1, (o _ (by omega)).trans h2, h3, ⟨ι, (o _ (by omega)).trans h4, h5, h6⟩, ⟨ω, (o _ (by omega)).trans h7, h8⟩, (o _ (by omega)).trans h9, ⟨ν, (o _ (by omega)).trans h10⟩, ?_, ?_, ?_, ?_, ?_, ?_⟩, fun q hq => o q (by omega)⟩
  · by_cases e : j = 0
    · subst e
      rw [kU_s]
      exact ms_at _ _ _
    · rw [kU_n _ _ (by omega), o _ (by omega)]
      exact k0
  · by_cases e : j = 1
    · subst e
      rw [kU_s]
      exact ms_at _ _ _
    · rw [kU_n _ _ (by omega), o _ (by omega)]
      exact k1
  · by_cases e : j = 2
    · subst e
      rw [kU_s]
      exact ms_at _ _ _
    · rw [kU_n _ _ (by omega), o _ (by omega)]
      exact k2
  · by_cases e : j = 3
    · subst e
      rw [kU_s]
      exact ms_at _ _ _
    · rw [kU_n _ _ (by omega), o _ (by omega)]
      exact k3
  · by_cases e : j = 4
    · subst e
      rw [kU_s]
      exact ms_at _ _ _
    · rw [kU_n _ _ (by omega), o _ (by omega)]
      exact k4
  · rw [kU_n _ _ (by omega), o _ (by omega)]
    exact k5
theorem IT.kset5 {M : Mem_} {x : Nat} {ρ ρi : Rw_} {hi : Int32} {K : Nat → Rw_} {μ γ sc : Rw_} (t : IT M x ρ ρi hi K μ γ sc) {f : Rw_} : IT (ms_ M (x + 59) (eI_ 0 800 f)) x ρ ρi hi (kU K 5 f) μ γ sc ∧ Ft M (ms_ M (x + 59) (eI_ 0 800 f)) x := by
  obtain ⟨h0, h1, h2, h3, ⟨ι, h4, h5, h6⟩, ⟨ω, h7, h8⟩, h9, ⟨ν, h10⟩, k0, k1, k2, k3, k4, k5⟩ := t
  have o : ∀ q, q ≠ x + 59 → ms_ M (x + 59) (eI_ 0 800 f) q = M q := fun q hq => ms_ne hq
  refine ⟨⟨(o _ (by omega)).trans h0, (o _ (by omega)).trans h1, (o _ (by omega)).trans h2, h3, ⟨ι, (o _ (by omega)).trans h4, h5, h6⟩, ⟨ω, (o _ (by omega)).trans h7, h8⟩, (o _ (by omega)).trans h9, ⟨ν, (o _ (by omega)).trans h10⟩, ?_, ?_, ?_, ?_, ?_, ?_⟩, fun q hq => o q (by omega)⟩
  · rw [kU_n _ _ (by omega), o _ (by omega)]
    exact k0
  · rw [kU_n _ _ (by omega), o _ (by omega)]
    exact k1
  · rw [kU_n _ _ (by omega), o _ (by omega)]
    exact k2
  · rw [kU_n _ _ (by omega), o _ (by omega)]
    exact k3
  · rw [kU_n _ _ (by omega), o _ (by omega)]
    exact k4
  · rw [kU_s]
    exact ms_at _ _ _
theorem IT.ks {M : Mem_} {x : Nat} {ρ ρi : Rw_} {hi : Int32} {K : Nat → Rw_} {μ γ sc : Rw_} (t : IT M x ρ ρi hi K μ γ sc) {d j : Nat} (hd : d < 8) (hj : j < 5) (v : Int32) : sI_ M (x + 54 + j) 0 (Int32.ofNat d) v = some (ms_ M (x + 54 + j) (eI_ 0 8 (upd (K j) d v))) := by
  have e : M (x + 54 + j) = some (eI_ 0 8 (K j)) := by
    obtain ⟨h0, h1, h2, h3, ⟨ι, h4, h5, h6⟩, ⟨ω, h7, h8⟩, h9, ⟨ν, h10⟩, k0, k1, k2, k3, k4, k5⟩ := t
    match j, hj with
    | 0, _ => exact k0
    | 1, _ => exact k1
    | 2, _ => exact k2
    | 3, _ => exact k3
    | 4, _ => exact k4
  have s := sIof (i := Int32.ofNat d) (v := v) e (nB (by decide) hd)
  rw [nC (by omega)] at s
  exact s
theorem IC.shelfAt {M : Mem_} {n x : Nat} {ρ ρi : Rw_} {hi : Int32} {K : Nat → Rw_} {Z : Zr_} {ρm : Rw_} {Zm : Zr_} {γm cs : Rw_} (h : IC M n x ρ ρi hi K Z ρm Zm γm cs) {d : Nat} (hd : d < 8) : aR_ M (x + 38) 5 (Int32.ofNat d) = some (x + 39 + d) ∧ ∃ o, M (x + 39 + d) = some (eO_ 2 [o]) := by
  obtain ⟨hv, a, b, c⟩ := h.shelf (d := Int32.ofNat d) ⟨d, hd, rfl⟩
  rw [nC (by omega)] at a b
  exact ⟨a, _, b⟩
section Q22
variable {M M' : Mem_} {n x : Nat} {ρ ρi : Rw_} {hi : Int32} {K : Nat → Rw_} {Z : Zr_} {ρm : Rw_} {Zm : Zr_} {γm cs : Rw_} {μ γ sc : Rw_}
theorem o_bad3 (h : IC M n x ρ ρi hi K Z ρm Zm γm cs) (t : IT M' x ρ ρi hi K μ γ sc) (j : Nat) (v : Int32) : ∃ (r : Int32) (K' : Nat → Rw_), CA M n x (some (v, M, n + j)) r ρ ρi hi K' ∧ TG M' x (some (v, M')) r ρ ρi hi K' := ⟨v, K, ⟨M, n + j, _, _, _, _, _, rfl, by omega, h.grow (by omega), Fw.refl _ _⟩, ⟨M', _, _, _, rfl, t, Ft.refl _ _⟩⟩
def kpR (K : Nat → Rw_) (d : Nat) (w k f : Int32) : Nat → Rw_ := kU (kU (kU K 0 (upd (K 0) d w)) 1 (upd (K 1) d k)) 2 (upd (K 2) d f)
theorem kp_o (K : Nat → Rw_) (d : Nat) (w k f : Int32) {e : Nat} (he : e ≠ d) : (∀ j, j < 5 → kpR K d w k f j e = K j e) ∧ ∀ i, i < 100 → kpR K d w k f 5 (100 * e + i) = K 5 (100 * e + i) := by
  refine ⟨fun j hj => ?_, fun i _ => rfl⟩
  match j, hj with
  | 0, _ => exact (updA _ _ _ _).trans (if_neg he)
  | 1, _ => exact (updA _ _ _ _).trans (if_neg he)
  | 2, _ => exact (updA _ _ _ _).trans (if_neg he)
  | 3, _ => rfl
  | 4, _ => rfl
theorem kp_d (K : Nat → Rw_) (d : Nat) (w k f : Int32) : kpR K d w k f 0 d = w ∧ kpR K d w k f 1 d = k ∧ kpR K d w k f 2 d = f := ⟨(updA _ _ _ _).trans (if_pos rfl), (updA _ _ _ _).trans (if_pos rfl), (updA _ _ _ _).trans (if_pos rfl)⟩
theorem IT.keep {M : Mem_} {x : Nat} {ρ ρi : Rw_} {hi : Int32} {K : Nat → Rw_} {μ γ sc : Rw_} (t : IT M x ρ ρi hi K μ γ sc) {d : Nat} (hd : d < 8) (w k f : Int32) : TG M x ((gR_ M (x + 47) 3 13).bind fun v11 => (sI_ M v11 0 (Int32.ofNat d) w).bind fun M12 => (gR_ M12 (x + 47) 3 14).bind fun v13 => (sI_ M12 v13 0 (Int32.ofNat d) k).bind fun M14 => (gR_ M14 (x + 47) 3 15).bind fun v15 => (sI_ M14 v15 0 (Int32.ofNat d) f).bind fun M16 => some ((0 : Int32), M16)) 0 ρ ρi hi (kpR K d w k f) := by
  obtain ⟨t1, f1⟩ := t.kset (j := 0) (f := upd (K 0) d w) (by decide)
  obtain ⟨t2, f2⟩ := t1.kset (j := 1) (f := upd (K 1) d k) (by decide)
  obtain ⟨t3, f3⟩ := t2.kset (j := 2) (f := upd (K 2) d f) (by decide)
  have s1 := t.ks hd (j := 0) (by decide) w
  have s2 := t1.ks hd (j := 1) (by decide) k
  have s3 := t2.ks hd (j := 2) (by decide) f
  rw [kU_n _ _ (by decide)] at s2
  rw [kU_n _ _ (by decide), kU_n _ _ (by decide)] at s3
  rw [t.r13, ob_n, s1, ob_n, t1.r14, ob_n, s2, ob_n, t2.r15, ob_n, s3, ob_n]
  exact ⟨_, _, _, _, rfl, t3, f1.trans (f2.trans f3)⟩
theorem o_keep (h : IC M n x ρ ρi hi K Z ρm Zm γm cs) (t : IT M' x ρ ρi hi K μ γ sc) (d w k f : Int32) : ∃ (r : Int32) (K' : Nat → Rw_), CA M n x (fX1_keep M n x d w k f) r ρ ρi hi K' ∧ TG M' x (fX4_keep M' (x + 47) d w k f) r ρ ρi hi K' := by
  have hx := h.nx
  unfold fX1_keep fX4_keep
  rw [h.ck, ob_n, lt_, lt_, lt_, lt_, lt_, lt_, lt_, lt_]
  rw [show fX1_isShelf x d = fX4_isIn d 0 7 from rfl, show fX4_isShelf d = fX4_isIn d 0 7 from rfl, show fX1_isIn w 0 1 = fX4_isIn w 0 1 from rfl, show fX1_isIn k 0 7 = fX4_isIn k 0 7 from rfl, show fX1_isNine f = fX4_isIn f 0 9 from rfl]
  cases e : fX4_isIn d 0 7 with
  | false => exact o_bad3 h t 0 _
  | true =>
    rw [if_neg b2_t, if_neg b2_t]
    obtain ⟨dn, hd, rfl⟩ := in_rg (m := 7) (by decide) e
    have hd8 : dn < 8 := hd
    obtain ⟨sh1, o, sh2⟩ := h.shelfAt hd8
    rcases in1 w with ⟨e1, z1⟩ | ⟨e1, _⟩
    · rw [e1, if_neg b2_t, if_neg b2_t]
      rcases z1 with z1 | z1
      · subst z1
        rw [if_neg (show ¬ (0 : Int32) = 1 by decide), if_neg (show ¬ (0 : Int32) = 1 by decide), h.r8, ob_n, sh1, ob_n, if_pos rfl, pFof sh2 (show 0 < 1 by decide), ob_n]
        refine ⟨0, kpR K dn 0 k f, ⟨_, n, _, _, _, _, _, rfl, Nat.le_refl _, h.shelfSet (o := none) hd8 (Nat.le_refl _) (fun q _ hq _ => ms_ne hq) (ms_at _ _ _) (fun e _ he => kp_o K dn 0 k f he) (fun hv => .inl ⟨(kp_d K dn 0 k f).1, va_up_self _ _ _⟩) (fun w => absurd ((kp_d K dn 0 k f).1.symm.trans w) (by decide)), fun q _ _ => ms_ne (by omega)⟩, t.keep hd8 0 k f⟩
      · subst z1
        rw [if_pos rfl, if_pos rfl]
        cases e2 : fX4_isIn k 0 7 with
        | false => exact o_bad3 h t 0 _
        | true =>
          rw [if_neg b2_t, if_neg b2_t]
          cases e3 : fX4_isIn f 0 9 with
          | false => exact o_bad3 h t 0 _
          | true =>
            rw [if_neg b2_t, if_neg b2_t]
            obtain ⟨kn, hk, rfl⟩ := in_rg (m := 7) (by decide) e2
            have hf := in_rg (m := 9) (by decide) e3
            obtain ⟨a1, a2⟩ := h.new (eO_ (7 + kn) [.int f])
            obtain ⟨sh3, o', sh4⟩ := a1.shelfAt hd8
            rw [h.r8, ob_n, sh1, ob_n, if_neg ne10, so_ok M n hk f, ba_n, pFof sh4 (show 0 < 1 by decide), ob_n]
            have I := a1.shelfSet (d := dn) (n1 := n + 1) (o := some n) (K' := kpR K dn 1 (Int32.ofNat kn) f) (M1 := ms_ (ms_ M n (eO_ (7 + kn) [.int f])) (x + 39 + dn) (eO_ 2 [.ref n])) hd8 (Nat.le_refl _) (fun q _ hq _ => ms_ne hq) (ms_at _ _ _) (fun e _ he => kp_o K dn 1 _ f he) (fun hv => by
              have kd := kp_d K dn 1 (Int32.ofNat kn) f
              refine .inr (.inl ⟨kd.1, n, kn, f, va_up_self _ _ _, by omega, by omega, (sk_cg (ms_ne (by omega))).trans (sk_new M n hk f), kd.2.1.symm, kd.2.2.symm, ?_, ?_⟩)
              · rw [kd.2.1]
                exact ⟨kn, hk, rfl⟩
              · rw [kd.2.2]
                exact hf) (fun w => absurd ((kp_d K dn 1 (Int32.ofNat kn) f).1.symm.trans w) (by decide))
            exact ⟨0, kpR K dn 1 (Int32.ofNat kn) f, ⟨_, n + 1, _, _, _, _, _, rfl, by omega, I, a2.trans fun q _ _ => ms_ne (by omega)⟩, t.keep hd8 1 _ f⟩
    · rw [e1]
      exact o_bad3 h t 0 _
end Q22
