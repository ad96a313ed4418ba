/-! new cells; which stroke it was -/
set_option maxRecDepth 100000
/-- as CG, with new cells -/
def CA {α : Type} (M : Mem_) (n x : Nat) (o : Option (α × Mem_ × Nat)) (r : α) (ρ ρi : Rw_) (hi : Int32) (K : Nat → Rw_) : Prop := ∃ M1 n1 Z ρm Zm γm cs, o = some (r, M1, n1) ∧ n ≤ n1 ∧ IC M1 n1 x ρ ρi hi K Z ρm Zm γm cs ∧ Fw M M1 x
theorem Fw.refl (M : Mem_) (x : Nat) : Fw M M x := fun _ _ _ => rfl
theorem Fw.trans {M M1 M2 : Mem_} {x : Nat} (h : Fw M M1 x) (h2 : Fw M1 M2 x) : Fw M M2 x := fun q a b => (h2 q a b).trans (h q a b)
theorem CA.on {α : Type} {M M1 : Mem_} {n n1 x : Nat} {o : Option (α × Mem_ × Nat)} {r : α} {ρ ρi : Rw_} {hi : Int32} {K : Nat → Rw_} (h : CA M1 n1 x o r ρ ρi hi K) (f : Fw M M1 x) (hn : n ≤ n1) : CA M n x o r ρ ρi hi K := by
  obtain ⟨M2, n2, Z, ρm, Zm, γm, cs, a, b, c, d⟩ := h
  exact ⟨M2, n2, Z, ρm, Zm, γm, cs, a, by omega, c, f.trans d⟩
theorem IC.ext {M : Mem_} {n x : Nat} {ρ ρi : Rw_} {hi : Int32} {K : Nat → Rw_} {Z : Zr_} {ρm : Rw_} {Zm : Zr_} {γm cs : Rw_} (h : IC M n x ρ ρi hi K Z ρm Zm γm cs) {M1 : Mem_} {n1 : Nat} (hn : n ≤ n1) (f : ∀ q, q < n → q < x + 47 ∨ x + 61 ≤ q → M1 q = M q) : IC M1 n1 x ρ ρi hi K Z ρm Zm γm cs := by
  obtain ⟨h0, ⟨γ, h1⟩, ⟨ρk, Zk, γk, h2, h3, h4⟩, h5, ⟨ρa, Za, γa, h6, h7⟩, ⟨T, h8⟩, ⟨F, h9, h10⟩, ⟨hv, h11, h12⟩, h13, h14, h15, h16⟩ := h
  have e : ∀ q, x + 61 ≤ q → q < n → M1 q = M q := fun q a b => f q b (by omega)
  exact ⟨(f _ (by omega) (by omega)).trans h0, ⟨γ, h1.cg fun q _ _ => f q (by omega) (by omega)⟩, ⟨ρk, Zk, γk, h2.cg fun q _ _ => f q (by omega) (by omega), h3, fun g => ⟨(h4 g).1, (h4 g).2.cg hn fun q a b => sk_cg (e q a b)⟩⟩, h5.cg fun q _ _ => f q (by omega) (by omega), ⟨ρa, Za, γa, h6.cg fun q _ _ => f q (by omega) (by omega), h7⟩, ⟨T, (f _ (by omega) (by omega)).trans h8⟩, ⟨F, (f _ (by omega) (by omega)).trans h9, h10⟩, ⟨hv, fun d hd => (f _ (by omega) (by omega)).trans (h11 d hd), h12.cg hn e⟩, h13.cg hn fun q a b => sk_cg (e q a b), h14, h15, by omega⟩
theorem IC.nx {M : Mem_} {n x : Nat} {ρ ρi : Rw_} {hi : Int32} {K : Nat → Rw_} {Z : Zr_} {ρm : Rw_} {Zm : Zr_} {γm cs : Rw_} (h : IC M n x ρ ρi hi K Z ρm Zm γm cs) : x + 61 ≤ n := h.2.2.2.2.2.2.2.2.2.2.2
theorem IC.new {M : Mem_} {n x : Nat} {ρ ρi : Rw_} {hi : Int32} {K : Nat → Rw_} {Z : Zr_} {ρm : Rw_} {Zm : Zr_} {γm cs : Rw_} (h : IC M n x ρ ρi hi K Z ρm Zm γm cs) (e : Ent_) : IC (ms_ M n e) (n + 1) x ρ ρi hi K Z ρm Zm γm cs ∧ Fw M (ms_ M n e) x := by
  have := h.nx
  exact ⟨h.ext (Nat.le_succ n) fun q hq _ => ms_ne (by omega), fun q _ _ => ms_ne (by omega)⟩
theorem sk_new (M : Mem_) (n : Nat) {j : Nat} (hj : j < 8) (v : Int32) : sk_ (ms_ M n (eO_ (7 + j) [.int v])) n = some (j, v) := by
  unfold sk_
  rw [ms_at]
  show (if 7 ≤ 7 + j ∧ 7 + j < 15 then some (7 + j - 7, v) else none) = _
  rw [if_pos ⟨by omega, by omega⟩, Nat.add_sub_cancel_left]
theorem pg_new (M : Mem_) (n : Nat) {j : Nat} (hj : j < 8) (v f : Int32) : pG_ (ms_ M n (eO_ (7 + j) [.int v])) n f = some (ms_ M n (eO_ (7 + j) [.int f])) := by
  unfold pG_
  rw [sk_new M n hj, ob_n, ms_ms]
theorem so_ok (M : Mem_) (n : Nat) {kn : Nat} (hk : kn < 8) (f : Int32) : fX1_strokeOf M n (Int32.ofNat kn) f = some (n, ms_ M n (eO_ (7 + kn) [.int f]), n + 1) := by
  have p0 : pG_ (ms_ M n (eO_ 7 [.int 0])) n f = some (ms_ M n (eO_ 7 [.int f])) := pg_new M n (j := 0) (by decide) 0 f
  have p1 : pG_ (ms_ M n (eO_ 8 [.int 0])) n f = some (ms_ M n (eO_ 8 [.int f])) := pg_new M n (j := 1) (by decide) 0 f
  have p2 : pG_ (ms_ M n (eO_ 9 [.int 0])) n f = some (ms_ M n (eO_ 9 [.int f])) := pg_new M n (j := 2) (by decide) 0 f
  have p3 : pG_ (ms_ M n (eO_ 10 [.int 0])) n f = some (ms_ M n (eO_ 10 [.int f])) := pg_new M n (j := 3) (by decide) 0 f
  have p4 : pG_ (ms_ M n (eO_ 11 [.int 0])) n f = some (ms_ M n (eO_ 11 [.int f])) := pg_new M n (j := 4) (by decide) 0 f
  have p5 : pG_ (ms_ M n (eO_ 12 [.int 0])) n f = some (ms_ M n (eO_ 12 [.int f])) := pg_new M n (j := 5) (by decide) 0 f
  have p6 : pG_ (ms_ M n (eO_ 13 [.int 0])) n f = some (ms_ M n (eO_ 13 [.int f])) := pg_new M n (j := 6) (by decide) 0 f
  have p7 : pG_ (ms_ M n (eO_ 14 [.int 0])) n f = some (ms_ M n (eO_ 14 [.int f])) := pg_new M n (j := 7) (by decide) 0 f
  match kn, hk with
  | 0, _ =>
    rw [fX1_strokeOf, if_pos (by decide)]
    simp only [lt_, fX8_init, p0, Option.bind_some]
  | 1, _ =>
    rw [fX1_strokeOf, if_neg (by decide), if_pos (by decide)]
    simp only [lt_, fX8_init, fX9_init, p1, Option.bind_some]
  | 2, _ =>
    rw [fX1_strokeOf, if_neg (by decide), if_neg (by decide), if_pos (by decide)]
    simp only [lt_, fX8_init, fX10_init, p2, Option.bind_some]
  | 3, _ =>
    rw [fX1_strokeOf, if_neg (by decide), if_neg (by decide), if_neg (by decide), if_pos (by decide)]
    simp only [lt_, fX8_init, fX11_init, p3, Option.bind_some]
  | 4, _ =>
    rw [fX1_strokeOf, if_neg (by decide), if_neg (by decide), if_neg (by decide), if_neg (by decide), if_pos (by decide)]
    simp only [lt_, fX8_init, fX10_init, fX12_init, p4, Option.bind_some]
  | 5, _ =>
    rw [fX1_strokeOf, if_neg (by decide), if_neg (by decide), if_neg (by decide), if_neg (by decide), if_neg (by decide), if_pos (by decide)]
    simp only [lt_, fX8_init, fX11_init, fX13_init, p5, Option.bind_some]
  | 6, _ =>
    rw [fX1_strokeOf, if_neg (by decide), if_neg (by decide), if_neg (by decide), if_neg (by decide), if_neg (by decide), if_neg (by decide), if_pos (by decide)]
    simp only [lt_, fX8_init, fX14_init, p6, Option.bind_some]
  | 7, _ =>
    rw [fX1_strokeOf, if_neg (by decide), if_neg (by decide), if_neg (by decide), if_neg (by decide), if_neg (by decide), if_neg (by decide), if_neg (by decide)]
    simp only [lt_, fX8_init, fX11_init, fX15_init, p7, Option.bind_some]
theorem ba_n {α β γ δ : Type} (a : α) (b : β) (c : γ) (k : α → β → γ → Option δ) : ba_ (some (a, b, c)) k = k a b c := by
  have h : ∀ o : Option (α × β × γ), o = some (a, b, c) → ba_ o k = k a b c := fun o e => by
    subst e
    rfl
  exact h _ rfl
/-- whether an element of a row fits a kind of stroke in a draught -/
def wkP (K : Nat → Rw_) (dn : Nat) (kd v : Int32) (c : Nat) : Bool := if skR K dn c = true then true else if K 5 (100 * dn + c) = fal_ kd (Int32.ofNat c) v then true else false
theorem fs_C {M : Mem_} {n x : Nat} {K : Nat → Rw_} {dn q sz st kn : Nat} {f : Rw_} {fg v : Int32} (R : rowAt M n x K dn q sz f) (h9 : sz ≤ 9) (hs : sk_ M st = some (kn, fg)) (hv : dr_ v) : ∀ (d c fuel : Nat), c + d = sz → d < fuel → fX1_fellSo_L3 fuel M x q st v (Int32.ofNat c) = some (al_ (wkP K dn (Int32.ofNat kn) v) d c) := by
  intro d
  induction d with
  | zero =>
    intro c fuel hc hf
    obtain ⟨g, rfl⟩ : ∃ g, fuel = g + 1 := ⟨fuel - 1, by omega⟩
    rw [fX1_fellSo_L3, R.size, ob_n, if_pos (by rw [nL (by omega) (by omega)]; omega)]
    rfl
  | succ d ih =>
    intro c fuel hc hf
    obtain ⟨g, rfl⟩ : ∃ g, fuel = g + 1 := ⟨fuel - 1, by omega⟩
    have hc9 : rg_ 9 (Int32.ofNat c) := ⟨c, by omega, rfl⟩
    rw [fX1_fellSo_L3, R.size, ob_n, if_neg (by rw [nL (by omega) (by omega)]; omega), R.skip (by omega), ob_n]
    simp only [R.elem (show c < sz by omega), S_falls hs hc9 hv, lt_, nS1, ih (c + 1) g (by omega) (by omega), ob_n]
    show _ = some (if (if skR K dn c = true then true else if K 5 (100 * dn + c) = fal_ (Int32.ofNat kn) (Int32.ofNat c) v then true else false) = true then al_ (wkP K dn (Int32.ofNat kn) v) d (c + 1) else false)
    cases skR K dn c with
    | true => rfl
    | false =>
      rw [if_pos b2_f, if_neg (show ¬ (false = true) by decide)]
      by_cases e : K 5 (100 * dn + c) = fal_ (Int32.ofNat kn) (Int32.ofNat c) v
      · rw [if_pos e, if_pos e, if_pos rfl]
      · rw [if_neg e, if_neg e, if_neg (show ¬ (false = true) by decide)]
def wiR (K : Nat → Rw_) (dn sz : Nat) (kd dv : Nat → Int32) : Nat → Nat → Int32 → Int32
  | 0, _, s => s
  | j + 1, v, s => wiR K dn sz kd dv j (v + 1) (if al_ (wkP K dn (kd v) (dv v)) sz 0 = true then s ||| (1 <<< (Int32.ofNat v &&& 31)) else s ||| 0)
theorem wi_C0 {x : Nat} {ρ ρi : Rw_} {hi : Int32} {K : Nat → Rw_} {Z : Zr_} {ρm : Rw_} {Zm : Zr_} {γm cs : Rw_} (V : OK_ ρ) {dn sz st kn : Nat} {fg k y4 : Int32} (hd : dn < 8) (hw : wrR K (Int32.ofNat dn) = 0) (hs : K 4 dn = Int32.ofNat sz) (h9 : sz ≤ 9) : ∀ (j v fuel : Nat) (s : Int32) (M : Mem_) (n : Nat), v + j = 8 → j < fuel → IC M n x ρ ρi hi K Z ρm Zm γm cs → sk_ M st = some (kn, fg) → st < n → CA M n x (fX1_whatIs_L56 fuel M n x (Int32.ofNat dn) k 0 y4 st s (Int32.ofNat v)) (wiR K dn sz (fun v => Int32.ofNat v) (fun _ => ρ 3) j v s) ρ ρi hi K := by
  intro j
  induction j with
  | zero =>
    intro v fuel s M n hv hf h hst hn
    obtain ⟨g, rfl⟩ : ∃ g, fuel = g + 1 := ⟨fuel - 1, by omega⟩
    have : v = 8 := by omega
    subst this
    rw [fX1_whatIs_L56, if_pos rfl, if_pos (by decide)]
    exact ⟨M, n, _, _, _, _, _, rfl, Nat.le_refl _, h, Fw.refl _ _⟩
  | succ j ih =>
    intro v fuel s M n hv hf h hst hn
    obtain ⟨g, rfl⟩ : ∃ g, fuel = g + 1 := ⟨fuel - 1, by omega⟩
    have n8 : ¬ (8 : Int32) ≤ Int32.ofNat v := fun w => by
      have := (nL (i := 8) (by omega) (by omega)).mp w
      omega
    obtain ⟨dn', q, sz', f, hd', ed, a, b, R⟩ := h.rowOf hw
    have e0 : dn' = dn := ((nE (by omega) (by omega)).mp ed).symm
    subst e0
    have e1 : sz' = sz := by
      have := R.2.2.2.2.1.symm.trans hs
      exact (nE (by have := R.2.2.2.1; omega) (by omega)).mp this
    subst e1
    obtain ⟨a1, a2⟩ := h.new (eO_ (7 + v) [.int fg])
    obtain ⟨γ1, c1⟩ := a1.2.1
    have R1 : rowAt (ms_ M n (eO_ (7 + v) [.int fg])) (n + 1) x K dn' q sz' f := ⟨(ms_ne (by have := R.2.2.1; omega)).trans R.1, R.2.1, by have := R.2.2.1; omega, R.2.2.2⟩
    have S : fX1_fellSo (ms_ M n (eO_ (7 + v) [.int fg])) x q n (ρ 3) = some (al_ (wkP K dn' (Int32.ofNat v) (ρ 3)) sz' 0) := fs_C R1 h9 (sk_new M n (by omega) fg) V.1.2.2.2.1 sz' 0 1000 (by omega) (by omega)
    have st1 : sk_ (ms_ M n (eO_ (7 + v) [.int fg])) st = some (kn, fg) := (sk_cg (ms_ne (by omega))).trans hst
    rw [fX1_whatIs_L56, if_pos rfl, if_neg n8, if_pos rfl, h.r8, ob_n, a, ob_n, b, ob_n, gF_of hst, ob_n, so_ok M n (by omega), ba_n, a1.r0, ob_n, co_i11 c1, ob_n, a1.ck, ob_n, S, ob_n]
    unfold wiR
    cases al_ (wkP K dn' (Int32.ofNat v) (ρ 3)) sz' 0 with
    | false =>
      rw [if_pos b2_f, lt_, lt_, nS1]
      exact (ih (v + 1) g _ _ _ (by omega) (by omega) a1 st1 (by omega)).on a2 (by omega)
    | true =>
      rw [if_neg b2_t, lt_, lt_, nS1]
      exact (ih (v + 1) g _ _ _ (by omega) (by omega) a1 st1 (by omega)).on a2 (by omega)
theorem wi_C1 {x : Nat} {ρ ρi : Rw_} {hi : Int32} {K : Nat → Rw_} {Z : Zr_} {ρm : Rw_} {Zm : Zr_} {γm cs : Rw_} {dn sz st kn n : Nat} {fg k y4 : Int32} {M : Mem_} (h : IC M n x ρ ρi hi K Z ρm Zm γm cs) (hd : dn < 8) (hw : wrR K (Int32.ofNat dn) = 0) (hs : K 4 dn = Int32.ofNat sz) (h9 : sz ≤ 9) (hst : sk_ M st = some (kn, fg)) : ∀ (j v fuel : Nat) (s : Int32), v + j = 3 → j < fuel → fX1_whatIs_L56 fuel M n x (Int32.ofNat dn) k 1 y4 st s (Int32.ofNat v) = some (wiR K dn sz (fun _ => Int32.ofNat kn) (fun v => Int32.ofNat v - 1) j v s, M, n) := by
  intro j
  induction j with
  | zero =>
    intro v fuel s hv hf
    obtain ⟨g, rfl⟩ : ∃ g, fuel = g + 1 := ⟨fuel - 1, by omega⟩
    have : v = 3 := by omega
    subst this
    rw [fX1_whatIs_L56, if_neg ne10, if_pos (by decide)]
    rfl
  | succ j ih =>
    intro v fuel s hv hf
    obtain ⟨g, rfl⟩ : ∃ g, fuel = g + 1 := ⟨fuel - 1, by omega⟩
    have n3 : ¬ (3 : Int32) ≤ Int32.ofNat v := fun w => by
      have := (nL (i := 3) (by omega) (by omega)).mp w
      omega
    obtain ⟨dn', q, sz', f, hd', ed, a, b, R⟩ := h.rowOf hw
    have e0 : dn' = dn := ((nE (by omega) (by omega)).mp ed).symm
    subst e0
    have e1 : sz' = sz := by
      have := R.2.2.2.2.1.symm.trans hs
      exact (nE (by have := R.2.2.2.1; omega) (by omega)).mp this
    subst e1
    have S : fX1_fellSo M x q st (Int32.ofNat v - 1) = some (al_ (wkP K dn' (Int32.ofNat kn) (Int32.ofNat v - 1)) sz' 0) := fs_C R h9 hst ⟨v, by omega, rfl⟩ sz' 0 1000 (by omega) (by omega)
    rw [fX1_whatIs_L56, if_neg ne10, if_neg n3, if_neg ne10, h.r8, ob_n, a, ob_n, b, ob_n, h.ck, ob_n, S, ob_n]
    unfold wiR
    cases al_ (wkP K dn' (Int32.ofNat kn) (Int32.ofNat v - 1)) sz' 0 with
    | false =>
      rw [if_pos b2_f, lt_, lt_, nS1]
      exact ih (v + 1) g _ (by omega) (by omega)
    | true =>
      rw [if_neg b2_t, lt_, lt_, nS1]
      exact ih (v + 1) g _ (by omega) (by omega)
theorem wi_i {x : Nat} {ρ ρi : Rw_} {hi : Int32} {K : Nat → Rw_} {dn sz v : Nat} (hd : dn < 8) (hs : K 4 dn = Int32.ofNat sz) (h9 : sz ≤ 9) {k w s y4 R : Int32} (hk : rg_ 8 k) (K2 : Mem_ → Nat → Int32 → Int32 → Int32 → Int32 → Int32 → Int32 → Option (Int32 × Mem_)) {M : Mem_} {μ γ sc : Rw_} (t : IT M x ρ ρi hi K μ γ sc) : ∀ (d c fuel : Nat) (b : Bool), c + d = sz → d < fuel → Tq M x ρ ρi hi K (if (b && al_ (wkP K dn (kS_r μ k) (μ 3)) d c) = true then K2 M (x + 47) (Int32.ofNat dn) k w y4 (s ||| (1 <<< (Int32.ofNat v &&& 31))) (Int32.ofNat (v + 1)) else K2 M (x + 47) (Int32.ofNat dn) k w y4 (s ||| 0) (Int32.ofNat (v + 1))) R → Tq M x ρ ρi hi K (fX4_whatIs_L122 K2 fuel M (x + 47) (Int32.ofNat dn) k w y4 s (Int32.ofNat v) (b2_ b) (Int32.ofNat c)) R := by
  have kf := (t.kf (d := Int32.ofNat dn) ⟨dn, hd, rfl⟩).2.2.2.2
  rw [nC (by omega), hs] at kf
  intro d
  induction d with
  | zero =>
    intro c fuel b hc hf hK
    obtain ⟨g, rfl⟩ : ∃ g, fuel = g + 1 := ⟨fuel - 1, by omega⟩
    rw [fX4_whatIs_L122, t.r17, ob_n, kf, ob_n, if_pos (by rw [nL (by omega) (by omega)]; omega), lt_, lt_, lt_, lt_, nS1]
    cases b with
    | false => exact hK
    | true => exact hK
  | succ d ih =>
    intro c fuel b hc hf hK
    obtain ⟨g, rfl⟩ : ∃ g, fuel = g + 1 := ⟨fuel - 1, by omega⟩
    have F := ro_fal t.2.2.1 t.2.2.2.2.2.2.1 (Int32.ofNat c) hk
    have a1 : ∀ b, b2_ b &&& 1 = b2_ b := by decide
    have a0 : ∀ b, b2_ b &&& 0 = b2_ false := by decide
    rw [fX4_whatIs_L122, t.r17, ob_n, kf, ob_n, if_neg (by rw [nL (by omega) (by omega)]; omega)]
    simp only [t.ck, t.skip hd (show c < 100 by omega), t.r18, t.r1, t.elem hd (show c < 100 by omega), F, lt_, nS1, a1, a0, ob_n]
    have hK : Tq M x ρ ρi hi K (if (b && (if (if skR K dn c = true then true else if K 5 (100 * dn + c) = falR μ k (Int32.ofNat c) then true else false) = true then al_ (wkP K dn (kS_r μ k) (μ 3)) d (c + 1) else false)) = true then K2 M (x + 47) (Int32.ofNat dn) k w y4 (s ||| (1 <<< (Int32.ofNat v &&& 31))) (Int32.ofNat (v + 1)) else K2 M (x + 47) (Int32.ofNat dn) k w y4 (s ||| 0) (Int32.ofNat (v + 1))) R := hK
    cases e0 : skR K dn c with
    | true =>
      rw [e0] at hK
      exact ih (c + 1) g b (by omega) (by omega) hK
    | false =>
      rw [e0] at hK
      rw [if_pos b2_f]
      by_cases e : K 5 (100 * dn + c) = falR μ k (Int32.ofNat c)
      · rw [if_pos e]
        rw [if_pos e] at hK
        exact ih (c + 1) g b (by omega) (by omega) hK
      · rw [if_neg e]
        rw [if_neg e] at hK
        refine ih (c + 1) g false (by omega) (by omega) ?_
        cases b with
        | false => exact hK
        | true => exact hK
theorem ro_sS {M : Mem_} {r : Nat} {ρ : Rw_} (h : M r = some (eI_ 0 42 ρ)) {k : Int32} (hk : rg_ 8 k) (v : Int32) : sI_ M r 0 (fX4_ofS k 0) v = some (ms_ M r (eI_ 0 42 (upd ρ (4 + 2 * k.toNatClampNeg) v))) ∧ sI_ M r 0 (fX4_ofS k 1) v = some (ms_ M r (eI_ 0 42 (upd ρ (5 + 2 * k.toNatClampNeg) v))) := by
  obtain ⟨i, hi, rfl⟩ := hk
  rw [nC (by omega)]
  have e0 : fX4_ofS (Int32.ofNat i) 0 = Int32.ofNat (4 + 2 * i) := by
    have K : ∀ i : Fin 8, fX4_ofS (Int32.ofNat i.val) 0 = Int32.ofNat (4 + 2 * i.val) := by decide +kernel
    exact K ⟨i, hi⟩
  have e1 : fX4_ofS (Int32.ofNat i) 1 = Int32.ofNat (5 + 2 * i) := by
    have K : ∀ i : Fin 8, fX4_ofS (Int32.ofNat i.val) 1 = Int32.ofNat (5 + 2 * i.val) := by decide +kernel
    exact K ⟨i, hi⟩
  have s0 := sIof (i := Int32.ofNat (4 + 2 * i)) (v := v) h (nB (by decide) (by omega))
  have s1 := sIof (i := Int32.ofNat (5 + 2 * i)) (v := v) h (nB (by decide) (by omega))
  rw [nC (by omega)] at s0 s1
  rw [e0, e1]
  exact ⟨s0, s1⟩
theorem wi_T0 {x : Nat} {ρ ρi : Rw_} {hi : Int32} {K : Nat → Rw_} (V : OK_ ρ) {dn sz : Nat} (hd : dn < 8) (hs : K 4 dn = Int32.ofNat sz) (h9 : sz ≤ 9) {k y4 : Int32} (hk : rg_ 8 k) : ∀ (j v fuel : Nat) (s : Int32) (M : Mem_) (μ γ sc : Rw_), v + j = 8 → j < fuel → IT M x ρ ρi hi K μ γ sc → Tq M x ρ ρi hi K (fX4_whatIs_L61 fuel M (x + 47) (Int32.ofNat dn) k 0 y4 s (Int32.ofNat v)) (wiR K dn sz (fun v => Int32.ofNat v) (fun _ => ρ 3) j v s) := by
  have k8 := (rg_nat (by decide) hk).1
  intro j
  induction j with
  | zero =>
    intro v fuel s M μ γ sc hv hf t
    obtain ⟨g, rfl⟩ : ∃ g, fuel = g + 1 := ⟨fuel - 1, by omega⟩
    have : v = 8 := by omega
    subst this
    rw [fX4_whatIs_L61, if_pos rfl, if_pos (by decide)]
    exact ⟨M, _, _, _, rfl, t, Ft.refl _ _⟩
  | succ j ih =>
    intro v fuel s M μ γ sc hv hf t
    obtain ⟨g, rfl⟩ : ∃ g, fuel = g + 1 := ⟨fuel - 1, by omega⟩
    have n8 : ¬ (8 : Int32) ≤ Int32.ofNat v := fun w => by
      have := (nL (i := 8) (by omega) (by omega)).mp w
      omega
    obtain ⟨M1, e1, t1, f1⟩ := t.cop V.2.1
    obtain ⟨t2, f2⟩ := t1.row (μ' := upd ρ (4 + 2 * k.toNatClampNeg) (Int32.ofNat v)) (V.2.1.up (by omega))
    have e2 := (ro_sS t1.2.2.1 hk (Int32.ofNat v)).1
    rw [fX4_whatIs_L61, if_pos rfl, if_neg n8, t.r0, ob_n, t.r1, ob_n, e1, ob_n, if_pos rfl, t1.r1, ob_n, lt_, e2, ob_n]
    refine (wi_i hd hs h9 hk (fX4_whatIs_L61 g) t2 sz 0 1000 true (by omega) (by omega) ?_).on (f1.trans f2)
    have u1 : kS_r (upd ρ (4 + 2 * k.toNatClampNeg) (Int32.ofNat v)) k = Int32.ofNat v := by
      show upd ρ (4 + 2 * k.toNatClampNeg) (Int32.ofNat v) (4 + 2 * k.toNatClampNeg) = _
      rw [updA, if_pos rfl]
    have u2 : upd ρ (4 + 2 * k.toNatClampNeg) (Int32.ofNat v) 3 = ρ 3 := by rw [updA, if_neg (by omega)]
    rw [u1, u2]
    unfold wiR
    rw [Bool.true_and]
    cases al_ (wkP K dn (Int32.ofNat v) (ρ 3)) sz 0 with
    | false => exact ih (v + 1) g _ _ _ _ _ (by omega) (by omega) t2
    | true => exact ih (v + 1) g _ _ _ _ _ (by omega) (by omega) t2
theorem wi_T1 {x : Nat} {ρ ρi : Rw_} {hi : Int32} {K : Nat → Rw_} (V : OK_ ρ) {dn sz : Nat} (hd : dn < 8) (hs : K 4 dn = Int32.ofNat sz) (h9 : sz ≤ 9) {k y4 : Int32} (hk : rg_ 8 k) : ∀ (j v fuel : Nat) (s : Int32) (M : Mem_) (μ γ sc : Rw_), v + j = 3 → j < fuel → IT M x ρ ρi hi K μ γ sc → Tq M x ρ ρi hi K (fX4_whatIs_L61 fuel M (x + 47) (Int32.ofNat dn) k 1 y4 s (Int32.ofNat v)) (wiR K dn sz (fun _ => kS_r ρ k) (fun v => Int32.ofNat v - 1) j v s) := by
  intro j
  induction j with
  | zero =>
    intro v fuel s M μ γ sc hv hf t
    obtain ⟨g, rfl⟩ : ∃ g, fuel = g + 1 := ⟨fuel - 1, by omega⟩
    have : v = 3 := by omega
    subst this
    rw [fX4_whatIs_L61, if_neg ne10, if_pos (by decide)]
    exact ⟨M, _, _, _, rfl, t, Ft.refl _ _⟩
  | succ j ih =>
    intro v fuel s M μ γ sc hv hf t
    obtain ⟨g, rfl⟩ : ∃ g, fuel = g + 1 := ⟨fuel - 1, by omega⟩
    have n3 : ¬ (3 : Int32) ≤ Int32.ofNat v := fun w => by
      have := (nL (i := 3) (by omega) (by omega)).mp w
      omega
    obtain ⟨M1, e1, t1, f1⟩ := t.cop V.2.1
    obtain ⟨t2, f2⟩ := t1.row (μ' := upd ρ 3 (Int32.ofNat v - 1)) (V.2.1.up (by omega))
    have e2 := ro_s3 t1.2.2.1 (Int32.ofNat v - 1)
    rw [fX4_whatIs_L61, if_neg ne10, if_neg n3, t.r0, ob_n, t.r1, ob_n, e1, ob_n, if_neg ne10, t1.r1, ob_n, e2, ob_n]
    refine (wi_i hd hs h9 hk (fX4_whatIs_L61 g) t2 sz 0 1000 true (by omega) (by omega) ?_).on (f1.trans f2)
    have u1 : kS_r (upd ρ 3 (Int32.ofNat v - 1)) k = kS_r ρ k := by
      show upd ρ 3 (Int32.ofNat v - 1) (4 + 2 * k.toNatClampNeg) = _
      rw [updA, if_neg (by omega)]
    have u2 : upd ρ 3 (Int32.ofNat v - 1) 3 = Int32.ofNat v - 1 := by rw [updA, if_pos rfl]
    rw [u1, u2]
    unfold wiR
    rw [Bool.true_and]
    cases al_ (wkP K dn (kS_r ρ k) (Int32.ofNat v - 1)) sz 0 with
    | false => exact ih (v + 1) g _ _ _ _ _ (by omega) (by omega) t2
    | true => exact ih (v + 1) g _ _ _ _ _ (by omega) (by omega) t2
section Q20
variable {M M' : Mem_} {n x : Nat} {ρ ρi : Rw_} {hi : Int32} {K : Nat → Rw_} {Z : Zr_} {ρm : Rw_} {Zm : Zr_} {γm cs : Rw_} {μ γ sc : Rw_}
theorem o_bad (h : IC M n x ρ ρi hi K Z ρm Zm γm cs) (t : IT M' x ρ ρi hi K μ γ sc) (j : Nat) (v : Int32) : ∃ r : Int32, CA M n x (some (v, M, n + j)) r ρ ρi hi K ∧ Tq M' x ρ ρi hi K (some (v, M')) r := ⟨v, ⟨M, n + j, _, _, _, _, _, rfl, by omega, h.grow (by omega), Fw.refl _ _⟩, ⟨M', _, _, _, rfl, t, Ft.refl _ _⟩⟩
theorem o_whatIs (h : IC M n x ρ ρi hi K Z ρm Zm γm cs) (t : IT M' x ρ ρi hi K μ γ sc) (V : OK_ ρ) (d k w : Int32) : ∃ r, CA M n x (fX1_whatIs M n x d k w) r ρ ρi hi K ∧ Tq M' x ρ ρi hi K (fX4_whatIs M' (x + 47) d k w) r := by
  obtain ⟨γ0, h1⟩ := h.2.1
  unfold fX1_whatIs fX4_whatIs
  rw [show fX1_isIn w 0 1 = fX4_isIn w 0 1 from rfl, h.r0, ob_n, h.ck1, ob_n, h.isStroke, ob_n, t.ck, ob_n, t.isStroke, ob_n]
  cases e1 : fX4_isIn k 0 (ρ 0 - 1) with
  | false => exact o_bad h t 0 _
  | true =>
    rw [if_neg b2_t, if_neg b2_t, lt_, lt_]
    cases e2 : fX4_isIn w 0 1 with
    | false => exact o_bad h t 0 _
    | true =>
      obtain ⟨hk, hk8⟩ := str_rg V.1.2.2.2.2.1 e1
      obtain ⟨st, kn, fg, a1, a2, a3, a4, a5, a6⟩ := h.stroke hk
      rw [if_neg b2_t, if_neg b2_t, h.ck, ob_n, h.notNine, ob_n, ob_n, co_r0 h1, ob_n, co_str h1 hk8 a1, ob_n, ob_n, t.wrong, ob_n]
      by_cases e : wrR K d = 0
      · obtain ⟨dn, q, sz, f, hd, ed, a, b, R⟩ := h.rowOf e
        have kf := (t.kf (d := Int32.ofNat dn) ⟨dn, hd, rfl⟩).2.2.2.2
        have h100 := R.2.2.2.1
        rw [nC (by omega), R.2.2.2.2.1] at kf
        subst ed
        rw [if_pos e, if_pos e, t.r17, ob_n, kf, ob_n, nC (show dn < 100000 by omega), R.2.2.2.2.1]
        by_cases z : Int32.ofNat sz ≤ 9
        · have h9 : sz ≤ 9 := (nL (j := 9) (by omega) (by omega)).mp z
          rw [if_pos z, if_pos rfl, if_pos z]
          have hw : w = 0 ∨ w = 1 := by
            rcases in1 w with ⟨_, z⟩ | ⟨z, _⟩
            · exact z
            · rw [z] at e2
              cases e2
          have go : ∃ r, CA M n x (fX1_whatIs_L56 10 M n x (Int32.ofNat dn) k w 0 st 0 0) r ρ ρi hi K ∧ Tq M' x ρ ρi hi K (fX4_whatIs_L61 1000 M' (x + 47) (Int32.ofNat dn) k w (wrR K (Int32.ofNat dn)) 0 0) r := by
            rcases hw with z | z
            · subst z
              exact ⟨_, wi_C0 V hd e R.2.2.2.2.1 h9 8 0 10 0 M n (by omega) (by omega) h a2 a6, wi_T0 V hd R.2.2.2.2.1 h9 hk8 8 0 1000 0 M' _ _ _ (by omega) (by omega) t⟩
            · subst z
              have A := wi_C1 (k := k) (y4 := 0) h hd e R.2.2.2.2.1 h9 a2 3 0 10 0 (by omega) (by omega)
              have B := wi_T1 V hd R.2.2.2.2.1 h9 hk8 (y4 := wrR K (Int32.ofNat dn)) 3 0 1000 0 M' _ _ _ (by omega) (by omega) t
              rw [oN0] at A B
              rw [A, a3]
              exact ⟨_, ⟨M, n, _, _, _, _, _, rfl, Nat.le_refl _, h, Fw.refl _ _⟩, B⟩
          rw [if_pos e]
          exact go
        · rw [if_neg z, if_neg (show ¬ (-13 : Int32) = 0 by decide), if_neg z]
          exact o_bad h t 0 _
      · rw [if_neg e, if_neg e, if_neg e, if_neg e]
        exact o_bad h t 0 _
end Q20
