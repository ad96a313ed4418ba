/-! the picture of the component and of the twin -/
set_option maxRecDepth 100000
def Zn (Z : Zr_) : Prop := ∀ i, 8 ≤ i → Z i = none
/-- the strokes of a court: its references, as a row tells them -/
def SZ (M : Mem_) (x n : Nat) (Z : Zr_) (ρ : Rw_) : Prop := (∀ i q, Z i = some q → x + 61 ≤ q ∧ q < n ∧ (sk_ M q).isSome = true) ∧ (∀ i, i < (ρ 0).toNatClampNeg → ∃ q kn fg, Z i = some q ∧ sk_ M q = some (kn, fg) ∧ Int32.ofNat kn = ρ (4 + 2 * i) ∧ fg = ρ (5 + 2 * i))
def tagOf (s : Int32) : Nat := if s = 0 then 1 else if s = 1 then 2 else 0
def hvV (o : Option Nat) : Value := match o with
  | none => .null
  | some q => .ref q
/-- what lies on a shelf -/
def SH1 (M : Mem_) (x n : Nat) (K : Nat → Rw_) (hv : Zr_) (d : Nat) : Prop := (K 0 d = 0 ∧ hv d = none) ∨ (K 0 d = 1 ∧ ∃ q kn fg, hv d = some q ∧ x + 61 ≤ q ∧ q < n ∧ sk_ M q = some (kn, fg) ∧ Int32.ofNat kn = K 1 d ∧ fg = K 2 d ∧ rg_ 8 (K 1 d) ∧ rg_ 10 (K 2 d)) ∨ (K 0 d = 2 ∧ ∃ q sz f, hv d = some q ∧ x + 61 ≤ q ∧ q < n ∧ M q = some (eI_ (tagOf (K 3 d)) sz f) ∧ sz ≤ 100 ∧ K 4 d = Int32.ofNat sz ∧ rg_ 3 (K 3 d) ∧ (∀ i, i < sz → f i = K 5 (100 * d + i)) ∧ (∀ i, fits (tT_ (tagOf (K 3 d))) (.int (f i)) = true))
def SH (M : Mem_) (x n : Nat) (K : Nat → Rw_) (hv : Zr_) : Prop := (∀ d, d < 8 → SH1 M x n K hv d) ∧ (∀ d e, d < 8 → e < 8 → d ≠ e → K 0 d = 2 → K 0 e = 2 → hv d ≠ hv e)
abbrev cO_ (x : Nat) (hi : Int32) (cs : Rw_) : Ent_ := eO_ 0 [.ref (x + 1), .ref (x + 10), .ref (x + 19), .ref (x + 28), .int hi, .ref (x + 37), .int (cs 6), .int (cs 7), .ref (x + 38)]
def IC (M : Mem_) (n x : Nat) (ρ ρi : Rw_) (hi : Int32) (K : Nat → Rw_) (Z : Zr_) (ρm : Rw_) (Zm : Zr_) (γm cs : Rw_) : Prop :=
  M x = some (cO_ x hi cs) ∧ (∃ γ, Co_ M (x + 1) ρ Z γ) ∧ (∃ ρk Zk γk, Co_ M (x + 10) ρk Zk γk ∧ Zn Zk ∧ (hi = 1 → ρk = ρi ∧ SZ M x n Zk ρi)) ∧ Co_ M (x + 19) ρm Zm γm ∧ (∃ ρa Za γa, Co_ M (x + 28) ρa Za γa ∧ Zn Za)
  ∧ (∃ T, M (x + 37) = some (eQ_ 4 100 T)) ∧ (∃ F, M (x + 38) = some (eQ_ 5 8 F) ∧ ∀ d, d < 8 → F d = some (x + 39 + d)) ∧ (∃ hv, (∀ d, d < 8 → M (x + 39 + d) = some (eO_ 2 [hvV (hv d)])) ∧ SH M x n K hv) ∧ SZ M x n Z ρ ∧ Zn Z ∧ Zn Zm ∧ x + 61 ≤ n
abbrev tO_ (x : Nat) (hi : Int32) (sc : Rw_) : Ent_ := eO_ 3 [.ref (x + 48), .ref (x + 49), .ref (x + 50), .ref (x + 51), .ref (x + 52), .int hi, .int (sc 6), .int (sc 7), .int (sc 8), .ref (x + 53), .int (sc 10), .int (sc 11), .int (sc 12), .ref (x + 54), .ref (x + 55), .ref (x + 56), .ref (x + 57), .ref (x + 58), .ref (x + 59), .int (sc 19)]
def IT (M : Mem_) (x : Nat) (ρ ρi : Rw_) (hi : Int32) (K : Nat → Rw_) (μ γ sc : Rw_) : Prop :=
  M (x + 47) = some (tO_ x hi sc) ∧ M (x + 48) = some (eI_ 0 42 ρ) ∧ M (x + 49) = some (eI_ 0 42 μ) ∧ Nm μ ∧ (∃ ι, M (x + 50) = some (eI_ 0 42 ι) ∧ Nm ι ∧ (hi = 1 → ι = ρi)) ∧ (∃ ω, M (x + 51) = some (eI_ 0 42 ω) ∧ Nm ω) ∧ M (x + 52) = some (eI_ 0 4 γ) ∧ (∃ ν, M (x + 53) = some (eI_ 0 3 ν))
  ∧ M (x + 54) = some (eI_ 0 8 (K 0)) ∧ M (x + 55) = some (eI_ 0 8 (K 1)) ∧ M (x + 56) = some (eI_ 0 8 (K 2)) ∧ M (x + 57) = some (eI_ 0 8 (K 3)) ∧ M (x + 58) = some (eI_ 0 8 (K 4)) ∧ M (x + 59) = some (eI_ 0 800 (K 5))
/-- a court that can be -/
def OK_ (ρ : Rw_) : Prop := VR ρ ∧ Nm ρ ∧ rg_ 1000 (ρ 1) ∧ rg_ 100 (ρ 38) ∧ rg_ 100 (ρ 41)
def VS (ρ ρi : Rw_) (hi : Int32) : Prop := OK_ ρ ∧ (hi = 0 ∨ hi = 1 ∧ OK_ ρi)
def Fc (M M1 : Mem_) (x : Nat) : Prop := ∀ q, q < x ∨ x + 47 ≤ q → M1 q = M q
def Fw (M M1 : Mem_) (x : Nat) : Prop := ∀ q, x + 47 ≤ q → q < x + 61 → M1 q = M q
def Ft (M M1 : Mem_) (x : Nat) : Prop := ∀ q, q < x + 47 ∨ x + 60 ≤ q → M1 q = M q
theorem Fc.refl (M : Mem_) (x : Nat) : Fc M M x := fun _ _ => rfl
theorem Fc.w {M M1 : Mem_} {x : Nat} (h : Fc M M1 x) : Fw M M1 x := fun q a _ => h q (by omega)
theorem Ft.refl (M : Mem_) (x : Nat) : Ft M M x := fun _ _ => rfl
theorem Fc.trans {M M1 M2 : Mem_} {x : Nat} (h : Fc M M1 x) (h2 : Fc M1 M2 x) : Fc M M2 x := fun q a => (h2 q a).trans (h q a)
theorem Ft.trans {M M1 M2 : Mem_} {x : Nat} (h : Ft M M1 x) (h2 : Ft M1 M2 x) : Ft M M2 x := fun q a => (h2 q a).trans (h q a)
theorem IT.move {M M1 : Mem_} {x : Nat} {ρ ρi : Rw_} {hi : Int32} {K : Nat → Rw_} {μ γ sc : Rw_} (h : IT M x ρ ρi hi K μ γ sc) (f : Fw M M1 x) : IT M1 x ρ ρi hi K μ γ sc := by
  obtain ⟨h0, h1, h2, h3, ⟨ι, h4, h5, h6⟩, ⟨ω, h7, h8⟩, h9, ⟨ν, h10⟩, k0, k1, k2, k3, k4, k5⟩ := h
  refine ⟨?_, ?_, ?_, h3, ⟨ι, ?_, h5, h6⟩, ⟨ω, ?_, h8⟩, ?_, ⟨ν, ?_⟩, ?_, ?_, ?_, ?_, ?_, ?_⟩
  all_goals rw [f _ (by omega) (by omega)]
  all_goals assumption
theorem Co_.cg {M M1 : Mem_} {c : Nat} {ρ : Rw_} {Z : Zr_} {γ : Rw_} (h : Co_ M c ρ Z γ) (e : ∀ q, c ≤ q → q < c + 9 → M1 q = M q) : Co_ M1 c ρ Z γ := fun j hj => (e _ (by omega) (by omega)).trans (h j hj)
theorem SZ.cg {M M1 : Mem_} {x n n1 : Nat} {Z : Zr_} {ρ : Rw_} (h : SZ M x n Z ρ) (hn : n ≤ n1) (e : ∀ q, x + 61 ≤ q → q < n → sk_ M1 q = sk_ M q) : SZ M1 x n1 Z ρ := by
  refine ⟨fun i q hq => ?_, fun i hi => ?_⟩
  · obtain ⟨a, b, c⟩ := h.1 i q hq
    exact ⟨a, by omega, by rw [e q a b]; exact c⟩
  · obtain ⟨q, kn, fg, a, b, c⟩ := h.2 i hi
    obtain ⟨a1, b1, _⟩ := h.1 i q a
    exact ⟨q, kn, fg, a, by rw [e q a1 b1]; exact b, c⟩
theorem SH1.cg {M M1 : Mem_} {x n n1 : Nat} {K : Nat → Rw_} {hv : Zr_} {d : Nat} (h : SH1 M x n K hv d) (hn : n ≤ n1) (e : ∀ q, x + 61 ≤ q → q < n → M1 q = M q) : SH1 M1 x n1 K hv d := by
  rcases h with h | ⟨h, q, kn, fg, a, b, c, g⟩ | ⟨h, q, sz, f, a, b, c, g, g2⟩
  · exact .inl h
  · exact .inr (.inl ⟨h, q, kn, fg, a, b, by omega, by rw [sk_cg (e q b c)]; exact g⟩)
  · exact .inr (.inr ⟨h, q, sz, f, a, b, by omega, (e q b c).trans g, g2⟩)
theorem SH.cg {M M1 : Mem_} {x n n1 : Nat} {K : Nat → Rw_} {hv : Zr_} (h : SH M x n K hv) (hn : n ≤ n1) (e : ∀ q, x + 61 ≤ q → q < n → M1 q = M q) : SH M1 x n1 K hv := ⟨fun d hd => (h.1 d hd).cg hn e, h.2⟩
theorem IC.move {M M1 : Mem_} {n x : Nat} {ρ ρi : Rw_} {hi : Int32} {K : Nat → Rw_} {Z : Zr_} {ρm : Rw_} {Zm : Zr_} {γm cs : Rw_} (h : IC M n x ρ ρi hi K Z ρm Zm γm cs) (f : Ft M M1 x) : IC M1 n x ρ ρi hi K Z ρm Zm γm cs := by
  obtain ⟨h0, ⟨γ, h1⟩, ⟨ρk, Zk, γk, h2, h3, h4⟩, h5, ⟨ρa, Za, γa, h6, h7⟩, ⟨T, h8⟩, ⟨F, h9, h10⟩, ⟨hv, h11, h12⟩, h13, h14, h15, h16⟩ := h
  have e : ∀ q, x + 61 ≤ q → q < n → M1 q = M q := fun q a _ => f q (by omega)
  refine ⟨(f _ (by omega)).trans h0, ⟨γ, h1.cg fun q _ _ => f q (by omega)⟩, ⟨ρk, Zk, γk, h2.cg fun q _ _ => f q (by omega), h3, fun g => ⟨(h4 g).1, (h4 g).2.cg (Nat.le_refl _) fun q a b => sk_cg (e q a b)⟩⟩, h5.cg fun q _ _ => f q (by omega), ⟨ρa, Za, γa, h6.cg fun q _ _ => f q (by omega), h7⟩, ⟨T, (f _ (by omega)).trans h8⟩, ⟨F, (f _ (by omega)).trans h9, h10⟩, ⟨hv, fun d hd => (f _ (by omega)).trans (h11 d hd), h12.cg (Nat.le_refl _) e⟩, h13.cg (Nat.le_refl _) fun q a b => sk_cg (e q a b), h14, h15, h16⟩
section ICL
variable {M : Mem_} {n x : Nat} {ρ ρi : Rw_} {hi : Int32} {K : Nat → Rw_} {Z : Zr_} {ρm : Rw_} {Zm : Zr_} {γm cs : Rw_}
theorem IC.ck (h : IC M n x ρ ρi hi K Z ρm Zm γm cs) : ck_ M x 0 = some () := ckof h.1
theorem IC.r0 (h : IC M n x ρ ρi hi K Z ρm Zm γm cs) : gR_ M x 0 0 = some (x + 1) := gRof h.1 rfl
theorem IC.r1 (h : IC M n x ρ ρi hi K Z ρm Zm γm cs) : gR_ M x 0 1 = some (x + 10) := gRof h.1 rfl
theorem IC.r2 (h : IC M n x ρ ρi hi K Z ρm Zm γm cs) : gR_ M x 0 2 = some (x + 19) := gRof h.1 rfl
theorem IC.r3 (h : IC M n x ρ ρi hi K Z ρm Zm γm cs) : gR_ M x 0 3 = some (x + 28) := gRof h.1 rfl
theorem IC.r5 (h : IC M n x ρ ρi hi K Z ρm Zm γm cs) : gR_ M x 0 5 = some (x + 37) := gRof h.1 rfl
theorem IC.r8 (h : IC M n x ρ ρi hi K Z ρm Zm γm cs) : gR_ M x 0 8 = some (x + 38) := gRof h.1 rfl
theorem IC.i4 (h : IC M n x ρ ρi hi K Z ρm Zm γm cs) : gI_ M x 0 4 = some (hi) := gIof h.1 rfl
theorem IC.i6 (h : IC M n x ρ ρi hi K Z ρm Zm γm cs) : gI_ M x 0 6 = some (cs 6) := gIof h.1 rfl
theorem IC.i7 (h : IC M n x ρ ρi hi K Z ρm Zm γm cs) : gI_ M x 0 7 = some (cs 7) := gIof h.1 rfl
theorem IC.ck1 (h : IC M n x ρ ρi hi K Z ρm Zm γm cs) : ck_ M (x + 1) 1 = some () := ckof ((h.2.1.elim fun _ g => g 0 (by decide)))
theorem IC.ck19 (h : IC M n x ρ ρi hi K Z ρm Zm γm cs) : ck_ M (x + 19) 1 = some () := ckof (h.2.2.2.1 0 (by decide))
theorem IC.okS (h : IC M n x ρ ρi hi K Z ρm Zm γm cs) : ∀ i, i < 8 → okS_ M (Z i) = true := fun i _ => by
  have g := h.2.2.2.2.2.2.2.2.1.1 i
  unfold okS_
  cases e : Z i with
  | none => rfl
  | some q => exact (g q e).2.2
/-- the court in mind is another now -/
theorem IC.mind (h : IC M n x ρ ρi hi K Z ρm Zm γm cs) {ρ' : Rw_} {Z' : Zr_} {γ' : Rw_} (hz : Zn Z') : IC (cw_ M (x + 19) ρ' Z' γ') n x ρ ρi hi K Z ρ' Z' γ' cs ∧ Fc M (cw_ M (x + 19) ρ' Z' γ') x := by
  obtain ⟨h0, ⟨γ, h1⟩, ⟨ρk, Zk, γk, h2, h3, h4⟩, h5, ⟨ρa, Za, γa, h6, h7⟩, ⟨T, h8⟩, ⟨F, h9, h10⟩, ⟨hv, h11, h12⟩, h13, h14, h15, h16⟩ := h
  have o : ∀ q, q < x + 19 ∨ x + 28 ≤ q → cw_ M (x + 19) ρ' Z' γ' q = M q := fun q hq => cw_out (by omega)
  have e : ∀ q, x + 61 ≤ q → q < n → cw_ M (x + 19) ρ' Z' γ' q = M q := fun q a _ => o q (by omega)
  exact ⟨⟨(o _ (by omega)).trans h0, ⟨γ, h1.cg fun q _ _ => o q (by omega)⟩, ⟨ρk, Zk, γk, h2.cg fun q _ _ => o q (by omega), h3, fun g => ⟨(h4 g).1, (h4 g).2.cg (Nat.le_refl _) fun q a b => sk_cg (e q a b)⟩⟩, cw_co _ _ _ _ _, ⟨ρa, Za, γa, h6.cg fun q _ _ => o q (by omega), h7⟩, ⟨T, (o _ (by omega)).trans h8⟩, ⟨F, (o _ (by omega)).trans h9, h10⟩, ⟨hv, fun d hd => (o _ (by omega)).trans (h11 d hd), h12.cg (Nat.le_refl _) e⟩, h13.cg (Nat.le_refl _) fun q a b => sk_cg (e q a b), h14, hz, h16⟩, fun q _ => o q (by omega)⟩
theorem IC.ahead (h : IC M n x ρ ρi hi K Z ρm Zm γm cs) {ρ' : Rw_} {Z' : Zr_} {γ' : Rw_} (hz : Zn Z') : IC (cw_ M (x + 28) ρ' Z' γ') n x ρ ρi hi K Z ρm Zm γm cs ∧ Fc M (cw_ M (x + 28) ρ' Z' γ') x := by
  obtain ⟨h0, ⟨γ, h1⟩, ⟨ρk, Zk, γk, h2, h3, h4⟩, h5, ⟨ρa, Za, γa, h6, h7⟩, ⟨T, h8⟩, ⟨F, h9, h10⟩, ⟨hv, h11, h12⟩, h13, h14, h15, h16⟩ := h
  have o : ∀ q, q < x + 28 ∨ x + 37 ≤ q → cw_ M (x + 28) ρ' Z' γ' q = M q := fun q hq => cw_out (by omega)
  have e : ∀ q, x + 61 ≤ q → q < n → cw_ M (x + 28) ρ' Z' γ' q = M q := fun q a _ => o q (by omega)
  exact ⟨⟨(o _ (by omega)).trans h0, ⟨γ, h1.cg fun q _ _ => o q (by omega)⟩, ⟨ρk, Zk, γk, h2.cg fun q _ _ => o q (by omega), h3, fun g => ⟨(h4 g).1, (h4 g).2.cg (Nat.le_refl _) fun q a b => sk_cg (e q a b)⟩⟩, h5.cg fun q _ _ => o q (by omega), ⟨ρ', Z', γ', cw_co _ _ _ _ _, hz⟩, ⟨T, (o _ (by omega)).trans h8⟩, ⟨F, (o _ (by omega)).trans h9, h10⟩, ⟨hv, fun d hd => (o _ (by omega)).trans (h11 d hd), h12.cg (Nat.le_refl _) e⟩, h13.cg (Nat.le_refl _) fun q a b => sk_cg (e q a b), h14, h15, h16⟩, fun q _ => o q (by omega)⟩
/-- the court's own number is another now -/
theorem IC.scal (h : IC M n x ρ ρi hi K Z ρm Zm γm cs) {k : Nat} {v : Int32} (hk : k = 6 ∨ k = 7) : ∃ M1, pF_ M x 0 k (.int v) = some M1 ∧ IC M1 n x ρ ρi hi K Z ρm Zm γm (upd cs k v) ∧ Fc M M1 x := by
  obtain ⟨h0, ⟨γ, h1⟩, ⟨ρk, Zk, γk, h2, h3, h4⟩, h5, ⟨ρa, Za, γa, h6, h7⟩, ⟨T, h8⟩, ⟨F, h9, h10⟩, ⟨hv, h11, h12⟩, h13, h14, h15, h16⟩ := h
  refine ⟨ms_ M x (cO_ x hi (upd cs k v)), ?_, ?_⟩
  · rcases hk with z | z <;> subst z <;> exact pFof h0 (Nat.le_of_ble_eq_true rfl)
  have o : ∀ q, q ≠ x → ms_ M x (cO_ x hi (upd cs k v)) q = M q := fun q hq => ms_ne hq
  have e : ∀ q, x + 61 ≤ q → q < n → ms_ M x (cO_ x hi (upd cs k v)) q = M q := fun q a _ => o q (by omega)
  exact ⟨⟨ms_at _ _ _, ⟨γ, h1.cg fun q _ _ => o q (by omega)⟩, ⟨ρk, Zk, γk, h2.cg fun q _ _ => o q (by omega), h3, fun g => ⟨(h4 g).1, (h4 g).2.cg (Nat.le_refl _) fun q a b => sk_cg (e q a b)⟩⟩, h5.cg fun q _ _ => o q (by omega), ⟨ρa, Za, γa, h6.cg fun q _ _ => o q (by omega), h7⟩, ⟨T, (o _ (by omega)).trans h8⟩, ⟨F, (o _ (by omega)).trans h9, h10⟩, ⟨hv, fun d hd => (o _ (by omega)).trans (h11 d hd), h12.cg (Nat.le_refl _) e⟩, h13.cg (Nat.le_refl _) fun q a b => sk_cg (e q a b), h14, h15, h16⟩, fun q _ => o q (by omega)⟩
theorem zz_eq {Z Z' : Zr_} (h1 : Zn Z) (h2 : Zn Z') : zz_ Z Z' = Z := by
  funext i
  show (if 0 ≤ i ∧ i < 0 + 8 then Z (0 + (i - 0)) else Z' i) = Z i
  by_cases g : i < 8
  · rw [if_pos ⟨by omega, by omega⟩, Nat.zero_add, Nat.sub_zero]
  · rw [if_neg (by omega), h1 i (by omega), h2 i (by omega)]
theorem IC.minds (h : IC M n x ρ ρi hi K Z ρm Zm γm cs) : ∃ M1, fX1_minds M x = some M1 ∧ IC M1 n x ρ ρi hi K Z ρ Z (fun _ => 0) cs ∧ Fc M M1 x := by
  obtain ⟨γ, h1⟩ := h.2.1
  have hz := h.2.2.2.2.2.2.2.2.2.1
  have t := takes_ok h.2.2.2.1 h1 (by omega) h.okS
  rw [zz_eq hz h.2.2.2.2.2.2.2.2.2.2.1] at t
  refine ⟨_, ?_, h.mind hz⟩
  unfold fX1_minds
  simp only [h.r2, h.r0, h.ck19, t, Option.bind_some]
/-- what is known of a stroke of the court -/
theorem IC.stroke (h : IC M n x ρ ρi hi K Z ρm Zm γm cs) {k : Int32} (hk : k.toNatClampNeg < (ρ 0).toNatClampNeg) : ∃ q kn fg, Z k.toNatClampNeg = some q ∧ sk_ M q = some (kn, fg) ∧ Int32.ofNat kn = kS_r ρ k ∧ fg = fS_r ρ k ∧ x + 61 ≤ q ∧ q < n := by
  obtain ⟨q, kn, fg, a, b, c, d⟩ := h.2.2.2.2.2.2.2.2.1.2 _ hk
  obtain ⟨a1, b1, _⟩ := h.2.2.2.2.2.2.2.2.1.1 _ _ a
  exact ⟨q, kn, fg, a, b, c, d, a1, b1⟩
theorem IC.mhit (h : IC M n x ρ ρi hi K Z ρm Zm γm cs) (hm : Zm = Z) (V : MV ρm ρ) {k c : Int32} (hk : k.toNatClampNeg < (ρ 0).toNatClampNeg) (hk8 : rg_ 8 k) (hc : rg_ 9 c) : ∃ M1, fX2_hits M (x + 19) k c = some (hB ρm k c, M1) ∧ IC M1 n x ρ ρi hi K Z (hR ρm k c) Z (hG ρm γm k c) cs ∧ Fc M M1 x := by
  subst hm
  obtain ⟨q, kn, fg, a, b, c1, d, e, f⟩ := h.stroke hk
  have k8 := (rg_nat (by decide) hk8).1
  have t := C_hit M (x + 19) ρm Zm γm V.1 (by rw [V.2.2.1]; exact hk) hk8 hc a b (by omega) (c1.trans (V.2.2.2 _ (by omega) (by omega)).symm) (d.trans (V.2.2.2 _ (by omega) (by omega)).symm)
  rw [cw_eq h.2.2.2.1, hit_eq] at t
  exact ⟨_, t, h.mind h.2.2.2.2.2.2.2.2.2.1⟩
end ICL
section ITL
variable {M : Mem_} {x : Nat} {ρ ρi : Rw_} {hi : Int32} {K : Nat → Rw_} {μ γ sc : Rw_}
theorem IT.ck (h : IT M x ρ ρi hi K μ γ sc) : ck_ M (x + 47) 3 = some () := ckof h.1
theorem IT.r0 (h : IT M x ρ ρi hi K μ γ sc) : gR_ M (x + 47) 3 0 = some (x + 48) := gRof h.1 rfl
theorem IT.r1 (h : IT M x ρ ρi hi K μ γ sc) : gR_ M (x + 47) 3 1 = some (x + 49) := gRof h.1 rfl
theorem IT.r2 (h : IT M x ρ ρi hi K μ γ sc) : gR_ M (x + 47) 3 2 = some (x + 50) := gRof h.1 rfl
theorem IT.r3 (h : IT M x ρ ρi hi K μ γ sc) : gR_ M (x + 47) 3 3 = some (x + 51) := gRof h.1 rfl
theorem IT.r4 (h : IT M x ρ ρi hi K μ γ sc) : gR_ M (x + 47) 3 4 = some (x + 52) := gRof h.1 rfl
theorem IT.r9 (h : IT M x ρ ρi hi K μ γ sc) : gR_ M (x + 47) 3 9 = some (x + 53) := gRof h.1 rfl
theorem IT.r13 (h : IT M x ρ ρi hi K μ γ sc) : gR_ M (x + 47) 3 13 = some (x + 54) := gRof h.1 rfl
theorem IT.r14 (h : IT M x ρ ρi hi K μ γ sc) : gR_ M (x + 47) 3 14 = some (x + 55) := gRof h.1 rfl
theorem IT.r15 (h : IT M x ρ ρi hi K μ γ sc) : gR_ M (x + 47) 3 15 = some (x + 56) := gRof h.1 rfl
theorem IT.r16 (h : IT M x ρ ρi hi K μ γ sc) : gR_ M (x + 47) 3 16 = some (x + 57) := gRof h.1 rfl
theorem IT.r17 (h : IT M x ρ ρi hi K μ γ sc) : gR_ M (x + 47) 3 17 = some (x + 58) := gRof h.1 rfl
theorem IT.r18 (h : IT M x ρ ρi hi K μ γ sc) : gR_ M (x + 47) 3 18 = some (x + 59) := gRof h.1 rfl
theorem IT.i6 (h : IT M x ρ ρi hi K μ γ sc) : gI_ M (x + 47) 3 6 = some (sc 6) := gIof h.1 rfl
theorem IT.i7 (h : IT M x ρ ρi hi K μ γ sc) : gI_ M (x + 47) 3 7 = some (sc 7) := gIof h.1 rfl
theorem IT.i8 (h : IT M x ρ ρi hi K μ γ sc) : gI_ M (x + 47) 3 8 = some (sc 8) := gIof h.1 rfl
theorem IT.i10 (h : IT M x ρ ρi hi K μ γ sc) : gI_ M (x + 47) 3 10 = some (sc 10) := gIof h.1 rfl
theorem IT.i11 (h : IT M x ρ ρi hi K μ γ sc) : gI_ M (x + 47) 3 11 = some (sc 11) := gIof h.1 rfl
theorem IT.i12 (h : IT M x ρ ρi hi K μ γ sc) : gI_ M (x + 47) 3 12 = some (sc 12) := gIof h.1 rfl
theorem IT.i19 (h : IT M x ρ ρi hi K μ γ sc) : gI_ M (x + 47) 3 19 = some (sc 19) := gIof h.1 rfl
theorem IT.i5 (h : IT M x ρ ρi hi K μ γ sc) : gI_ M (x + 47) 3 5 = some hi := gIof h.1 rfl
theorem IT.row (h : IT M x ρ ρi hi K μ γ sc) {μ' : Rw_} (hN : Nm μ') : IT (ms_ M (x + 49) (eI_ 0 42 μ')) x ρ ρi hi K μ' γ sc ∧ Ft M (ms_ M (x + 49) (eI_ 0 42 μ')) x := by
  obtain ⟨h0, h1, h2, h3, ⟨ι, h4, h5, h6⟩, ⟨ω, h7, h8⟩, h9, ⟨ν, h10⟩, k0, k1, k2, k3, k4, k5⟩ := h
  have o : ∀ q, q ≠ x + 49 → ms_ M (x + 49) (eI_ 0 42 μ') q = M q := fun q hq => ms_ne hq
  refine ⟨⟨?_, ?_, ms_at _ _ _, hN, ⟨ι, ?_, h5, h6⟩, ⟨ω, ?_, h8⟩, ?_, ⟨ν, ?_⟩, ?_, ?_, ?_, ?_, ?_, ?_⟩, fun q hq => o q (by omega)⟩
  all_goals rw [o _ (by omega)]
  all_goals assumption
theorem IT.gone (h : IT M x ρ ρi hi K μ γ sc) {γ' : Rw_} : IT (ms_ M (x + 52) (eI_ 0 4 γ')) x ρ ρi hi K μ γ' sc ∧ Ft M (ms_ M (x + 52) (eI_ 0 4 γ')) x := by
  obtain ⟨h0, h1, h2, h3, ⟨ι, h4, h5, h6⟩, ⟨ω, h7, h8⟩, h9, ⟨ν, h10⟩, k0, k1, k2, k3, k4, k5⟩ := h
  have o : ∀ q, q ≠ x + 52 → ms_ M (x + 52) (eI_ 0 4 γ') q = M q := fun q hq => ms_ne hq
  refine ⟨⟨?_, ?_, ?_, h3, ⟨ι, ?_, h5, h6⟩, ⟨ω, ?_, h8⟩, ms_at _ _ _, ⟨ν, ?_⟩, ?_, ?_, ?_, ?_, ?_, ?_⟩, fun q hq => o q (by omega)⟩
  all_goals rw [o _ (by omega)]
  all_goals assumption
theorem IT.scal (h : IT M x ρ ρi hi K μ γ sc) {k : Nat} {v : Int32} (hk : k = 6 ∨ k = 7 ∨ k = 8 ∨ k = 10 ∨ k = 11 ∨ k = 12 ∨ k = 19) : ∃ M1, pF_ M (x + 47) 3 k (.int v) = some M1 ∧ IT M1 x ρ ρi hi K μ γ (upd sc k v) ∧ Ft M M1 x := by
  obtain ⟨h0, h1, h2, h3, ⟨ι, h4, h5, h6⟩, ⟨ω, h7, h8⟩, h9, ⟨ν, h10⟩, k0, k1, k2, k3, k4, k5⟩ := h
  refine ⟨ms_ M (x + 47) (tO_ x hi (upd sc k v)), ?_, ?_⟩
  · rcases hk with z | z | z | z | z | z | z <;> subst z <;> exact pFof h0 (Nat.le_of_ble_eq_true rfl)
  have o : ∀ q, q ≠ x + 47 → ms_ M (x + 47) (tO_ x hi (upd sc k v)) q = M q := fun q hq => ms_ne hq
  refine ⟨⟨ms_at _ _ _, ?_, ?_, h3, ⟨ι, ?_, h5, h6⟩, ⟨ω, ?_, h8⟩, ?_, ⟨ν, ?_⟩, ?_, ?_, ?_, ?_, ?_, ?_⟩, fun q hq => o q (by omega)⟩
  all_goals rw [o _ (by omega)]
  all_goals assumption
theorem IT.cop (h : IT M x ρ ρi hi K μ γ sc) (hN : Nm ρ) : ∃ M1, fX4_copies M (x + 48) (x + 49) = some M1 ∧ IT M1 x ρ ρi hi K ρ γ sc ∧ Ft M M1 x := ⟨_, cop_ok h.2.1 h.2.2.1 (by omega) hN h.2.2.2.1, h.row hN⟩
theorem tw_ms {M : Mem_} {r g : Nat} {ρ γ : Rw_} (hg : g ≠ r) : tw_ M r g ρ γ = ms_ (ms_ M r (eI_ 0 42 ρ)) g (eI_ 0 4 γ) := by
  funext q
  show (if q = r then _ else if q = g then _ else _) = if q = g then _ else if q = r then _ else _
  by_cases e : q = g
  · subst e
    rw [if_neg hg, if_pos rfl, if_pos rfl]
  · rw [if_neg e, if_neg e]
theorem IT.mhit (h : IT M x ρ ρi hi K μ γ sc) (V : MV μ ρ) {k c : Int32} (hk : k.toNatClampNeg < (ρ 0).toNatClampNeg) (hk8 : rg_ 8 k) (hc : rg_ 9 c) : ∃ M1, fX4_hits M (x + 47) (x + 49) k c = some (hB μ k c, M1) ∧ IT M1 x ρ ρi hi K (hR μ k c) (hG μ γ k c) sc ∧ Ft M M1 x := by
  have t := T_hit (M := M) (r := x + 49) (g := x + 52) (t := x + 47) (γ := γ) (by omega) (by omega) (by omega) h.1 rfl V.1 (by rw [V.2.2.1]; exact hk) hk8 hc
  rw [tw_eq h.2.2.1 h.2.2.2.2.2.2.1, hit_eq, tw_ms (by omega)] at t
  have a := h.row (V.hit hk hc).2.1
  have b := a.1.gone (γ' := hG μ γ k c)
  exact ⟨_, t, b.1, a.2.trans b.2⟩
end ITL
