/-! the whole text, as the component reads it -/
set_option maxRecDepth 100000
def psR (s : Rw_) : Nat → Nat
  | 0 => 0
  | k + 1 => (stR s (psR s k)).2.1
/-- the k-th statement, told at address a -/
def Td (M : Mem_) (s : Rw_) (a i : Nat) : Prop := ∃ (m : Int32) (g : Rw_), (stR s i).1 = true ∧ M a = some (eO_ 5 [.int (s i), .int (Int32.ofNat i), .ref (a + 1), .int m]) ∧ M (a + 1) = some (eI_ 0 3 g) ∧ ∀ l v, (stR s i).2.2[l]? = some v → g l = v
theorem Td.cg {M M1 : Mem_} {s : Rw_} {a i : Nat} (h : Td M s a i) (h1 : M1 a = M a) (h2 : M1 (a + 1) = M (a + 1)) : Td M1 s a i := by
  obtain ⟨m, g, e0, e1, e2, e3⟩ := h
  exact ⟨m, g, e0, h1.trans e1, h2.trans e2, e3⟩
/-- so far k statements have been told, the reader lies at r -/
def Tl (M0 M : Mem_) (x r q : Nat) (s : Rw_) (k : Nat) : Prop := (∀ y, y < r → y ≠ x + 37 → M y = M0 y) ∧ (∃ T, M (x + 37) = some (eQ_ 4 100 T) ∧ ∀ j, j < k → T j = some (r + 1 + 2 * j)) ∧ M r = some (rdE q (psR s k)) ∧ ∀ j, j < k → Td M s (r + 1 + 2 * j) (psR s j)
theorem sQof {M : Mem_} {a t n : Nat} {f : Zr_} {i : Nat} (h : M a = some (eQ_ t n f)) (hi : i < n) (hn : n ≤ 1000) (v : Option Nat) : sQ_ M a t (Int32.ofNat i) v = some (ms_ M a (eQ_ t n (va_up f i v))) := by
  unfold sQ_
  rw [aqof h, ob_n, if_neg (nB hn hi), nC (by omega)]
theorem cw_L {M0 : Mem_} {x r q sz : Nat} {f s : Rw_} (hs : ∀ j, s j = if sz ≤ j then -1 else f j) (hz : sz ≤ 100) (hx : x + 61 ≤ q) (hqr : q < r) (hq : M0 q = some (eI_ 1 sz f)) : ∀ (e i k fuel : Nat) (M : Mem_), sz < i + e → i ≤ sz → e ≤ fuel → 2 * k ≤ i → i = psR s k → Tl M0 M x r q s k → ((paR s sz e i k).1 = true ∧ ∃ M1, fX5_whole_L2 fuel M (r + 1 + 2 * k) r (x + 37) (Int32.ofNat k) = some (.inr (Int32.ofNat (paR s sz e i k).2), M1, r + 1 + 2 * (paR s sz e i k).2) ∧ Tl M0 M1 x r q s (paR s sz e i k).2 ∧ psR s (paR s sz e i k).2 = sz ∧ (paR s sz e i k).2 ≤ 51) ∨ ((paR s sz e i k).1 = false ∧ ∃ M1 n1 T b, fX5_whole_L2 fuel M (r + 1 + 2 * k) r (x + 37) (Int32.ofNat k) = some (.inl b, M1, n1) ∧ r < n1 ∧ (∀ y, y < r → y ≠ x + 37 → M1 y = M0 y) ∧ M1 (x + 37) = some (eQ_ 4 100 T) ∧ gX_ M1 b 6 = some (-1000 - Int32.ofNat (paR s sz e i k).2)) := by
  have hs1 : ∀ j, sz ≤ j → s j = -1 := fun j h => by rw [hs j, if_pos h]
  intro e
  induction e with
  | zero => intro i k fuel M h1 h2; omega
  | succ e ih =>
    intro i k fuel M h1 h2 h3 h4 h5 h
    obtain ⟨g, rfl⟩ : ∃ g, fuel = g + 1 := ⟨fuel - 1, by omega⟩
    obtain ⟨t1, ⟨T, t2, t3⟩, t4, t5⟩ := h
    rw [← h5] at t4
    have hq' : M q = some (eI_ 1 sz f) := (t1 q hqr (by omega)).trans hq
    obtain ⟨L1, L2⟩ := st_le hs1 h2
    rw [fX5_whole_L2, ckof t4, ob_n]
    unfold paR
    rcases cr_st (n := r + 1 + 2 * k) hs hz (by omega) (by omega) (by omega) hq' h2 t4 with ⟨z1, m, gg, z2, z3⟩ | ⟨z1, m, gg, z2⟩
    · have L3 := L2 z1
      rw [z2, bx_r, if_pos z1, ckof tdw_a, ob_n]
      have x37 : tdw M r q (stR s i).2.1 (r + 1 + 2 * k) (s i) (Int32.ofNat i) m gg (x + 37) = some (eQ_ 4 100 T) := (tdw_o (by omega) (by omega) (by omega)).trans t2
      have rr : ms_ (tdw M r q (stR s i).2.1 (r + 1 + 2 * k) (s i) (Int32.ofNat i) m gg) (x + 37) (eQ_ 4 100 (va_up T k (some (r + 1 + 2 * k)))) r = some (rdE q (stR s i).2.1) := (ms_ne (by omega)).trans (tdw_r (by omega))
      have qq : ms_ (tdw M r q (stR s i).2.1 (r + 1 + 2 * k) (s i) (Int32.ofNat i) m gg) (x + 37) (eQ_ 4 100 (va_up T k (some (r + 1 + 2 * k)))) q = some (eI_ 1 sz f) := (ms_ne (by omega)).trans ((tdw_o (by omega) (by omega) (by omega)).trans hq')
      rw [sQof x37 (show k < 100 by omega) (by decide), ob_n, lt_, nS1, gIof rr rfl, ob_n, gRof rr rfl, ob_n, lIof qq, ob_n]
      have N : Tl M0 (ms_ (tdw M r q (stR s i).2.1 (r + 1 + 2 * k) (s i) (Int32.ofNat i) m gg) (x + 37) (eQ_ 4 100 (va_up T k (some (r + 1 + 2 * k))))) x r q s (k + 1) := by
        refine ⟨fun y hy hy2 => (ms_ne hy2).trans ((tdw_o (by omega) (by omega) (by omega)).trans (t1 y hy hy2)), ⟨_, ms_at _ _ _, fun j hj => ?_⟩, ?_, fun j hj => ?_⟩
        · by_cases w : j = k
          · rw [w, va_up_self]
          · rw [va_up_ne _ _ w]
            exact t3 j (by omega)
        · show _ = some (rdE q (stR s (psR s k)).2.1)
          rw [← h5]
          exact rr
        · by_cases w : j = k
          · subst w
            refine ⟨Int32.ofNat m, gg, ?_, ?_, ?_, ?_⟩
            · rw [← h5]
              exact z1
            · rw [← h5]
              exact (ms_ne (by omega)).trans tdw_a
            · exact (ms_ne (by omega)).trans tdw_g
            · rw [← h5]
              exact z3
          · exact (t5 j (by omega)).cg ((ms_ne (by omega)).trans (tdw_o (by omega) (by omega) (by omega))) ((ms_ne (by omega)).trans (tdw_o (by omega) (by omega) (by omega)))
      have e1 : r + 1 + 2 * k + 2 = r + 1 + 2 * (k + 1) := by omega
      have hps : psR s (k + 1) = (stR s i).2.1 := by
        show (stR s (psR s k)).2.1 = _
        rw [← h5]
      by_cases w : (stR s i).2.1 < sz
      · rw [if_pos ((nT (by omega) (by omega)).mpr w), if_pos w, e1]
        rcases ih (stR s i).2.1 (k + 1) g _ (by omega) L1 (by omega) (by omega) hps.symm N with a1 | a1
        · exact .inl a1
        · exact .inr a1
      · rw [if_neg (fun c => w ((nT (by omega) (by omega)).mp c)), if_neg w, e1]
        exact .inl ⟨rfl, _, rfl, N, by rw [hps]; omega, by show k + 1 ≤ 51; omega⟩
    · rw [z2, bx_l, if_neg (by rw [z1]; decide)]
      exact .inr ⟨rfl, _, _, T, _, rfl, by omega, fun y hy hy2 => (ms_ne (by omega)).trans ((tdw_o (by omega) (by omega) (by omega)).trans (t1 y hy hy2)), (ms_ne (by omega)).trans ((tdw_o (by omega) (by omega) (by omega)).trans t2), gXof (ms_at _ _ _)⟩
/-- the component's own part: the told row is another -/
theorem IC.told {M : Mem_} {n x : Nat} {ρ ρi : Rw_} {hi : Int32} {K : Nat → Rw_} {Z : Zr_} {ρm : Rw_} {Zm : Zr_} {γm cs : Rw_} (h : IC M n x ρ ρi hi K Z ρm Zm γm cs) {M1 : Mem_} {n1 : Nat} {T : Zr_} (hn : n ≤ n1) (f : ∀ y, y < n → y ≠ x + 37 → y < x + 47 ∨ x + 61 ≤ y → M1 y = M y) (m : M1 (x + 37) = some (eQ_ 4 100 T)) : IC M1 n1 x ρ ρi hi K Z ρm Zm γm cs := by
  obtain ⟨h0, ⟨γ, h1⟩, ⟨ρk, Zk, γk, h2, h3, h4⟩, h5, ⟨ρa, Za, γa, h6, h7⟩, ⟨T0, h8⟩, ⟨F, h9, h10⟩, ⟨hv, h11, h12⟩, h13, h14, h15, h16⟩ := h
  have e : ∀ q, x + 61 ≤ q → q < n → M1 q = M q := fun q a b => f q b (by omega) (by omega)
  exact ⟨(f _ (by omega) (by omega) (by omega)).trans h0, ⟨γ, h1.cg fun q _ _ => f q (by omega) (by omega) (by omega)⟩, ⟨ρk, Zk, γk, h2.cg fun q _ _ => f q (by omega) (by omega) (by omega), h3, fun g => ⟨(h4 g).1, (h4 g).2.cg hn fun q a b => sk_cg (e q a b)⟩⟩, h5.cg fun q _ _ => f q (by omega) (by omega) (by omega), ⟨ρa, Za, γa, h6.cg fun q _ _ => f q (by omega) (by omega) (by omega), h7⟩, ⟨T, m⟩, ⟨F, (f _ (by omega) (by omega) (by omega)).trans h9, h10⟩, ⟨hv, fun d hd => (f _ (by omega) (by omega) (by omega)).trans (h11 d hd), h12.cg hn e⟩, h13.cg hn fun q a b => sk_cg (e q a b), h14, h15, by omega⟩
