/-! what a stroke costs -/
set_option maxRecDepth 100000
theorem IC.grow {M : Mem_} {n x : Nat} {ρ ρi : Rw_} {hi : Int32} {K : Nat → Rw_} {Z : Zr_} {ρm : Rw_} {Zm : Zr_} {γm cs : Rw_} (h : IC M n x ρ ρi hi K Z ρm Zm γm cs) {n1 : Nat} (hn : n ≤ n1) : IC M n1 x ρ ρi hi K Z ρm Zm γm cs := by
  obtain ⟨h0, ⟨γ, h1⟩, ⟨ρk, Zk, γk, h2, h3, h4⟩, h5, ⟨ρa, Za, γa, h6, h7⟩, ⟨T, h8⟩, ⟨F, h9, h10⟩, ⟨hv, h11, h12⟩, h13, h14, h15, h16⟩ := h
  exact ⟨h0, ⟨γ, h1⟩, ⟨ρk, Zk, γk, h2, h3, fun g => ⟨(h4 g).1, (h4 g).2.cg hn fun _ _ _ => rfl⟩⟩, h5, ⟨ρa, Za, γa, h6, h7⟩, ⟨T, h8⟩, ⟨F, h9, h10⟩, ⟨hv, h11, h12.cg hn fun _ _ _ => rfl⟩, h13.cg hn fun _ _ _ => rfl, h14, h15, by omega⟩
theorem S_cost {M : Mem_} {q kn : Nat} {fg : Int32} (hs : sk_ M q = some (kn, fg)) : s_cost M q = some (fX4_costBy (Int32.ofNat kn) fg) := by
  have hk : kn < 8 := (sk_spec hs).1
  unfold s_cost
  rw [kd_of hs]
  match kn, hk, hs with
  | 0, _, hs => simp [fX8_cost, fX4_costBy]
  | 1, _, hs => simp [fX9_cost, fX4_costBy]
  | 2, _, hs => simp [fX10_cost, fX8_cost, lt_, fX4_costBy, gF_of hs, kd_of hs]
  | 3, _, hs => simp [fX11_cost, fX4_costBy]
  | 4, _, hs => simp [fX12_cost, fX10_cost, fX8_cost, lt_, fX4_costBy, gF_of hs, kd_of hs]
  | 5, _, hs => simp [fX13_cost, fX11_cost, lt_, fX4_costBy, kd_of hs]
  | 6, _, hs => simp [fX14_cost, lt_, fX4_costBy, gF_of hs, kd_of hs]
  | 7, _, hs => simp [fX15_cost, fX4_costBy]
def wkR (K : Nat → Rw_) (d : Int32) : Int32 := if fX4_isIn d 0 7 = true then (if K 0 d.toNatClampNeg = 0 then -11 else if K 0 d.toNatClampNeg = 2 then -12 else 0) else -1
theorem IT.wrongKept {M : Mem_} {x : Nat} {ρ ρi : Rw_} {hi : Int32} {K : Nat → Rw_} {μ γ sc : Rw_} (t : IT M x ρ ρi hi K μ γ sc) (d : Int32) : fX4_wrongKept M (x + 47) d = some (wkR K d) := by
  unfold fX4_wrongKept wkR
  rw [lt_, show fX4_isShelf d = fX4_isIn d 0 7 from rfl]
  cases e : fX4_isIn d 0 7 with
  | false => rfl
  | true =>
    rw [if_neg b2_t, if_pos rfl]
    have k := t.kf (in_rg (m := 7) (by decide) e)
    simp only [t.r13, k.1, Option.bind_some]
    by_cases c : K 0 d.toNatClampNeg = 0
    · rw [if_pos c, if_pos c]
    · rw [if_neg c, if_neg c]
      by_cases c : K 0 d.toNatClampNeg = 2
      · rw [if_pos c, if_pos c]
      · rw [if_neg c, if_neg c]
section Q16
variable {M M' : Mem_} {n x : Nat} {ρ ρi : Rw_} {hi : Int32} {K : Nat → Rw_} {Z : Zr_} {ρm : Rw_} {Zm : Zr_} {γm cs : Rw_} {μ γ sc : Rw_}
theorem o_cost (h : IC M n x ρ ρi hi K Z ρm Zm γm cs) (t : IT M' x ρ ρi hi K μ γ sc) (d : Int32) : ∃ r n1, fX1_cost M n x d = some (r, M, n1) ∧ n ≤ n1 ∧ n1 ≤ n + 3 ∧ fX4_cost M' (x + 47) d = some r := by
  unfold fX1_cost fX4_cost
  simp only [h.ck, t.ck, t.wrongKept, lt_, show fX1_isShelf x d = fX4_isIn d 0 7 from rfl, Option.bind_some]
  unfold wkR
  cases e : fX4_isIn d 0 7 with
  | false => exact ⟨_, _, rfl, by omega, by omega, rfl⟩
  | true =>
    have hd := in_rg (m := 7) (by decide) e
    obtain ⟨hv, a, b, c⟩ := h.shelf hd
    have k := t.kf hd
    simp only [if_neg b2_t, if_true, h.r8, a, gNof b, t.r14, t.r15, k.2.1, k.2.2.1, Option.bind_some]
    rcases c with ⟨c1, c2⟩ | ⟨c1, q, kn, fg, c2, _, _, c3, c4, c5, _⟩ | ⟨c1, q, sz, f, c2, _, _, c3, _, _, c4, _⟩
    · rw [c2, if_pos c1]
      exact ⟨_, _, rfl, by omega, by omega, rfl⟩
    · have z0 : ¬ K 0 d.toNatClampNeg = 0 := by rw [c1]; decide
      have z2 : ¬ K 0 d.toNatClampNeg = 2 := by rw [c1]; decide
      simp only [c2, if_neg z0, if_neg z2, no_, tg_str c3, S_cost c3, Option.bind_some, if_true, c4, c5]
      exact ⟨_, _, rfl, by omega, by omega, rfl⟩
    · have z0 : ¬ K 0 d.toNatClampNeg = 0 := by rw [c1]; decide
      simp only [c2, if_neg z0, if_pos c1, no_, row_tg c3, Option.bind_some]
      have h3 : ¬ tagOf (K 3 d.toNatClampNeg) = 3 := by
        have := tagLt (s := K 3 d.toNatClampNeg)
        omega
      simp only [if_neg h3, if_neg (show ¬ (-12 : Int32) = 0 by decide)]
      exact ⟨_, _, rfl, by omega, by omega, rfl⟩
end Q16
