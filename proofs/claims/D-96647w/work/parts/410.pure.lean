/-! the pure part: what a hit does to a row -/
set_option maxRecDepth 100000
def rg_ (n : Nat) (v : Int32) : Prop := ∃ i : Nat, i < n ∧ v = Int32.ofNat i
theorem rg_lt {n m : Nat} {v : Int32} (h : n ≤ m) (hv : rg_ n v) : rg_ m v := by
  obtain ⟨i, hi, e⟩ := hv
  exact ⟨i, by omega, e⟩
theorem rg_all1 {n : Nat} {P : Int32 → Prop} (h : ∀ a : Fin n, P (Int32.ofNat a.val)) {v : Int32} (hv : rg_ n v) : P v := by
  obtain ⟨i, hi, rfl⟩ := hv
  exact h ⟨i, hi⟩
theorem rg_all2 {n m : Nat} {P : Int32 → Int32 → Prop} (h : ∀ (a : Fin n) (b : Fin m), P (Int32.ofNat a.val) (Int32.ofNat b.val)) {v w : Int32} (hv : rg_ n v) (hw : rg_ m w) : P v w := by
  obtain ⟨i, hi, rfl⟩ := hv
  obtain ⟨j, hj, rfl⟩ := hw
  exact h ⟨i, hi⟩ ⟨j, hj⟩
theorem rg_all3 {n m k : Nat} {P : Int32 → Int32 → Int32 → Prop} (h : ∀ (a : Fin n) (b : Fin m) (c : Fin k), P (Int32.ofNat a.val) (Int32.ofNat b.val) (Int32.ofNat c.val)) {v w x : Int32} (hv : rg_ n v) (hw : rg_ m w) (hx : rg_ k x) : P v w x := by
  obtain ⟨i, hi, rfl⟩ := hv
  obtain ⟨j, hj, rfl⟩ := hw
  obtain ⟨l, hl, rfl⟩ := hx
  exact h ⟨i, hi⟩ ⟨j, hj⟩ ⟨l, hl⟩
/-- as a check: whether v is one of the first n numbers -/
def rgb_ (n : Nat) (v : Int32) : Bool := (List.range n).any fun i => v == Int32.ofNat i
theorem rgb_rg {n : Nat} {v : Int32} (h : rgb_ n v = true) : rg_ n v := by
  obtain ⟨i, h1, h2⟩ := List.any_eq_true.mp h
  exact ⟨i, List.mem_range.mp h1, eq_of_beq h2⟩
theorem way_eq {a b : Int32} (ha : rg_ 9 a) (hb : rg_ 9 b) : fX1_wayTo a b = fX4_wayOf a b := rg_all2 (n := 9) (m := 9) (P := fun a b => fX1_wayTo a b = fX4_wayOf a b) (by decide +kernel) ha hb
theorem way_rg {a b : Int32} (ha : rg_ 9 a) (hb : rg_ 9 b) : rg_ 5 (fX4_wayOf a b) := rgb_rg (rg_all2 (n := 9) (m := 9) (P := fun a b => rgb_ 5 (fX4_wayOf a b) = true) (by decide +kernel) ha hb)
def st1_ (a b s : Int32) : Int32 := if (if 0 ≤ (b - b / 3 * 3) - (a - a / 3 * 3) then (b - b / 3 * 3) - (a - a / 3 * 3) else 0 - ((b - b / 3 * 3) - (a - a / 3 * 3))) < s then (if 0 ≤ (b - b / 3 * 3) - (a - a / 3 * 3) then (b - b / 3 * 3) - (a - a / 3 * 3) else 0 - ((b - b / 3 * 3) - (a - a / 3 * 3))) else s
def st2_ (a b s : Int32) : Int32 := if (if 0 ≤ b / 3 - a / 3 then b / 3 - a / 3 else 0 - (b / 3 - a / 3)) < s - st1_ a b s then (if 0 ≤ b / 3 - a / 3 then b / 3 - a / 3 else 0 - (b / 3 - a / 3)) else s - st1_ a b s
def st3_ (a b s : Int32) : Int32 := (3 * (a / 3 + fJ7_compare (b / 3 - a / 3) 0 * st2_ a b s)) + ((a - a / 3 * 3) + fJ7_compare ((b - b / 3 * 3) - (a - a / 3 * 3)) 0 * st1_ a b s)
def tow_ (a b s : Int32) : Int32 := (fX4_towards a b s).getD 0
theorem tow_all {a b s : Int32} (ha : rg_ 9 a) (hb : rg_ 9 b) (hs : rg_ 29 s) : (fX4_towards a b s).isSome = true ∧ st3_ a b s = tow_ a b s ∧ st1_ a b s + st2_ a b s = fX4_wayOf a (tow_ a b s) ∧ rgb_ 9 (tow_ a b s) = true := rg_all3 (n := 9) (m := 9) (k := 29) (P := fun a b s => (fX4_towards a b s).isSome = true ∧ st3_ a b s = tow_ a b s ∧ st1_ a b s + st2_ a b s = fX4_wayOf a (tow_ a b s) ∧ rgb_ 9 (tow_ a b s) = true) (by decide +kernel) ha hb hs
theorem tow_some {a b s : Int32} (ha : rg_ 9 a) (hb : rg_ 9 b) (hs : rg_ 29 s) : fX4_towards a b s = some (tow_ a b s) := by
  have h := (tow_all ha hb hs).1
  unfold tow_
  cases e : fX4_towards a b s with
  | none => rw [e] at h; cases h
  | some v => rfl
theorem place_rg {f c : Int32} (hf : rg_ 2 f) (hc : rg_ 9 c) : rg_ 9 (fX4_placeFor f c) := rgb_rg (rg_all2 (n := 2) (m := 9) (P := fun a b => rgb_ 9 (fX4_placeFor a b) = true) (by decide +kernel) hf hc)
def fal_ (kd cell dr : Int32) : Int32 :=
  if kd = 6 then ((cell / 3) * 3) + 1
  else if kd = 7 then
    if 0 ≤ (cell - cell / 3 * 3) + dr then
      if (cell - cell / 3 * 3) + dr ≤ 2 then ((cell / 3) * 3) + ((cell - cell / 3 * 3) + dr) else ((cell / 3) * 3) + 2
    else ((cell / 3) * 3) + 0
  else cell
def dr_ (v : Int32) : Prop := ∃ i : Nat, i < 3 ∧ v = Int32.ofNat i - 1
theorem fal_rg {kd c d : Int32} (hk : rg_ 8 kd) (hc : rg_ 9 c) (hd : dr_ d) : rg_ 9 (fal_ kd c d) := by
  obtain ⟨i, hi, rfl⟩ := hd
  exact rgb_rg (rg_all3 (n := 8) (m := 9) (k := 3) (P := fun a b d => rgb_ 9 (fal_ a b (d - 1)) = true) (by decide +kernel) hk hc ⟨i, hi, rfl⟩)
theorem time_rg {kd f c : Int32} (hk : rg_ 8 kd) (hc : rg_ 9 c) (hf : rg_ 10 f) : rg_ 8 (fX4_timeBy kd f c) := rgb_rg (rg_all3 (n := 8) (m := 10) (k := 9) (P := fun a b d => rgb_ 8 (fX4_timeBy a b d) = true) (by decide +kernel) hk hf hc)
theorem tires_rg {kd f : Int32} (hk : rg_ 8 kd) (hf : rg_ 10 f) : rg_ 6 (fX4_tiresBy kd f) := rgb_rg (rg_all2 (n := 8) (m := 10) (P := fun a b => rgb_ 6 (fX4_tiresBy a b) = true) (by decide +kernel) hk hf)
theorem least_rg {t v : Int32} (ht : rg_ 100 t) (hv : rg_ 6 v) : rg_ 100 (fX4_least 99 (t + v)) := rgb_rg (rg_all2 (n := 100) (m := 6) (P := fun a b => rgb_ 100 (fX4_least 99 (a + b)) = true) (by decide +kernel) ht hv)
def stp_ (pa ti t : Int32) : Int32 := t * (if 1 ≤ pa - ti / 30 then pa - ti / 30 else 1)
def spd_ (pa ti : Int32) : Int32 := if 1 ≤ pa - ti / 30 then pa - ti / 30 else 1
theorem spd_rg {pa ti : Int32} (hp : rg_ 5 pa) (ht : rg_ 100 ti) : rg_ 5 (spd_ pa ti) := rgb_rg (rg_all2 (n := 5) (m := 100) (P := fun a b => rgb_ 5 (spd_ a b) = true) (by decide +kernel) hp ht)
theorem mul_rg {a b : Int32} (ha : rg_ 8 a) (hb : rg_ 5 b) : rg_ 29 (a * b) := rgb_rg (rg_all2 (n := 8) (m := 5) (P := fun a b => rgb_ 29 (a * b) = true) (by decide +kernel) ha hb)
theorem stp_rg {pa ti t : Int32} (hp : rg_ 5 pa) (ht : rg_ 100 ti) (h : rg_ 8 t) : rg_ 29 (stp_ pa ti t) := mul_rg h (spd_rg hp ht)
theorem i32_le_of_lt {a b : Int32} (h : a < b) : a ≤ b := Int32.le_of_lt h
theorem min_eq (x : Int32) : (if x < 99 then x else 99) = fX4_least 99 x := by
  unfold fX4_least
  by_cases h : x < 99
  · rw [if_pos h, if_pos (Int32.le_of_lt h)]
  · rw [if_neg h]
    by_cases h2 : x ≤ 99
    · rw [if_pos h2]
      exact Int32.le_antisymm (Int32.not_lt.mp h) h2
    · rw [if_neg h2]
theorem max_eq (x : Int32) : (if 1 < x then x else 1) = if 1 ≤ x then x else 1 := by
  by_cases h : 1 < x
  · rw [if_pos h, if_pos (Int32.le_of_lt h)]
  · rw [if_neg h]
    by_cases h2 : 1 ≤ x
    · rw [if_pos h2]
      exact Int32.le_antisymm h2 (Int32.not_lt.mp h)
    · rw [if_neg h2]
/-! the row's functions -/
abbrev kS_r (ρ : Rw_) (k : Int32) : Int32 := ρ (4 + 2 * k.toNatClampNeg)
abbrev fS_r (ρ : Rw_) (k : Int32) : Int32 := ρ (5 + 2 * k.toNatClampNeg)
def falR (ρ : Rw_) (k cell : Int32) : Int32 := fal_ (kS_r ρ k) cell (ρ 3)
def whoR (ρ : Rw_) (s : Nat) (f : Int32) : Int32 :=
  if fX4_wayOf (ρ (20 + 8 * s)) f = fX4_wayOf (ρ (24 + 8 * s)) f then
    if ρ (37 + 3 * s) = 1 then Int32.ofNat (2 * s)
    else if ρ (37 + 3 * s) = 2 then Int32.ofNat (2 * s)
    else if ρ (23 + 8 * s) = ρ (27 + 8 * s) then 9
    else if ρ (37 + 3 * s) = 3 then (if ρ (23 + 8 * s) = 1 then Int32.ofNat (2 * s) else Int32.ofNat (2 * s + 1))
    else 9
  else if fX4_wayOf (ρ (24 + 8 * s)) f ≤ fX4_wayOf (ρ (20 + 8 * s)) f then Int32.ofNat (2 * s + 1) else Int32.ofNat (2 * s)
def botR (ρ : Rw_) (s : Nat) (f : Int32) : Bool := if ρ (37 + 3 * s) = 2 then (if fX4_wayOf (ρ (20 + 8 * s)) f = fX4_wayOf (ρ (24 + 8 * s)) f then true else false) else false
def tirR (ρ : Rw_) (p : Nat) (v : Int32) : Rw_ := upd ρ (22 + 4 * p) (fX4_least 99 (ρ (22 + 4 * p) + v))
def stpR (ρ : Rw_) (p : Nat) (t : Int32) : Int32 := stp_ (ρ (21 + 4 * p)) (ρ (22 + 4 * p)) t
def poiR (ρ : Rw_) (s : Nat) : Rw_ := upd (upd ρ (38 + 3 * s) (ρ (38 + 3 * s) + 1)) 2 (Int32.ofNat (2 * s))
def getR (ρ : Rw_) (s p : Nat) (f : Int32) : Rw_ := upd (tirR (upd ρ (20 + 4 * p) f) p (fX4_wayOf (ρ (20 + 4 * p)) f)) 2 (Int32.ofNat p)
def parR (p : Nat) : Nat := if p % 2 = 0 then p + 1 else p - 1
def toR (ρ : Rw_) (s p : Nat) (f t : Int32) : Int32 := tow_ (ρ (20 + 4 * parR p)) (fX4_placeFor (ρ (36 + 3 * s)) f) (stpR ρ (parR p) t)
def endR (ρ γ : Rw_) (s : Nat) (p f t : Int32) : Bool × Rw_ × Rw_ :=
  if p = 9 then (true, poiR ρ (1 - s), γ)
  else if fX4_wayOf (ρ (20 + 4 * p.toNatClampNeg)) f ≤ stpR ρ p.toNatClampNeg t then
    (false, upd (getR ρ s p.toNatClampNeg f) (20 + 4 * parR p.toNatClampNeg) (toR (getR ρ s p.toNatClampNeg f) s p.toNatClampNeg f t),
      upd (upd γ p.toNatClampNeg (γ p.toNatClampNeg + fX4_wayOf (ρ (20 + 4 * p.toNatClampNeg)) f)) (parR p.toNatClampNeg) (γ (parR p.toNatClampNeg) + fX4_wayOf (ρ (20 + 4 * parR p.toNatClampNeg)) (toR (getR ρ s p.toNatClampNeg f) s p.toNatClampNeg f t)))
  else (true, poiR ρ (1 - s), γ)
def hitR (ρ γ : Rw_) (k cell : Int32) : Bool × Rw_ × Rw_ :=
  let s := 1 - (ρ 2).toNatClampNeg / 2
  let f := falR ρ k cell
  let ρ1 := tirR (upd ρ 1 (ρ 1 + 1)) (ρ 2).toNatClampNeg (fX4_tiresBy (kS_r ρ k) (fS_r ρ k))
  let ρ2 := if botR ρ1 s f then tirR (tirR ρ1 (2 * s) 3) (2 * s + 1) 3 else ρ1
  endR ρ2 γ s (whoR ρ s f) f (fX4_timeBy (kS_r ρ k) (fS_r ρ k) f)
