/-! a hit, by the twin -/
set_option maxRecDepth 100000
def VR (ρ : Rw_) : Prop := (∀ p, p < 4 → rg_ 9 (ρ (20 + 4 * p)) ∧ rg_ 5 (ρ (21 + 4 * p)) ∧ rg_ 100 (ρ (22 + 4 * p)) ∧ rg_ 2 (ρ (23 + 4 * p))) ∧ (∀ s, s < 2 → rg_ 2 (ρ (36 + 3 * s)) ∧ rg_ 4 (ρ (37 + 3 * s))) ∧ rg_ 4 (ρ 2) ∧ dr_ (ρ 3) ∧ rg_ 9 (ρ 0) ∧ (∀ i, i < (ρ 0).toNatClampNeg → rg_ 8 (ρ (4 + 2 * i)) ∧ rg_ 10 (ρ (5 + 2 * i)))
theorem rg_nat {n : Nat} {v : Int32} (hn : n ≤ 1000) (h : rg_ n v) : v.toNatClampNeg < n ∧ v = Int32.ofNat v.toNatClampNeg := by
  obtain ⟨i, hi, rfl⟩ := h
  have e : (Int32.ofNat i).toNatClampNeg = i := by
    show (Int32.ofNat i).toInt.toNat = i
    rw [Int32.toInt_ofNat_of_lt (by omega)]
    rfl
  rw [e]
  exact ⟨hi, rfl⟩
theorem VR.up {ρ : Rw_} (V : VR ρ) {k : Nat} {v : Int32} (hk : k ≠ 0 ∧ (k < 4 ∨ 20 ≤ k)) (h1 : ∀ p, p < 4 → 20 + 4 * p = k → rg_ 9 v) (h2 : ∀ p, p < 4 → 21 + 4 * p = k → rg_ 5 v) (h3 : ∀ p, p < 4 → 22 + 4 * p = k → rg_ 100 v) (h4 : ∀ p, p < 4 → 23 + 4 * p = k → rg_ 2 v) (h5 : ∀ s, s < 2 → 36 + 3 * s = k → rg_ 2 v) (h6 : ∀ s, s < 2 → 37 + 3 * s = k → rg_ 4 v) (h7 : k = 2 → rg_ 4 v) (h8 : k = 3 → dr_ v) : VR (upd ρ k v) := by
  obtain ⟨V1, V2, V3, V4, V5, V6⟩ := V
  have e0 : upd ρ k v 0 = ρ 0 := by rw [updA, if_neg (by omega)]
  have hR : rg_ 9 (ρ 0) → (ρ 0).toNatClampNeg < 9 := fun h => (rg_nat (by decide) h).1
  refine ⟨fun p hp => ⟨?_, ?_, ?_, ?_⟩, fun s hs => ⟨?_, ?_⟩, ?_, ?_, ?_, fun i hi => ⟨?_, ?_⟩⟩
  · rw [updA]; split
    · rename_i e; exact h1 p hp e
    · exact (V1 p hp).1
  · rw [updA]; split
    · rename_i e; exact h2 p hp e
    · exact (V1 p hp).2.1
  · rw [updA]; split
    · rename_i e; exact h3 p hp e
    · exact (V1 p hp).2.2.1
  · rw [updA]; split
    · rename_i e; exact h4 p hp e
    · exact (V1 p hp).2.2.2
  · rw [updA]; split
    · rename_i e; exact h5 s hs e
    · exact (V2 s hs).1
  · rw [updA]; split
    · rename_i e; exact h6 s hs e
    · exact (V2 s hs).2
  · rw [updA]; split
    · rename_i e; exact h7 e.symm
    · exact V3
  · rw [updA]; split
    · rename_i e; exact h8 e.symm
    · exact V4
  · rw [e0]; exact V5
  · rw [e0] at hi
    have := hR V5
    rw [updA, if_neg (by omega)]
    exact (V6 i hi).1
  · rw [e0] at hi
    have := hR V5
    rw [updA, if_neg (by omega)]
    exact (V6 i hi).2
theorem VR.at {ρ : Rw_} (V : VR ρ) {p : Nat} {v : Int32} (hp : p < 4) (hv : rg_ 9 v) : VR (upd ρ (20 + 4 * p) v) := V.up (by omega) (fun _ _ _ => hv) (by omega) (by omega) (by omega) (by omega) (by omega) (by omega) (by omega)
theorem VR.pace {ρ : Rw_} (V : VR ρ) {p : Nat} {v : Int32} (hp : p < 4) (hv : rg_ 5 v) : VR (upd ρ (21 + 4 * p) v) := V.up (by omega) (by omega) (fun _ _ _ => hv) (by omega) (by omega) (by omega) (by omega) (by omega) (by omega)
theorem VR.tired {ρ : Rw_} (V : VR ρ) {p : Nat} {v : Int32} (hp : p < 4) (hv : rg_ 100 v) : VR (upd ρ (22 + 4 * p) v) := V.up (by omega) (by omega) (by omega) (fun _ _ _ => hv) (by omega) (by omega) (by omega) (by omega) (by omega)
theorem VR.left {ρ : Rw_} (V : VR ρ) {p : Nat} {v : Int32} (hp : p < 4) (hv : rg_ 2 v) : VR (upd ρ (23 + 4 * p) v) := V.up (by omega) (by omega) (by omega) (by omega) (fun _ _ _ => hv) (by omega) (by omega) (by omega) (by omega)
theorem VR.form {ρ : Rw_} (V : VR ρ) {s : Nat} {v : Int32} (hs : s < 2) (hv : rg_ 2 v) : VR (upd ρ (36 + 3 * s) v) := V.up (by omega) (by omega) (by omega) (by omega) (by omega) (fun _ _ _ => hv) (by omega) (by omega) (by omega)
theorem VR.habit {ρ : Rw_} (V : VR ρ) {s : Nat} {v : Int32} (hs : s < 2) (hv : rg_ 4 v) : VR (upd ρ (37 + 3 * s) v) := V.up (by omega) (by omega) (by omega) (by omega) (by omega) (by omega) (fun _ _ _ => hv) (by omega) (by omega)
theorem VR.points {ρ : Rw_} (V : VR ρ) {s : Nat} {v : Int32} (hs : s < 2) : VR (upd ρ (38 + 3 * s) v) := V.up (by omega) (by omega) (by omega) (by omega) (by omega) (by omega) (by omega) (by omega) (by omega)
theorem VR.hold {ρ : Rw_} (V : VR ρ) {v : Int32} (hv : rg_ 4 v) : VR (upd ρ 2 v) := V.up (by omega) (by omega) (by omega) (by omega) (by omega) (by omega) (by omega) (fun _ => hv) (by omega)
theorem VR.hits {ρ : Rw_} (V : VR ρ) {v : Int32} : VR (upd ρ 1 v) := V.up (by omega) (by omega) (by omega) (by omega) (by omega) (by omega) (by omega) (by omega) (by omega)
theorem VR.draught {ρ : Rw_} (V : VR ρ) {v : Int32} (hv : dr_ v) : VR (upd ρ 3 v) := V.up (by omega) (by omega) (by omega) (by omega) (by omega) (by omega) (by omega) (by omega) (fun _ => hv)
theorem VR.tir {ρ : Rw_} (V : VR ρ) {p : Nat} {v : Int32} (hp : p < 4) (hv : rg_ 6 v) : VR (tirR ρ p v) := V.tired hp (least_rg (V.1 p hp).2.2.1 hv)
theorem oN0 : Int32.ofNat 0 = 0 := rfl
theorem oN1 : Int32.ofNat 1 = 1 := rfl
theorem oN2 : Int32.ofNat 2 = 2 := rfl
theorem oN3 : Int32.ofNat 3 = 3 := rfl
theorem tn0 : (0 : Int32).toNatClampNeg = 0 := rfl
theorem tn1 : (1 : Int32).toNatClampNeg = 1 := rfl
theorem tn2 : (2 : Int32).toNatClampNeg = 2 := rfl
theorem tn3 : (3 : Int32).toNatClampNeg = 3 := rfl
theorem rg3 : rg_ 6 3 := ⟨3, by decide, rfl⟩
theorem whoR_cases (ρ : Rw_) (s : Nat) (f : Int32) : whoR ρ s f = Int32.ofNat (2 * s) ∨ whoR ρ s f = Int32.ofNat (2 * s + 1) ∨ whoR ρ s f = 9 := by
  unfold whoR
  repeat' split
  all_goals first | exact .inl rfl | exact .inr (.inl rfl) | exact .inr (.inr rfl)
theorem par_lt {p : Nat} (h : p < 4) : parR p < 4 := by
  unfold parR
  split <;> omega
theorem VR.get {ρ : Rw_} (V : VR ρ) {s p : Nat} {f : Int32} (hp : p < 4) (hf : rg_ 9 f) : VR (getR ρ s p f) := ((V.at hp hf).tir hp (rg_lt (by decide) (way_rg (V.1 p hp).1 hf))).hold ⟨p, hp, rfl⟩
theorem toR_all {ρ : Rw_} (V : VR ρ) {s p : Nat} {f t : Int32} (hs : s < 2) (hp : p < 4) (hf : rg_ 9 f) (ht : rg_ 8 t) : rg_ 9 (toR ρ s p f t) ∧ fX4_towards (ρ (20 + 4 * parR p)) (fX4_placeFor (ρ (36 + 3 * s)) f) (stpR ρ (parR p) t) = some (toR ρ s p f t) := by
  have h1 := (V.1 _ (par_lt hp)).1
  have h2 := place_rg (V.2.1 s hs).1 hf
  have h3 : rg_ 29 (stpR ρ (parR p) t) := stp_rg (V.1 _ (par_lt hp)).2.1 (V.1 _ (par_lt hp)).2.2.1 ht
  exact ⟨rgb_rg (tow_all h1 h2 h3).2.2.2, tow_some h1 h2 h3⟩
theorem VR.poi {ρ : Rw_} (V : VR ρ) {s : Nat} (hs : s < 2) : VR (poiR ρ s) := (V.points hs).hold ⟨2 * s, by omega, rfl⟩
theorem VR.end_ {ρ : Rw_} (V : VR ρ) (γ : Rw_) {s : Nat} {p f t : Int32} (hs : s < 2) (hp : p = Int32.ofNat (2 * s) ∨ p = Int32.ofNat (2 * s + 1) ∨ p = 9) (hf : rg_ 9 f) (ht : rg_ 8 t) : VR (endR ρ γ s p f t).2.1 := by
  unfold endR
  split
  · exact V.poi (by omega)
  · rename_i h9
    have hp4 : p.toNatClampNeg < 4 := by
      have : s = 0 ∨ s = 1 := by omega
      rcases hp with e | e | e
      · rcases this with z | z <;> subst z <;> subst e <;> decide
      · rcases this with z | z <;> subst z <;> subst e <;> decide
      · exact absurd e h9
    split
    · exact (V.get hp4 hf).at (par_lt hp4) (toR_all (V.get (s := s) hp4 hf) hs hp4 hf ht).1
    · exact V.poi (by omega)
theorem VR.hit {ρ : Rw_} (V : VR ρ) (γ : Rw_) {k cell : Int32} (hk : k.toNatClampNeg < (ρ 0).toNatClampNeg) (hc : rg_ 9 cell) : VR (hitR ρ γ k cell).2.1 := by
  have hS := V.2.2.2.2.2 _ hk
  have hf : rg_ 9 (falR ρ k cell) := fal_rg hS.1 hc V.2.2.2.1
  have hh := (rg_nat (by decide) V.2.2.1).1
  have V1 : VR (tirR (upd ρ 1 (ρ 1 + 1)) (ρ 2).toNatClampNeg (fX4_tiresBy (kS_r ρ k) (fS_r ρ k))) := V.hits.tir hh (tires_rg hS.1 hS.2)
  refine VR.end_ ?_ γ (by omega) (whoR_cases _ _ _) hf (time_rg hS.1 hf hS.2)
  split
  · exact (V1.tir (by omega) rg3).tir (by omega) rg3
  · exact V1
section THIT
variable (M : Mem_) (r g : Nat) (ρ γ : Rw_)
set_option maxHeartbeats 4000000 in
theorem T_hit0 {t : Nat} {fs : List Value} {k cell : Int32} (hg : g ≠ r) (h1 : t ≠ r) (h2 : t ≠ g) (hM : M t = some (eO_ 3 fs)) (hfs : fs[4]? = some (.ref g)) (V : VR ρ) (hk8 : rg_ 8 k) (hk : k.toNatClampNeg < (ρ 0).toNatClampNeg) (hc : rg_ 9 cell) (hh : ρ 2 = 0) : fX4_hits (tw_ M r g ρ γ) t r k cell = some ((hitR ρ γ k cell).1, tw_ M r g (hitR ρ γ k cell).2.1 (hitR ρ γ k cell).2.2) := by
  have hS := V.2.2.2.2.2 _ hk
  have hf : rg_ 9 (falR ρ k cell) := fal_rg hS.1 hc V.2.2.2.1
  have htm := time_rg hS.1 hf hS.2
  have hn : (ρ 2).toNatClampNeg = 0 := by rw [hh]; rfl
  have k8 : k.toNatClampNeg < 8 := (rg_nat (by decide) hk8).1
  have ek : ∀ v, kS_r (upd ρ 1 v) k = kS_r ρ k := fun v => by rw [kS_r, updA, if_neg (by omega)]
  have ef : ∀ v, fS_r (upd ρ 1 v) k = fS_r ρ k := fun v => by rw [fS_r, updA, if_neg (by omega)]
  have V1 : VR (tirR (upd ρ 1 (ρ 1 + 1)) 0 (fX4_tiresBy (kS_r ρ k) (fS_r ρ k))) := V.hits.tir (by decide) (tires_rg hS.1 hS.2)
  unfold fX4_hits hitR
  simp only [hn, hh, tw_a2, fX4_sideOf, T_fal _ _ _ _ _ _ hk8, T_tim _ _ _ _ _ _ hk8, T_who1, tw_a1, tw_s1, (twS _ _ _ _ _ hk8).1, (twS _ _ _ _ _ hk8).2, ek, ef, T_tir0, T_bot1, tn0, tn1, tn2, tn3, Int32.reduceMul, Int32.reduceAdd, Int32.reduceSub, Int32.reduceDiv, Nat.reduceMul, Nat.reduceAdd, Nat.reduceSub, Nat.reduceDiv, Nat.reduceMod, oN0, oN1, oN2, oN3, Option.bind_some, lt_, fX4_ofP, fX4_ofSide]
  generalize tirR (upd ρ 1 (ρ 1 + 1)) 0 (fX4_tiresBy (kS_r ρ k) (fS_r ρ k)) = ρ1 at V1 ⊢
  generalize fX4_timeBy (kS_r ρ k) (fS_r ρ k) (falR ρ k cell) = tm at htm ⊢
  have hw := whoR_cases ρ 1 (falR ρ k cell)
  generalize whoR ρ 1 (falR ρ k cell) = p at hw ⊢
  generalize falR ρ k cell = f at hf ⊢
  have ckt : ∀ ρ' γ' : Rw_, ck_ (tw_ M r g ρ' γ') t 3 = some () := fun _ _ => ckof ((tw_o h1 h2).trans hM)
  have tail : ∀ ρ2 : Rw_, VR ρ2 → (if p = 9 then lt_ (fX4_ofSide (1 - 1) 2) fun r17 => (aI_ (tw_ M r g ρ2 γ) r 0 r17).bind fun v18 => (sI_ (tw_ M r g ρ2 γ) r 0 r17 (v18 + 1)).bind fun M19 => (sI_ M19 r 0 2 (2 * (1 - 1))).bind fun M20 => some (true, M20)
    else lt_ (fX4_ofP p 0) fun r21 => (aI_ (tw_ M r g ρ2 γ) r 0 r21).bind fun v22 => lt_ (fX4_wayOf v22 f) fun r23 => (fX4_stepsIn (tw_ M r g ρ2 γ) r p tm).bind fun r24 =>
      if r23 ≤ r24 then lt_ (fX4_ofP p 0) fun r25 => (aI_ (tw_ M r g ρ2 γ) r 0 r25).bind fun v26 => lt_ (fX4_wayOf v26 f) fun r27 => (ck_ (tw_ M r g ρ2 γ) t 3).bind fun u28 => (fX4_moves (tw_ M r g ρ2 γ) t r p f).bind fun M30 => (fX4_isTired M30 r p r27).bind fun M32 => (sI_ M32 r 0 2 p).bind fun M33 => lt_ (fX4_partner p) fun r34 => lt_ (fX4_ofP r34 0) fun r35 => (aI_ M33 r 0 r35).bind fun v36 => lt_ (fX4_ofSide 1 0) fun r37 => (aI_ M33 r 0 r37).bind fun v38 => lt_ (fX4_placeFor v38 f) fun r39 => (fX4_stepsIn M33 r r34 tm).bind fun r40 => (fX4_towards v36 r39 r40).bind fun r41 => (ck_ M33 t 3).bind fun u42 => (fX4_moves M33 t r r34 r41).bind fun M44 => some (false, M44)
      else lt_ (fX4_ofSide (1 - 1) 2) fun r45 => (aI_ (tw_ M r g ρ2 γ) r 0 r45).bind fun v46 => (sI_ (tw_ M r g ρ2 γ) r 0 r45 (v46 + 1)).bind fun M47 => (sI_ M47 r 0 2 (2 * (1 - 1))).bind fun M48 => some (true, M48)) = some ((endR ρ2 γ 1 p f tm).1, tw_ M r g (endR ρ2 γ 1 p f tm).2.1 (endR ρ2 γ 1 p f tm).2.2) := by
    intro ρ2 V2
    rcases hw with e | e | e
    · have e : p = 2 := e
      subst e
      have G := toR_all (V2.get (s := 1) (p := 2) (f := f) (by decide) hf) (s := 1) (p := 2) (t := tm) (by decide) (by decide) hf htm
      have G2 : fX4_towards (getR ρ2 1 2 f 32) (fX4_placeFor (getR ρ2 1 2 f 39) f) (stpR (getR ρ2 1 2 f) 3 tm) = some (toR (getR ρ2 1 2 f) 1 2 f tm) := G.2
      have hx : getR ρ2 1 2 f 32 = ρ2 32 := rfl
      have pt : fX4_partner 2 = 3 := by decide
      have pr : parR 2 = 3 := rfl
      have pn : (2 : Int32).toNatClampNeg = 2 := rfl
      have gt : upd (tirR (upd ρ2 28 f) 2 (fX4_wayOf (ρ2 28) f)) 2 2 = getR ρ2 1 2 f := rfl
      simp only [endR, pn, pr, pt, tw_a28, T_stp2, if_neg (show ¬ (2 : Int32) = 9 by decide), tn0, tn1, tn2, tn3, Int32.reduceMul, Int32.reduceAdd, Int32.reduceSub, Int32.reduceDiv, Nat.reduceMul, Nat.reduceAdd, Nat.reduceSub, Nat.reduceDiv, Nat.reduceMod, oN0, oN1, oN2, oN3, Option.bind_some, lt_, fX4_ofP, fX4_ofSide]
      by_cases hq : fX4_wayOf (ρ2 28) f ≤ stpR ρ2 2 tm
      · simp only [if_pos hq, ckt, T_mov2 _ _ _ _ _ hg h1 h2 hM hfs, T_mov3 _ _ _ _ _ hg h1 h2 hM hfs, T_tir2, tw_s2, gt, tw_a32, tw_a39, T_stp3, G2, pt, tn0, tn1, tn2, tn3, Int32.reduceMul, Int32.reduceAdd, Int32.reduceSub, Int32.reduceDiv, Nat.reduceMul, Nat.reduceAdd, Nat.reduceSub, Nat.reduceDiv, Nat.reduceMod, oN0, oN1, oN2, oN3, Option.bind_some, lt_, fX4_ofP, fX4_ofSide]
        rfl
      · simp only [if_neg hq, tw_a38, tw_s38, tw_s2, poiR, tn0, tn1, tn2, tn3, Int32.reduceMul, Int32.reduceAdd, Int32.reduceSub, Int32.reduceDiv, Nat.reduceMul, Nat.reduceAdd, Nat.reduceSub, Nat.reduceDiv, Nat.reduceMod, oN0, oN1, oN2, oN3, Option.bind_some, lt_, fX4_ofP, fX4_ofSide]
    · have e : p = 3 := e
      subst e
      have G := toR_all (V2.get (s := 1) (p := 3) (f := f) (by decide) hf) (s := 1) (p := 3) (t := tm) (by decide) (by decide) hf htm
      have G2 : fX4_towards (getR ρ2 1 3 f 28) (fX4_placeFor (getR ρ2 1 3 f 39) f) (stpR (getR ρ2 1 3 f) 2 tm) = some (toR (getR ρ2 1 3 f) 1 3 f tm) := G.2
      have hx : getR ρ2 1 3 f 28 = ρ2 28 := rfl
      have pt : fX4_partner 3 = 2 := by decide
      have pr : parR 3 = 2 := rfl
      have pn : (3 : Int32).toNatClampNeg = 3 := rfl
      have gt : upd (tirR (upd ρ2 32 f) 3 (fX4_wayOf (ρ2 32) f)) 2 3 = getR ρ2 1 3 f := rfl
      simp only [endR, pn, pr, pt, tw_a32, T_stp3, if_neg (show ¬ (3 : Int32) = 9 by decide), tn0, tn1, tn2, tn3, Int32.reduceMul, Int32.reduceAdd, Int32.reduceSub, Int32.reduceDiv, Nat.reduceMul, Nat.reduceAdd, Nat.reduceSub, Nat.reduceDiv, Nat.reduceMod, oN0, oN1, oN2, oN3, Option.bind_some, lt_, fX4_ofP, fX4_ofSide]
      by_cases hq : fX4_wayOf (ρ2 32) f ≤ stpR ρ2 3 tm
      · simp only [if_pos hq, ckt, T_mov3 _ _ _ _ _ hg h1 h2 hM hfs, T_mov2 _ _ _ _ _ hg h1 h2 hM hfs, T_tir3, tw_s2, gt, tw_a28, tw_a39, T_stp2, G2, pt, tn0, tn1, tn2, tn3, Int32.reduceMul, Int32.reduceAdd, Int32.reduceSub, Int32.reduceDiv, Nat.reduceMul, Nat.reduceAdd, Nat.reduceSub, Nat.reduceDiv, Nat.reduceMod, oN0, oN1, oN2, oN3, Option.bind_some, lt_, fX4_ofP, fX4_ofSide]
        rfl
      · simp only [if_neg hq, tw_a38, tw_s38, tw_s2, poiR, tn0, tn1, tn2, tn3, Int32.reduceMul, Int32.reduceAdd, Int32.reduceSub, Int32.reduceDiv, Nat.reduceMul, Nat.reduceAdd, Nat.reduceSub, Nat.reduceDiv, Nat.reduceMod, oN0, oN1, oN2, oN3, Option.bind_some, lt_, fX4_ofP, fX4_ofSide]
    · subst e
      simp only [endR, if_pos, tw_a38, tw_s38, tw_s2, poiR, tn0, tn1, tn2, tn3, Int32.reduceMul, Int32.reduceAdd, Int32.reduceSub, Int32.reduceDiv, Nat.reduceMul, Nat.reduceAdd, Nat.reduceSub, Nat.reduceDiv, Nat.reduceMod, oN0, oN1, oN2, oN3, Option.bind_some, lt_, fX4_ofP, fX4_ofSide]
  cases hb : botR ρ1 1 f with
  | false =>
    simp only [b2_, if_neg, Bool.false_eq_true, if_true, if_false]
    exact tail ρ1 V1
  | true =>
    simp only [b2_, if_true, if_neg (show ¬ (1 : Int32) = 0 by decide), T_tir2, T_tir3, Option.bind_some]
    exact tail (tirR (tirR ρ1 2 3) 3 3) ((V1.tir (by decide) rg3).tir (by decide) rg3)
set_option maxHeartbeats 4000000 in
theorem T_hit1 {t : Nat} {fs : List Value} {k cell : Int32} (hg : g ≠ r) (h1 : t ≠ r) (h2 : t ≠ g) (hM : M t = some (eO_ 3 fs)) (hfs : fs[4]? = some (.ref g)) (V : VR ρ) (hk8 : rg_ 8 k) (hk : k.toNatClampNeg < (ρ 0).toNatClampNeg) (hc : rg_ 9 cell) (hh : ρ 2 = 1) : fX4_hits (tw_ M r g ρ γ) t r k cell = some ((hitR ρ γ k cell).1, tw_ M r g (hitR ρ γ k cell).2.1 (hitR ρ γ k cell).2.2) := by
  have hS := V.2.2.2.2.2 _ hk
  have hf : rg_ 9 (falR ρ k cell) := fal_rg hS.1 hc V.2.2.2.1
  have htm := time_rg hS.1 hf hS.2
  have hn : (ρ 2).toNatClampNeg = 1 := by rw [hh]; rfl
  have k8 : k.toNatClampNeg < 8 := (rg_nat (by decide) hk8).1
  have ek : ∀ v, kS_r (upd ρ 1 v) k = kS_r ρ k := fun v => by rw [kS_r, updA, if_neg (by omega)]
  have ef : ∀ v, fS_r (upd ρ 1 v) k = fS_r ρ k := fun v => by rw [fS_r, updA, if_neg (by omega)]
  have V1 : VR (tirR (upd ρ 1 (ρ 1 + 1)) 1 (fX4_tiresBy (kS_r ρ k) (fS_r ρ k))) := V.hits.tir (by decide) (tires_rg hS.1 hS.2)
  unfold fX4_hits hitR
  simp only [hn, hh, tw_a2, fX4_sideOf, T_fal _ _ _ _ _ _ hk8, T_tim _ _ _ _ _ _ hk8, T_who1, tw_a1, tw_s1, (twS _ _ _ _ _ hk8).1, (twS _ _ _ _ _ hk8).2, ek, ef, T_tir1, T_bot1, tn0, tn1, tn2, tn3, Int32.reduceMul, Int32.reduceAdd, Int32.reduceSub, Int32.reduceDiv, Nat.reduceMul, Nat.reduceAdd, Nat.reduceSub, Nat.reduceDiv, Nat.reduceMod, oN0, oN1, oN2, oN3, Option.bind_some, lt_, fX4_ofP, fX4_ofSide]
  generalize tirR (upd ρ 1 (ρ 1 + 1)) 1 (fX4_tiresBy (kS_r ρ k) (fS_r ρ k)) = ρ1 at V1 ⊢
  generalize fX4_timeBy (kS_r ρ k) (fS_r ρ k) (falR ρ k cell) = tm at htm ⊢
  have hw := whoR_cases ρ 1 (falR ρ k cell)
  generalize whoR ρ 1 (falR ρ k cell) = p at hw ⊢
  generalize falR ρ k cell = f at hf ⊢
  have ckt : ∀ ρ' γ' : Rw_, ck_ (tw_ M r g ρ' γ') t 3 = some () := fun _ _ => ckof ((tw_o h1 h2).trans hM)
  have tail : ∀ ρ2 : Rw_, VR ρ2 → (if p = 9 then lt_ (fX4_ofSide (1 - 1) 2) fun r17 => (aI_ (tw_ M r g ρ2 γ) r 0 r17).bind fun v18 => (sI_ (tw_ M r g ρ2 γ) r 0 r17 (v18 + 1)).bind fun M19 => (sI_ M19 r 0 2 (2 * (1 - 1))).bind fun M20 => some (true, M20)
    else lt_ (fX4_ofP p 0) fun r21 => (aI_ (tw_ M r g ρ2 γ) r 0 r21).bind fun v22 => lt_ (fX4_wayOf v22 f) fun r23 => (fX4_stepsIn (tw_ M r g ρ2 γ) r p tm).bind fun r24 =>
      if r23 ≤ r24 then lt_ (fX4_ofP p 0) fun r25 => (aI_ (tw_ M r g ρ2 γ) r 0 r25).bind fun v26 => lt_ (fX4_wayOf v26 f) fun r27 => (ck_ (tw_ M r g ρ2 γ) t 3).bind fun u28 => (fX4_moves (tw_ M r g ρ2 γ) t r p f).bind fun M30 => (fX4_isTired M30 r p r27).bind fun M32 => (sI_ M32 r 0 2 p).bind fun M33 => lt_ (fX4_partner p) fun r34 => lt_ (fX4_ofP r34 0) fun r35 => (aI_ M33 r 0 r35).bind fun v36 => lt_ (fX4_ofSide 1 0) fun r37 => (aI_ M33 r 0 r37).bind fun v38 => lt_ (fX4_placeFor v38 f) fun r39 => (fX4_stepsIn M33 r r34 tm).bind fun r40 => (fX4_towards v36 r39 r40).bind fun r41 => (ck_ M33 t 3).bind fun u42 => (fX4_moves M33 t r r34 r41).bind fun M44 => some (false, M44)
      else lt_ (fX4_ofSide (1 - 1) 2) fun r45 => (aI_ (tw_ M r g ρ2 γ) r 0 r45).bind fun v46 => (sI_ (tw_ M r g ρ2 γ) r 0 r45 (v46 + 1)).bind fun M47 => (sI_ M47 r 0 2 (2 * (1 - 1))).bind fun M48 => some (true, M48)) = some ((endR ρ2 γ 1 p f tm).1, tw_ M r g (endR ρ2 γ 1 p f tm).2.1 (endR ρ2 γ 1 p f tm).2.2) := by
    intro ρ2 V2
    rcases hw with e | e | e
    · have e : p = 2 := e
      subst e
      have G := toR_all (V2.get (s := 1) (p := 2) (f := f) (by decide) hf) (s := 1) (p := 2) (t := tm) (by decide) (by decide) hf htm
      have G2 : fX4_towards (getR ρ2 1 2 f 32) (fX4_placeFor (getR ρ2 1 2 f 39) f) (stpR (getR ρ2 1 2 f) 3 tm) = some (toR (getR ρ2 1 2 f) 1 2 f tm) := G.2
      have hx : getR ρ2 1 2 f 32 = ρ2 32 := rfl
      have pt : fX4_partner 2 = 3 := by decide
      have pr : parR 2 = 3 := rfl
      have pn : (2 : Int32).toNatClampNeg = 2 := rfl
      have gt : upd (tirR (upd ρ2 28 f) 2 (fX4_wayOf (ρ2 28) f)) 2 2 = getR ρ2 1 2 f := rfl
      simp only [endR, pn, pr, pt, tw_a28, T_stp2, if_neg (show ¬ (2 : Int32) = 9 by decide), tn0, tn1, tn2, tn3, Int32.reduceMul, Int32.reduceAdd, Int32.reduceSub, Int32.reduceDiv, Nat.reduceMul, Nat.reduceAdd, Nat.reduceSub, Nat.reduceDiv, Nat.reduceMod, oN0, oN1, oN2, oN3, Option.bind_some, lt_, fX4_ofP, fX4_ofSide]
      by_cases hq : fX4_wayOf (ρ2 28) f ≤ stpR ρ2 2 tm
      · simp only [if_pos hq, ckt, T_mov2 _ _ _ _ _ hg h1 h2 hM hfs, T_mov3 _ _ _ _ _ hg h1 h2 hM hfs, T_tir2, tw_s2, gt, tw_a32, tw_a39, T_stp3, G2, pt, tn0, tn1, tn2, tn3, Int32.reduceMul, Int32.reduceAdd, Int32.reduceSub, Int32.reduceDiv, Nat.reduceMul, Nat.reduceAdd, Nat.reduceSub, Nat.reduceDiv, Nat.reduceMod, oN0, oN1, oN2, oN3, Option.bind_some, lt_, fX4_ofP, fX4_ofSide]
        rfl
      · simp only [if_neg hq, tw_a38, tw_s38, tw_s2, poiR, tn0, tn1, tn2, tn3, Int32.reduceMul, Int32.reduceAdd, Int32.reduceSub, Int32.reduceDiv, Nat.reduceMul, Nat.reduceAdd, Nat.reduceSub, Nat.reduceDiv, Nat.reduceMod, oN0, oN1, oN2, oN3, Option.bind_some, lt_, fX4_ofP, fX4_ofSide]
    · have e : p = 3 := e
      subst e
      have G := toR_all (V2.get (s := 1) (p := 3) (f := f) (by decide) hf) (s := 1) (p := 3) (t := tm) (by decide) (by decide) hf htm
      have G2 : fX4_towards (getR ρ2 1 3 f 28) (fX4_placeFor (getR ρ2 1 3 f 39) f) (stpR (getR ρ2 1 3 f) 2 tm) = some (toR (getR ρ2 1 3 f) 1 3 f tm) := G.2
      have hx : getR ρ2 1 3 f 28 = ρ2 28 := rfl
      have pt : fX4_partner 3 = 2 := by decide
      have pr : parR 3 = 2 := rfl
      have pn : (3 : Int32).toNatClampNeg = 3 := rfl
      have gt : upd (tirR (upd ρ2 32 f) 3 (fX4_wayOf (ρ2 32) f)) 2 3 = getR ρ2 1 3 f := rfl
      simp only [endR, pn, pr, pt, tw_a32, T_stp3, if_neg (show ¬ (3 : Int32) = 9 by decide), tn0, tn1, tn2, tn3, Int32.reduceMul, Int32.reduceAdd, Int32.reduceSub, Int32.reduceDiv, Nat.reduceMul, Nat.reduceAdd, Nat.reduceSub, Nat.reduceDiv, Nat.reduceMod, oN0, oN1, oN2, oN3, Option.bind_some, lt_, fX4_ofP, fX4_ofSide]
      by_cases hq : fX4_wayOf (ρ2 32) f ≤ stpR ρ2 3 tm
      · simp only [if_pos hq, ckt, T_mov3 _ _ _ _ _ hg h1 h2 hM hfs, T_mov2 _ _ _ _ _ hg h1 h2 hM hfs, T_tir3, tw_s2, gt, tw_a28, tw_a39, T_stp2, G2, pt, tn0, tn1, tn2, tn3, Int32.reduceMul, Int32.reduceAdd, Int32.reduceSub, Int32.reduceDiv, Nat.reduceMul, Nat.reduceAdd, Nat.reduceSub, Nat.reduceDiv, Nat.reduceMod, oN0, oN1, oN2, oN3, Option.bind_some, lt_, fX4_ofP, fX4_ofSide]
        rfl
      · simp only [if_neg hq, tw_a38, tw_s38, tw_s2, poiR, tn0, tn1, tn2, tn3, Int32.reduceMul, Int32.reduceAdd, Int32.reduceSub, Int32.reduceDiv, Nat.reduceMul, Nat.reduceAdd, Nat.reduceSub, Nat.reduceDiv, Nat.reduceMod, oN0, oN1, oN2, oN3, Option.bind_some, lt_, fX4_ofP, fX4_ofSide]
    · subst e
      simp only [endR, if_pos, tw_a38, tw_s38, tw_s2, poiR, tn0, tn1, tn2, tn3, Int32.reduceMul, Int32.reduceAdd, Int32.reduceSub, Int32.reduceDiv, Nat.reduceMul, Nat.reduceAdd, Nat.reduceSub, Nat.reduceDiv, Nat.reduceMod, oN0, oN1, oN2, oN3, Option.bind_some, lt_, fX4_ofP, fX4_ofSide]
  cases hb : botR ρ1 1 f with
  | false =>
    simp only [b2_, if_neg, Bool.false_eq_true, if_true, if_false]
    exact tail ρ1 V1
  | true =>
    simp only [b2_, if_true, if_neg (show ¬ (1 : Int32) = 0 by decide), T_tir2, T_tir3, Option.bind_some]
    exact tail (tirR (tirR ρ1 2 3) 3 3) ((V1.tir (by decide) rg3).tir (by decide) rg3)
set_option maxHeartbeats 4000000 in
theorem T_hit2 {t : Nat} {fs : List Value} {k cell : Int32} (hg : g ≠ r) (h1 : t ≠ r) (h2 : t ≠ g) (hM : M t = some (eO_ 3 fs)) (hfs : fs[4]? = some (.ref g)) (V : VR ρ) (hk8 : rg_ 8 k) (hk : k.toNatClampNeg < (ρ 0).toNatClampNeg) (hc : rg_ 9 cell) (hh : ρ 2 = 2) : fX4_hits (tw_ M r g ρ γ) t r k cell = some ((hitR ρ γ k cell).1, tw_ M r g (hitR ρ γ k cell).2.1 (hitR ρ γ k cell).2.2) := by
  have hS := V.2.2.2.2.2 _ hk
  have hf : rg_ 9 (falR ρ k cell) := fal_rg hS.1 hc V.2.2.2.1
  have htm := time_rg hS.1 hf hS.2
  have hn : (ρ 2).toNatClampNeg = 2 := by rw [hh]; rfl
  have k8 : k.toNatClampNeg < 8 := (rg_nat (by decide) hk8).1
  have ek : ∀ v, kS_r (upd ρ 1 v) k = kS_r ρ k := fun v => by rw [kS_r, updA, if_neg (by omega)]
  have ef : ∀ v, fS_r (upd ρ 1 v) k = fS_r ρ k := fun v => by rw [fS_r, updA, if_neg (by omega)]
  have V1 : VR (tirR (upd ρ 1 (ρ 1 + 1)) 2 (fX4_tiresBy (kS_r ρ k) (fS_r ρ k))) := V.hits.tir (by decide) (tires_rg hS.1 hS.2)
  unfold fX4_hits hitR
  simp only [hn, hh, tw_a2, fX4_sideOf, T_fal _ _ _ _ _ _ hk8, T_tim _ _ _ _ _ _ hk8, T_who0, tw_a1, tw_s1, (twS _ _ _ _ _ hk8).1, (twS _ _ _ _ _ hk8).2, ek, ef, T_tir2, T_bot0, tn0, tn1, tn2, tn3, Int32.reduceMul, Int32.reduceAdd, Int32.reduceSub, Int32.reduceDiv, Nat.reduceMul, Nat.reduceAdd, Nat.reduceSub, Nat.reduceDiv, Nat.reduceMod, oN0, oN1, oN2, oN3, Option.bind_some, lt_, fX4_ofP, fX4_ofSide]
  generalize tirR (upd ρ 1 (ρ 1 + 1)) 2 (fX4_tiresBy (kS_r ρ k) (fS_r ρ k)) = ρ1 at V1 ⊢
  generalize fX4_timeBy (kS_r ρ k) (fS_r ρ k) (falR ρ k cell) = tm at htm ⊢
  have hw := whoR_cases ρ 0 (falR ρ k cell)
  generalize whoR ρ 0 (falR ρ k cell) = p at hw ⊢
  generalize falR ρ k cell = f at hf ⊢
  have ckt : ∀ ρ' γ' : Rw_, ck_ (tw_ M r g ρ' γ') t 3 = some () := fun _ _ => ckof ((tw_o h1 h2).trans hM)
  have tail : ∀ ρ2 : Rw_, VR ρ2 → (if p = 9 then lt_ (fX4_ofSide (1 - 0) 2) fun r17 => (aI_ (tw_ M r g ρ2 γ) r 0 r17).bind fun v18 => (sI_ (tw_ M r g ρ2 γ) r 0 r17 (v18 + 1)).bind fun M19 => (sI_ M19 r 0 2 (2 * (1 - 0))).bind fun M20 => some (true, M20)
    else lt_ (fX4_ofP p 0) fun r21 => (aI_ (tw_ M r g ρ2 γ) r 0 r21).bind fun v22 => lt_ (fX4_wayOf v22 f) fun r23 => (fX4_stepsIn (tw_ M r g ρ2 γ) r p tm).bind fun r24 =>
      if r23 ≤ r24 then lt_ (fX4_ofP p 0) fun r25 => (aI_ (tw_ M r g ρ2 γ) r 0 r25).bind fun v26 => lt_ (fX4_wayOf v26 f) fun r27 => (ck_ (tw_ M r g ρ2 γ) t 3).bind fun u28 => (fX4_moves (tw_ M r g ρ2 γ) t r p f).bind fun M30 => (fX4_isTired M30 r p r27).bind fun M32 => (sI_ M32 r 0 2 p).bind fun M33 => lt_ (fX4_partner p) fun r34 => lt_ (fX4_ofP r34 0) fun r35 => (aI_ M33 r 0 r35).bind fun v36 => lt_ (fX4_ofSide 0 0) fun r37 => (aI_ M33 r 0 r37).bind fun v38 => lt_ (fX4_placeFor v38 f) fun r39 => (fX4_stepsIn M33 r r34 tm).bind fun r40 => (fX4_towards v36 r39 r40).bind fun r41 => (ck_ M33 t 3).bind fun u42 => (fX4_moves M33 t r r34 r41).bind fun M44 => some (false, M44)
      else lt_ (fX4_ofSide (1 - 0) 2) fun r45 => (aI_ (tw_ M r g ρ2 γ) r 0 r45).bind fun v46 => (sI_ (tw_ M r g ρ2 γ) r 0 r45 (v46 + 1)).bind fun M47 => (sI_ M47 r 0 2 (2 * (1 - 0))).bind fun M48 => some (true, M48)) = some ((endR ρ2 γ 0 p f tm).1, tw_ M r g (endR ρ2 γ 0 p f tm).2.1 (endR ρ2 γ 0 p f tm).2.2) := by
    intro ρ2 V2
    rcases hw with e | e | e
    · have e : p = 0 := e
      subst e
      have G := toR_all (V2.get (s := 0) (p := 0) (f := f) (by decide) hf) (s := 0) (p := 0) (t := tm) (by decide) (by decide) hf htm
      have G2 : fX4_towards (getR ρ2 0 0 f 24) (fX4_placeFor (getR ρ2 0 0 f 36) f) (stpR (getR ρ2 0 0 f) 1 tm) = some (toR (getR ρ2 0 0 f) 0 0 f tm) := G.2
      have hx : getR ρ2 0 0 f 24 = ρ2 24 := rfl
      have pt : fX4_partner 0 = 1 := by decide
      have pr : parR 0 = 1 := rfl
      have pn : (0 : Int32).toNatClampNeg = 0 := rfl
      have gt : upd (tirR (upd ρ2 20 f) 0 (fX4_wayOf (ρ2 20) f)) 2 0 = getR ρ2 0 0 f := rfl
      simp only [endR, pn, pr, pt, tw_a20, T_stp0, if_neg (show ¬ (0 : Int32) = 9 by decide), tn0, tn1, tn2, tn3, Int32.reduceMul, Int32.reduceAdd, Int32.reduceSub, Int32.reduceDiv, Nat.reduceMul, Nat.reduceAdd, Nat.reduceSub, Nat.reduceDiv, Nat.reduceMod, oN0, oN1, oN2, oN3, Option.bind_some, lt_, fX4_ofP, fX4_ofSide]
      by_cases hq : fX4_wayOf (ρ2 20) f ≤ stpR ρ2 0 tm
      · simp only [if_pos hq, ckt, T_mov0 _ _ _ _ _ hg h1 h2 hM hfs, T_mov1 _ _ _ _ _ hg h1 h2 hM hfs, T_tir0, tw_s2, gt, tw_a24, tw_a36, T_stp1, G2, pt, tn0, tn1, tn2, tn3, Int32.reduceMul, Int32.reduceAdd, Int32.reduceSub, Int32.reduceDiv, Nat.reduceMul, Nat.reduceAdd, Nat.reduceSub, Nat.reduceDiv, Nat.reduceMod, oN0, oN1, oN2, oN3, Option.bind_some, lt_, fX4_ofP, fX4_ofSide]
        rfl
      · simp only [if_neg hq, tw_a41, tw_s41, tw_s2, poiR, tn0, tn1, tn2, tn3, Int32.reduceMul, Int32.reduceAdd, Int32.reduceSub, Int32.reduceDiv, Nat.reduceMul, Nat.reduceAdd, Nat.reduceSub, Nat.reduceDiv, Nat.reduceMod, oN0, oN1, oN2, oN3, Option.bind_some, lt_, fX4_ofP, fX4_ofSide]
    · have e : p = 1 := e
      subst e
      have G := toR_all (V2.get (s := 0) (p := 1) (f := f) (by decide) hf) (s := 0) (p := 1) (t := tm) (by decide) (by decide) hf htm
      have G2 : fX4_towards (getR ρ2 0 1 f 20) (fX4_placeFor (getR ρ2 0 1 f 36) f) (stpR (getR ρ2 0 1 f) 0 tm) = some (toR (getR ρ2 0 1 f) 0 1 f tm) := G.2
      have hx : getR ρ2 0 1 f 20 = ρ2 20 := rfl
      have pt : fX4_partner 1 = 0 := by decide
      have pr : parR 1 = 0 := rfl
      have pn : (1 : Int32).toNatClampNeg = 1 := rfl
      have gt : upd (tirR (upd ρ2 24 f) 1 (fX4_wayOf (ρ2 24) f)) 2 1 = getR ρ2 0 1 f := rfl
      simp only [endR, pn, pr, pt, tw_a24, T_stp1, if_neg (show ¬ (1 : Int32) = 9 by decide), tn0, tn1, tn2, tn3, Int32.reduceMul, Int32.reduceAdd, Int32.reduceSub, Int32.reduceDiv, Nat.reduceMul, Nat.reduceAdd, Nat.reduceSub, Nat.reduceDiv, Nat.reduceMod, oN0, oN1, oN2, oN3, Option.bind_some, lt_, fX4_ofP, fX4_ofSide]
      by_cases hq : fX4_wayOf (ρ2 24) f ≤ stpR ρ2 1 tm
      · simp only [if_pos hq, ckt, T_mov1 _ _ _ _ _ hg h1 h2 hM hfs, T_mov0 _ _ _ _ _ hg h1 h2 hM hfs, T_tir1, tw_s2, gt, tw_a20, tw_a36, T_stp0, G2, pt, tn0, tn1, tn2, tn3, Int32.reduceMul, Int32.reduceAdd, Int32.reduceSub, Int32.reduceDiv, Nat.reduceMul, Nat.reduceAdd, Nat.reduceSub, Nat.reduceDiv, Nat.reduceMod, oN0, oN1, oN2, oN3, Option.bind_some, lt_, fX4_ofP, fX4_ofSide]
        rfl
      · simp only [if_neg hq, tw_a41, tw_s41, tw_s2, poiR, tn0, tn1, tn2, tn3, Int32.reduceMul, Int32.reduceAdd, Int32.reduceSub, Int32.reduceDiv, Nat.reduceMul, Nat.reduceAdd, Nat.reduceSub, Nat.reduceDiv, Nat.reduceMod, oN0, oN1, oN2, oN3, Option.bind_some, lt_, fX4_ofP, fX4_ofSide]
    · subst e
      simp only [endR, if_pos, tw_a41, tw_s41, tw_s2, poiR, tn0, tn1, tn2, tn3, Int32.reduceMul, Int32.reduceAdd, Int32.reduceSub, Int32.reduceDiv, Nat.reduceMul, Nat.reduceAdd, Nat.reduceSub, Nat.reduceDiv, Nat.reduceMod, oN0, oN1, oN2, oN3, Option.bind_some, lt_, fX4_ofP, fX4_ofSide]
  cases hb : botR ρ1 0 f with
  | false =>
    simp only [b2_, if_neg, Bool.false_eq_true, if_true, if_false]
    exact tail ρ1 V1
  | true =>
    simp only [b2_, if_true, if_neg (show ¬ (1 : Int32) = 0 by decide), T_tir0, T_tir1, Option.bind_some]
    exact tail (tirR (tirR ρ1 0 3) 1 3) ((V1.tir (by decide) rg3).tir (by decide) rg3)
set_option maxHeartbeats 4000000 in
theorem T_hit3 {t : Nat} {fs : List Value} {k cell : Int32} (hg : g ≠ r) (h1 : t ≠ r) (h2 : t ≠ g) (hM : M t = some (eO_ 3 fs)) (hfs : fs[4]? = some (.ref g)) (V : VR ρ) (hk8 : rg_ 8 k) (hk : k.toNatClampNeg < (ρ 0).toNatClampNeg) (hc : rg_ 9 cell) (hh : ρ 2 = 3) : fX4_hits (tw_ M r g ρ γ) t r k cell = some ((hitR ρ γ k cell).1, tw_ M r g (hitR ρ γ k cell).2.1 (hitR ρ γ k cell).2.2) := by
  have hS := V.2.2.2.2.2 _ hk
  have hf : rg_ 9 (falR ρ k cell) := fal_rg hS.1 hc V.2.2.2.1
  have htm := time_rg hS.1 hf hS.2
  have hn : (ρ 2).toNatClampNeg = 3 := by rw [hh]; rfl
  have k8 : k.toNatClampNeg < 8 := (rg_nat (by decide) hk8).1
  have ek : ∀ v, kS_r (upd ρ 1 v) k = kS_r ρ k := fun v => by rw [kS_r, updA, if_neg (by omega)]
  have ef : ∀ v, fS_r (upd ρ 1 v) k = fS_r ρ k := fun v => by rw [fS_r, updA, if_neg (by omega)]
  have V1 : VR (tirR (upd ρ 1 (ρ 1 + 1)) 3 (fX4_tiresBy (kS_r ρ k) (fS_r ρ k))) := V.hits.tir (by decide) (tires_rg hS.1 hS.2)
  unfold fX4_hits hitR
  simp only [hn, hh, tw_a2, fX4_sideOf, T_fal _ _ _ _ _ _ hk8, T_tim _ _ _ _ _ _ hk8, T_who0, tw_a1, tw_s1, (twS _ _ _ _ _ hk8).1, (twS _ _ _ _ _ hk8).2, ek, ef, T_tir3, T_bot0, tn0, tn1, tn2, tn3, Int32.reduceMul, Int32.reduceAdd, Int32.reduceSub, Int32.reduceDiv, Nat.reduceMul, Nat.reduceAdd, Nat.reduceSub, Nat.reduceDiv, Nat.reduceMod, oN0, oN1, oN2, oN3, Option.bind_some, lt_, fX4_ofP, fX4_ofSide]
  generalize tirR (upd ρ 1 (ρ 1 + 1)) 3 (fX4_tiresBy (kS_r ρ k) (fS_r ρ k)) = ρ1 at V1 ⊢
  generalize fX4_timeBy (kS_r ρ k) (fS_r ρ k) (falR ρ k cell) = tm at htm ⊢
  have hw := whoR_cases ρ 0 (falR ρ k cell)
  generalize whoR ρ 0 (falR ρ k cell) = p at hw ⊢
  generalize falR ρ k cell = f at hf ⊢
  have ckt : ∀ ρ' γ' : Rw_, ck_ (tw_ M r g ρ' γ') t 3 = some () := fun _ _ => ckof ((tw_o h1 h2).trans hM)
  have tail : ∀ ρ2 : Rw_, VR ρ2 → (if p = 9 then lt_ (fX4_ofSide (1 - 0) 2) fun r17 => (aI_ (tw_ M r g ρ2 γ) r 0 r17).bind fun v18 => (sI_ (tw_ M r g ρ2 γ) r 0 r17 (v18 + 1)).bind fun M19 => (sI_ M19 r 0 2 (2 * (1 - 0))).bind fun M20 => some (true, M20)
    else lt_ (fX4_ofP p 0) fun r21 => (aI_ (tw_ M r g ρ2 γ) r 0 r21).bind fun v22 => lt_ (fX4_wayOf v22 f) fun r23 => (fX4_stepsIn (tw_ M r g ρ2 γ) r p tm).bind fun r24 =>
      if r23 ≤ r24 then lt_ (fX4_ofP p 0) fun r25 => (aI_ (tw_ M r g ρ2 γ) r 0 r25).bind fun v26 => lt_ (fX4_wayOf v26 f) fun r27 => (ck_ (tw_ M r g ρ2 γ) t 3).bind fun u28 => (fX4_moves (tw_ M r g ρ2 γ) t r p f).bind fun M30 => (fX4_isTired M30 r p r27).bind fun M32 => (sI_ M32 r 0 2 p).bind fun M33 => lt_ (fX4_partner p) fun r34 => lt_ (fX4_ofP r34 0) fun r35 => (aI_ M33 r 0 r35).bind fun v36 => lt_ (fX4_ofSide 0 0) fun r37 => (aI_ M33 r 0 r37).bind fun v38 => lt_ (fX4_placeFor v38 f) fun r39 => (fX4_stepsIn M33 r r34 tm).bind fun r40 => (fX4_towards v36 r39 r40).bind fun r41 => (ck_ M33 t 3).bind fun u42 => (fX4_moves M33 t r r34 r41).bind fun M44 => some (false, M44)
      else lt_ (fX4_ofSide (1 - 0) 2) fun r45 => (aI_ (tw_ M r g ρ2 γ) r 0 r45).bind fun v46 => (sI_ (tw_ M r g ρ2 γ) r 0 r45 (v46 + 1)).bind fun M47 => (sI_ M47 r 0 2 (2 * (1 - 0))).bind fun M48 => some (true, M48)) = some ((endR ρ2 γ 0 p f tm).1, tw_ M r g (endR ρ2 γ 0 p f tm).2.1 (endR ρ2 γ 0 p f tm).2.2) := by
    intro ρ2 V2
    rcases hw with e | e | e
    · have e : p = 0 := e
      subst e
      have G := toR_all (V2.get (s := 0) (p := 0) (f := f) (by decide) hf) (s := 0) (p := 0) (t := tm) (by decide) (by decide) hf htm
      have G2 : fX4_towards (getR ρ2 0 0 f 24) (fX4_placeFor (getR ρ2 0 0 f 36) f) (stpR (getR ρ2 0 0 f) 1 tm) = some (toR (getR ρ2 0 0 f) 0 0 f tm) := G.2
      have hx : getR ρ2 0 0 f 24 = ρ2 24 := rfl
      have pt : fX4_partner 0 = 1 := by decide
      have pr : parR 0 = 1 := rfl
      have pn : (0 : Int32).toNatClampNeg = 0 := rfl
      have gt : upd (tirR (upd ρ2 20 f) 0 (fX4_wayOf (ρ2 20) f)) 2 0 = getR ρ2 0 0 f := rfl
      simp only [endR, pn, pr, pt, tw_a20, T_stp0, if_neg (show ¬ (0 : Int32) = 9 by decide), tn0, tn1, tn2, tn3, Int32.reduceMul, Int32.reduceAdd, Int32.reduceSub, Int32.reduceDiv, Nat.reduceMul, Nat.reduceAdd, Nat.reduceSub, Nat.reduceDiv, Nat.reduceMod, oN0, oN1, oN2, oN3, Option.bind_some, lt_, fX4_ofP, fX4_ofSide]
      by_cases hq : fX4_wayOf (ρ2 20) f ≤ stpR ρ2 0 tm
      · simp only [if_pos hq, ckt, T_mov0 _ _ _ _ _ hg h1 h2 hM hfs, T_mov1 _ _ _ _ _ hg h1 h2 hM hfs, T_tir0, tw_s2, gt, tw_a24, tw_a36, T_stp1, G2, pt, tn0, tn1, tn2, tn3, Int32.reduceMul, Int32.reduceAdd, Int32.reduceSub, Int32.reduceDiv, Nat.reduceMul, Nat.reduceAdd, Nat.reduceSub, Nat.reduceDiv, Nat.reduceMod, oN0, oN1, oN2, oN3, Option.bind_some, lt_, fX4_ofP, fX4_ofSide]
        rfl
      · simp only [if_neg hq, tw_a41, tw_s41, tw_s2, poiR, tn0, tn1, tn2, tn3, Int32.reduceMul, Int32.reduceAdd, Int32.reduceSub, Int32.reduceDiv, Nat.reduceMul, Nat.reduceAdd, Nat.reduceSub, Nat.reduceDiv, Nat.reduceMod, oN0, oN1, oN2, oN3, Option.bind_some, lt_, fX4_ofP, fX4_ofSide]
    · have e : p = 1 := e
      subst e
      have G := toR_all (V2.get (s := 0) (p := 1) (f := f) (by decide) hf) (s := 0) (p := 1) (t := tm) (by decide) (by decide) hf htm
      have G2 : fX4_towards (getR ρ2 0 1 f 20) (fX4_placeFor (getR ρ2 0 1 f 36) f) (stpR (getR ρ2 0 1 f) 0 tm) = some (toR (getR ρ2 0 1 f) 0 1 f tm) := G.2
      have hx : getR ρ2 0 1 f 20 = ρ2 20 := rfl
      have pt : fX4_partner 1 = 0 := by decide
      have pr : parR 1 = 0 := rfl
      have pn : (1 : Int32).toNatClampNeg = 1 := rfl
      have gt : upd (tirR (upd ρ2 24 f) 1 (fX4_wayOf (ρ2 24) f)) 2 1 = getR ρ2 0 1 f := rfl
      simp only [endR, pn, pr, pt, tw_a24, T_stp1, if_neg (show ¬ (1 : Int32) = 9 by decide), tn0, tn1, tn2, tn3, Int32.reduceMul, Int32.reduceAdd, Int32.reduceSub, Int32.reduceDiv, Nat.reduceMul, Nat.reduceAdd, Nat.reduceSub, Nat.reduceDiv, Nat.reduceMod, oN0, oN1, oN2, oN3, Option.bind_some, lt_, fX4_ofP, fX4_ofSide]
      by_cases hq : fX4_wayOf (ρ2 24) f ≤ stpR ρ2 1 tm
      · simp only [if_pos hq, ckt, T_mov1 _ _ _ _ _ hg h1 h2 hM hfs, T_mov0 _ _ _ _ _ hg h1 h2 hM hfs, T_tir1, tw_s2, gt, tw_a20, tw_a36, T_stp0, G2, pt, tn0, tn1, tn2, tn3, Int32.reduceMul, Int32.reduceAdd, Int32.reduceSub, Int32.reduceDiv, Nat.reduceMul, Nat.reduceAdd, Nat.reduceSub, Nat.reduceDiv, Nat.reduceMod, oN0, oN1, oN2, oN3, Option.bind_some, lt_, fX4_ofP, fX4_ofSide]
        rfl
      · simp only [if_neg hq, tw_a41, tw_s41, tw_s2, poiR, tn0, tn1, tn2, tn3, Int32.reduceMul, Int32.reduceAdd, Int32.reduceSub, Int32.reduceDiv, Nat.reduceMul, Nat.reduceAdd, Nat.reduceSub, Nat.reduceDiv, Nat.reduceMod, oN0, oN1, oN2, oN3, Option.bind_some, lt_, fX4_ofP, fX4_ofSide]
    · subst e
      simp only [endR, if_pos, tw_a41, tw_s41, tw_s2, poiR, tn0, tn1, tn2, tn3, Int32.reduceMul, Int32.reduceAdd, Int32.reduceSub, Int32.reduceDiv, Nat.reduceMul, Nat.reduceAdd, Nat.reduceSub, Nat.reduceDiv, Nat.reduceMod, oN0, oN1, oN2, oN3, Option.bind_some, lt_, fX4_ofP, fX4_ofSide]
  cases hb : botR ρ1 0 f with
  | false =>
    simp only [b2_, if_neg, Bool.false_eq_true, if_true, if_false]
    exact tail ρ1 V1
  | true =>
    simp only [b2_, if_true, if_neg (show ¬ (1 : Int32) = 0 by decide), T_tir0, T_tir1, Option.bind_some]
    exact tail (tirR (tirR ρ1 0 3) 1 3) ((V1.tir (by decide) rg3).tir (by decide) rg3)
end THIT
