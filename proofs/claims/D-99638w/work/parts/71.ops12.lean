/-! LAW: wants, evens, feared -/
set_option maxRecDepth 100000
/-! ### wants -/
def wtP (W : Wt) (n own b : Nat) : Bool := decide ((b &&& own) = 0) && decide (sm (wl W) n < 2 * smB (wl W) (own ||| b) n)
theorem smB594 {g : Geo} {W : Wt} (hg : GoodG g) (h : GoodW g W) (o : Nat) : smB (wl W) o (gn g) ≤ 594 := by
  have h6 := hg.1
  have := smB_le (f := wl W) (o := o) (n := gn g) (c := 99) (fun k hk => lev99 hg h hk)
  omega
theorem M_fewEnd {u : Nat} {A : AS} {s t : Sg} (b : Option Nat) (hb : ∀ q, b = some q → q < 64) (hM : MI u A s) (hS : Fr dSM s t) : Tp (if oI b = -1 then some ((-2), t) else (lt_ (pI t 45 8 0) fun s2 => (M_tell s2 ((oI b).toInt64)).bind fun s3 => (J_bitCount (oI b)).bind fun v4 => some (v4, s3))) (fun v t' => v = fwA b ∧ Fr dMr s t' ∧ MRw (fwR b (aRow A)) t') := by
  have hF : Fr dMr s t := hS.mono (fun i k => dSM_Mr)
  cases b with
  | none =>
    rw [if_pos (show oI none = -1 from rfl)]
    exact Tp_some ⟨rfl, hF, hM.2.2.1.mv (hS.I (by omega)) (fun k => hS.J (by omega))⟩
  | some q =>
    have hq := hb q rfl
    show Tp (if nI q = -1 then _ else _) _
    rw [if_neg (m1_lt (by omega)), lt_e]
    refine TtP (M_tell' _ (hF.pI (by omega)) MRw_0 (Nat.le_of_ble_eq_true rfl)) (fun t'' h' => ?_)
    show Tp ((J_bitCount (nI q)).bind _) _
    rw [pop_b q hq, bd_some]
    exact Tp_some ⟨rfl, h'.1, h'.2.1⟩
theorem op_wants {u c : Nat} {s : Sg} {A : AS} (hu : 20000 ≤ u) (hX : XI A s) (hM : MI u A s) (hG : GI c A) (x : Int32) : Bth u c s (X_wants u s x) (fun t => M_wants u t x) := by
  have h6 := hG.1.1
  have h64 := two6 hG.1.1
  have h1 := Nat.one_le_two_pow (n := gn (aG A))
  rcases in_or2 x 0 3 (by omega) (by omega) with ⟨q, hq0, hq, e⟩ | hno
  rotate_left
  · refine both_no (-1) hX hM hG ?_ (fun t ht => ?_)
    · unfold X_wants
      rw [Xin_0_3, gd_e, if_neg hno]
    · unfold M_wants
      rw [lt_e, M_isKing_ok, gd_e, if_neg hno] <;> rfl
  subst e
  have hmk := mkB_lt (fun k => decide (wk (aW A) k = q)) (gn (aG A))
  have hx1 := (X_own (q := q) hu hX hG (Fr.refl _ _) (w := 1) (by omega) hX.2.1 (by omega)).1
  have hm1 := fun t (ht : MI u A t) => (M_own (q := q) hu ht hG M_th (a := 46) (by omega) (M_env ht M_th).2 hG.2.1 (by omega)).1
  generalize mkB (fun k => decide (wk (aW A) k = q)) (gn (aG A)) = own at hmk hx1 hm1
  refine both_row (fwA (fwF (wtP (aW A) (gn (aG A)) own) (2 ^ gn (aG A)))) (fwR (fwF (wtP (aW A) (gn (aG A)) own) (2 ^ gn (aG A))) (aRow A)) hX hM hG ?_ (fun t ht => ?_)
  · unfold X_wants
    rw [Xin_0_3, gd_e, if_pos (in_yes2 hq0 hq (by omega)), hx1, bd_some]
    refine loop_i (W := fun f j (_ : Unit) => Tp (X_wants_25 u f s (nI own) (oI (fwF (wtP (aW A) (gn (aG A)) own) j)) (nI j)) _)
      (I := fun j _ => True) (2 ^ gn (aG A)) ?_ ?_ u 0 () (by omega) (by omega) trivial
    · intro f _ _
      rw [X_wants_25_s]
      unfold X_wants_25b
      rw [X_all_ok hG.1 hX.1.2.1, bd_some, if_pos (nI_lt (by omega) (by omega))]
      exact TpP (X_fewEnd _ (fun q hq => lt64 h6 (fwF_lt _ _ q hq)) (Fr.refl _ _) hX.2.2.1) (fun v t2 h2 => Tp_some h2)
    · intro f j _ hj _ ih
      have ih := ih () trivial
      have hs := fwF_s (wtP (aW A) (gn (aG A)) own) j
      have hand : j &&& own < 2 ^ gn (aG A) := Nat.and_lt_two_pow _ hmk
      have hor : j ||| own < 2 ^ gn (aG A) := Nat.or_lt_two_pow hj hmk
      have hor2 : own ||| j < 2 ^ gn (aG A) := Nat.or_lt_two_pow hmk hj
      have hsm := smB594 hG.1 hG.2.1 (own ||| j)
      have htot := sm600 hG.1 hG.2.1
      rw [X_wants_25_s]
      unfold X_wants_25b X_wants_73
      rw [X_all_ok hG.1 hX.1.2.1, bd_some, if_neg (nI_nlt (by omega) (by omega)), nI_and (by omega) (by omega), nI_or (by omega) (by omega), Nat.or_comm j own]
      have hno : wtP (aW A) (gn (aG A)) own j = false → Tp (X_wants_74 u (X_wants_25 u f) s (nI own) (oI (fwF (wtP (aW A) (gn (aG A)) own) j)) (nI j) 0) (fun v t => v = fwA (fwF (wtP (aW A) (gn (aG A)) own) (2 ^ gn (aG A))) ∧ Fr dXr s t ∧ XRow (fwR (fwF (wtP (aW A) (gn (aG A)) own) (2 ^ gn (aG A))) (aRow A)) t) := by
        intro hp
        have hfb : fwB (wtP (aW A) (gn (aG A)) own) j (fwF (wtP (aW A) (gn (aG A)) own) j) = false := by
          unfold fwB
          cases fwF (wtP (aW A) (gn (aG A)) own) j with
          | none => exact hp
          | some q => dsimp only; rw [hp, Bool.and_false]
        rw [hfb] at hs
        simp only [Bool.false_eq_true, if_false] at hs
        rw [hs] at ih
        unfold X_wants_74 X_wants_95
        rw [if_pos rfl, nI_1]
        exact ih
      by_cases e : j &&& own = 0
      · rw [if_pos (by rw [e]; exact nI_0), X_sumOf_ok hu hG.1 hX.1.2.1 (by decide) (by decide) (by decide) (by omega) hX.2.1.1, bd_some, X_water_ok hu hG.1 hX.1.2.1 (by omega) hX.2.1, bd_some, mu_2]
        by_cases e2 : sm (wl (aW A)) (gn (aG A)) < 2 * smB (wl (aW A)) (own ||| j) (gn (aG A))
        · have hp : wtP (aW A) (gn (aG A)) own j = true := by unfold wtP; rw [decide_eq_true e, decide_eq_true e2]; rfl
          rw [if_neg (nI_ge e2 (by omega))]
          unfold X_wants_74 X_wants_95
          rw [if_neg (by decide), X_isFewer_ok (by omega) _ (fun q hq => by have := fwF_lt _ _ q hq; omega), bd_some, nI_1]
          cases hb : fwF (wtP (aW A) (gn (aG A)) own) j with
          | none =>
            rw [hb] at hs
            rw [if_pos (show fwB (wtP (aW A) (gn (aG A)) own) j none = true from hp)] at hs
            rw [hs] at ih
            rw [show fwQ j none = 1 from rfl, if_neg (by decide)]
            exact ih
          | some r =>
            rw [hb] at hs
            have hfb : fwB (wtP (aW A) (gn (aG A)) own) j (some r) = decide (pop j < pop r) := by show (decide (pop j < pop r) && wtP (aW A) (gn (aG A)) own j) = _; rw [hp, Bool.and_true]
            rw [hfb] at hs
            by_cases e3 : pop j < pop r
            · rw [if_pos (decide_eq_true e3)] at hs
              rw [hs] at ih
              rw [show fwQ j (some r) = 1 from if_pos e3, if_neg (by decide)]
              exact ih
            · rw [if_neg (by rw [decide_eq_false e3]; decide)] at hs
              rw [hs] at ih
              rw [show fwQ j (some r) = 0 from if_neg e3, if_pos rfl]
              exact ih
        · rw [if_pos (nI_le (by omega) (by omega))]
          exact hno (by unfold wtP; rw [decide_eq_false e2, Bool.and_false])
      · rw [if_neg (nI_ne0 (by omega) (by omega))]
        exact hno (by unfold wtP; rw [decide_eq_false e, Bool.false_and])
  · unfold M_wants
    rw [lt_e, M_isKing_ok, gd_e, if_pos (in_yes2 hq0 hq (by omega)), hm1 t ht, bd_some]
    refine loop_i (W := fun f j (_ : Unit) => Tp (M_wants_29 u f (pI t 45 9 0) (nI own) (oI (fwF (wtP (aW A) (gn (aG A)) own) j)) (nI j)) _)
      (I := fun j _ => True) (2 ^ gn (aG A)) ?_ ?_ u 0 () (by omega) (by omega) trivial
    · intro f _ _
      rw [M_wants_29_s]
      unfold M_wants_29b
      rw [M_all_ok hG.1 (M_env ht M_th).1.1.1, bd_some, if_pos (nI_lt (by omega) (by omega))]
      exact M_fewEnd _ (fun q hq => lt64 h6 (fwF_lt _ _ q hq)) ht ((Fr.refl _ _).pI (by omega))
    · intro f j _ hj _ ih
      have ih := ih () trivial
      have hs := fwF_s (wtP (aW A) (gn (aG A)) own) j
      have hand : j &&& own < 2 ^ gn (aG A) := Nat.and_lt_two_pow _ hmk
      have hor : own ||| j < 2 ^ gn (aG A) := Nat.or_lt_two_pow hmk hj
      have hsm := smB594 hG.1 hG.2.1 (own ||| j)
      have htot := sm600 hG.1 hG.2.1
      have hpj := pop_le j
      have hno : wtP (aW A) (gn (aG A)) own j = false → Tp (M_wants_29 u f (pI t 45 9 0) (nI own) (oI (fwF (wtP (aW A) (gn (aG A)) own) j)) (nI (j + 1))) (fun v t' => v = fwA (fwF (wtP (aW A) (gn (aG A)) own) (2 ^ gn (aG A))) ∧ Fr dMr t t' ∧ MRw (fwR (fwF (wtP (aW A) (gn (aG A)) own) (2 ^ gn (aG A))) (aRow A)) t') := by
        intro hp
        have hfb : fwB (wtP (aW A) (gn (aG A)) own) j (fwF (wtP (aW A) (gn (aG A)) own) j) = false := by
          unfold fwB
          cases fwF (wtP (aW A) (gn (aG A)) own) j with
          | none => exact hp
          | some q => dsimp only; rw [hp, Bool.and_false]
        rw [hfb] at hs
        simp only [Bool.false_eq_true, if_false] at hs
        rw [hs] at ih
        exact ih
      rw [M_wants_29_s]
      unfold M_wants_29b M_wants_91
      rw [M_all_ok hG.1 (M_env ht M_th).1.1.1, bd_some, if_neg (nI_nlt (by omega) (by omega)), nI_and (by omega) (by omega), nI_or (by omega) (by omega), nI_1]
      by_cases e : j &&& own = 0
      · have hlo : M_levelOf u (pI t 45 9 0) 46 (nI (own ||| j)) = some (nI (smB (wl (aW A)) (own ||| j) (gn (aG A)))) := M_levelOf_ok hu hG.1 hG.2.1 (M_env ht M_th).1.1.1 (by omega) (M_env ht M_th).2 (by omega)
        rw [if_pos (by rw [e]; exact nI_0), hlo, bd_some, M_water_ok hu hG.1 (M_env ht M_th).1.1.1 (by omega) (M_env ht M_th).2, bd_some, mu_2]
        by_cases e2 : sm (wl (aW A)) (gn (aG A)) < 2 * smB (wl (aW A)) (own ||| j) (gn (aG A))
        · have hp : wtP (aW A) (gn (aG A)) own j = true := by unfold wtP; rw [decide_eq_true e, decide_eq_true e2]; rfl
          rw [if_pos (nI_lt e2 (by omega))]
          cases hb : fwF (wtP (aW A) (gn (aG A)) own) j with
          | none =>
            rw [hb] at hs
            rw [if_pos (show fwB (wtP (aW A) (gn (aG A)) own) j none = true from hp)] at hs
            rw [hs] at ih
            rw [if_pos (show oI none = -1 from rfl)]
            exact ih
          | some r =>
            have hr := fwF_lt _ _ r hb
            have hpr := pop_le r
            rw [hb] at hs
            have hfb : fwB (wtP (aW A) (gn (aG A)) own) j (some r) = decide (pop j < pop r) := by show (decide (pop j < pop r) && wtP (aW A) (gn (aG A)) own j) = _; rw [hp, Bool.and_true]
            rw [hfb] at hs
            show Tp (if nI r = -1 then _ else ((J_bitCount (nI j)).bind fun v7 => (J_bitCount (nI r)).bind fun v8 => if v8 ≤ v7 then (M_wants_29 u f (pI t 45 9 0) (nI own) (nI r) (nI (j + 1))) else _)) _
            rw [if_neg (m1_lt (by omega)), pop_b j (by omega), bd_some, pop_b r (by omega), bd_some]
            by_cases e3 : pop j < pop r
            · rw [if_pos (decide_eq_true e3)] at hs
              rw [hs] at ih
              rw [if_neg (nI_ge e3 (by omega))]
              exact ih
            · rw [if_neg (by rw [decide_eq_false e3]; decide)] at hs
              rw [hs] at ih
              rw [if_pos (nI_le (by omega) (by omega))]
              exact ih
        · rw [if_neg (nI_nlt (by omega) (by omega))]
          exact hno (by unfold wtP; rw [decide_eq_false e2, Bool.and_false])
      · rw [if_neg (nI_ne0 (by omega) (by omega))]
        exact hno (by unfold wtP; rw [decide_eq_false e, Bool.false_and])
/-! ### evens -/
def dN (a b : Nat) : Nat := if a ≤ b then b - a else a - b
theorem ab_sub {a b : Nat} (ha : a < 2 ^ 30) (hb : b < 2 ^ 30) : ab (nI a - nI b) = nI (dN a b) := by
  unfold ab dN
  have ht := pk_sub_toInt (a := a) (b := b) ha hb
  have h0 : (0 : Int32).toInt = 0 := rfl
  by_cases e : a ≤ b
  · rw [if_pos e]
    by_cases e2 : a = b
    · subst e2
      rw [pk_sub (Nat.le_refl _), Nat.sub_self, if_pos (by decide)]
    · rw [if_neg (fun h => by have h := Int32.le_iff_toInt_le.mp h; omega)]
      apply Int32.toInt_inj.mp
      rw [Int32.toInt_sub, ht, nI_toInt (by omega), h0, Int.bmod_eq_of_le (by omega) (by omega)]
      omega
  · rw [if_neg e, pk_sub (by omega), if_pos (nI_pos' (by omega))]
def evV (W : Wt) (n j : Nat) : Nat := dN (sm (wl W) n) (2 * smB (wl W) (2 * j) n)
theorem dN_comm (a b : Nat) : dN a b = dN b a := by unfold dN; split <;> split <;> omega
theorem lsF_n {f : Nat → Nat} {k : Nat} (h : lsF f k = none) : lsF f (k + 1) = some (k, f k) := by rw [lsF_s, h]
theorem lsF_i {f : Nat → Nat} {k : Nat} {b : Nat × Nat} (h : lsF f k = some b) : lsF f (k + 1) = if f k < b.2 then some (k, f k) else some b := by rw [lsF_s, h]
theorem lsF_ex (f : Nat → Nat) (k : Nat) : ∃ q, lsF f (k + 1) = some q := by
  cases h : lsF f k with
  | none => exact ⟨_, lsF_n h⟩
  | some b =>
    rw [lsF_i h]
    by_cases e : f k < b.2
    · rw [if_pos e]; exact ⟨_, rfl⟩
    · rw [if_neg e]; exact ⟨_, rfl⟩
def evB (b : Option (Nat × Nat)) : Int32 := match b with
  | none => 0
  | some q => nI (2 * q.1)
theorem op_evens {u c : Nat} {s : Sg} {A : AS} (hu : 20000 ≤ u) (hX : XI A s) (hM : MI u A s) (hG : GI c A) : Bth u c s (X_evens u s) (fun t => M_evens u t) := by
  have h6 := hG.1.1
  have h64 := two6 hG.1.1
  have h1 := Nat.one_le_two_pow (n := gn (aG A))
  have htot := sm600 hG.1 hG.2.1
  have hsm := fun o => smB594 hG.1 hG.2.1 o
  have hev : ∀ j, evV (aW A) (gn (aG A)) j ≤ 1188 := fun j => by
    have := hsm (2 * j)
    unfold evV dN
    split <;> omega
  obtain ⟨b, hb⟩ := lsF_ex (evV (aW A) (gn (aG A))) ((2 ^ gn (aG A) - 1) / 2)
  have hbl := lsF_lt _ _ b hb
  refine both_row (nI b.2) [(nI (2 * b.1)).toInt64] hX hM hG ?_ (fun t ht => ?_)
  · unfold X_evens
    refine loop_i (W := fun f j (_ : Unit) => Tp (X_evens_8 u f s (evB (lsF (evV (aW A) (gn (aG A))) j)) (crL (lsF (evV (aW A) (gn (aG A))) j)) (nI (2 * j))) _)
      (I := fun j _ => True) ((2 ^ gn (aG A) - 1) / 2 + 1) ?_ ?_ u 0 () (by omega) (by omega) trivial
    · intro f _ _
      rw [X_evens_8_s]
      unfold X_evens_8b
      rw [X_all_ok hG.1 hX.1.2.1, bd_some, if_pos (nI_lt (by omega) (by omega)), lt_e, hb]
      exact TtP (X_tell' _ ((Fr.refl _ _).pI (by omega)) XRow_0 (Nat.le_of_ble_eq_true rfl)) (fun t2 h2 => Tp_some ⟨rfl, h2.1, h2.2.1⟩)
    · intro f j _ hj _ ih
      have ih := ih () trivial
      have hvj := hev j
      have hsj := hsm (2 * j)
      rw [X_evens_8_s]
      unfold X_evens_8b X_evens_55
      have e2 : nI (2 * j) + 2 = nI (2 * (j + 1)) := nI_add (2 * j) 2
      rw [X_all_ok hG.1 hX.1.2.1, bd_some, if_neg (nI_nlt (by omega) (by omega)), X_water_ok hu hG.1 hX.1.2.1 (by omega) hX.2.1, bd_some, X_sumOf_ok hu hG.1 hX.1.2.1 (by decide) (by decide) (by decide) (by omega) hX.2.1.1, bd_some, mu_2, ab_sub (by omega) (by omega), e2]
      simp only [lt_e]
      rw [show dN (sm (wl (aW A)) (gn (aG A))) (2 * smB (wl (aW A)) (2 * j) (gn (aG A))) = evV (aW A) (gn (aG A)) j from rfl]
      cases hc : lsF (evV (aW A) (gn (aG A))) j with
      | none =>
        rw [lsF_n hc] at ih
        rw [show crL none = nI 1000000 from rfl, if_neg (nI_ge (by omega) (by omega)), nI_mi (by omega) (by omega), Nat.min_eq_right (by omega)]
        exact ih
      | some q =>
        have hq2 : q.2 ≤ 1188 := by rw [(lsF_lt _ _ q hc).2]; exact hev _
        rw [lsF_i hc] at ih
        rw [show crL (some q) = nI q.2 from rfl, nI_mi (by omega) (by omega)]
        by_cases e : evV (aW A) (gn (aG A)) j < q.2
        · rw [if_pos e] at ih
          rw [if_neg (nI_ge e (by omega)), Nat.min_eq_right (by omega)]
          exact ih
        · rw [if_neg e] at ih
          rw [if_pos (nI_le (by omega) (by omega)), Nat.min_eq_left (by omega)]
          exact ih
  · unfold M_evens
    have hle : ∀ t', Fr dMr t t' → ∀ o, o < 2 ^ 31 → M_levelOf u t' 46 (nI o) = some (nI (smB (wl (aW A)) o (gn (aG A)))) := fun t' hF o ho => M_levelOf_ok hu hG.1 hG.2.1 (M_env ht hF).1.1.1 (by omega) (M_env ht hF).2 ho
    rw [lt_e, M_water_ok hu hG.1 (M_env ht M_th).1.1.1 (by omega) (M_env ht M_th).2, bd_some]
    refine loop_i (W := fun f j (_ : Unit) => Tp (M_evens_19 u f (pI t 45 9 0) (nI (sm (wl (aW A)) (gn (aG A)))) (evB (lsF (evV (aW A) (gn (aG A))) (j + 1))) (nI (2 * (j + 1)))) _)
      (I := fun j _ => True) ((2 ^ gn (aG A) - 1) / 2) ?_ ?_ u 0 () (by omega) (by omega) trivial
    · intro f _ _
      rw [M_evens_19_s]
      unfold M_evens_19b
      have hF0 : Fr dMr t (pI (pI t 45 9 0) 45 8 0) := Fr.pI M_th (by omega)
      rw [M_all_ok hG.1 (M_env ht M_th).1.1.1, bd_some, if_pos (nI_lt (by omega) (by omega)), lt_e, hb]
      refine TtP (M_tell' _ hF0 MRw_0 (Nat.le_of_ble_eq_true rfl)) (fun t2 h2 => ?_)
      show Tp ((M_levelOf u t2 46 (nI (2 * b.1))).bind _) _
      have hs := hsm (2 * b.1)
      rw [hle t2 h2.1 _ (by omega), bd_some, mu_2, ab_sub (by omega) (by omega), dN_comm]
      refine Tp_some ⟨?_, h2.1, h2.2.1⟩
      rw [hbl.2]
      rfl
    · intro f j _ hj _ ih
      have ih := ih () trivial
      obtain ⟨q, hq⟩ := lsF_ex (evV (aW A) (gn (aG A))) j
      have hql := lsF_lt _ _ q hq
      have hvj := hev (j + 1)
      have hq2 : q.2 ≤ 1188 := by rw [hql.2]; exact hev _
      have hs1 := hsm (2 * (j + 1))
      have hs2 := hsm (2 * q.1)
      rw [lsF_i hq] at ih
      rw [M_evens_19_s]
      unfold M_evens_19b
      rw [hq]
      show Tp ((M_all _).bind fun v1 => if v1 < _ then _ else ((M_levelOf u (pI t 45 9 0) 46 (nI (2 * (j + 1)))).bind fun v5 => (M_levelOf u (pI t 45 9 0) 46 (nI (2 * q.1))).bind fun v6 => _)) _
      have e2 : nI (2 * (j + 1)) + 2 = nI (2 * (j + 1 + 1)) := nI_add (2 * (j + 1)) 2
      rw [M_all_ok hG.1 (M_env ht M_th).1.1.1, bd_some, if_neg (nI_nlt (by omega) (by omega)), hle _ M_th _ (by omega), bd_some, hle _ M_th _ (by omega), bd_some, mu_2, mu_2, ab_sub (by omega) (by omega), ab_sub (by omega) (by omega), dN_comm, dN_comm (2 * smB (wl (aW A)) (2 * (j + 1)) (gn (aG A))), e2]
      rw [show dN (sm (wl (aW A)) (gn (aG A))) (2 * smB (wl (aW A)) (2 * (j + 1)) (gn (aG A))) = evV (aW A) (gn (aG A)) (j + 1) from rfl, show dN (sm (wl (aW A)) (gn (aG A))) (2 * smB (wl (aW A)) (2 * q.1) (gn (aG A))) = evV (aW A) (gn (aG A)) q.1 from rfl, ← hql.2]
      by_cases e : evV (aW A) (gn (aG A)) (j + 1) < q.2
      · rw [if_pos e] at ih
        rw [if_neg (nI_ge e (by omega))]
        exact ih
      · rw [if_neg e] at ih
        rw [if_pos (nI_le (by omega) (by omega))]
        exact ih
