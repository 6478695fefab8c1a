/-! LAW: fills, crosses -/
set_option maxRecDepth 100000
/-! ### fills -/
def oF (b : Option (Nat × Nat)) : Int32 := match b with
  | none => -1
  | some q => nI q.1
def oS (b : Option (Nat × Nat)) : Int32 := match b with
  | none => -1
  | some q => nI q.2
def bsQ (f : Nat → Nat) (k : Nat) (b : Option (Nat × Nat)) : Bool := match b with
  | none => true
  | some q => decide (q.2 < f k)
/-- the first best of those that are asked for -/
def bsF (p : Nat → Bool) (f : Nat → Nat) : Nat → Option (Nat × Nat)
  | 0 => none
  | k + 1 => if p k && bsQ f k (bsF p f k) then some (k, f k) else bsF p f k
theorem bsF_s (p : Nat → Bool) (f : Nat → Nat) (k : Nat) : bsF p f (k + 1) = if p k && bsQ f k (bsF p f k) then some (k, f k) else bsF p f k := rfl
theorem bsF_lt (p : Nat → Bool) (f : Nat → Nat) (k : Nat) (q : Nat × Nat) (h : bsF p f k = some q) : q.1 < k ∧ q.2 = f q.1 := by
  induction k with
  | zero => cases h
  | succ k ih =>
    rw [bsF_s] at h
    by_cases hc : (p k && bsQ f k (bsF p f k)) = true
    · rw [if_pos hc] at h
      cases h
      exact ⟨by show k < k + 1; omega, rfl⟩
    · rw [if_neg hc] at h
      have := ih h
      exact ⟨by omega, this.2⟩
theorem sm600 {g : Geo} {W : Wt} (hg : GoodG g) (h : GoodW g W) : sm (wl W) (gn g) ≤ 594 := by
  have h6 := hg.1
  have h1 := sm_le (f := wl W) (n := gn g) (c := 99) (fun k hk => lev99 hg h hk)
  omega
def flP (q : Nat) (k : Nat) : Bool := decide (pop k = q)
def flV (g : Geo) (ru : Ru) (W : Wt) (m k : Nat) : Nat := sm (wl (tcN g ru m W (wo W ^^^ k))) (gn g)
theorem op_fills {u c : Nat} {s : Sg} {A : AS} (hu : 20000 ≤ u) (hX : XI A s) (hM : MI u A s) (hG : GI c A) (x y : Int32) : Bth u c s (X_fills u s x y) (fun t => M_fills u t x y) := by
  have h6 := hG.1.1
  have h64 := two6 hG.1.1
  have h1 := Nat.one_le_two_pow (n := gn (aG A))
  have ho := hG.2.1.2.1
  rcases in_or2 x 0 6 (by omega) (by omega) with ⟨q, hq0, hq, e⟩ | hno
  rotate_left
  · refine both_no (-1) hX hM hG ?_ (fun t ht => ?_)
    · unfold X_fills
      rw [Xin_0_6, gd_e, if_neg hno]
    · unfold M_fills
      rw [lt_e, Min_0_6, gd_e, if_neg hno] <;> rfl
  subst e
  rcases in_or2 y 0 40 (by omega) (by omega) with ⟨m, hm0, hm, e⟩ | hno
  rotate_left
  · refine both_no (-1) hX hM hG ?_ (fun t ht => ?_)
    · unfold X_fills
      rw [Xin_0_6, gd_e, if_pos (in_yes2 hq0 hq (by omega)), Xin_0_40, gd_e, if_neg hno]
    · unfold M_fills
      rw [lt_e, Min_0_6, gd_e, if_pos (in_yes2 hq0 hq (by omega)), Min_0_40, gd_e, if_neg hno] <;> rfl
  subst e
  have hxl : ∀ k, k < 2 ^ gn (aG A) → wo (aW A) ^^^ k < 2 ^ gn (aG A) := fun k hk => Nat.xor_lt_two_pow ho hk
  refine both_row (match bsF (flP q) (flV (aG A) (aRu A) (aW A) m) (2 ^ gn (aG A)) with | none => -2 | some b => nI b.2) (match bsF (flP q) (flV (aG A) (aRu A) (aW A) m) (2 ^ gn (aG A)) with | none => aRow A | some b => [(nI b.1).toInt64]) hX hM hG ?_ (fun t ht => ?_)
  · unfold X_fills
    rw [Xin_0_6, gd_e, if_pos (in_yes2 hq0 hq (by omega)), Xin_0_40, gd_e, if_pos (in_yes2 hm0 hm (by omega))]
    refine loop_i (W := fun f j t' => Tp (X_fills_34 u f t' (nI q) (nI m) (oF (bsF (flP q) (flV (aG A) (aRu A) (aW A) m) j)) (oS (bsF (flP q) (flV (aG A) (aRu A) (aW A) m) j)) (nI j)) _)
      (I := fun j t' => Fr dSX s t') (2 ^ gn (aG A)) ?_ ?_ u 0 s (by omega) (by omega) (Fr.refl _ _)
    · intro f t' hS
      have hF : Fr dXr s t' := hS.mono (fun i k => dSX_Xr)
      rw [X_fills_34_s]
      unfold X_fills_34b
      rw [X_all_ok hG.1 (X_env hX hF).1.2.1, bd_some, if_pos (nI_lt (by omega) (by omega))]
      cases hb : bsF (flP q) (flV (aG A) (aRu A) (aW A) m) (2 ^ gn (aG A)) with
      | none =>
        rw [if_neg (by decide)]
        exact Tp_some ⟨rfl, hF, hX.2.2.1.mv (hS.I (by omega)) (fun k => hS.J (by omega))⟩
      | some b =>
        have hlt := (bsF_lt _ _ _ b hb).1
        show Tp (if 0 ≤ nI b.1 then _ else _) _
        rw [if_pos (nI_pos' (by omega)), lt_e]
        exact TtP (X_tell' _ (hF.pI (by omega)) XRow_0 (Nat.le_of_ble_eq_true rfl)) (fun t2 h2 => Tp_some ⟨rfl, h2.1, h2.2.1⟩)
    · intro f j t' hj hS ih
      have hF : Fr dXr s t' := hS.mono (fun i k => dSX_Xr)
      have hpj := pop_le j
      have hs := bsF_s (flP q) (flV (aG A) (aRu A) (aW A) m) j
      rw [X_fills_34_s]
      unfold X_fills_34b
      rw [X_all_ok hG.1 (X_env hX hF).1.2.1, bd_some, if_neg (nI_nlt (by omega) (by omega)), pop_b j (by omega), bd_some, nI_1]
      by_cases e : pop j = q
      · rw [if_pos (by rw [e])]
        rw [show flP q j = true from decide_eq_true e, Bool.true_and] at hs
        have e4 : gI t' 1 4 = nI (wo (aW A)) := (X_env hX hF).2.2.2.2.2.1
        rw [e4, nI_xor (by omega) (by omega)]
        refine TtP (X_touched hu hX hG hF (hxl j hj) (by omega)) (fun t2 h2 => ?_)
        have hg := tcN_good (ru := aRu A) (m := m) hG.2.1 (hxl j hj)
        have hw : flV (aG A) (aRu A) (aW A) m j ≤ 594 := sm600 hG.1 hg
        have eW : X_water u t2 6 = some (nI (flV (aG A) (aRu A) (aW A) m j)) := X_water_ok hu hG.1 (X_env hX h2.1).1.2.1 (by omega) h2.2.1
        have ih := ih t2 (hS.trans h2.2.2)
        unfold X_fills_89
        simp only [eW, bd_some, lt_e, nI_1]
        cases hb : bsF (flP q) (flV (aG A) (aRu A) (aW A) m) j with
        | none =>
          rw [hb] at hs
          rw [if_pos (show bsQ (flV (aG A) (aRu A) (aW A) m) j none = true from rfl)] at hs
          rw [hs] at ih
          have hx : mx (-1) (nI (flV (aG A) (aRu A) (aW A) m j)) = nI (flV (aG A) (aRu A) (aW A) m j) := if_pos (Int32.lt_iff_toInt_lt.mpr (by
            rw [nI_toInt (by omega)]
            have : (-1 : Int32).toInt = -1 := by decide
            omega))
          have hn : ¬ nI (flV (aG A) (aRu A) (aW A) m j) ≤ -1 := fun h => by
            have h := Int32.le_iff_toInt_le.mp h
            rw [nI_toInt (by omega)] at h
            have : (-1 : Int32).toInt = -1 := by decide
            omega
          show Tp (if _ ≤ (-1 : Int32) then _ else _) _
          rw [if_neg hn]
          show Tp (X_fills_34 u f t2 (nI q) (nI m) (nI j) (mx (-1) _) _) _
          rw [hx]
          exact ih
        | some b =>
          have hb2 := (bsF_lt _ _ _ b hb)
          have hb9 : b.2 ≤ 594 := by
            rw [hb2.2]
            exact sm600 hG.1 (tcN_good (ru := aRu A) (m := m) hG.2.1 (hxl b.1 (by omega)))
          rw [hb] at hs
          show Tp (if _ ≤ nI b.2 then (X_fills_34 u f t2 (nI q) (nI m) (nI b.1) (mx (nI b.2) _) _) else (X_fills_34 u f t2 (nI q) (nI m) (nI j) (mx (nI b.2) _) _)) _
          rw [nI_mx (by omega) (by omega)]
          by_cases e2 : b.2 < flV (aG A) (aRu A) (aW A) m j
          · rw [if_pos (show bsQ (flV (aG A) (aRu A) (aW A) m) j (some b) = true from decide_eq_true e2)] at hs
            rw [hs] at ih
            rw [if_neg (nI_ge e2 (by omega)), Nat.max_eq_right (by omega)]
            exact ih
          · rw [if_neg (by rw [show bsQ (flV (aG A) (aRu A) (aW A) m) j (some b) = false from decide_eq_false e2]; decide)] at hs
            rw [hs] at ih
            rw [if_pos (nI_le (by omega) (by omega)), Nat.max_eq_left (by omega)]
            exact ih
      · rw [if_neg (fun h => e ((nI_eq (by omega) (by omega)).mp h))]
        rw [show flP q j = false from decide_eq_false e, Bool.false_and] at hs
        simp only [Bool.false_eq_true, if_false] at hs
        have ih := ih t' hS
        rw [hs] at ih
        exact ih
  · unfold M_fills
    rw [lt_e, Min_0_6, gd_e, if_pos (in_yes2 hq0 hq (by omega)), Min_0_40, gd_e, if_pos (in_yes2 hm0 hm (by omega))]
    refine loop_i (W := fun f j t' => Tp (M_fills_35 u f t' (nI q) (nI m) (oF (bsF (flP q) (flV (aG A) (aRu A) (aW A) m) j)) (oS (bsF (flP q) (flV (aG A) (aRu A) (aW A) m) j)) (nI j)) _)
      (I := fun j t' => Fr dSM t t') (2 ^ gn (aG A)) ?_ ?_ u 0 _ (by omega) (by omega) ((Fr.refl _ _).pI (by omega))
    · intro f t' hS
      have hF : Fr dMr t t' := hS.mono (fun i k => dSM_Mr)
      rw [M_fills_35_s]
      unfold M_fills_35b
      rw [M_all_ok hG.1 (M_env ht hF).1.1.1, bd_some, if_pos (nI_lt (by omega) (by omega))]
      cases hb : bsF (flP q) (flV (aG A) (aRu A) (aW A) m) (2 ^ gn (aG A)) with
      | none =>
        rw [if_pos (show oF none = -1 from rfl)]
        exact Tp_some ⟨rfl, hF, ht.2.2.1.mv (hS.I (by omega)) (fun k => hS.J (by omega))⟩
      | some b =>
        have hlt := (bsF_lt _ _ _ b hb).1
        show Tp (if nI b.1 = -1 then _ else _) _
        rw [if_neg (m1_lt (by omega)), lt_e]
        exact TtP (M_tell' _ (hF.pI (by omega)) MRw_0 (Nat.le_of_ble_eq_true rfl)) (fun t2 h2 => Tp_some ⟨rfl, h2.1, h2.2.1⟩)
    · intro f j t' hj hS ih
      have hF : Fr dMr t t' := hS.mono (fun i k => dSM_Mr)
      have hpj := pop_le j
      have hs := bsF_s (flP q) (flV (aG A) (aRu A) (aW A) m) j
      rw [M_fills_35_s]
      unfold M_fills_35b
      rw [M_all_ok hG.1 (M_env ht hF).1.1.1, bd_some, if_neg (nI_nlt (by omega) (by omega)), pop_b j (by omega), bd_some, nI_1]
      by_cases e : pop j = q
      · rw [if_pos (by rw [e])]
        rw [show flP q j = true from decide_eq_true e, Bool.true_and] at hs
        have hout : M_outOnes u t' 46 = some (nI (wo (aW A))) := M_outOnes_ok hu (M_env ht hF).1.1.1.1 h6 (by decide) rfl ho (MW_row (M_env ht hF).2).2.1
        rw [hout, bd_some, nI_xor (by omega) (by omega), Nat.xor_comm j]
        refine TtP (M_touched hu ht hG hF (hxl j hj) (by omega)) (fun t2 h2 => ?_)
        have hg := tcN_good (ru := aRu A) (m := m) hG.2.1 (hxl j hj)
        have hw : flV (aG A) (aRu A) (aW A) m j ≤ 594 := sm600 hG.1 hg
        have eW : M_sumOf u t2 58 0 = some (nI (flV (aG A) (aRu A) (aW A) m j)) := M_water_ok hu hG.1 (M_env ht h2.1).1.1.1 (by omega) h2.2.1
        have ih := ih t2 (hS.trans h2.2.2)
        simp only [eW, bd_some]
        cases hb : bsF (flP q) (flV (aG A) (aRu A) (aW A) m) j with
        | none =>
          rw [hb] at hs
          rw [if_pos (show bsQ (flV (aG A) (aRu A) (aW A) m) j none = true from rfl)] at hs
          rw [hs] at ih
          have hn : (-1 : Int32) < nI (flV (aG A) (aRu A) (aW A) m j) := Int32.lt_iff_toInt_lt.mpr (by
            rw [nI_toInt (by omega)]
            have : (-1 : Int32).toInt = -1 := by decide
            omega)
          show Tp (if (-1 : Int32) < _ then _ else _) _
          rw [if_pos hn]
          exact ih
        | some b =>
          have hb2 := (bsF_lt _ _ _ b hb)
          have hb9 : b.2 ≤ 594 := by
            rw [hb2.2]
            exact sm600 hG.1 (tcN_good (ru := aRu A) (m := m) hG.2.1 (hxl b.1 (by omega)))
          rw [hb] at hs
          show Tp (if nI b.2 < _ then _ else (M_fills_35 u f t2 (nI q) (nI m) (nI b.1) (nI b.2) _)) _
          by_cases e2 : b.2 < flV (aG A) (aRu A) (aW A) m j
          · rw [if_pos (show bsQ (flV (aG A) (aRu A) (aW A) m) j (some b) = true from decide_eq_true e2)] at hs
            rw [hs] at ih
            rw [if_pos (nI_lt e2 (by omega))]
            exact ih
          · rw [if_neg (by rw [show bsQ (flV (aG A) (aRu A) (aW A) m) j (some b) = false from decide_eq_false e2]; decide)] at hs
            rw [hs] at ih
            rw [if_neg (nI_nlt (by omega) (by omega))]
            exact ih
      · rw [if_neg (fun h => e ((nI_eq (by omega) (by omega)).mp h))]
        rw [show flP q j = false from decide_eq_false e, Bool.false_and] at hs
        simp only [Bool.false_eq_true, if_false] at hs
        have ih := ih t' hS
        rw [hs] at ih
        exact ih
/-! ### crosses -/
def crW (W : Wt) (k : Nat) : Wt := if bt (wo W) k = 1 then wH' W k 0 else wO' W (wo W ||| 2 ^ k)
def crV (g : Geo) (ru : Ru) (W : Wt) (m k : Nat) : Nat := sm (wl (dyN g ru m (crW W k))) (gn g)
/-- the first least -/
def lsF (f : Nat → Nat) : Nat → Option (Nat × Nat)
  | 0 => none
  | k + 1 => match lsF f k with
    | none => some (k, f k)
    | some q => if f k < q.2 then some (k, f k) else some q
theorem lsF_s (f : Nat → Nat) (k : Nat) : lsF f (k + 1) = match lsF f k with
    | none => some (k, f k)
    | some q => if f k < q.2 then some (k, f k) else some q := rfl
theorem lsF_lt (f : Nat → Nat) (k : Nat) (q : Nat × Nat) (h : lsF f k = some q) : q.1 < k ∧ q.2 = f q.1 := by
  induction k with
  | zero => cases h
  | succ k ih =>
    rw [lsF_s] at h
    cases hb : lsF f k with
    | none =>
      rw [hb] at h
      cases h
      exact ⟨Nat.lt_succ_self _, rfl⟩
    | some b =>
      rw [hb] at h
      dsimp only at h
      by_cases e : f k < b.2
      · rw [if_pos e] at h
        cases h
        exact ⟨Nat.lt_succ_self _, rfl⟩
      · rw [if_neg e] at h
        cases h
        have := ih hb
        exact ⟨by omega, this.2⟩
theorem crW_good {g : Geo} {W : Wt} {k : Nat} (h : GoodW g W) (hk : k < gn g) : GoodW g (crW W k) := by
  unfold crW
  split
  · exact h.hair (by omega)
  · exact h.out (Nat.or_lt_two_pow h.2.1 (Nat.pow_lt_pow_right (by omega) hk))
def crA (b : Option (Nat × Nat)) : Int32 := match b with
  | none => -2
  | some q => nI q.1
def crM (a : Nat) (b : Option (Nat × Nat)) : Int32 := match b with
  | none => -1000000
  | some q => nI a - nI q.2
def crL (b : Option (Nat × Nat)) : Int32 := match b with
  | none => 1000000
  | some q => nI q.2
theorem tcN_0 (g : Geo) (ru : Ru) (m : Nat) (W : Wt) : tcN g ru m W 0 = dyN g ru m W := by
  unfold tcN tcW
  rw [Nat.xor_zero]
  rfl
theorem bt_or_pow (a j k : Nat) : bt (a ||| 2 ^ j) k = upN (bt a) j 1 k := by
  have h1 := bt_lt a k
  by_cases q : k = j
  · subst q
    rw [upN_s, bt_or, bt_pow, if_pos (Or.inr (if_pos rfl))]
  · have e : bt (2 ^ j) k = 0 := by rw [bt_pow, if_neg (fun h => q h.symm)]
    rw [upN_n q, bt_or, e]
    by_cases q2 : bt a k = 1
    · rw [if_pos (Or.inl q2), q2]
    · rw [if_neg (by omega)]
      omega
theorem bt_xor_pow (a j k : Nat) : bt (a ^^^ 2 ^ j) k = upN (bt a) j (1 - bt a j) k := by
  by_cases q : k = j
  · subst q
    rw [upN_s, bt_xor, bt_pow, if_pos rfl, if_pos rfl]
  · have e : bt (2 ^ j) k = 0 := by rw [bt_pow, if_neg (fun h => q h.symm)]
    rw [upN_n q, bt_xor, e, if_neg (by decide)]
theorem or_bit {a k : Nat} (h : bt a k = 1) : a ||| 2 ^ k = a := bt_ext (fun j => by
  rw [bt_or, bt_pow]
  have := bt_lt a j
  by_cases e : k = j
  · subst e
    rw [if_pos (Or.inl h), h]
  · rw [if_neg e]
    by_cases e2 : bt a j = 1
    · rw [if_pos (Or.inl e2), e2]
    · rw [if_neg (by omega)]
      omega)
theorem op_crosses {u c : Nat} {s : Sg} {A : AS} (hu : 20000 ≤ u) (hX : XI A s) (hM : MI u A s) (hG : GI c A) (x : Int32) : Bth u c s (X_crosses u s x) (fun t => M_crosses u t x) := by
  have h6 := hG.1.1
  have h64 := two6 hG.1.1
  have ho := hG.2.1.2.1
  rcases in_or2 x 1 40 (by omega) (by omega) with ⟨m, hm0, hm, e⟩ | hno
  rotate_left
  · refine both_no (-1) hX hM hG ?_ (fun t ht => ?_)
    · unfold X_crosses
      rw [Xin_1_40, gd_e, if_neg hno]
    · unfold M_crosses
      rw [lt_e, Min_1_40, gd_e, if_neg hno] <;> rfl
  subst e
  have ha : sm (wl (dyN (aG A) (aRu A) m (aW A))) (gn (aG A)) ≤ 594 := sm600 hG.1 (dyN_good hG.2.1 m)
  have hcv : ∀ k, k < gn (aG A) → crV (aG A) (aRu A) (aW A) m k ≤ 594 := fun k hk => sm600 hG.1 (dyN_good (crW_good hG.2.1 hk) m)
  refine both_row (crA (lsF (crV (aG A) (aRu A) (aW A) m) (gn (aG A)))) (match lsF (crV (aG A) (aRu A) (aW A) m) (gn (aG A)) with | none => aRow A | some b => [((1000 : Int32) + (nI (sm (wl (dyN (aG A) (aRu A) m (aW A))) (gn (aG A))) - nI b.2)).toInt64]) hX hM hG ?_ (fun t ht => ?_)
  · unfold X_crosses
    rw [Xin_1_40, gd_e, if_pos (in_yes2 hm0 hm (by omega))]
    refine TtP (X_touched (b := 0) hu hX hG (Fr.refl _ _) (Nat.two_pow_pos _) (by omega)) (fun t1 h1 => ?_)
    rw [tcN_0] at h1
    rw [X_water_ok hu hG.1 (X_env hX h1.1).1.2.1 (by omega) h1.2.1, bd_some]
    refine loop_i (W := fun f j t' => Tp (X_crosses_40 u f t' (nI m) (nI (sm (wl (dyN (aG A) (aRu A) m (aW A))) (gn (aG A)))) (crA (lsF (crV (aG A) (aRu A) (aW A) m) j)) (crM (sm (wl (dyN (aG A) (aRu A) m (aW A))) (gn (aG A))) (lsF (crV (aG A) (aRu A) (aW A) m) j)) (nI j)) _)
      (I := fun j t' => Fr dSX s t') (gn (aG A)) ?_ ?_ u 0 t1 (by omega) (by omega) h1.2.2
    · intro f t' hS
      have hF : Fr dXr s t' := hS.mono (fun i k => dSX_Xr)
      rw [X_crosses_40_s]
      unfold X_crosses_40b
      rw [(X_env hX hF).1.2.1.1, if_pos (nI_le (Nat.le_refl _) (by omega))]
      cases hb : lsF (crV (aG A) (aRu A) (aW A) m) (gn (aG A)) with
      | none =>
        rw [if_neg (by decide)]
        exact Tp_some ⟨rfl, hF, hX.2.2.1.mv (hS.I (by omega)) (fun k => hS.J (by omega))⟩
      | some b =>
        have hlt := (lsF_lt _ _ b hb).1
        show Tp (if 0 ≤ nI b.1 then _ else _) _
        rw [if_pos (nI_pos' (by omega)), lt_e]
        exact TtP (X_tell' _ (hF.pI (by omega)) XRow_0 (Nat.le_of_ble_eq_true rfl)) (fun t2 h2 => Tp_some ⟨rfl, h2.1, h2.2.1⟩)
    · intro f j t' hj hS ih
      have hF : Fr dXr s t' := hS.mono (fun i k => dSX_Xr)
      have hs := lsF_s (crV (aG A) (aRu A) (aW A) m) j
      have hbt := bt_lt (wo (aW A)) j
      have hcj := hcv j hj
      have hpj : 2 ^ j < 2 ^ gn (aG A) := Nat.pow_lt_pow_right (by omega) hj
      rw [X_crosses_40_s]
      unfold X_crosses_40b
      rw [(X_env hX hF).1.2.1.1, if_neg (nI_ge hj (by omega))]
      refine TtP (X_try' hX hG hF) (fun t2 h2 => ?_)
      have e4 : gI t2 1 4 = nI (wo (aW A)) := (X_env hX h2.1).2.2.2.2.2.1
      -- behind the plug
      have hgo : ∀ t3, Fr dXr s t3 → Fr dSX s t3 → gI t3 6 4 = nI (wo (aW A)) → XW (gn (aG A)) (pI t3 6 4 (nI (wo (aW A) ||| 2 ^ j))) 6 (crW (aW A) j) → Tp (X_crosses_86 u (X_crosses_40 u f) t3 (nI m) (nI (sm (wl (dyN (aG A) (aRu A) m (aW A))) (gn (aG A)))) (crA (lsF (crV (aG A) (aRu A) (aW A) m) j)) (crM (sm (wl (dyN (aG A) (aRu A) m (aW A))) (gn (aG A))) (lsF (crV (aG A) (aRu A) (aW A) m) j)) (nI j)) (fun v t => v = crA (lsF (crV (aG A) (aRu A) (aW A) m) (gn (aG A))) ∧ Fr dXr s t ∧ XRow (match lsF (crV (aG A) (aRu A) (aW A) m) (gn (aG A)) with | none => aRow A | some b => [((1000 : Int32) + (nI (sm (wl (dyN (aG A) (aRu A) m (aW A))) (gn (aG A))) - nI b.2)).toInt64]) t) := by
        intro t3 hF3 hS3 e64 hW3
        unfold X_crosses_86
        rw [lt_e, e64, nI_shl1 (by omega), nI_or (by omega) (by omega)]
        refine TtP (X_tdays hu hX hG (hF3.pI (by omega)) hW3 (crW_good hG.2.1 hj) (by omega)) (fun t4 h4 => ?_)
        have eW : X_water u t4 6 = some (nI (crV (aG A) (aRu A) (aW A) m j)) := X_water_ok hu hG.1 (X_env hX h4.1).1.2.1 (by omega) h4.2.1
        have ih := ih t4 ((hS3.pI (by omega)).trans h4.2.2)
        unfold X_crosses_136
        simp only [eW, bd_some, lt_e, nI_1]
        have hti := pk_sub_toInt (a := sm (wl (dyN (aG A) (aRu A) m (aW A))) (gn (aG A))) (b := crV (aG A) (aRu A) (aW A) m j) (by omega) (by omega)
        cases hb : lsF (crV (aG A) (aRu A) (aW A) m) j with
        | none =>
          rw [hb] at hs
          dsimp only at hs
          rw [hs] at ih
          have hm1 : (-1000000 : Int32).toInt = -1000000 := by decide
          have hn : ¬ (nI (sm (wl (dyN (aG A) (aRu A) m (aW A))) (gn (aG A))) - nI (crV (aG A) (aRu A) (aW A) m j)) ≤ crM (sm (wl (dyN (aG A) (aRu A) m (aW A))) (gn (aG A))) none := fun h => by
            have h := Int32.le_iff_toInt_le.mp h
            rw [hti] at h
            have h : _ ≤ (-1000000 : Int32).toInt := h
            omega
          have hx : mx (crM (sm (wl (dyN (aG A) (aRu A) m (aW A))) (gn (aG A))) none) (nI (sm (wl (dyN (aG A) (aRu A) m (aW A))) (gn (aG A))) - nI (crV (aG A) (aRu A) (aW A) m j)) = nI (sm (wl (dyN (aG A) (aRu A) m (aW A))) (gn (aG A))) - nI (crV (aG A) (aRu A) (aW A) m j) := if_pos (Int32.lt_iff_toInt_lt.mpr (by
            rw [hti]
            show (-1000000 : Int32).toInt < _
            omega))
          rw [if_neg hn, hx]
          exact ih
        | some b =>
          have hb2 := lsF_lt _ _ b hb
          have hb9 : b.2 ≤ 594 := by
            rw [hb2.2]
            exact hcv b.1 (by omega)
          have htb := pk_sub_toInt (a := sm (wl (dyN (aG A) (aRu A) m (aW A))) (gn (aG A))) (b := b.2) (by omega) (by omega)
          rw [hb] at hs
          dsimp only at hs
          by_cases e2 : crV (aG A) (aRu A) (aW A) m j < b.2
          · rw [if_pos e2] at hs
            rw [hs] at ih
            have hn : ¬ (nI (sm (wl (dyN (aG A) (aRu A) m (aW A))) (gn (aG A))) - nI (crV (aG A) (aRu A) (aW A) m j)) ≤ crM (sm (wl (dyN (aG A) (aRu A) m (aW A))) (gn (aG A))) (some b) := fun h => by
              have h := Int32.le_iff_toInt_le.mp h
              rw [hti] at h
              have h : _ ≤ (nI _ - nI b.2).toInt := h
              rw [htb] at h
              omega
            have hx : mx (crM (sm (wl (dyN (aG A) (aRu A) m (aW A))) (gn (aG A))) (some b)) (nI (sm (wl (dyN (aG A) (aRu A) m (aW A))) (gn (aG A))) - nI (crV (aG A) (aRu A) (aW A) m j)) = nI (sm (wl (dyN (aG A) (aRu A) m (aW A))) (gn (aG A))) - nI (crV (aG A) (aRu A) (aW A) m j) := if_pos (Int32.lt_iff_toInt_lt.mpr (by
              rw [hti]
              show (nI _ - nI b.2).toInt < _
              rw [htb]
              omega))
            rw [if_neg hn, hx]
            exact ih
          · rw [if_neg e2] at hs
            rw [hs] at ih
            have hn : (nI (sm (wl (dyN (aG A) (aRu A) m (aW A))) (gn (aG A))) - nI (crV (aG A) (aRu A) (aW A) m j)) ≤ crM (sm (wl (dyN (aG A) (aRu A) m (aW A))) (gn (aG A))) (some b) := Int32.le_iff_toInt_le.mpr (by
              rw [hti]
              show _ ≤ (nI _ - nI b.2).toInt
              rw [htb]
              omega)
            have hx : mx (crM (sm (wl (dyN (aG A) (aRu A) m (aW A))) (gn (aG A))) (some b)) (nI (sm (wl (dyN (aG A) (aRu A) m (aW A))) (gn (aG A))) - nI (crV (aG A) (aRu A) (aW A) m j)) = crM (sm (wl (dyN (aG A) (aRu A) m (aW A))) (gn (aG A))) (some b) := if_neg (fun h => by
              have h1 := Int32.lt_iff_toInt_lt.mp h
              have h2 := Int32.le_iff_toInt_le.mp hn
              omega)
            rw [if_pos hn, hx]
            exact ih
      rw [e4, X_has_n (by omega) (by omega), bd_some]
      by_cases e : bt (wo (aW A)) j = 1
      · have ew : crW (aW A) j = wH' (aW A) j 0 := if_pos e
        rw [e, if_neg (by decide), tI_n (by omega) (by omega), bd_some]
        refine hgo _ (h2.1.pI (by omega)) ((hS.trans h2.2.2).pI (by omega)) ((gI_pI_i (by decide)).trans h2.2.1.2.2.2.2.1) ?_
        rw [ew, or_bit e]
        exact (XW.setH (i := j) (v := 0) h2.2.1).setO (o := wo (aW A))
      · have e0 : bt (wo (aW A)) j = 0 := by omega
        have ew : crW (aW A) j = wO' (aW A) (wo (aW A) ||| 2 ^ j) := if_neg e
        rw [e0, if_pos nI_0]
        refine hgo _ h2.1 (hS.trans h2.2.2) h2.2.1.2.2.2.2.1 ?_
        rw [ew]
        exact h2.2.1.setO
  · unfold M_crosses
    have e1 : gI (pI t 45 9 0) 45 1 = nI (gn (aG A)) := (M_env ht M_th).1.1.1.1
    rw [lt_e, Min_1_40, gd_e, if_pos (in_yes2 hm0 hm (by omega)), e1]
    by_cases hz : gn (aG A) = 0
    · rw [hz, if_pos nI_0]
      exact Tp_some ⟨rfl, M_th, ht.2.2.1.mv (gI_pI_k (by omega)) (fun k => rfl)⟩
    rw [if_neg (nI_ne0 (by omega) (by omega))]
    have hcond : lsF (crV (aG A) (aRu A) (aW A) m) 0 = none := rfl
    have hoF : ∀ b : Option (Nat × Nat), oF b = match b with | none => -1 | some q => nI q.1 := fun b => rfl
    refine loop_i (W := fun f j t' => Tp (M_crosses_36 u f t' (nI m) (oF (lsF (crV (aG A) (aRu A) (aW A) m) j)) (crL (lsF (crV (aG A) (aRu A) (aW A) m) j)) (nI j)) _)
      (I := fun j t' => Fr dSM t t') (gn (aG A)) ?_ ?_ u 0 _ (by omega) (by omega) ((Fr.refl _ _).pI (by omega))
    · intro f t' hS
      have hF : Fr dMr t t' := hS.mono (fun i k => dSM_Mr)
      rw [M_crosses_36_s]
      unfold M_crosses_36b
      rw [(M_env ht hF).1.1.1.1, if_pos (nI_le (Nat.le_refl _) (by omega))]
      refine TtP (M_then hu ht hG hF (by omega)) (fun t2 h2 => ?_)
      have hF0 : Fr dMr t (pI t2 45 8 0) := h2.1.pI (by omega)
      rw [lt_e, M_water_ok hu hG.1 (M_env ht hF0).1.1.1 (by omega) (h2.2.r0 (by omega)), bd_some]
      cases hb : lsF (crV (aG A) (aRu A) (aW A) m) (gn (aG A)) with
      | none =>
        exfalso
        have e : gn (aG A) = (gn (aG A) - 1) + 1 := by omega
        rw [e, lsF_s] at hb
        cases hc : lsF (crV (aG A) (aRu A) (aW A) m) (gn (aG A) - 1) with
        | none => rw [hc] at hb; cases hb
        | some q =>
          rw [hc] at hb
          dsimp only at hb
          split at hb <;> cases hb
      | some b =>
        have eq : ((1000 : Int32) + nI (sm (wl (dyN (aG A) (aRu A) m (aW A))) (gn (aG A)))) - crL (some b) = (1000 : Int32) + (nI (sm (wl (dyN (aG A) (aRu A) m (aW A))) (gn (aG A))) - nI b.2) := by
          show (1000 : Int32) + _ - nI b.2 = _
          rw [Int32.sub_eq_add_neg, Int32.sub_eq_add_neg, Int32.add_assoc]
        rw [eq]
        exact TtP (M_tell' _ hF0 MRw_0 (Nat.le_of_ble_eq_true rfl)) (fun t3 h3 => Tp_some ⟨rfl, h3.1, h3.2.1⟩)
    · intro f j t' hj hS ih
      have hF : Fr dMr t t' := hS.mono (fun i k => dSM_Mr)
      have hs := lsF_s (crV (aG A) (aRu A) (aW A) m) j
      have hbt := bt_lt (wo (aW A)) j
      have hcj := hcv j hj
      rw [M_crosses_36_s]
      unfold M_crosses_36b
      rw [(M_env ht hF).1.1.1.1, if_neg (nI_ge hj (by omega))]
      refine TtP (M_try' hu ht hG hF) (fun t2 h2 => ?_)
      have hgo : ∀ t3, Fr dMr t t3 → Fr dSM t t3 → MW (gn (aG A)) t3 58 0 (crW (aW A) j) → Tp (M_crosses_95 u (M_crosses_36 u f) t3 (nI m) (oF (lsF (crV (aG A) (aRu A) (aW A) m) j)) (crL (lsF (crV (aG A) (aRu A) (aW A) m) j)) (nI j)) (fun v t' => v = crA (lsF (crV (aG A) (aRu A) (aW A) m) (gn (aG A))) ∧ Fr dMr t t' ∧ MRw (match lsF (crV (aG A) (aRu A) (aW A) m) (gn (aG A)) with | none => aRow A | some b => [((1000 : Int32) + (nI (sm (wl (dyN (aG A) (aRu A) m (aW A))) (gn (aG A))) - nI b.2)).toInt64]) t') := by
        intro t3 hF3 hS3 hW3
        unfold M_crosses_95
        refine TtP (M_tdays hu ht hG hF3 hW3 (crW_good hG.2.1 hj) (by omega)) (fun t4 h4 => ?_)
        have eW : M_sumOf u t4 58 0 = some (nI (crV (aG A) (aRu A) (aW A) m j)) := M_water_ok hu hG.1 (M_env ht h4.1).1.1.1 (by omega) h4.2.1
        have ih := ih t4 (hS3.trans h4.2.2)
        simp only [eW, bd_some, nI_1]
        cases hb : lsF (crV (aG A) (aRu A) (aW A) m) j with
        | none =>
          rw [hb] at hs
          dsimp only at hs
          rw [hs] at ih
          rw [show crL none = nI 1000000 from rfl, if_pos (nI_lt (by omega) (by omega))]
          exact ih
        | some b =>
          have hb2 := lsF_lt _ _ b hb
          have hb9 : b.2 ≤ 594 := by
            rw [hb2.2]
            exact hcv b.1 (by omega)
          rw [hb] at hs
          dsimp only at hs
          rw [show crL (some b) = nI b.2 from rfl]
          by_cases e2 : crV (aG A) (aRu A) (aW A) m j < b.2
          · rw [if_pos e2] at hs
            rw [hs] at ih
            rw [if_pos (nI_lt e2 (by omega))]
            exact ih
          · rw [if_neg e2] at hs
            rw [hs] at ih
            rw [if_neg (nI_nlt (by omega) (by omega))]
            exact ih
      rw [ad_6, ad_12, aI_n (by omega) (by omega), bd_some, (MW_row h2.2.1).2.1 j hj]
      by_cases e : bt (wo (aW A)) j = 1
      · have ew : crW (aW A) j = wH' (aW A) j 0 := if_pos e
        rw [e, if_neg (by decide), tI_n (by omega) (by omega), bd_some]
        refine hgo _ (h2.1.pI (by omega)) ((hS.trans h2.2.2).pI (by omega)) ?_
        rw [ew]
        exact MW.setH (v := 0) h6 hj h2.2.1
      · have e0 : bt (wo (aW A)) j = 0 := by omega
        have ew : crW (aW A) j = wO' (aW A) (wo (aW A) ||| 2 ^ j) := if_neg e
        rw [e0, if_pos nI_0, tI_n (by omega) (by omega), bd_some]
        refine hgo _ (h2.1.pI (by omega)) ((hS.trans h2.2.2).pI (by omega)) ?_
        rw [ew]
        refine MW.setO (v := 1) h6 hj h2.2.1 (fun k hk => ?_)
        exact bt_or_pow _ _ _
