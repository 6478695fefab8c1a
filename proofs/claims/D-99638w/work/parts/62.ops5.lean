/-! LAW: plugs touched: lets, just, fills, crosses -/
set_option maxRecDepth 100000
theorem bt_xor (a b k : Nat) : bt (a ^^^ b) k = if bt b k = 1 then 1 - bt a k else bt a k := by
  have h := Nat.testBit_xor a b k
  rw [bt_tb, bt_tb, bt_tb] at h
  have h1 := bt_lt (a ^^^ b) k
  have h2 := bt_lt a k
  have h3 := bt_lt b k
  by_cases ha : bt a k = 1 <;> by_cases hb : bt b k = 1 <;> simp [ha, hb] at h ⊢ <;> omega
theorem bt_mod (a j k : Nat) : bt (a % 2 ^ j) k = if k < j then bt a k else 0 := by
  have h := Nat.testBit_mod_two_pow a j k
  rw [bt_tb, bt_tb] at h
  have h1 := bt_lt (a % 2 ^ j) k
  have h2 := bt_lt a k
  by_cases ha : bt a k = 1 <;> by_cases hb : k < j <;> simp [ha, hb] at h ⊢ <;> omega
def tcW (W : Wt) (b : Nat) : Wt := wO' W (wo W ^^^ b)
theorem tcW_good {g : Geo} {W : Wt} {b : Nat} (h : GoodW g W) (hb : b < 2 ^ gn g) : GoodW g (tcW W b) := h.out (Nat.xor_lt_two_pow h.2.1 hb)
def tcN (g : Geo) (ru : Ru) (m : Nat) (W : Wt) (b : Nat) : Wt := dyN g ru m (tcW W b)
theorem tcN_good {g : Geo} {ru : Ru} {m : Nat} {W : Wt} {b : Nat} (h : GoodW g W) (hb : b < 2 ^ gn g) : GoodW g (tcN g ru m W b) := dyN_good (tcW_good h hb) m
theorem X_touched {u c : Nat} {s t : Sg} {A : AS} {b m : Nat} (hu : 20000 ≤ u) (hX : XI A s) (hG : GI c A) (f : Fr dXr s t) (hb : b < 2 ^ gn (aG A)) (hm : m ≤ 10000) : Tt (X_touchedGo u t (nI b) (nI m)) (fun t' => Fr dXr s t' ∧ XW (gn (aG A)) t' 6 (tcN (aG A) (aRu A) m (aW A) b) ∧ Fr dSX t t') := by
  have h64 := two6 hG.1.1
  have ho := hG.2.1.2.1
  unfold X_touchedGo
  refine TtT (X_try' hX hG f) (fun t1 h1 => ?_)
  have e : gI t1 6 4 = nI (wo (aW A)) := h1.2.1.2.2.2.2.1
  rw [lt_e, e, nI_xor (by omega) (by omega)]
  refine TtT (X_tdays hu hX hG (t := pI t1 6 4 _) (h1.1.pI (by omega)) h1.2.1.setO (tcW_good hG.2.1 hb) hm) (fun t2 h2 => Tt_some ⟨h2.1, h2.2.1, (h1.2.2.pI (by omega)).trans h2.2.2⟩)
theorem M_touched {u c : Nat} {s t : Sg} {A : AS} {b m : Nat} (hu : 20000 ≤ u) (hM : MI u A s) (hG : GI c A) (f : Fr dMr s t) (hb : b < 2 ^ gn (aG A)) (hm : m ≤ 10000) : Tt (M_goTouched u t (nI b) (nI m)) (fun t' => Fr dMr s t' ∧ MW (gn (aG A)) t' 58 0 (tcN (aG A) (aRu A) m (aW A) b) ∧ Fr dSM t t') := by
  have h6 := hG.1.1
  have h64 := two6 hG.1.1
  have ho := hG.2.1.2.1
  unfold M_goTouched
  refine TtT (M_try' hu hM hG f) (fun t1 h1 => ?_)
  refine loop_i (W := fun f j t' => Tt (M_goTouched_14 u f t' (nI b) (nI m) (nI j)) _)
    (I := fun j t' => Fr dMr s t' ∧ Fr dSM t t' ∧ MW (gn (aG A)) t' 58 0 (tcW (aW A) (b % 2 ^ j))) (gn (aG A)) ?_ ?_ u 0 t1 (by omega) (by omega) ⟨h1.1, h1.2.2, ?_⟩
  · intro f t' ⟨hF, hS, hW⟩
    rw [M_goTouched_14_s]
    unfold M_goTouched_14b
    rw [(M_env hM hF).1.1.1.1, if_pos (nI_le (Nat.le_refl _) (by omega))]
    rw [Nat.mod_eq_of_lt hb] at hW
    exact TtT (M_tdays hu hM hG hF hW (tcW_good hG.2.1 hb) hm) (fun t2 h2 => Tt_some ⟨h2.1, h2.2.1, hS.trans h2.2.2⟩)
  · intro f j t' hj ⟨hF, hS, hW⟩ ih
    rw [M_goTouched_14_s]
    unfold M_goTouched_14b
    have hbj := bt_lt b j
    rw [(M_env hM hF).1.1.1.1, if_neg (nI_ge hj (by omega)), M_has_n (by omega) (by omega), bd_some, nI_1]
    by_cases e : bt b j = 1
    · rw [e, if_neg (by decide), ad_6, aI_n (by omega) (by omega), bd_some, (MW_row hW).2.1 j hj, tI_n (by omega) (by omega), bd_some]
      have hx : wo (tcW (aW A) (b % 2 ^ j)) = wo (aW A) ^^^ (b % 2 ^ j) := rfl
      have hm0 : bt (b % 2 ^ j) j = 0 := by rw [bt_mod, if_neg (Nat.lt_irrefl _)]
      have hb0 : bt (wo (aW A) ^^^ (b % 2 ^ j)) j = bt (wo (aW A)) j := by rw [bt_xor, hm0, if_neg (by decide)]
      have hlt := bt_lt (wo (aW A)) j
      rw [hx, hb0, nI_lit1, pk_sub (by omega)]
      refine ih _ ⟨hF.pI (by omega), hS.pI (by omega), ?_⟩
      refine MW.setO (W := tcW (aW A) (b % 2 ^ j)) (o := wo (aW A) ^^^ (b % 2 ^ (j + 1))) h6 hj hW (fun k hk => ?_)
      rw [hx, bt_xor, bt_mod]
      by_cases q : k = j
      · subst q
        rw [upN_s, if_pos (Nat.lt_succ_self _), if_pos e]
      · rw [upN_n q, bt_xor, bt_mod]
        by_cases q2 : k < j
        · rw [if_pos (show k < j + 1 by omega), if_pos q2]
        · rw [if_neg (show ¬ k < j + 1 by omega), if_neg q2]
    · have e0 : bt b j = 0 := by omega
      rw [e0, if_pos nI_0]
      refine ih _ ⟨hF, hS, ?_⟩
      have hx : b % 2 ^ (j + 1) = b % 2 ^ j := by
        refine Nat.eq_of_testBit_eq (fun k => ?_)
        rw [bt_tb, bt_tb, bt_mod, bt_mod]
        by_cases q : k = j
        · subst q
          rw [if_pos (by omega), if_neg (by omega), e0]
        · by_cases q2 : k < j
          · rw [if_pos (show k < j + 1 by omega), if_pos q2]
          · rw [if_neg (show ¬ k < j + 1 by omega), if_neg q2]
      rw [hx]
      exact hW
  · have : tcW (aW A) (b % 2 ^ 0) = aW A := by
      unfold tcW
      rw [Nat.pow_zero, Nat.mod_one, Nat.xor_zero]
      rfl
    rw [this]
    exact h1.2.1
/-! ### the fewest plugs -/
def fwB (p : Nat → Bool) (k : Nat) (b : Option Nat) : Bool := match b with
  | none => p k
  | some q => decide (pop k < pop q) && p k
def fwF (p : Nat → Bool) : Nat → Option Nat
  | 0 => none
  | k + 1 => if fwB p k (fwF p k) then some k else fwF p k
theorem fwF_s (p : Nat → Bool) (k : Nat) : fwF p (k + 1) = if fwB p k (fwF p k) then some k else fwF p k := rfl
theorem fwF_lt (p : Nat → Bool) (k q : Nat) (h : fwF p k = some q) : q < k := by
  induction k with
  | zero => cases h
  | succ k ih =>
    rw [fwF_s] at h
    split at h
    · cases h
      omega
    · have := ih h
      omega
def fwA (b : Option Nat) : Int32 := match b with
  | none => -2
  | some q => nI (pop q)
def fwR (b : Option Nat) (r : List Int64) : List Int64 := match b with
  | none => r
  | some q => [(nI q).toInt64]
def fwQ (k : Nat) (b : Option Nat) : Int32 := match b with
  | none => 1
  | some q => if pop k < pop q then 1 else 0
theorem X_isFewer_ok {k : Nat} (hk : k < 64) (b : Option Nat) (hb : ∀ q, b = some q → q < 64) : X_isFewer (nI k) (oI b) = some (fwQ k b) := by
  unfold X_isFewer fwQ
  cases b with
  | none => rfl
  | some q =>
    have hq := hb q rfl
    have h1 := pop_le k
    have h2 := pop_le q
    show (if nI q < 0 then _ else _) = _
    rw [if_neg (nI_pos (by omega)), pop_b k hk, bd_some]
    show (J_bitCount (nI q)).bind _ = _
    rw [pop_b q hq, bd_some]
    dsimp only
    by_cases e : pop k < pop q
    · rw [if_neg (nI_ge e (by omega)), if_pos e]
    · rw [if_pos (nI_le (by omega) (by omega)), if_neg e]
theorem X_fewEnd {s t : Sg} {r : List Int64} (b : Option Nat) (hb : ∀ q, b = some q → q < 64) (hS : Fr dSX s t) (hr : XRow r s) : Tp (X_tellsFewest t (oI b)) (fun v t' => v = fwA b ∧ Fr dXr s t' ∧ XRow (fwR b r) t') := by
  have hF : Fr dXr s t := hS.mono (fun i k => dSX_Xr)
  unfold X_tellsFewest
  cases b with
  | none =>
    rw [if_neg (by decide)]
    exact Tp_some ⟨rfl, hF, hr.mv (hS.I (by omega)) (fun k => hS.J (by omega))⟩
  | some q =>
    have hq := hb q rfl
    show Tp (if 0 ≤ nI q then _ else _) _
    rw [if_pos (nI_pos' (by omega)), lt_e]
    refine TtP (X_tell' _ (hF.pI (by omega)) XRow_0 (Nat.le_of_ble_eq_true rfl)) (fun t' h' => ?_)
    show Tp ((J_bitCount (nI q)).bind _) _
    rw [pop_b q hq, bd_some]
    exact Tp_some ⟨rfl, h'.1, h'.2.1⟩
theorem lt64 {n k : Nat} (h6 : n ≤ 6) (h : k < 2 ^ n) : k < 64 := by have := two6 h6; omega
/-- the Model's search -/
theorem M_fewest_ok {u c : Nat} {s t : Sg} {A : AS} {m o d : Nat} {p : Nat → Bool} (hu : 20000 ≤ u) (hM : MI u A s) (hG : GI c A) (f : Fr dSM s t) (hm : m ≤ 10000) (ho : o < 64) (hd : d < 64) (hp : ∀ k, k < 2 ^ gn (aG A) → (p k = true ↔ (mkB (fun i => decide (wl (tcN (aG A) (aRu A) m (aW A) k) i = 0)) (gn (aG A)) &&& o) = d)) : Tp (M_fewest u t (nI o) (nI d) (nI m)) (fun v t' => v = fwA (fwF p (2 ^ gn (aG A))) ∧ Fr dMr s t' ∧ MRw (fwR (fwF p (2 ^ gn (aG A))) (aRow A)) t') := by
  have h6 := hG.1.1
  have h64 := two6 hG.1.1
  have h1 := Nat.one_le_two_pow (n := gn (aG A))
  unfold M_fewest
  refine loop_i (W := fun f j t' => Tp (M_fewest_6 u f t' (nI o) (nI d) (nI m) (oI (fwF p j)) (nI j)) _)
    (I := fun j t' => Fr dSM s t') (2 ^ gn (aG A)) ?_ ?_ u 0 t (by omega) (by omega) f
  · intro f t' hS
    have hF : Fr dMr s t' := hS.mono (fun i k => dSM_Mr)
    rw [M_fewest_6_s]
    unfold M_fewest_6b
    rw [M_all_ok hG.1 (M_env hM hF).1.1.1, bd_some, if_pos (nI_lt (by omega) (by omega))]
    cases hb : fwF p (2 ^ gn (aG A)) with
    | none =>
      rw [if_pos (show oI none = -1 from rfl)]
      exact Tp_some ⟨rfl, hF, hM.2.2.1.mv (hS.I (by omega)) (fun k => hS.J (by omega))⟩
    | some q =>
      have hq : q < 64 := lt64 h6 (fwF_lt p _ q hb)
      show Tp (if nI q = -1 then _ else _) _
      rw [if_neg (m1_lt (by omega)), lt_e]
      refine TtP (M_tell' _ (hF.pI (by omega)) MRw_0 (Nat.le_of_ble_eq_true rfl)) (fun t'' h' => ?_)
      show Tp ((J_bitCount (nI q)).bind _) _
      rw [pop_b q hq, bd_some]
      exact Tp_some ⟨rfl, h'.1, h'.2.1⟩
  · intro f j t' hj hS ih
    have hF : Fr dMr s t' := hS.mono (fun i k => dSM_Mr)
    have hj64 : j < 64 := by omega
    rw [M_fewest_6_s]
    unfold M_fewest_6b
    rw [M_all_ok hG.1 (M_env hM hF).1.1.1, bd_some, if_neg (nI_nlt (by omega) (by omega)), nI_1]
    have hs := fwF_s p j
    -- the set is tried
    have hgo : (∀ q, fwF p j = some q → pop j < pop q) → Tp (M_fewest_37 u (M_fewest_6 u f) t' (nI o) (nI d) (nI m) (oI (fwF p j)) (nI j)) (fun v t' => v = fwA (fwF p (2 ^ gn (aG A))) ∧ Fr dMr s t' ∧ MRw (fwR (fwF p (2 ^ gn (aG A))) (aRow A)) t') := by
      intro hlt
      unfold M_fewest_37
      refine TtP (M_touched hu hM hG hF hj hm) (fun t2 h2 => ?_)
      have hg := tcN_good (ru := aRu A) (m := m) hG.2.1 hj
      have hmk := mkB_lt (fun i => decide (wl (tcN (aG A) (aRu A) m (aW A) j) i = 0)) (gn (aG A))
      have hand : (mkB (fun i => decide (wl (tcN (aG A) (aRu A) m (aW A) j) i = 0)) (gn (aG A)) &&& o) < 2 ^ 6 := Nat.and_lt_two_pow _ (by omega)
      rw [M_dryOnes_ok hu hG.1 hg (M_env hM h2.1).1.1.1 (by omega) h2.2.1, bd_some, nI_and (by omega) (by omega), nI_1]
      have ih := ih t2 (hS.trans h2.2.2)
      have hfb : fwB p j (fwF p j) = p j := by
        unfold fwB
        cases hb : fwF p j with
        | none => rfl
        | some q =>
          dsimp only
          rw [decide_eq_true (hlt q hb)]
          rfl
      rw [hfb] at hs
      by_cases e : p j = true
      · rw [if_pos e] at hs
        rw [hs] at ih
        rw [if_pos (by rw [(hp j hj).mp e])]
        exact ih
      · rw [if_neg e] at hs
        rw [hs] at ih
        rw [if_neg (fun h => e ((hp j hj).mpr ((nI_eq (by omega) (by omega)).mp h)))]
        exact ih
    cases hb : fwF p j with
    | none =>
      rw [hb] at hgo
      rw [if_pos (show oI none = -1 from rfl)]
      exact hgo (fun q h => by cases h)
    | some q =>
      have hq : q < 64 := by have := fwF_lt p _ q hb; omega
      have hp1 := pop_le j
      have hp2 := pop_le q
      rw [hb] at hgo
      show Tp (if nI q = -1 then _ else ((J_bitCount (nI j)).bind fun v5 => (J_bitCount (nI q)).bind fun v6 => _)) _
      rw [if_neg (m1_lt (by omega)), pop_b j hj64, bd_some, pop_b q hq, bd_some]
      by_cases e : pop j < pop q
      · rw [if_pos (nI_lt e (by omega))]
        exact hgo (fun q' h => by cases h; exact e)
      · rw [if_neg (nI_nlt (by omega) (by omega))]
        have hfb : fwB p j (fwF p j) = false := by
          unfold fwB
          rw [hb]
          dsimp only
          rw [decide_eq_false e]
          rfl
        rw [hfb] at hs
        simp only [Bool.false_eq_true, if_false] at hs
        have ih := ih t' hS
        rw [hs, hb] at ih
        exact ih
/-! ### lets -/
theorem bt_and (a b k : Nat) : bt (a &&& b) k = if bt a k = 1 ∧ bt b k = 1 then 1 else 0 := by
  have h := Nat.testBit_and a b k
  rw [bt_tb, bt_tb, bt_tb] at h
  have h1 := bt_lt (a &&& b) k
  by_cases ha : bt a k = 1 <;> by_cases hb : bt b k = 1 <;> simp [ha, hb] at h ⊢ <;> omega
theorem bt_ext {a b : Nat} (h : ∀ k, bt a k = bt b k) : a = b := Nat.eq_of_testBit_eq (fun k => by rw [bt_tb, bt_tb, h k])
theorem and_bit {a i : Nat} : (a &&& 2 ^ i) = 2 ^ i ↔ bt a i = 1 := by
  refine ⟨fun h => ?_, fun h => bt_ext (fun k => ?_)⟩
  · have := congrArg (fun q => bt q i) h
    rw [bt_and, bt_pow, if_pos rfl] at this
    by_cases e : bt a i = 1
    · exact e
    · rw [if_neg (fun q => e q.1)] at this
      cases this
  · rw [bt_and, bt_pow]
    by_cases e : i = k
    · subst e
      rw [if_pos rfl, if_pos ⟨h, rfl⟩]
    · rw [if_neg e, if_neg (fun q => absurd q.2 (by decide))]
def ltP (g : Geo) (ru : Ru) (W : Wt) (i m : Nat) (b : Nat) : Bool := decide (wl (tcN g ru m W b) i = 0)
theorem op_lets {u c : Nat} {s : Sg} {A : AS} (hu : 20000 ≤ u) (hX : XI A s) (hM : MI u A s) (hG : GI c A) (x y : Int32) : Bth u c s (X_lets u s x y) (fun t => M_lets u t x y) := by
  have h6 := hG.1.1
  have h64 := two6 hG.1.1
  have h1 := Nat.one_le_two_pow (n := gn (aG A))
  rcases in_n x (gn (aG A)) (by omega) with ⟨i, hi, e⟩ | hno
  rotate_left
  · refine both_no (-1) hX hM hG ?_ (fun t ht => ?_)
    · unfold X_lets
      rw [X_isL hX, gd_e, if_neg hno]
    · unfold M_lets
      rw [lt_e, M_isL ht, gd_e, if_neg hno] <;> rfl
  subst e
  rcases in_or2 y 0 40 (by omega) (by omega) with ⟨m, hm0, hm, e⟩ | hno
  rotate_left
  · refine both_no (-1) hX hM hG ?_ (fun t ht => ?_)
    · unfold X_lets
      rw [X_isL hX, gd_e, if_pos (in_nyes hi (by omega)), Xin_0_40, gd_e, if_neg hno]
    · unfold M_lets
      rw [lt_e, M_isL ht, gd_e, if_pos (in_nyes hi (by omega)), Min_0_40, gd_e, if_neg hno] <;> rfl
  subst e
  refine both_row (fwA (fwF (ltP (aG A) (aRu A) (aW A) i m) (2 ^ gn (aG A)))) (fwR (fwF (ltP (aG A) (aRu A) (aW A) i m) (2 ^ gn (aG A))) (aRow A)) hX hM hG ?_ (fun t ht => ?_)
  · unfold X_lets
    rw [X_isL hX, gd_e, if_pos (in_nyes hi (by omega)), Xin_0_40, gd_e, if_pos (in_yes2 hm0 hm (by omega))]
    refine loop_i (W := fun f j t' => Tp (X_lets_27 u f t' (nI i) (nI m) (oI (fwF (ltP (aG A) (aRu A) (aW A) i m) j)) (nI j)) _)
      (I := fun j t' => Fr dSX s t') (2 ^ gn (aG A)) ?_ ?_ u 0 s (by omega) (by omega) (Fr.refl _ _)
    · intro f t' hS
      have hF : Fr dXr s t' := hS.mono (fun i k => dSX_Xr)
      rw [X_lets_27_s]
      unfold X_lets_27b
      rw [X_all_ok hG.1 (X_env hX hF).1.2.1, bd_some, if_pos (nI_lt (by omega) (by omega))]
      exact TpP (X_fewEnd _ (fun q hq => lt64 h6 (fwF_lt _ _ q hq)) hS hX.2.2.1) (fun v t2 h2 => Tp_some h2)
    · intro f j t' hj hS ih
      have hF : Fr dXr s t' := hS.mono (fun i k => dSX_Xr)
      rw [X_lets_27_s]
      unfold X_lets_27b
      rw [X_all_ok hG.1 (X_env hX hF).1.2.1, bd_some, if_neg (nI_nlt (by omega) (by omega)), X_isFewer_ok (by omega) _ (fun q hq => by have := fwF_lt _ _ q hq; omega), bd_some, nI_1]
      have hs := fwF_s (ltP (aG A) (aRu A) (aW A) i m) j
      have hgo : (∀ q, fwF (ltP (aG A) (aRu A) (aW A) i m) j = some q → pop j < pop q) → Tp ((X_touchedGo u t' (nI j) (nI m)).bind fun s5 => (aI s5 7 6 (nI i)).bind fun v6 => if v6 = 0 then (X_lets_73 u (X_lets_27 u f) s5 (nI i) (nI m) (nI j) (nI j)) else (X_lets_73 u (X_lets_27 u f) s5 (nI i) (nI m) (nI j) (oI (fwF (ltP (aG A) (aRu A) (aW A) i m) j)))) (fun v t' => v = fwA (fwF (ltP (aG A) (aRu A) (aW A) i m) (2 ^ gn (aG A))) ∧ Fr dXr s t' ∧ XRow (fwR (fwF (ltP (aG A) (aRu A) (aW A) i m) (2 ^ gn (aG A))) (aRow A)) t') := by
        intro hlt
        refine TtP (X_touched hu hX hG hF hj (by omega)) (fun t2 h2 => ?_)
        have hl := lev99 hG.1 (tcN_good (ru := aRu A) (m := m) hG.2.1 hj) hi
        have e7 : gI t2 7 i = nI (wl (tcN (aG A) (aRu A) m (aW A) j) i) := h2.2.1.1 i hi
        unfold X_lets_73
        rw [aI_n (by omega) (by omega), bd_some, e7, nI_1]
        have ih := ih t2 (hS.trans h2.2.2)
        have hfb : fwB (ltP (aG A) (aRu A) (aW A) i m) j (fwF (ltP (aG A) (aRu A) (aW A) i m) j) = ltP (aG A) (aRu A) (aW A) i m j := by
          unfold fwB
          cases hb : fwF (ltP (aG A) (aRu A) (aW A) i m) j with
          | none => rfl
          | some q =>
            dsimp only
            rw [decide_eq_true (hlt q hb)]
            rfl
        rw [hfb] at hs
        by_cases e : wl (tcN (aG A) (aRu A) m (aW A) j) i = 0
        · rw [show ltP (aG A) (aRu A) (aW A) i m j = true from decide_eq_true e, if_pos rfl] at hs
          rw [hs] at ih
          rw [e, if_pos nI_0]
          exact ih
        · rw [show ltP (aG A) (aRu A) (aW A) i m j = false from decide_eq_false e] at hs
          simp only [Bool.false_eq_true, if_false] at hs
          rw [hs] at ih
          rw [if_neg (nI_ne0 (by omega) (by omega))]
          exact ih
      cases hb : fwF (ltP (aG A) (aRu A) (aW A) i m) j with
      | none =>
        rw [hb] at hgo
        rw [show fwQ j none = 1 from rfl, if_neg (by decide)]
        exact hgo (fun q h => by cases h)
      | some q =>
        rw [hb] at hgo
        by_cases e : pop j < pop q
        · rw [show fwQ j (some q) = 1 from if_pos e, if_neg (by decide)]
          exact hgo (fun q' h => by cases h; exact e)
        · rw [show fwQ j (some q) = 0 from if_neg e, if_pos rfl]
          have hfb : fwB (ltP (aG A) (aRu A) (aW A) i m) j (fwF (ltP (aG A) (aRu A) (aW A) i m) j) = false := by
            unfold fwB
            rw [hb]
            dsimp only
            rw [decide_eq_false e]
            rfl
          rw [hfb] at hs
          simp only [Bool.false_eq_true, if_false] at hs
          have ih := ih t' hS
          rw [hs, hb] at ih
          exact ih
  · unfold M_lets
    rw [lt_e, M_isL ht, gd_e, if_pos (in_nyes hi (by omega)), Min_0_40, gd_e, if_pos (in_yes2 hm0 hm (by omega)), nI_shl1 (by omega)]
    have hp2 : 2 ^ i < 2 ^ 6 := Nat.pow_lt_pow_right (by omega) (by omega)
    refine TpP (M_fewest_ok (p := ltP (aG A) (aRu A) (aW A) i m) hu ht hG ((Fr.refl _ _).pI (by omega)) (by omega) (by omega) (by omega) (fun k hk => ?_)) (fun v t2 h2 => Tp_some h2)
    rw [and_bit, mkB_bt _ _ _ hi]
    unfold ltP
    cases decide (wl (tcN (aG A) (aRu A) m (aW A) k) i = 0) <;> decide
/-! ### just -/
def jsP (g : Geo) (ru : Ru) (W : Wt) (i m : Nat) (b : Nat) : Bool := decide (mkB (fun q => decide (wl (tcN g ru m W b) q = 0)) (gn g) = i)
theorem op_just {u c : Nat} {s : Sg} {A : AS} (hu : 20000 ≤ u) (hX : XI A s) (hM : MI u A s) (hG : GI c A) (x y : Int32) : Bth u c s (X_just u s x y) (fun t => M_just u t x y) := by
  have h6 := hG.1.1
  have h64 := two6 hG.1.1
  have h1 := Nat.one_le_two_pow (n := gn (aG A))
  have hall : ∀ t, MI u A t → M_all (pI t 45 9 0) = some (nI (2 ^ gn (aG A) - 1)) := fun t ht => M_all_ok hG.1 (M_env ht M_th).1.1.1
  rcases in_or x (2 ^ gn (aG A) - 1) (by omega) with ⟨i, hi, e⟩ | hno
  rotate_left
  · refine both_no (-1) hX hM hG ?_ (fun t ht => ?_)
    · unfold X_just
      rw [X_areLakes_ok hG.1 hX.1.2.1, gd_e, if_neg hno]
    · unfold M_just
      rw [lt_e, hall t ht, bd_some, M_in_eq, gd_e, if_neg hno] <;> rfl
  subst e
  rcases in_or2 y 0 40 (by omega) (by omega) with ⟨m, hm0, hm, e⟩ | hno
  rotate_left
  · refine both_no (-1) hX hM hG ?_ (fun t ht => ?_)
    · unfold X_just
      rw [X_areLakes_ok hG.1 hX.1.2.1, gd_e, if_pos (in_yes hi (by omega)), Xin_0_40, gd_e, if_neg hno]
    · unfold M_just
      rw [lt_e, hall t ht, bd_some, M_in_eq, gd_e, if_pos (in_yes hi (by omega)), Min_0_40, gd_e, if_neg hno] <;> rfl
  subst e
  refine both_row (fwA (fwF (jsP (aG A) (aRu A) (aW A) i m) (2 ^ gn (aG A)))) (fwR (fwF (jsP (aG A) (aRu A) (aW A) i m) (2 ^ gn (aG A))) (aRow A)) hX hM hG ?_ (fun t ht => ?_)
  · unfold X_just
    rw [X_areLakes_ok hG.1 hX.1.2.1, gd_e, if_pos (in_yes hi (by omega)), Xin_0_40, gd_e, if_pos (in_yes2 hm0 hm (by omega))]
    refine loop_i (W := fun f j t' => Tp (X_just_27 u f t' (nI i) (nI m) (oI (fwF (jsP (aG A) (aRu A) (aW A) i m) j)) (nI j)) _)
      (I := fun j t' => Fr dSX s t') (2 ^ gn (aG A)) ?_ ?_ u 0 s (by omega) (by omega) (Fr.refl _ _)
    · intro f t' hS
      have hF : Fr dXr s t' := hS.mono (fun i k => dSX_Xr)
      rw [X_just_27_s]
      unfold X_just_27b
      rw [X_all_ok hG.1 (X_env hX hF).1.2.1, bd_some, if_pos (nI_lt (by omega) (by omega))]
      exact TpP (X_fewEnd _ (fun q hq => lt64 h6 (fwF_lt _ _ q hq)) hS hX.2.2.1) (fun v t2 h2 => Tp_some h2)
    · intro f j t' hj hS ih
      have hF : Fr dXr s t' := hS.mono (fun i k => dSX_Xr)
      rw [X_just_27_s]
      unfold X_just_27b
      rw [X_all_ok hG.1 (X_env hX hF).1.2.1, bd_some, if_neg (nI_nlt (by omega) (by omega)), X_isFewer_ok (by omega) _ (fun q hq => by have := fwF_lt _ _ q hq; omega), bd_some, nI_1]
      have hs := fwF_s (jsP (aG A) (aRu A) (aW A) i m) j
      have hgo : (∀ q, fwF (jsP (aG A) (aRu A) (aW A) i m) j = some q → pop j < pop q) → Tp ((X_touchedGo u t' (nI j) (nI m)).bind fun s5 => (X_dryOnes u s5 6).bind fun v6 => if v6 = nI i then (X_just_73 u (X_just_27 u f) s5 (nI i) (nI m) (nI j) (nI j)) else (X_just_73 u (X_just_27 u f) s5 (nI i) (nI m) (nI j) (oI (fwF (jsP (aG A) (aRu A) (aW A) i m) j)))) (fun v t' => v = fwA (fwF (jsP (aG A) (aRu A) (aW A) i m) (2 ^ gn (aG A))) ∧ Fr dXr s t' ∧ XRow (fwR (fwF (jsP (aG A) (aRu A) (aW A) i m) (2 ^ gn (aG A))) (aRow A)) t') := by
        intro hlt
        refine TtP (X_touched hu hX hG hF hj (by omega)) (fun t2 h2 => ?_)
        have hg := tcN_good (ru := aRu A) (m := m) hG.2.1 hj
        have hmk := mkB_lt (fun q => decide (wl (tcN (aG A) (aRu A) m (aW A) j) q = 0)) (gn (aG A))
        unfold X_just_73
        rw [X_dryOnes_ok hu hG.1 hg (X_env hX h2.1).1.2.1 (by omega) h2.2.1, bd_some, nI_1]
        have ih := ih t2 (hS.trans h2.2.2)
        have hfb : fwB (jsP (aG A) (aRu A) (aW A) i m) j (fwF (jsP (aG A) (aRu A) (aW A) i m) j) = jsP (aG A) (aRu A) (aW A) i m j := by
          unfold fwB
          cases hb : fwF (jsP (aG A) (aRu A) (aW A) i m) j with
          | none => rfl
          | some q =>
            dsimp only
            rw [decide_eq_true (hlt q hb)]
            rfl
        rw [hfb] at hs
        by_cases e : mkB (fun q => decide (wl (tcN (aG A) (aRu A) m (aW A) j) q = 0)) (gn (aG A)) = i
        · rw [show jsP (aG A) (aRu A) (aW A) i m j = true from decide_eq_true e, if_pos rfl] at hs
          rw [hs] at ih
          rw [if_pos (by rw [e])]
          exact ih
        · rw [show jsP (aG A) (aRu A) (aW A) i m j = false from decide_eq_false e] at hs
          simp only [Bool.false_eq_true, if_false] at hs
          rw [hs] at ih
          rw [if_neg (fun h => e ((nI_eq (by omega) (by omega)).mp h))]
          exact ih
      cases hb : fwF (jsP (aG A) (aRu A) (aW A) i m) j with
      | none =>
        rw [hb] at hgo
        rw [show fwQ j none = 1 from rfl, if_neg (by decide)]
        exact hgo (fun q h => by cases h)
      | some q =>
        rw [hb] at hgo
        by_cases e : pop j < pop q
        · rw [show fwQ j (some q) = 1 from if_pos e, if_neg (by decide)]
          exact hgo (fun q' h => by cases h; exact e)
        · rw [show fwQ j (some q) = 0 from if_neg e, if_pos rfl]
          have hfb : fwB (jsP (aG A) (aRu A) (aW A) i m) j (fwF (jsP (aG A) (aRu A) (aW A) i m) j) = false := by
            unfold fwB
            rw [hb]
            dsimp only
            rw [decide_eq_false e]
            rfl
          rw [hfb] at hs
          simp only [Bool.false_eq_true, if_false] at hs
          have ih := ih t' hS
          rw [hs, hb] at ih
          exact ih
  · unfold M_just
    rw [lt_e, hall t ht, bd_some, M_in_eq, gd_e, if_pos (in_yes hi (by omega)), Min_0_40, gd_e, if_pos (in_yes2 hm0 hm (by omega)), bd_some]
    refine TpP (M_fewest_ok (p := jsP (aG A) (aRu A) (aW A) i m) hu ht hG ((Fr.refl _ _).pI (by omega)) (by omega) (by omega) (by omega) (fun k hk => ?_)) (fun v t2 h2 => Tp_some h2)
    have hmk := mkB_lt (fun q => decide (wl (tcN (aG A) (aRu A) m (aW A) k) q = 0)) (gn (aG A))
    rw [Nat.and_two_pow_sub_one_eq_mod, Nat.mod_eq_of_lt hmk]
    unfold jsP
    exact decide_eq_true_iff
