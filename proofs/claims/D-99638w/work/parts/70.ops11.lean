/-! LAW: treaty, wants, evens, feared -/
set_option maxRecDepth 100000
/-! ### treaty -/
def lvK (n : Nat) (W : Wt) (o : Nat) : Nat := sm (fun k => if bt o (wk W k) = 1 then wl W k else 0) n
theorem lvK_le {g : Geo} {W : Wt} (hg : GoodG g) (h : GoodW g W) (o : Nat) : lvK (gn g) W o ≤ 594 := by
  have h6 := hg.1
  have : lvK (gn g) W o ≤ gn g * 99 := sm_le (fun k hk => by
    have := lev99 hg h hk
    split <;> omega)
  omega
/-- bare of k: who is taken away leaves too little -/
def trB (n : Nat) (W : Wt) (q o : Nat) : Nat → Bool
  | 0 => decide (q ≤ lvK n W o)
  | k + 1 => trB n W q o k && (decide (bt o k = 0) || decide (lvK n W (anB o (2 ^ k)) < q))
theorem trB_s (n : Nat) (W : Wt) (q o k : Nat) : trB n W q o (k + 1) = (trB n W q o k && (decide (bt o k = 0) || decide (lvK n W (anB o (2 ^ k)) < q))) := rfl
def bI (b : Bool) : Int32 := if b then 1 else 0
def trS (n : Nat) (W : Wt) (q : Nat) : Nat → Nat × Nat × Nat
  | 0 => (0, 0, 15)
  | o + 1 => if trB n W q o 4 then ((trS n W q o).1 + 1, (trS n W q o).2.1 ||| o, (trS n W q o).2.2 &&& o) else trS n W q o
theorem trS_s (n : Nat) (W : Wt) (q o : Nat) : trS n W q (o + 1) = if trB n W q o 4 then ((trS n W q o).1 + 1, (trS n W q o).2.1 ||| o, (trS n W q o).2.2 &&& o) else trS n W q o := rfl
theorem trS_le (n : Nat) (W : Wt) (q o : Nat) (ho : o ≤ 16) : (trS n W q o).1 ≤ o ∧ (trS n W q o).2.1 < 2 ^ 4 ∧ (trS n W q o).2.2 < 2 ^ 4 := by
  induction o with
  | zero => exact ⟨Nat.le_refl _, by show 0 < 2 ^ 4; decide, by show 15 < 2 ^ 4; decide⟩
  | succ o ih =>
    have ih := ih (by omega)
    rw [trS_s]
    cases trB n W q o 4 with
    | false => exact ⟨by simp only [Bool.false_eq_true, if_false]; omega, ih.2⟩
    | true =>
      simp only [if_true]
      exact ⟨by omega, Nat.or_lt_two_pow ih.2.1 (by omega), Nat.and_lt_two_pow _ (by omega)⟩
theorem op_treaty {u c : Nat} {s : Sg} {A : AS} (hu : 20000 ≤ u) (hX : XI A s) (hM : MI u A s) (hG : GI c A) (x : Int32) : Bth u c s (X_treaty u s x) (fun t => M_treaty u t x) := by
  have h6 := hG.1.1
  have hlv := lvK_le hG.1 hG.2.1
  rcases in_or2 x 0 999 (by omega) (by omega) with ⟨q, hq0, hq, e⟩ | hno
  rotate_left
  · refine both_no (-1) hX hM hG ?_ (fun t ht => ?_)
    · unfold X_treaty
      rw [Xin_0_999, gd_e, if_neg hno]
    · unfold M_treaty
      rw [lt_e, Min_0_999, gd_e, if_neg hno] <;> rfl
  subst e
  refine both_row (nI (trS (gn (aG A)) (aW A) q 16).1) [(nI (trS (gn (aG A)) (aW A) q 16).2.1).toInt64, if (trS (gn (aG A)) (aW A) q 16).1 = 0 then 0 else (nI (trS (gn (aG A)) (aW A) q 16).2.2).toInt64] hX hM hG ?_ (fun t ht => ?_)
  · unfold X_treaty
    rw [Xin_0_999, gd_e, if_pos (in_yes2 hq0 hq (by omega))]
    have hle : ∀ o, o < 2 ^ 31 → X_levelOf u s (nI o) = some (nI (lvK (gn (aG A)) (aW A) o)) := fun o ho => X_levelOf_ok hu hG.1 hG.2.1 hX.1.2.1 hX.2.1 ho
    have hbare : ∀ o, o < 16 → X_isBare u s (nI o) (nI q) = some (bI (trB (gn (aG A)) (aW A) q o 4)) := by
      intro o ho
      have key : ∀ b, b = trB (gn (aG A)) (aW A) q o 0 → X_isBare_18 u s u (nI o) (nI q) (bI b) (nI 0) = some (bI (trB (gn (aG A)) (aW A) q o 4)) := by
        intro b hb
        subst hb
        refine loop_i (W := fun f j (_ : Unit) => X_isBare_18 u s f (nI o) (nI q) (bI (trB (gn (aG A)) (aW A) q o j)) (nI j) = some (bI (trB (gn (aG A)) (aW A) q o 4))) (I := fun _ _ => True) 4 ?_ ?_ u 0 () (by omega) (by omega) trivial
        · intro f _ _
          rw [X_isBare_18_s]
          unfold X_isBare_18b
          rw [if_pos (by decide)]
          cases trB (gn (aG A)) (aW A) q o 4 <;> rfl
        · intro f j _ hj _ ih
          have ih := ih () trivial
          rw [trB_s] at ih
          have hbt := bt_lt o j
          rw [X_isBare_18_s]
          unfold X_isBare_18b X_isBare_57
          rw [show (4 : Int32) = nI 4 from rfl, if_neg (nI_ge hj (by omega)), nI_1]
          cases hb : trB (gn (aG A)) (aW A) q o j with
          | false =>
            rw [hb, Bool.false_and] at ih
            rw [if_pos (show bI false = 0 from rfl)]
            exact ih
          | true =>
            rw [hb, Bool.true_and] at ih
            have hp4 : 2 ^ j < 2 ^ 4 := Nat.pow_lt_pow_right (by omega) hj
            have han := anB_e o (by omega) (2 ^ j) (by omega)
            have hlv2 := hlv (anB o (2 ^ j))
            rw [if_neg (by decide), X_has_n (by omega) (by omega), bd_some]
            by_cases e : bt o j = 1
            · rw [decide_eq_false (by omega), Bool.false_or] at ih
              rw [e, if_neg (by decide), nI_shl1 (by omega), han.1, hle _ (by omega), bd_some]
              by_cases e2 : lvK (gn (aG A)) (aW A) (anB o (2 ^ j)) < q
              · rw [decide_eq_true e2] at ih
                rw [if_neg (nI_ge e2 (by omega))]
                exact ih
              · rw [decide_eq_false e2] at ih
                rw [if_pos (nI_le (by omega) (by omega))]
                exact ih
            · have e0 : bt o j = 0 := by omega
              rw [decide_eq_true e0, Bool.true_or] at ih
              rw [e0, if_pos nI_0]
              exact ih
      unfold X_isBare
      have hlo := hlv o
      rw [hle o (by omega), bd_some]
      by_cases e : q ≤ lvK (gn (aG A)) (aW A) o
      · rw [if_neg (nI_nlt e (by omega))]
        exact key true (decide_eq_true e).symm
      · rw [if_pos (nI_lt (by omega) (by omega))]
        exact key false (decide_eq_false e).symm
    refine loop_i (W := fun f j (_ : Unit) => Tp (X_treaty_25 u f s (nI q) (nI (trS (gn (aG A)) (aW A) q j).1) (nI (trS (gn (aG A)) (aW A) q j).2.1) (nI (trS (gn (aG A)) (aW A) q j).2.2) (nI j)) _)
      (I := fun j _ => True) 16 ?_ ?_ u 0 () (by omega) (by omega) trivial
    · intro f _ _
      have hb := trS_le (gn (aG A)) (aW A) q 16 (Nat.le_refl _)
      have hF0 : Fr dXr s (pI s 0 48 0) := (Fr.refl _ _).pI (by omega)
      rw [X_treaty_25_s]
      unfold X_treaty_25b X_treaty_89
      rw [if_pos (by decide), lt_e]
      refine TtP (X_tell' _ hF0 XRow_0 (Nat.le_of_ble_eq_true rfl)) (fun t3 h3 => ?_)
      by_cases e : (trS (gn (aG A)) (aW A) q 16).1 = 0
      · rw [if_pos (by rw [e]; exact nI_0), if_pos e]
        exact TtP (X_tell' _ h3.1 h3.2.1 (Nat.le_of_ble_eq_true rfl)) (fun t4 h4 => Tp_some ⟨rfl, h4.1, h4.2.1⟩)
      · rw [if_neg (nI_ne0 (by omega) (by omega)), if_neg e]
        exact TtP (X_tell' _ h3.1 h3.2.1 (Nat.le_of_ble_eq_true rfl)) (fun t4 h4 => Tp_some ⟨rfl, h4.1, h4.2.1⟩)
    · intro f j _ hj _ ih
      have ih := ih () trivial
      have hb := trS_le (gn (aG A)) (aW A) q j (by omega)
      rw [trS_s] at ih
      rw [X_treaty_25_s]
      unfold X_treaty_25b
      rw [show (16 : Int32) = nI 16 from rfl, if_neg (nI_ge hj (by omega)), hbare j hj, bd_some, nI_1]
      cases hc : trB (gn (aG A)) (aW A) q j 4 with
      | false =>
        rw [hc] at ih
        simp only [Bool.false_eq_true, if_false] at ih
        rw [if_pos (show bI false = 0 from rfl)]
        exact ih
      | true =>
        rw [hc, if_pos rfl] at ih
        rw [if_neg (by decide), lt_e, lt_e, nI_or (by omega) (by omega), nI_and (by omega) (by omega), nI_1]
        exact ih
  · unfold M_treaty
    rw [lt_e, Min_0_999, gd_e, if_pos (in_yes2 hq0 hq (by omega))]
    have hle : ∀ o, o < 2 ^ 31 → M_levelOfKings u (pI t 45 9 0) (nI o) = some (nI (lvK (gn (aG A)) (aW A) o)) := fun o ho => M_levelOfKings_ok hu hG.1 hG.2.1 (M_env ht M_th).1.1.1 (M_env ht M_th).2 ho
    refine loop_i (W := fun f j (_ : Unit) => Tp (M_treaty_29 u f (pI t 45 9 0) (nI q) (nI (trS (gn (aG A)) (aW A) q j).1) (nI (trS (gn (aG A)) (aW A) q j).2.1) (nI (trS (gn (aG A)) (aW A) q j).2.2) (nI j)) _)
      (I := fun j _ => True) 16 ?_ ?_ u 0 () (by omega) (by omega) trivial
    · intro f _ _
      have hb := trS_le (gn (aG A)) (aW A) q 16 (Nat.le_refl _)
      have hF0 : Fr dMr t (pI (pI t 45 9 0) 45 8 0) := Fr.pI M_th (by omega)
      rw [M_treaty_29_s]
      unfold M_treaty_29b M_treaty_159
      rw [if_pos (by decide), lt_e]
      refine TtP (M_tell' _ hF0 MRw_0 (Nat.le_of_ble_eq_true rfl)) (fun t3 h3 => ?_)
      by_cases e : (trS (gn (aG A)) (aW A) q 16).1 = 0
      · rw [if_pos (by rw [e]; exact nI_0), if_pos e]
        exact TtP (M_tell' _ h3.1 h3.2.1 (Nat.le_of_ble_eq_true rfl)) (fun t4 h4 => Tp_some ⟨rfl, h4.1, h4.2.1⟩)
      · rw [if_neg (nI_ne0 (by omega) (by omega)), if_neg e]
        exact TtP (M_tell' _ h3.1 h3.2.1 (Nat.le_of_ble_eq_true rfl)) (fun t4 h4 => Tp_some ⟨rfl, h4.1, h4.2.1⟩)
    · intro f o _ hj _ ih
      have ih := ih () trivial
      have hb := trS_le (gn (aG A)) (aW A) q o (by omega)
      have hlo := hlv o
      rw [trS_s] at ih
      rw [M_treaty_29_s]
      unfold M_treaty_29b
      rw [show (16 : Int32) = nI 16 from rfl, if_neg (nI_ge hj (by omega)), hle o (by omega), bd_some]
      have key : ∀ b, b = trB (gn (aG A)) (aW A) q o 0 → Tp (M_treaty_56 u (M_treaty_29 u f) u (pI t 45 9 0) (nI q) (nI (trS (gn (aG A)) (aW A) q o).1) (nI (trS (gn (aG A)) (aW A) q o).2.1) (nI (trS (gn (aG A)) (aW A) q o).2.2) (nI o) (bI b) (nI 0)) (fun v t' => v = nI (trS (gn (aG A)) (aW A) q 16).1 ∧ Fr dMr t t' ∧ MRw [(nI (trS (gn (aG A)) (aW A) q 16).2.1).toInt64, if (trS (gn (aG A)) (aW A) q 16).1 = 0 then 0 else (nI (trS (gn (aG A)) (aW A) q 16).2.2).toInt64] t') := by
        intro b hb'
        subst hb'
        refine loop_i (W := fun f2 j (_ : Unit) => Tp (M_treaty_56 u (M_treaty_29 u f) f2 (pI t 45 9 0) (nI q) (nI (trS (gn (aG A)) (aW A) q o).1) (nI (trS (gn (aG A)) (aW A) q o).2.1) (nI (trS (gn (aG A)) (aW A) q o).2.2) (nI o) (bI (trB (gn (aG A)) (aW A) q o j)) (nI j)) _) (I := fun _ _ => True) 4 ?_ ?_ u 0 () (by omega) (by omega) trivial
        · intro f2 _ _
          rw [M_treaty_56_s]
          unfold M_treaty_56b
          rw [if_pos (by decide), nI_1]
          cases hc : trB (gn (aG A)) (aW A) q o 4 with
          | false =>
            rw [hc] at ih
            simp only [Bool.false_eq_true, if_false] at ih
            rw [if_pos (show bI false = 0 from rfl)]
            exact ih
          | true =>
            rw [hc, if_pos rfl] at ih
            rw [if_neg (by decide), lt_e, lt_e, nI_or (by omega) (by omega), nI_and (by omega) (by omega), nI_1]
            exact ih
        · intro f2 j _ hj4 _ ih2
          have ih2 := ih2 () trivial
          rw [trB_s] at ih2
          have hbt := bt_lt o j
          rw [M_treaty_56_s]
          unfold M_treaty_56b M_treaty_98
          rw [show (4 : Int32) = nI 4 from rfl, if_neg (nI_ge hj4 (by omega)), nI_1]
          cases hb2 : trB (gn (aG A)) (aW A) q o j with
          | false =>
            rw [hb2, Bool.false_and] at ih2
            rw [if_pos (show bI false = 0 from rfl)]
            exact ih2
          | true =>
            rw [hb2, Bool.true_and] at ih2
            have hp4 : 2 ^ j < 2 ^ 4 := Nat.pow_lt_pow_right (by omega) hj4
            have han := anB_e o (by omega) (2 ^ j) (by omega)
            have hlv2 := hlv (anB o (2 ^ j))
            rw [if_neg (by decide), M_has_n (by omega) (by omega), bd_some]
            by_cases e : bt o j = 1
            · rw [decide_eq_false (by omega), Bool.false_or] at ih2
              rw [e, if_neg (by decide), nI_shl1 (by omega), han.1, hle _ (by omega), bd_some]
              by_cases e2 : lvK (gn (aG A)) (aW A) (anB o (2 ^ j)) < q
              · rw [decide_eq_true e2] at ih2
                rw [if_neg (nI_ge e2 (by omega))]
                exact ih2
              · rw [decide_eq_false e2] at ih2
                rw [if_pos (nI_le (by omega) (by omega))]
                exact ih2
            · have e0 : bt o j = 0 := by omega
              rw [decide_eq_true e0, Bool.true_or] at ih2
              rw [e0, if_pos nI_0]
              exact ih2
      by_cases e : q ≤ lvK (gn (aG A)) (aW A) o
      · rw [if_neg (nI_nlt e (by omega))]
        exact key true (decide_eq_true e).symm
      · rw [if_pos (nI_lt (by omega) (by omega))]
        exact key false (decide_eq_false e).symm
