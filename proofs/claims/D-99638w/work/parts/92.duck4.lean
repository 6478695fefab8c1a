/-! LAW: duck -/
set_option maxRecDepth 100000
def dkN (g : Geo) (i k : Nat) : Nat → Int64 := fo (fun _ f => dkS g f (gn g)) k (fun y => if y = i then 1 else 0)
def dkP (k : Nat) : Int64 := fo (fun _ a => a * 60) k 1
theorem dkP_ne : ∀ k, k ≤ 10 → dkP k ≠ 0 := by decide +kernel
theorem op_duck {u c : Nat} {s : Sg} {A : AS} (hu : 20000 ≤ u) (hX : XI A s) (hM : MI u A s) (hG : GI c A) (x y z : Int32) : Bth u c s (X_duck u s x y z) (fun t => M_duck u t x y z) := by
  have h6 := hG.1.1
  rcases in_n x (gn (aG A)) (by omega) with ⟨i, hi, e⟩ | hno
  rotate_left
  · refine both_no (-1) hX hM hG ?_ (fun t ht => ?_)
    · unfold X_duck
      rw [X_isL hX, gd_e, if_neg hno]
    · unfold M_duck
      rw [lt_e, M_isL ht, gd_e, if_neg hno] <;> rfl
  subst e
  rcases in_n y (gn (aG A)) (by omega) with ⟨j, hj, e⟩ | hno
  rotate_left
  · refine both_no (-1) hX hM hG ?_ (fun t ht => ?_)
    · unfold X_duck
      rw [X_isL hX, gd_e, if_pos (in_nyes hi (by omega)), X_isL hX, gd_e, if_neg hno]
    · unfold M_duck
      rw [lt_e, M_isL ht, gd_e, if_pos (in_nyes hi (by omega)), M_isL ht, gd_e, if_neg hno] <;> rfl
  subst e
  rcases in_or2 z 0 10 (by omega) (by omega) with ⟨m, hm0, hm, e⟩ | hno
  rotate_left
  · refine both_no (-1) hX hM hG ?_ (fun t ht => ?_)
    · unfold X_duck
      rw [X_isL hX, gd_e, if_pos (in_nyes hi (by omega)), X_isL hX, gd_e, if_pos (in_nyes hj (by omega)), Xin_0_10, gd_e, if_neg hno]
    · unfold M_duck
      rw [lt_e, M_isL ht, gd_e, if_pos (in_nyes hi (by omega)), M_isL ht, gd_e, if_pos (in_nyes hj (by omega)), Min_0_10, gd_e, if_neg hno] <;> rfl
  subst e
  obtain ⟨gg, cx, cm, g0⟩ := common_ok (dkN (aG A) i m j) (dkP m) (dkP_ne m hm)
  refine both_row 0 [dkN (aG A) i m j / gg, dkP m / gg] hX hM hG ?_ (fun t ht => ?_)
  · unfold X_duck
    rw [X_isL hX, gd_e, if_pos (in_nyes hi (by omega)), X_isL hX, gd_e, if_pos (in_nyes hj (by omega)), Xin_0_10, gd_e, if_pos (in_yes2 hm0 hm (by omega))]
    refine loop_i (W := fun f x t => Tp (X_duck_36 u f t (nI i) (nI j) (nI m) 1 (nI x)) _)
      (I := fun x t => Fr dXr s t ∧ ∀ y, y < x → gJ t 40 y = if y = i then 1 else 0) (gn (aG A)) ?_ ?_ u 0 s (by omega) (by omega) ⟨Fr.refl _ _, fun y hy => absurd hy (Nat.not_lt_zero _)⟩
    · intro f t1 ⟨f1, h1⟩
      rw [X_duck_36_s]
      unfold X_duck_36b
      rw [(X_env hX f1).1.2.1.1, if_pos (nI_le (Nat.le_refl _) (by omega))]
      refine loop_i (W := fun f x t => Tp (X_duck_72 u f t (nI j) (nI m) (dkP x) (nI x)) _)
        (I := fun x t => Fr dXr s t ∧ ∀ y, y < gn (aG A) → gJ t 40 y = dkN (aG A) i x y) m ?_ ?_ u 0 t1 (by omega) (by omega) ⟨f1, h1⟩
      · intro f t2 ⟨f2, h2⟩
        rw [X_duck_72_s]
        unfold X_duck_72b
        rw [if_pos (nI_le (Nat.le_refl _) (by omega)), aJ_n (by omega) (by omega), bd_some, h2 j hj, cx, bd_some, lt_e, aJ_n (by omega) (by omega), bd_some, if_neg g0, gJ_pI, h2 j hj]
        have hF0 : Fr dXr s (pI t2 0 48 0) := f2.pI (by omega)
        refine TtP (X_tell' _ hF0 XRow_0 (Nat.le_of_ble_eq_true rfl)) (fun t3 h3 => ?_)
        rw [if_neg g0]
        exact TtP (X_tell' _ h3.1 h3.2.1 (Nat.le_of_ble_eq_true rfl)) (fun t4 h4 => Tp_some ⟨rfl, h4.1, h4.2.1⟩)
      · intro f x t2 hx ⟨f2, h2⟩ ih
        rw [X_duck_72_s]
        unfold X_duck_72b
        rw [if_neg (nI_ge hx (by omega)), nI_1]
        refine TtP (X_duckGoes_ok hu h6 (X_env hX f2).1.2.1 h2) (fun t3 h3 => ?_)
        rw [lt_e]
        exact ih t3 ⟨f2.trans (h3.1.mono (fun i k q => by omega)), h3.2⟩
    · intro f x t1 hx ⟨f1, h1⟩ ih
      rw [X_duck_36_s]
      unfold X_duck_36b
      rw [(X_env hX f1).1.2.1.1, if_neg (nI_ge hx (by omega))]
      have hgo : ∀ v : Int64, v = (if x = i then 1 else 0) → Tp (X_duck_62 u (X_duck_36 u f) t1 (nI i) (nI j) (nI m) 1 (nI x) (nI x) v) (fun v t => v = 0 ∧ Fr dXr s t ∧ XRow [dkN (aG A) i m j / gg, dkP m / gg] t) := by
        intro v hv
        unfold X_duck_62
        rw [tJ_n (by omega) (by omega), bd_some, nI_1]
        refine ih _ ⟨f1.pJ (by omega), fun y hy => ?_⟩
        rw [gJ_pJ]
        by_cases e2 : y = x
        · rw [if_pos ⟨rfl, e2⟩, e2, hv]
        · rw [if_neg (fun q => e2 q.2)]
          exact h1 y (by omega)
      by_cases e : x = i
      · rw [if_pos (by rw [e])]
        exact hgo 1 (by rw [if_pos e])
      · rw [if_neg (fun h => e ((nI_eq (by omega) (by omega)).mp h))]
        exact hgo 0 (by rw [if_neg e])
  · unfold M_duck
    rw [lt_e, M_isL ht, gd_e, if_pos (in_nyes hi (by omega)), M_isL ht, gd_e, if_pos (in_nyes hj (by omega)), Min_0_10, gd_e, if_pos (in_yes2 hm0 hm (by omega))]
    refine loop_i (W := fun f x t' => Tp (M_duck_36 u f t' (nI i) (nI j) (nI m) (nI x)) _)
      (I := fun x t' => Fr dMr t t' ∧ ∀ y, y < x → gJ t' 67 y = if y = i then 1 else 0) (gn (aG A)) ?_ ?_ u 0 (pI t 45 9 0) (by omega) (by omega) ⟨M_th, fun y hy => absurd hy (Nat.not_lt_zero _)⟩
    · intro f t1 ⟨f1, h1⟩
      rw [M_duck_36_s]
      unfold M_duck_36b
      rw [(M_env ht f1).1.1.1.1, if_pos (nI_le (Nat.le_refl _) (by omega))]
      refine loop_i (W := fun f x t' => Tp (M_duck_75 u f t' (nI j) (nI m) (dkP x) (nI x)) _)
        (I := fun x t' => Fr dMr t t' ∧ ∀ y, y < gn (aG A) → gJ t' 67 y = dkN (aG A) i x y) m ?_ ?_ u 0 t1 (by omega) (by omega) ⟨f1, h1⟩
      · intro f t2 ⟨f2, h2⟩
        rw [M_duck_75_s]
        unfold M_duck_75b
        rw [if_pos (nI_le (Nat.le_refl _) (by omega)), aJ_n (by omega) (by omega), bd_some, h2 j hj, cm, bd_some, lt_e, aJ_n (by omega) (by omega), bd_some, if_neg g0, gJ_pI, h2 j hj]
        have hF0 : Fr dMr t (pI t2 45 8 0) := f2.pI (by omega)
        refine TtP (M_tell' _ hF0 MRw_0 (Nat.le_of_ble_eq_true rfl)) (fun t3 h3 => ?_)
        rw [if_neg g0]
        exact TtP (M_tell' _ h3.1 h3.2.1 (Nat.le_of_ble_eq_true rfl)) (fun t4 h4 => Tp_some ⟨rfl, h4.1, h4.2.1⟩)
      · intro f x t2 hx ⟨f2, h2⟩ ih
        rw [M_duck_75_s]
        unfold M_duck_75b
        rw [if_neg (nI_ge hx (by omega)), nI_1]
        refine TtP (M_goDuck_ok hu h6 (M_env ht f2).1.1.1 h2) (fun t3 h3 => ?_)
        rw [lt_e]
        exact ih t3 ⟨f2.trans (h3.1.mono (fun i k q => by omega)), h3.2⟩
    · intro f x t1 hx ⟨f1, h1⟩ ih
      rw [M_duck_36_s]
      unfold M_duck_36b
      rw [(M_env ht f1).1.1.1.1, if_neg (nI_ge hx (by omega))]
      have hgo : ∀ v : Int64, v = (if x = i then 1 else 0) → Tp (M_duck_62 u (M_duck_36 u f) t1 (nI i) (nI j) (nI m) (nI x) (nI x) v) (fun v t' => v = 0 ∧ Fr dMr t t' ∧ MRw [dkN (aG A) i m j / gg, dkP m / gg] t') := by
        intro v hv
        unfold M_duck_62
        rw [tJ_n (by omega) (by omega), bd_some, nI_1]
        refine ih _ ⟨f1.pJ (by omega), fun y hy => ?_⟩
        rw [gJ_pJ]
        by_cases e2 : y = x
        · rw [if_pos ⟨rfl, e2⟩, e2, hv]
        · rw [if_neg (fun q => e2 q.2)]
          exact h1 y (by omega)
      by_cases e : x = i
      · rw [if_pos (by rw [e])]
        exact hgo 1 (by rw [if_pos e])
      · rw [if_neg (fun h => e ((nI_eq (by omega) (by omega)).mp h))]
        exact hgo 0 (by rw [if_neg e])
