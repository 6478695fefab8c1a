/-! LAW: spoon, needs, plugs touched -/
set_option maxRecDepth 100000
/-! ### spoon -/
def spS (g : Geo) (ru : Ru) (W : Wt) (i v : Nat) : Nat → Wt × Nat
  | 0 => (W, 0)
  | k + 1 => (dyS g ru (wL' (spS g ru W i v k).1 i (wl (spS g ru W i v k).1 i - min v (wl (spS g ru W i v k).1 i))), (spS g ru W i v k).2 + min v (wl (spS g ru W i v k).1 i))
theorem spS_s (g : Geo) (ru : Ru) (W : Wt) (i v k : Nat) : spS g ru W i v (k + 1) = (dyS g ru (wL' (spS g ru W i v k).1 i (wl (spS g ru W i v k).1 i - min v (wl (spS g ru W i v k).1 i))), (spS g ru W i v k).2 + min v (wl (spS g ru W i v k).1 i)) := rfl
theorem GoodW.low {g : Geo} {W : Wt} {i v : Nat} (h : GoodW g W) (hv : v ≤ wl W i) : GoodW g (wL' W i v) := by
  refine ⟨fun k hk => ⟨?_, (h.1 k hk).2⟩, h.2⟩
  show upN (wl W) i v k ≤ gb g k
  have := (h.1 k hk).1
  by_cases e : k = i
  · subst e
    rw [upN_s]
    omega
  · rw [upN_n e]
    omega
theorem GoodW.tap {g : Geo} {W : Wt} {i v : Nat} (h : GoodW g W) (hv : v ≤ 9) : GoodW g (wT' W i v) := by
  refine ⟨fun k hk => ⟨(h.1 k hk).1, (h.1 k hk).2.1, ?_, (h.1 k hk).2.2.2⟩, h.2⟩
  show upN (wt W) i v k ≤ 9
  by_cases e : k = i
  · subst e
    rw [upN_s]
    exact hv
  · rw [upN_n e]
    exact (h.1 k hk).2.2.1
theorem GoodW.hair {g : Geo} {W : Wt} {i v : Nat} (h : GoodW g W) (hv : v ≤ 9) : GoodW g (wH' W i v) := by
  refine ⟨fun k hk => ⟨(h.1 k hk).1, ?_, (h.1 k hk).2.2⟩, h.2⟩
  show upN (wh W) i v k ≤ 9
  by_cases e : k = i
  · subst e
    rw [upN_s]
    exact hv
  · rw [upN_n e]
    exact (h.1 k hk).2.1
theorem GoodW.king {g : Geo} {W : Wt} {i v : Nat} (h : GoodW g W) (hv : v ≤ 3) : GoodW g (wK' W i v) := by
  refine ⟨fun k hk => ⟨(h.1 k hk).1, (h.1 k hk).2.1, (h.1 k hk).2.2.1, ?_⟩, h.2⟩
  show upN (wk W) i v k ≤ 3
  by_cases e : k = i
  · subst e
    rw [upN_s]
    exact hv
  · rw [upN_n e]
    exact (h.1 k hk).2.2.2
theorem GoodW.out {g : Geo} {W : Wt} {o : Nat} (h : GoodW g W) (hv : o < 2 ^ gn g) : GoodW g (wO' W o) := ⟨h.1, hv, h.2.2⟩
theorem spS_good {g : Geo} {ru : Ru} {W : Wt} (h : GoodW g W) (i v k : Nat) : GoodW g (spS g ru W i v k).1 := by
  induction k with
  | zero => exact h
  | succ k ih =>
    rw [spS_s]
    exact dayS_good (ih.low (by omega))
theorem op_spoon {u c : Nat} {s : Sg} {A : AS} (hu : 20000 ≤ u) (hX : XI A s) (hM : MI u A s) (hG : GI c A) (x y z : Int32) : Bth u c s (X_spoon u s x y z) (fun t => M_spoon u t x y z) := by
  have h6 := hG.1.1
  rcases in_n x (gn (aG A)) (by omega) with ⟨i, hi, e⟩ | hno
  rotate_left
  · refine both_no (-1) hX hM hG ?_ (fun t ht => ?_)
    · unfold X_spoon
      rw [X_isL hX, gd_e, if_neg hno]
    · unfold M_spoon
      rw [lt_e, M_isL ht, gd_e, if_neg hno] <;> rfl
  subst e
  rcases in_or2 y 1 9 (by omega) (by omega) with ⟨v, hv0, hv, e⟩ | hno
  rotate_left
  · refine both_no (-1) hX hM hG ?_ (fun t ht => ?_)
    · unfold X_spoon
      rw [X_isL hX, gd_e, if_pos (in_nyes hi (by omega)), Xin_1_9, gd_e, if_neg hno]
    · unfold M_spoon
      rw [lt_e, M_isL ht, gd_e, if_pos (in_nyes hi (by omega)), Min_1_9, gd_e, if_neg hno] <;> rfl
  subst e
  rcases in_or2 z 0 60 (by omega) (by omega) with ⟨m, hm0, hm, e⟩ | hno
  rotate_left
  · refine both_no (-1) hX hM hG ?_ (fun t ht => ?_)
    · unfold X_spoon
      rw [X_isL hX, gd_e, if_pos (in_nyes hi (by omega)), Xin_1_9, gd_e, if_pos (in_yes2 hv0 hv (by omega)), Xin_0_60, gd_e, if_neg hno]
    · unfold M_spoon
      rw [lt_e, M_isL ht, gd_e, if_pos (in_nyes hi (by omega)), Min_1_9, gd_e, if_pos (in_yes2 hv0 hv (by omega)), Min_0_60, gd_e, if_neg hno] <;> rfl
  subst e
  refine both_row (nI (wl (spS (aG A) (aRu A) (aW A) i v m).1 i)) [(nI (spS (aG A) (aRu A) (aW A) i v m).2).toInt64] hX hM hG ?_ (fun t ht => ?_)
  · unfold X_spoon
    rw [X_isL hX, gd_e, if_pos (in_nyes hi (by omega)), Xin_1_9, gd_e, if_pos (in_yes2 hv0 hv (by omega)), Xin_0_60, gd_e, if_pos (in_yes2 hm0 hm (by omega))]
    refine TtP (X_try' hX hG (Fr.refl _ _)) (fun t1 h1 => ?_)
    refine loop_i (W := fun f j t => Tp (X_spoon_51 u f t (nI i) (nI v) (nI m) (nI (spS (aG A) (aRu A) (aW A) i v j).2) (nI j)) _)
      (I := fun j t => Fr dXr s t ∧ XW (gn (aG A)) t 6 (spS (aG A) (aRu A) (aW A) i v j).1) m ?_ ?_ u 0 t1 (by omega) (by omega) ⟨h1.1, h1.2.1⟩
    · intro f t ⟨hF, hW⟩
      rw [X_spoon_51_s]
      unfold X_spoon_51b
      rw [if_pos (nI_le (Nat.le_refl _) (by omega)), lt_e]
      have hF0 : Fr dXr s (pI t 0 48 0) := hF.pI (by omega)
      refine TtP (X_tell' _ hF0 XRow_0 (Nat.le_of_ble_eq_true rfl)) (fun t2 h2 => ?_)
      rw [aI_n (by omega) (by omega), bd_some]
      exact Tp_some ⟨((hW.r0 (by omega)).g (by omega) h2.2.2).1 i hi, h2.1, h2.2.1⟩
    · intro f j t hj ⟨hF, hW⟩ ih
      have hg := spS_good (ru := aRu A) hG.2.1 i v j
      have hl := lev99 hG.1 hg hi
      have e7 : gI t 7 i = nI (wl (spS (aG A) (aRu A) (aW A) i v j).1 i) := hW.1 i hi
      rw [X_spoon_51_s]
      unfold X_spoon_51b
      rw [if_neg (nI_ge hj (by omega)), aI_n (by omega) (by omega), bd_some, lt_e, bd_some, e7, nI_mi (by omega) (by omega), pk_sub (by omega), tI_n (by omega) (by omega), bd_some, lt_e, nI_add, nI_1]
      refine TtP (X_tday hu hX hG (t := pI t 7 i _) (hF.pI (by omega)) hW.setL (hg.low (by omega))) (fun t2 h2 => ?_)
      exact ih t2 ⟨h2.1, h2.2.1⟩
  · unfold M_spoon
    rw [lt_e, M_isL ht, gd_e, if_pos (in_nyes hi (by omega)), Min_1_9, gd_e, if_pos (in_yes2 hv0 hv (by omega)), Min_0_60, gd_e, if_pos (in_yes2 hm0 hm (by omega))]
    refine TtP (M_try' hu ht hG M_th) (fun t1 h1 => ?_)
    refine loop_i (W := fun f j t' => Tp (M_spoon_53 u f t' (nI i) (nI v) (nI m) (nI (spS (aG A) (aRu A) (aW A) i v j).2) (nI j)) _)
      (I := fun j t' => Fr dMr t t' ∧ MW (gn (aG A)) t' 58 0 (spS (aG A) (aRu A) (aW A) i v j).1) m ?_ ?_ u 0 t1 (by omega) (by omega) ⟨h1.1, h1.2.1⟩
    · intro f t' ⟨hF, hW⟩
      rw [M_spoon_53_s]
      unfold M_spoon_53b
      rw [if_pos (nI_le (Nat.le_refl _) (by omega)), lt_e]
      have hF0 : Fr dMr t (pI t' 45 8 0) := hF.pI (by omega)
      refine TtP (M_tell' _ hF0 MRw_0 (Nat.le_of_ble_eq_true rfl)) (fun t2 h2 => ?_)
      rw [aI_n (by omega) (by omega), bd_some]
      exact Tp_some ⟨(MW_row ((hW.r0 (by omega)).g (by omega) h2.2.2)).1 i hi, h2.1, h2.2.1⟩
    · intro f j t' hj ⟨hF, hW⟩ ih
      have hg := spS_good (ru := aRu A) hG.2.1 i v j
      have hl := lev99 hG.1 hg hi
      have e7 : gI t' 58 i = nI (wl (spS (aG A) (aRu A) (aW A) i v j).1 i) := (MW_row hW).1 i hi
      rw [M_spoon_53_s]
      unfold M_spoon_53b
      rw [if_neg (nI_ge hj (by omega)), aI_n (by omega) (by omega), bd_some, lt_e, lt_e, bd_some, e7, nI_mi (by omega) (by omega), pk_sub (by omega), tI_n (by omega) (by omega), bd_some, nI_add, nI_1]
      refine TtP (M_tday hu ht hG (t := pI t' 58 i _) (hF.pI (by omega)) (hW.setL h6 hi) (hg.low (by omega))) (fun t2 h2 => ?_)
      exact ih t2 ⟨h2.1, h2.2.1⟩
/-! ### needs -/
def ndW (g : Geo) (ru : Ru) (W : Wt) (i m k : Nat) : Wt := dyN g ru m (wT' W i k)
def ndP (g : Geo) (ru : Ru) (W : Wt) (i v m k : Nat) : Bool := decide (v ≤ wl (ndW g ru W i m k) i)
theorem op_needs {u c : Nat} {s : Sg} {A : AS} (hu : 20000 ≤ u) (hX : XI A s) (hM : MI u A s) (hG : GI c A) (x y z : Int32) : Bth u c s (X_needs u s x y z) (fun t => M_needs u t x y z) := by
  have h6 := hG.1.1
  rcases in_n x (gn (aG A)) (by omega) with ⟨i, hi, e⟩ | hno
  rotate_left
  · refine both_no (-1) hX hM hG ?_ (fun t ht => ?_)
    · unfold X_needs
      rw [X_isL hX, gd_e, if_neg hno]
    · unfold M_needs
      rw [lt_e, M_isL ht, gd_e, if_neg hno] <;> rfl
  subst e
  rcases in_or2 y 0 99 (by omega) (by omega) with ⟨v, hv0, hv, e⟩ | hno
  rotate_left
  · refine both_no (-1) hX hM hG ?_ (fun t ht => ?_)
    · unfold X_needs
      rw [X_isL hX, gd_e, if_pos (in_nyes hi (by omega)), Xin_0_99, gd_e, if_neg hno]
    · unfold M_needs
      rw [lt_e, M_isL ht, gd_e, if_pos (in_nyes hi (by omega)), Min_0_99, gd_e, if_neg hno] <;> rfl
  subst e
  rcases in_or2 z 0 60 (by omega) (by omega) with ⟨m, hm0, hm, e⟩ | hno
  rotate_left
  · refine both_no (-1) hX hM hG ?_ (fun t ht => ?_)
    · unfold X_needs
      rw [X_isL hX, gd_e, if_pos (in_nyes hi (by omega)), Xin_0_99, gd_e, if_pos (in_yes2 hv0 hv (by omega)), Xin_0_60, gd_e, if_neg hno]
    · unfold M_needs
      rw [lt_e, M_isL ht, gd_e, if_pos (in_nyes hi (by omega)), Min_0_99, gd_e, if_pos (in_yes2 hv0 hv (by omega)), Min_0_60, gd_e, if_neg hno] <;> rfl
  subst e
  refine both_row (match fs (ndP (aG A) (aRu A) (aW A) i v m) 10 0 with | none => -2 | some k => nI k) (match fs (ndP (aG A) (aRu A) (aW A) i v m) 10 0 with | none => aRow A | some k => [(nI (wl (ndW (aG A) (aRu A) (aW A) i m k) i)).toInt64]) hX hM hG ?_ (fun t ht => ?_)
  · unfold X_needs
    rw [X_isL hX, gd_e, if_pos (in_nyes hi (by omega)), Xin_0_99, gd_e, if_pos (in_yes2 hv0 hv (by omega)), Xin_0_60, gd_e, if_pos (in_yes2 hm0 hm (by omega))]
    refine loop_i (W := fun f j t => Tp (X_needs_37 u f t (nI i) (nI v) (nI m) (nI j)) _)
      (I := fun j t => Fr dSX s t ∧ fs (ndP (aG A) (aRu A) (aW A) i v m) 10 0 = fs (ndP (aG A) (aRu A) (aW A) i v m) (10 - j) j) 10 ?_ ?_ u 0 s (by omega) (by omega) ⟨Fr.refl _ _, rfl⟩
    · intro f t ⟨hS, he⟩
      show Tp (X_needs_37 u (f + 1) t (nI i) (nI v) (nI m) (nI 10)) _
      rw [X_needs_37_s]
      unfold X_needs_37b
      rw [if_pos (by decide), he]
      exact Tp_some ⟨rfl, hS.mono (fun i k => dSX_Xr), hX.2.2.1.mv (hS.I (by omega)) (fun k => hS.J (by omega))⟩
    · intro f j t hj ⟨hS, he⟩ ih
      rw [fs_s _ hj] at he
      rw [X_needs_37_s]
      unfold X_needs_37b
      rw [show (9 : Int32) = nI 9 from rfl, if_neg (nI_nlt (by omega) (by omega))]
      refine TtP (X_try' hX hG (hS.mono (fun i k => dSX_Xr))) (fun t1 h1 => ?_)
      rw [tI_n (by omega) (by omega), bd_some]
      have hg := hG.2.1.tap (i := i) (v := j) (by omega)
      refine TtP (X_tdays hu hX hG (t := pI t1 9 i _) (h1.1.pI (by omega)) h1.2.1.setT hg (by omega)) (fun t2 h2 => ?_)
      have hS2 : Fr dSX s t2 := ((hS.trans h1.2.2).pI (by omega)).trans h2.2.2
      have hl : wl (ndW (aG A) (aRu A) (aW A) i m j) i ≤ 99 := lev99 hG.1 (dyN_good hg m) hi
      have e7 : gI t2 7 i = nI (wl (ndW (aG A) (aRu A) (aW A) i m j) i) := h2.2.1.1 i hi
      rw [aI_n (by omega) (by omega), bd_some, e7, nI_1]
      by_cases e : v ≤ wl (ndW (aG A) (aRu A) (aW A) i m j) i
      · have ep : ndP (aG A) (aRu A) (aW A) i v m j = true := decide_eq_true e
        rw [ep] at he
        simp only [if_true] at he
        have hF0 : Fr dXr s (pI t2 0 48 0) := h2.1.pI (by omega)
        rw [if_pos (nI_le e (by omega)), he, lt_e, aI_n (by omega) (by omega), bd_some, gI_pI_i (by decide), e7]
        exact TtP (X_tell' _ hF0 XRow_0 (Nat.le_of_ble_eq_true rfl)) (fun t' h' => Tp_some ⟨rfl, h'.1, h'.2.1⟩)
      · have ep : ndP (aG A) (aRu A) (aW A) i v m j = false := decide_eq_false e
        rw [ep] at he
        simp only [Bool.false_eq_true, if_false] at he
        rw [if_neg (nI_ge (by omega) (by omega))]
        exact ih t2 ⟨hS2, he⟩
  · unfold M_needs
    rw [lt_e, M_isL ht, gd_e, if_pos (in_nyes hi (by omega)), Min_0_99, gd_e, if_pos (in_yes2 hv0 hv (by omega)), Min_0_60, gd_e, if_pos (in_yes2 hm0 hm (by omega))]
    refine loop_i (W := fun f j t' => Tp (M_needs_38 u f t' (nI i) (nI v) (nI m) (nI j)) _)
      (I := fun j t' => Fr dSM t t' ∧ fs (ndP (aG A) (aRu A) (aW A) i v m) 10 0 = fs (ndP (aG A) (aRu A) (aW A) i v m) (10 - j) j) 10 ?_ ?_ u 0 _ (by omega) (by omega) ⟨(Fr.refl _ _).pI (by omega), rfl⟩
    · intro f t' ⟨hS, he⟩
      show Tp (M_needs_38 u (f + 1) t' (nI i) (nI v) (nI m) (nI 10)) _
      rw [M_needs_38_s]
      unfold M_needs_38b
      rw [if_pos (by decide), he]
      exact Tp_some ⟨rfl, hS.mono (fun i k => dSM_Mr), ht.2.2.1.mv (hS.I (by omega)) (fun k => hS.J (by omega))⟩
    · intro f j t' hj ⟨hS, he⟩ ih
      rw [fs_s _ hj] at he
      rw [M_needs_38_s]
      unfold M_needs_38b
      rw [show (9 : Int32) = nI 9 from rfl, if_neg (nI_nlt (by omega) (by omega))]
      refine TtP (M_try' hu ht hG (hS.mono (fun i k => dSM_Mr))) (fun t1 h1 => ?_)
      rw [ad_18, tI_n (by omega) (by omega), bd_some]
      have hg := hG.2.1.tap (i := i) (v := j) (by omega)
      refine TtP (M_tdays hu ht hG (t := pI t1 58 (18 + i) _) (h1.1.pI (by omega)) (h1.2.1.setT h6 hi) hg (by omega)) (fun t2 h2 => ?_)
      have hS2 : Fr dSM t t2 := ((hS.trans h1.2.2).pI (by omega)).trans h2.2.2
      have hl : wl (ndW (aG A) (aRu A) (aW A) i m j) i ≤ 99 := lev99 hG.1 (dyN_good hg m) hi
      have e7 : gI t2 58 i = nI (wl (ndW (aG A) (aRu A) (aW A) i m j) i) := (MW_row h2.2.1).1 i hi
      rw [aI_n (by omega) (by omega), bd_some, e7, nI_1]
      by_cases e : v ≤ wl (ndW (aG A) (aRu A) (aW A) i m j) i
      · have ep : ndP (aG A) (aRu A) (aW A) i v m j = true := decide_eq_true e
        rw [ep] at he
        simp only [if_true] at he
        have hF0 : Fr dMr t (pI t2 45 8 0) := h2.1.pI (by omega)
        rw [if_pos (nI_le e (by omega)), he, lt_e, aI_n (by omega) (by omega), bd_some, gI_pI_i (by decide), e7]
        exact TtP (M_tell' _ hF0 MRw_0 (Nat.le_of_ble_eq_true rfl)) (fun t' h' => Tp_some ⟨rfl, h'.1, h'.2.1⟩)
      · have ep : ndP (aG A) (aRu A) (aW A) i v m j = false := decide_eq_false e
        rw [ep] at he
        simp only [Bool.false_eq_true, if_false] at he
        rw [if_neg (nI_ge (by omega) (by omega))]
        exact ih t2 ⟨hS2, he⟩
