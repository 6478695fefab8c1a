/-! LAW: operations that look ahead, day by day -/
set_option maxRecDepth 100000
theorem M_isKing_ok (x : Int32) : M_isKing x = some (if nI 0 ≤ x ∧ x ≤ nI 3 then 1 else 0) := by
  unfold M_isKing
  rw [Min_0_3, zr_e]
/-! ### brims -/
theorem op_brims {u c : Nat} {s : Sg} {A : AS} (hu : 20000 ≤ u) (hX : XI A s) (hM : MI u A s) (hG : GI c A) (x : Int32) : Bth u c s (X_brims u s x) (fun t => M_brims u t x) := by
  have h6 := hG.1.1
  rcases in_n x (gn (aG A)) (by omega) with ⟨i, hi, e⟩ | hno
  rotate_left
  · refine both_no (-1) hX hM hG ?_ (fun t ht => ?_)
    · unfold X_brims
      rw [X_isL hX, gd_e, if_neg hno]
    · unfold M_brims
      rw [lt_e, M_isL ht, gd_e, if_neg hno] <;> rfl
  subst e
  have hb9 := (hG.1.2 i hi).2.1
  refine both_row (match fs (tlP (aG A) (aRu A) (aW A) i (gb (aG A) i)) 100 0 with | none => -2 | some k => nI k) (match fs (tlP (aG A) (aRu A) (aW A) i (gb (aG A) i)) 100 0 with | none => aRow A | some k => [(nI (ws (dyN (aG A) (aRu A) k (aW A))) - nI (ws (aW A))).toInt64]) hX hM hG ?_ (fun t ht => ?_)
  · unfold X_brims
    rw [X_isL hX, gd_e, if_pos (in_nyes hi (by omega)), aI_n (by omega) (by omega), bd_some, (hX.1.2.1.2 i hi).1]
    refine TpP (X_till (v := gb (aG A) i) hu hX hG hi (by omega)) (fun a t h => ?_)
    obtain ⟨hS, h⟩ := h
    have hF : Fr dXr s t := hS.mono (fun i k => dSX_Xr)
    cases hf : fs (tlP (aG A) (aRu A) (aW A) i (gb (aG A) i)) 100 0 with
    | none =>
      rw [hf] at h
      rw [h, if_neg (by decide)]
      exact Tp_some ⟨rfl, hF, hX.2.2.1.mv (hS.I (by omega)) (fun k => hS.J (by omega))⟩
    | some k =>
      rw [hf] at h
      obtain ⟨h1, hk, hW⟩ := h
      have hF0 : Fr dXr s (pI t 0 48 0) := hF.pI (by omega)
      rw [h1, if_pos (nI_pos' (by omega)), lt_e, (hW.r0 (by omega)).2.2.2.2.2.2.1, (X_env hX hF0).2.2.2.2.2.2.2.1]
      exact TtP (X_tell' _ hF0 XRow_0 (by decide)) (fun t' h' => Tp_some ⟨rfl, h'.1, h'.2.1⟩)
  · unfold M_brims
    rw [lt_e, M_isL ht, gd_e, if_pos (in_nyes hi (by omega))]
    refine TtP (M_try' hu ht hG M_th) (fun t1 h1 => ?_)
    refine loop_i (W := fun f j t' => Tp (M_brims_29 u f t' (nI i) (nI j)) _)
      (I := fun j t' => Fr dSM t t' ∧ Fr dMr t t' ∧ MW (gn (aG A)) t' 58 0 (dyN (aG A) (aRu A) j (aW A)) ∧ fs (tlP (aG A) (aRu A) (aW A) i (gb (aG A) i)) 100 0 = fs (tlP (aG A) (aRu A) (aW A) i (gb (aG A) i)) (100 - j) j) 100 ?_ ?_ u 0 t1 (by omega) (by omega) ⟨((Fr.refl _ _).pI (by omega)).trans h1.2.2, h1.1, h1.2.1, rfl⟩
    · intro f t' ⟨hS, hF, hW, he⟩
      show Tp (M_brims_29 u (f + 1) t' (nI i) (nI 100)) _
      rw [M_brims_29_s]
      unfold M_brims_29b
      rw [if_pos (by decide), he]
      exact Tp_some ⟨rfl, hF, ht.2.2.1.mv (hS.I (by omega)) (fun k => hS.J (by omega))⟩
    · intro f j t' hj ⟨hS, hF, hW, he⟩ ih
      show Tp (M_brims_29 u (f + 1) t' (nI i) (nI j)) _
      rw [fs_s _ hj] at he
      have hg := dyN_good (ru := aRu A) hG.2.1 j
      have hb := (hg.1 i hi).1
      rw [M_brims_29_s]
      unfold M_brims_29b
      rw [show (99 : Int32) = nI 99 from rfl, if_neg (nI_nlt (by omega) (by omega)), aI_n (by omega) (by omega), bd_some, (MW_row hW).1 i hi, nI_1, aI_n (by omega) (by omega), bd_some, ((M_env ht hF).1.1.1.2 i hi).1]
      by_cases e : wl (dyN (aG A) (aRu A) j (aW A)) i = gb (aG A) i
      · have ep : tlP (aG A) (aRu A) (aW A) i (gb (aG A) i) j = true := decide_eq_true e
        rw [ep] at he
        simp only [if_true] at he
        have hF0 : Fr dMr t (pI t' 45 8 0) := hF.pI (by omega)
        have l31 : ∀ (q : Sg) (a : Nat), aI q a 33 31 = some (gI q a 31) := fun q a => aI_n (k := 31) (by omega) (by omega)
        rw [if_pos (by rw [e]), he, lt_e, l31, bd_some, l31, bd_some, (MW_row (hW.r0 (by omega))).2.2.2.2.2.2.1, (MW_row (M_env ht hF0).2).2.2.2.2.2.2.1]
        exact TtP (M_tell' _ hF0 MRw_0 (by decide)) (fun t'' h' => Tp_some ⟨rfl, h'.1, h'.2.1⟩)
      · have ep : tlP (aG A) (aRu A) (aW A) i (gb (aG A) i) j = false := decide_eq_false e
        rw [ep] at he
        simp only [Bool.false_eq_true, if_false] at he
        rw [if_neg (fun h => e ((nI_eq (by omega) (by omega)).mp h))]
        exact TtP (M_tday hu ht hG hF hW hg) (fun t'' h' => ih t'' ⟨hS.trans h'.2.2, h'.1, h'.2.1, he⟩)
/-! ### meets -/
def mtP (g : Geo) (ru : Ru) (W : Wt) (i j : Nat) (k : Nat) : Bool := decide (wl (dyN g ru k W) i = wl (dyN g ru k W) j)
theorem op_meets {u c : Nat} {s : Sg} {A : AS} (hu : 20000 ≤ u) (hX : XI A s) (hM : MI u A s) (hG : GI c A) (x y : Int32) : Bth u c s (X_meets u s x y) (fun t => M_meets u t x y) := by
  have h6 := hG.1.1
  rcases in_n x (gn (aG A)) (by omega) with ⟨i, hi, e⟩ | hno
  rotate_left
  · refine both_no (-1) hX hM hG ?_ (fun t ht => ?_)
    · unfold X_meets
      rw [X_isL hX, gd_e, if_neg hno]
    · unfold M_meets M_areTwo
      rw [lt_e, M_isL ht, gd_e, if_neg hno]
      rfl
  subst e
  rcases in_n y (gn (aG A)) (by omega) with ⟨m, hm, e⟩ | hno
  rotate_left
  · refine both_no (-1) hX hM hG ?_ (fun t ht => ?_)
    · unfold X_meets
      rw [X_isL hX, gd_e, if_pos (in_nyes hi (by omega)), X_isL hX, gd_e, if_neg hno]
    · unfold M_meets M_areTwo
      rw [lt_e, M_isL ht, gd_e, if_pos (in_nyes hi (by omega)), M_isL ht, gd_e, if_neg hno]
      rfl
  subst e
  by_cases him : i = m
  · subst him
    refine both_no (-1) hX hM hG ?_ (fun t ht => ?_)
    · unfold X_meets
      rw [X_isL hX, gd_e, if_pos (in_nyes hi (by omega)), gd_e, if_pos (in_nyes hi (by omega)), if_pos rfl]
    · unfold M_meets M_areTwo
      rw [lt_e, M_isL ht, gd_e, if_pos (in_nyes hi (by omega)), gd_e, if_pos (in_nyes hi (by omega)), if_pos rfl]
      rfl
  have hne : ¬ nI i = nI m := fun h => him ((nI_eq (by omega) (by omega)).mp h)
  refine both_row (match fs (mtP (aG A) (aRu A) (aW A) i m) 100 0 with | none => -2 | some k => nI k) (match fs (mtP (aG A) (aRu A) (aW A) i m) 100 0 with | none => aRow A | some k => [(nI (wl (dyN (aG A) (aRu A) k (aW A)) i)).toInt64]) hX hM hG ?_ (fun t ht => ?_)
  · unfold X_meets
    rw [X_isL hX, gd_e, if_pos (in_nyes hi (by omega)), X_isL hX, gd_e, if_pos (in_nyes hm (by omega)), if_neg hne]
    refine TtP (X_try' hX hG (Fr.refl _ _)) (fun t1 h1 => ?_)
    refine loop_i (W := fun f j t => Tp (X_meets_36 u f t (nI i) (nI m) (nI j)) _)
      (I := fun j t => Fr dSX s t ∧ Fr dXr s t ∧ XW (gn (aG A)) t 6 (dyN (aG A) (aRu A) j (aW A)) ∧ fs (mtP (aG A) (aRu A) (aW A) i m) 100 0 = fs (mtP (aG A) (aRu A) (aW A) i m) (100 - j) j) 100 ?_ ?_ u 0 t1 (by omega) (by omega) ⟨h1.2.2, h1.1, h1.2.1, rfl⟩
    · intro f t ⟨hS, hF, hW, he⟩
      show Tp (X_meets_36 u (f + 1) t (nI i) (nI m) (nI 100)) _
      rw [X_meets_36_s]
      unfold X_meets_36b
      rw [if_pos (by decide), he]
      exact Tp_some ⟨rfl, hF, hX.2.2.1.mv (hS.I (by omega)) (fun k => hS.J (by omega))⟩
    · intro f j t hj ⟨hS, hF, hW, he⟩ ih
      show Tp (X_meets_36 u (f + 1) t (nI i) (nI m) (nI j)) _
      rw [fs_s _ hj] at he
      have hg := dyN_good (ru := aRu A) hG.2.1 j
      have hb := (hg.1 i hi).1
      have hb2 := (hG.1.2 i hi).2.1
      have hb3 := (hg.1 m hm).1
      have hb4 := (hG.1.2 m hm).2.1
      rw [X_meets_36_s]
      unfold X_meets_36b
      rw [show (99 : Int32) = nI 99 from rfl, if_neg (nI_nlt (by omega) (by omega)), aI_n (by omega) (by omega), bd_some, aI_n (by omega) (by omega), bd_some, hW.1 i hi, hW.1 m hm, nI_1]
      by_cases e : wl (dyN (aG A) (aRu A) j (aW A)) i = wl (dyN (aG A) (aRu A) j (aW A)) m
      · have ep : mtP (aG A) (aRu A) (aW A) i m j = true := decide_eq_true e
        rw [ep] at he
        simp only [if_true] at he
        have hF0 : Fr dXr s (pI t 0 48 0) := hF.pI (by omega)
        rw [if_pos (by rw [e]), he, lt_e, aI_n (by omega) (by omega), bd_some, (hW.r0 (by omega)).1 i hi]
        exact TtP (X_tell' _ hF0 XRow_0 (by decide)) (fun t' h' => Tp_some ⟨rfl, h'.1, h'.2.1⟩)
      · have ep : mtP (aG A) (aRu A) (aW A) i m j = false := decide_eq_false e
        rw [ep] at he
        simp only [Bool.false_eq_true, if_false] at he
        rw [if_neg (fun h => e ((nI_eq (by omega) (by omega)).mp h))]
        exact TtP (X_tday hu hX hG hF hW hg) (fun t' h' => ih t' ⟨hS.trans h'.2.2, h'.1, h'.2.1, he⟩)
  · unfold M_meets M_areTwo
    rw [lt_e, M_isL ht, gd_e, if_pos (in_nyes hi (by omega)), M_isL ht, gd_e, if_pos (in_nyes hm (by omega)), if_neg hne, bd_some, if_neg (by decide)]
    refine TtP (M_try' hu ht hG M_th) (fun t1 h1 => ?_)
    refine loop_i (W := fun f j t' => Tp (M_meets_30 u f t' (nI i) (nI m) (nI j)) _)
      (I := fun j t' => Fr dSM t t' ∧ Fr dMr t t' ∧ MW (gn (aG A)) t' 58 0 (dyN (aG A) (aRu A) j (aW A)) ∧ fs (mtP (aG A) (aRu A) (aW A) i m) 100 0 = fs (mtP (aG A) (aRu A) (aW A) i m) (100 - j) j) 100 ?_ ?_ u 0 t1 (by omega) (by omega) ⟨((Fr.refl _ _).pI (by omega)).trans h1.2.2, h1.1, h1.2.1, rfl⟩
    · intro f t' ⟨hS, hF, hW, he⟩
      show Tp (M_meets_30 u (f + 1) t' (nI i) (nI m) (nI 100)) _
      rw [M_meets_30_s]
      unfold M_meets_30b
      rw [if_pos (by decide), he]
      exact Tp_some ⟨rfl, hF, ht.2.2.1.mv (hS.I (by omega)) (fun k => hS.J (by omega))⟩
    · intro f j t' hj ⟨hS, hF, hW, he⟩ ih
      show Tp (M_meets_30 u (f + 1) t' (nI i) (nI m) (nI j)) _
      rw [fs_s _ hj] at he
      have hg := dyN_good (ru := aRu A) hG.2.1 j
      have hb := (hg.1 i hi).1
      have hb2 := (hG.1.2 i hi).2.1
      have hb3 := (hg.1 m hm).1
      have hb4 := (hG.1.2 m hm).2.1
      rw [M_meets_30_s]
      unfold M_meets_30b
      rw [show (99 : Int32) = nI 99 from rfl, if_neg (nI_nlt (by omega) (by omega)), aI_n (by omega) (by omega), bd_some, aI_n (by omega) (by omega), bd_some, (MW_row hW).1 i hi, (MW_row hW).1 m hm, nI_1]
      by_cases e : wl (dyN (aG A) (aRu A) j (aW A)) i = wl (dyN (aG A) (aRu A) j (aW A)) m
      · have ep : mtP (aG A) (aRu A) (aW A) i m j = true := decide_eq_true e
        rw [ep] at he
        simp only [if_true] at he
        have hF0 : Fr dMr t (pI t' 45 8 0) := hF.pI (by omega)
        rw [if_pos (by rw [e]), he, lt_e, aI_n (by omega) (by omega), bd_some, (MW_row (hW.r0 (by omega))).1 i hi]
        exact TtP (M_tell' _ hF0 MRw_0 (by decide)) (fun t'' h' => Tp_some ⟨rfl, h'.1, h'.2.1⟩)
      · have ep : mtP (aG A) (aRu A) (aW A) i m j = false := decide_eq_false e
        rw [ep] at he
        simp only [Bool.false_eq_true, if_false] at he
        rw [if_neg (fun h => e ((nI_eq (by omega) (by omega)).mp h))]
        exact TtP (M_tday hu ht hG hF hW hg) (fun t'' h' => ih t'' ⟨hS.trans h'.2.2, h'.1, h'.2.1, he⟩)
