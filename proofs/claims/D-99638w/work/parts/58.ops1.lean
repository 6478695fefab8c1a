/-! LAW: operations that look ahead -/
set_option maxRecDepth 100000
/-! ### later -/
theorem op_later {u c : Nat} {s : Sg} {A : AS} (hu : 20000 ≤ u) (hX : XI A s) (hM : MI u A s) (hG : GI c A) (x y : Int32) : Bth u c s (X_later u s x y) (fun t => M_later u t x y) := by
  have h6 := hG.1.1
  rcases in_n x (gn (aG A)) (by omega) with ⟨i, hi, e⟩ | hno
  rotate_left
  · refine both_no (-1) hX hM hG ?_ (fun t ht => ?_)
    · unfold X_later
      rw [X_isL hX, gd_e, if_neg hno]
    · unfold M_later
      rw [lt_e, M_isL ht, gd_e, if_neg hno]
  subst e
  rcases in_or2 y 0 99 (by omega) (by omega) with ⟨m, _, hm, e⟩ | hno
  rotate_left
  · refine both_no (-1) hX hM hG ?_ (fun t ht => ?_)
    · unfold X_later
      rw [X_isL hX, gd_e, if_pos (in_nyes hi (by omega)), Xin_0_99, gd_e, if_neg hno]
    · unfold M_later
      rw [lt_e, M_isL ht, gd_e, if_pos (in_nyes hi (by omega)), Min_0_99, gd_e, if_neg hno]
  subst e
  refine both_row (nI (wl (dyN (aG A) (aRu A) m (aW A)) i)) (rwN (fun k => (nI (wl (dyN (aG A) (aRu A) m (aW A)) k)).toInt64) (gn (aG A))) hX hM hG ?_ (fun t ht => ?_)
  · unfold X_later
    rw [X_isL hX, gd_e, if_pos (in_nyes hi (by omega)), Xin_0_99, gd_e, if_pos (in_yes2 (Nat.zero_le _) hm (by omega))]
    refine TtP (X_try hX hG) (fun t1 h1 => TtP (X_tdays hu hX hG h1.1 h1.2 hG.2.1 (by omega)) (fun t2 h2 => ?_))
    rw [lt_e]
    refine loop_i (W := fun f j t => Tp (X_later_49 u f t (nI i) (nI j)) (fun v t => v = nI (wl (dyN (aG A) (aRu A) m (aW A)) i) ∧ Fr dXr s t ∧ XRow (rwN (fun k => (nI (wl (dyN (aG A) (aRu A) m (aW A)) k)).toInt64) (gn (aG A))) t))
      (I := fun j t => Fr dXr s t ∧ XRow (rwN (fun k => (nI (wl (dyN (aG A) (aRu A) m (aW A)) k)).toInt64) j) t ∧ XW (gn (aG A)) t 6 (dyN (aG A) (aRu A) m (aW A))) (gn (aG A)) ?_ ?_ u 0 _ (by omega) (by omega) ⟨h2.1.pI (by omega), XRow_0, h2.2.1.r0 (by omega)⟩
    · intro f t ⟨hF, hr, hW⟩
      show Tp (X_later_49 u (f + 1) t (nI i) (nI (gn (aG A)))) _
      rw [X_later_49_s]
      unfold X_later_49b
      rw [(X_env hX hF).1.2.1.1, if_pos (nI_le (Nat.le_refl _) (by omega)), aI_n (by omega) (by omega), bd_some]
      exact Tp_some ⟨hW.1 i hi, hF, hr⟩
    · intro f j t hj ⟨hF, hr, hW⟩ ih
      show Tp (X_later_49 u (f + 1) t (nI i) (nI j)) _
      rw [X_later_49_s]
      unfold X_later_49b
      rw [(X_env hX hF).1.2.1.1, if_neg (nI_ge hj (by omega)), aI_n (by omega) (by omega), bd_some, hW.1 j hj, nI_1]
      refine TtP (X_tell' _ hF hr (by rw [rwN_len]; omega)) (fun t' h' => ih t' ⟨h'.1, by rw [rwN_s]; exact h'.2.1, hW.g (by omega) h'.2.2⟩)
  · unfold M_later
    rw [lt_e, M_isL ht, gd_e, if_pos (in_nyes hi (by omega)), Min_0_99, gd_e, if_pos (in_yes2 (Nat.zero_le _) hm (by omega))]
    refine TtP (M_then hu ht hG M_th (by omega)) (fun t2 h2 => ?_)
    rw [lt_e]
    refine loop_i (W := fun f j t' => Tp (M_later_37 u f t' (nI i) (nI j)) (fun v t' => v = nI (wl (dyN (aG A) (aRu A) m (aW A)) i) ∧ Fr dMr t t' ∧ MRw (rwN (fun k => (nI (wl (dyN (aG A) (aRu A) m (aW A)) k)).toInt64) (gn (aG A))) t'))
      (I := fun j t' => Fr dMr t t' ∧ MRw (rwN (fun k => (nI (wl (dyN (aG A) (aRu A) m (aW A)) k)).toInt64) j) t' ∧ MW (gn (aG A)) t' 58 0 (dyN (aG A) (aRu A) m (aW A))) (gn (aG A)) ?_ ?_ u 0 _ (by omega) (by omega) ⟨h2.1.pI (by omega), MRw_0, h2.2.r0 (by omega)⟩
    · intro f t' ⟨hF, hr, hW⟩
      show Tp (M_later_37 u (f + 1) t' (nI i) (nI (gn (aG A)))) _
      rw [M_later_37_s]
      unfold M_later_37b
      rw [(M_env ht hF).1.1.1.1, if_pos (nI_le (Nat.le_refl _) (by omega)), aI_n (by omega) (by omega), bd_some]
      exact Tp_some ⟨(MW_row hW).1 i hi, hF, hr⟩
    · intro f j t' hj ⟨hF, hr, hW⟩ ih
      show Tp (M_later_37 u (f + 1) t' (nI i) (nI j)) _
      rw [M_later_37_s]
      unfold M_later_37b
      rw [(M_env ht hF).1.1.1.1, if_neg (nI_ge hj (by omega)), aI_n (by omega) (by omega), bd_some, (MW_row hW).1 j hj, nI_1]
      refine TtP (M_tell' _ hF hr (by rw [rwN_len]; omega)) (fun t'' h' => ih t'' ⟨h'.1, by rw [rwN_s]; exact h'.2.1, hW.g (by omega) h'.2.2⟩)
/-! ### dries, brims -/
/-- day by day till a lake's level is v -/
def tlP (g : Geo) (ru : Ru) (W : Wt) (i v : Nat) (k : Nat) : Bool := decide (wl (dyN g ru k W) i = v)
theorem X_till {u c : Nat} {s : Sg} {A : AS} {i v : Nat} (hu : 20000 ≤ u) (hX : XI A s) (hG : GI c A) (hi : i < gn (aG A)) (hv : v ≤ 99) : Tp (X_daysTill u s (nI i) (nI v)) (fun a t => Fr dSX s t ∧ match fs (tlP (aG A) (aRu A) (aW A) i v) 100 0 with
    | none => a = -1
    | some k => a = nI k ∧ k ≤ 99 ∧ XW (gn (aG A)) t 6 (dyN (aG A) (aRu A) k (aW A))) := by
  have h6 := hG.1.1
  unfold X_daysTill
  refine TtP (X_try' hX hG (Fr.refl _ _)) (fun t1 h1 => ?_)
  refine loop_i (W := fun f j t => Tp (X_daysTill_13 u f t (nI i) (nI v) (nI j)) _)
    (I := fun j t => Fr dSX s t ∧ Fr dXr s t ∧ XW (gn (aG A)) t 6 (dyN (aG A) (aRu A) j (aW A)) ∧ fs (tlP (aG A) (aRu A) (aW A) i v) 100 0 = fs (tlP (aG A) (aRu A) (aW A) i v) (100 - j) j) 100 ?_ ?_ u 0 t1 (by omega) (by omega) ⟨h1.2.2, h1.1, h1.2.1, rfl⟩
  · intro f t ⟨hS, hF, hW, he⟩
    show Tp (X_daysTill_13 u (f + 1) t (nI i) (nI v) (nI 100)) _
    rw [X_daysTill_13_s]
    unfold X_daysTill_13b
    rw [if_pos (by decide), he]
    exact Tp_some ⟨hS, rfl⟩
  · intro f j t hj ⟨hS, hF, hW, he⟩ ih
    show Tp (X_daysTill_13 u (f + 1) t (nI i) (nI v) (nI j)) _
    rw [fs_s _ hj] at he
    have hg := dyN_good (ru := aRu A) hG.2.1 j
    have hb := (hg.1 i hi).1
    have hb2 := (hG.1.2 i hi).2.1
    rw [X_daysTill_13_s]
    unfold X_daysTill_13b
    rw [show (99 : Int32) = nI 99 from rfl, if_neg (nI_nlt (by omega) (by omega)), aI_n (by omega) (by omega), bd_some, hW.1 i hi, nI_1]
    by_cases e : wl (dyN (aG A) (aRu A) j (aW A)) i = v
    · have ep : tlP (aG A) (aRu A) (aW A) i v j = true := decide_eq_true e
      rw [ep] at he
      simp only [if_true] at he
      rw [if_pos (by rw [e]), he]
      exact Tp_some ⟨hS, rfl, by omega, hW⟩
    · have ep : tlP (aG A) (aRu A) (aW A) i v j = false := decide_eq_false e
      rw [ep] at he
      simp only [Bool.false_eq_true, if_false] at he
      rw [if_neg (fun h => e ((nI_eq (by omega) (by omega)).mp h))]
      exact TtP (X_tday hu hX hG hF hW hg) (fun t' h' => ih t' ⟨hS.trans h'.2.2, h'.1, h'.2.1, he⟩)
theorem dSX_Xr {i k : Nat} (h : dSX i k) : dXr i k := Or.inl h
theorem dSM_Mr {i k : Nat} (h : dSM i k) : dMr i k := Or.inl h
theorem op_dries {u c : Nat} {s : Sg} {A : AS} (hu : 20000 ≤ u) (hX : XI A s) (hM : MI u A s) (hG : GI c A) (x : Int32) : Bth u c s (X_dries u s x) (fun t => M_dries u t x) := by
  have h6 := hG.1.1
  rcases in_n x (gn (aG A)) (by omega) with ⟨i, hi, e⟩ | hno
  rotate_left
  · refine both_no (-1) hX hM hG ?_ (fun t ht => ?_)
    · unfold X_dries
      rw [X_isL hX, gd_e, if_neg hno]
    · unfold M_dries
      rw [lt_e, M_isL ht, gd_e, if_neg hno]
  subst e
  refine both_row (match fs (tlP (aG A) (aRu A) (aW A) i 0) 100 0 with | none => -2 | some k => nI k) (match fs (tlP (aG A) (aRu A) (aW A) i 0) 100 0 with | none => aRow A | some k => [(nI (sm (wl (dyN (aG A) (aRu A) k (aW A))) (gn (aG A)))).toInt64]) hX hM hG ?_ (fun t ht => ?_)
  · unfold X_dries
    rw [X_isL hX, gd_e, if_pos (in_nyes hi (by omega))]
    refine TpP (X_till (v := 0) hu hX hG hi (by omega)) (fun a t h => ?_)
    obtain ⟨hS, h⟩ := h
    have hF : Fr dXr s t := hS.mono (fun i k => dSX_Xr)
    cases hf : fs (tlP (aG A) (aRu A) (aW A) i 0) 100 0 with
    | none =>
      rw [hf] at h
      rw [h, if_neg (by decide)]
      exact Tp_some ⟨rfl, hF, hX.2.2.1.mv (hS.I (by omega)) (fun k => hS.J (by omega))⟩
    | some k =>
      rw [hf] at h
      obtain ⟨h1, hk, hW⟩ := h
      have hW0 := hW.r0 (by omega)
      have hF0 : Fr dXr s (pI t 0 48 0) := hF.pI (by omega)
      rw [h1, if_pos (nI_pos' (by omega)), lt_e, X_water_ok hu hG.1 (X_env hX hF0).1.2.1 (by omega) hW0, bd_some]
      exact TtP (X_tell' _ hF0 XRow_0 (by decide)) (fun t' h' => Tp_some ⟨rfl, h'.1, h'.2.1⟩)
  · unfold M_dries
    rw [lt_e, M_isL ht, gd_e, if_pos (in_nyes hi (by omega))]
    refine TtP (M_try' hu ht hG M_th) (fun t1 h1 => ?_)
    refine loop_i (W := fun f j t' => Tp (M_dries_29 u f t' (nI i) (nI j)) _)
      (I := fun j t' => Fr dSM t t' ∧ Fr dMr t t' ∧ MW (gn (aG A)) t' 58 0 (dyN (aG A) (aRu A) j (aW A)) ∧ fs (tlP (aG A) (aRu A) (aW A) i 0) 100 0 = fs (tlP (aG A) (aRu A) (aW A) i 0) (100 - j) j) 100 ?_ ?_ u 0 t1 (by omega) (by omega) ⟨((Fr.refl _ _).pI (by omega)).trans h1.2.2, h1.1, h1.2.1, rfl⟩
    · intro f t' ⟨hS, hF, hW, he⟩
      show Tp (M_dries_29 u (f + 1) t' (nI i) (nI 100)) _
      rw [M_dries_29_s]
      unfold M_dries_29b
      rw [if_pos (by decide), he]
      exact Tp_some ⟨rfl, hF, ht.2.2.1.mv (hS.I (by omega)) (fun k => hS.J (by omega))⟩
    · intro f j t' hj ⟨hS, hF, hW, he⟩ ih
      show Tp (M_dries_29 u (f + 1) t' (nI i) (nI j)) _
      rw [fs_s _ hj] at he
      have hg := dyN_good (ru := aRu A) hG.2.1 j
      have hb := (hg.1 i hi).1
      have hb2 := (hG.1.2 i hi).2.1
      rw [M_dries_29_s]
      unfold M_dries_29b
      rw [show (99 : Int32) = nI 99 from rfl, if_neg (nI_nlt (by omega) (by omega)), aI_n (by omega) (by omega), bd_some, (MW_row hW).1 i hi, nI_1]
      by_cases e : wl (dyN (aG A) (aRu A) j (aW A)) i = 0
      · have ep : tlP (aG A) (aRu A) (aW A) i 0 j = true := decide_eq_true e
        rw [ep] at he
        simp only [if_true] at he
        have hF0 : Fr dMr t (pI t' 45 8 0) := hF.pI (by omega)
        rw [if_pos (by rw [e]; exact nI_0), he, lt_e, M_water_ok hu hG.1 (M_env ht hF0).1.1.1 (by omega) (hW.r0 (by omega)), bd_some]
        exact TtP (M_tell' _ hF0 MRw_0 (by decide)) (fun t'' h' => Tp_some ⟨rfl, h'.1, h'.2.1⟩)
      · have ep : tlP (aG A) (aRu A) (aW A) i 0 j = false := decide_eq_false e
        rw [ep] at he
        simp only [Bool.false_eq_true, if_false] at he
        rw [if_neg (nI_ne0 (by omega) (by omega))]
        exact TtP (M_tday hu ht hG hF hW hg) (fun t'' h' => ih t'' ⟨hS.trans h'.2.2, h'.1, h'.2.1, he⟩)
