/-! LAW: combs, taps, gives, undo, keep, again -/
set_option maxRecDepth 100000
theorem upN_same (f : Nat → Nat) (i : Nat) : upN f i (f i) = f := funext fun k => by
  by_cases e : k = i
  · subst e
    exact upN_s _ _ _
  · exact upN_n e
theorem op_combs {u c : Nat} {s : Sg} {A : AS} (hu : 20000 ≤ u) (hX : XI A s) (hM : MI u A s) (hG : GI c A) (x : Int32) : Bth u c s (X_combs u s x) (fun t => M_combs u t x) := by
  have h6 := hG.1.1
  unfold X_combs
  rcases in_n x (gn (aG A)) (by omega) with ⟨i, hi, e⟩ | hno
  rotate_left
  · refine both_ref (xx := fun s1 => X_combsOne s1 1 x) (-1) (by decide) hX hM hG (fun t hXt => ?_) (fun t ht => ?_)
    · unfold X_combsOne
      rw [if_pos (by omega), X_isL hXt, gd_e, if_neg hno]
      exact Tp_some ⟨rfl, Fr.refl _ _, hXt⟩
    · unfold M_combs M_refusesComb
      rw [lt_e, M_isL ht, gd_e, if_neg hno, bd_some, if_neg (by decide)]
  subst e
  have hlim := (hG.2.1.1 i hi).2.1
  by_cases hb : wh (aW A) i = 0
  · refine both_ref (xx := fun s1 => X_combsOne s1 1 (nI i)) (-2) (by decide) hX hM hG (fun t hXt => ?_) (fun t ht => ?_)
    · have e3 : gI t 3 i = nI (wh (aW A) i) := hXt.2.1.2.1 i hi
      unfold X_combsOne
      rw [if_pos (by omega), X_isL hXt, gd_e, if_pos (in_nyes hi (by omega)), aI_n (by omega) (by omega), bd_some, e3, tI_n (by omega) (by omega), bd_some, if_pos (by rw [hb]; exact nI_0)]
      have f : Fr dXn t (pI t 3 i 0) := (Fr.refl _ _).pI (by omega)
      have hW : XW (gn (aG A)) (pI t 3 i 0) 1 (wH' (aW A) i 0) := XW.setH (i := i) (v := 0) hXt.2.1
      rw [show wH' (aW A) i 0 = aW A by unfold wH'; rw [← hb, show upN (aW A).2.1 i (wh (aW A) i) = (aW A).2.1 from upN_same _ _]] at hW
      exact Tp_some ⟨rfl, f, hXt.same hG f (hXt.2.2.1.mv (gI_pI_i (by decide)) (fun k => rfl)) hW⟩
    · unfold M_combs M_refusesComb
      rw [lt_e, M_isL ht, gd_e, if_pos (in_nyes hi (by omega)), ad_12, aI_n (by omega) (by omega), bd_some, (MW_row (MI_th ht).2.1).2.2.1 i hi, if_pos (by rw [hb]; exact nI_0), bd_some, if_neg (by decide)]
  · have hne : ¬ nI (wh (aW A) i) = 0 := nI_ne0 (by omega) (by omega)
    refine both_act (xx := fun s1 => X_combsOne s1 1 (nI i)) (nI (wh (aW A) i)) (wH' (aW A) i 0) (nI_pos (by omega)) hu (hG.2.1.hair (by omega)) hX hM hG (fun t hXt => ?_) (fun t ht => ?_)
    · have e3 : gI t 3 i = nI (wh (aW A) i) := hXt.2.1.2.1 i hi
      unfold X_combsOne
      rw [if_pos (by omega), X_isL hXt, gd_e, if_pos (in_nyes hi (by omega)), aI_n (by omega) (by omega), bd_some, e3, tI_n (by omega) (by omega), bd_some, if_neg hne]
      exact Tp_some ⟨rfl, (Fr.refl _ _).pI (by omega), XW.setH (v := 0) hXt.2.1⟩
    · have hM1 := MI_th ht
      unfold M_combs M_refusesComb
      rw [lt_e, M_isL ht, gd_e, if_pos (in_nyes hi (by omega)), ad_12, aI_n (by omega) (by omega), bd_some, (MW_row hM1.2.1).2.2.1 i hi, if_neg hne, bd_some, if_pos (by decide)]
      refine TtP (M_remember_ok hu h6 hM1.2.2.2.1 hG.2.2.1.1 (a := 46) (by omega) hM1.2.1) (fun t1 h1 => ?_)
      have hW1 : MW (gn (aG A)) t1 46 0 (aW A) := hM1.2.1.mv (fun k => h1.1.I (by omega))
      rw [aI_n (by omega) (by omega), bd_some, (MW_row hW1).2.2.1 i hi, tI_n (by omega) (by omega), bd_some]
      exact Tp_some ⟨rfl, (((Fr.refl _ _).pI (by omega)).trans (h1.1.mono (fun i k q => Or.inl q))).pI (by omega), h1.2.mv (gI_pI_i (by decide)) (fun k => gI_pI_i (by decide)), MW.setH (v := 0) h6 hi hW1⟩
theorem op_taps {u c : Nat} {s : Sg} {A : AS} (hu : 20000 ≤ u) (hX : XI A s) (hM : MI u A s) (hG : GI c A) (x y : Int32) : Bth u c s (X_taps u s x y) (fun t => M_taps u t x y) := by
  have h6 := hG.1.1
  unfold X_taps M_taps
  simp only [b2_id]
  have goal : Bth u c s ((W_becomes s 21 1).bind fun s1 => b2 (X_tapsOne s1 1 x y) fun v2 s3 => b2 (X_counts u s3 v2) fun v4 s5 => some (v4, s5)) (fun t => M_becomes u t 18 x y 9) := by
    rcases in_n x (gn (aG A)) (by omega) with ⟨i, hi, e⟩ | hno
    rotate_left
    · refine both_ref (xx := fun s1 => X_tapsOne s1 1 x y) (-1) (by decide) hX hM hG (fun t hXt => ?_) (fun t ht => ?_)
      · unfold X_tapsOne
        rw [if_pos (by omega), X_isL hXt, gd_e, if_neg hno]
        exact Tp_some ⟨rfl, Fr.refl _ _, hXt⟩
      · unfold M_becomes M_refusesCell
        rw [lt_e, M_isL ht, gd_e, if_neg hno, bd_some, if_neg (by decide)]
    subst e
    rcases in_or2 y 0 9 (by omega) (by omega) with ⟨v, hv0, hv, e⟩ | hno
    rotate_left
    · refine both_ref (xx := fun s1 => X_tapsOne s1 1 (nI i) y) (-1) (by decide) hX hM hG (fun t hXt => ?_) (fun t ht => ?_)
      · unfold X_tapsOne
        rw [if_pos (by omega), X_isL hXt, gd_e, if_pos (in_nyes hi (by omega)), Xin_0_9, gd_e, if_neg hno]
        exact Tp_some ⟨rfl, Fr.refl _ _, hXt⟩
      · unfold M_becomes M_refusesCell
        rw [lt_e, M_isL ht, gd_e, if_pos (in_nyes hi (by omega)), Min_0_9, gd_e, if_neg hno, bd_some, if_neg (by decide)]
    subst e
    have hlim := (hG.2.1.1 i hi).2.2.1
    by_cases hb : wt (aW A) i = v
    · refine both_ref (xx := fun s1 => X_tapsOne s1 1 (nI i) (nI v)) (-2) (by decide) hX hM hG (fun t hXt => ?_) (fun t ht => ?_)
      · have e4 : gI t 4 i = nI (wt (aW A) i) := hXt.2.1.2.2.1 i hi
        unfold X_tapsOne
        rw [if_pos (by omega), X_isL hXt, gd_e, if_pos (in_nyes hi (by omega)), Xin_0_9, gd_e, if_pos (in_yes2 hv0 hv (by omega)), aI_n (by omega) (by omega), bd_some, e4, tI_n (by omega) (by omega), bd_some, if_pos (by rw [hb])]
        have f : Fr dXn t (pI t 4 i (nI v)) := (Fr.refl _ _).pI (by omega)
        have hW := XW.setT (i := i) (v := v) hXt.2.1
        rw [show wT' (aW A) i v = aW A by unfold wT'; rw [← hb, show upN (aW A).2.2.1 i (wt (aW A) i) = (aW A).2.2.1 from upN_same _ _]] at hW
        exact Tp_some ⟨rfl, f, hXt.same hG f (hXt.2.2.1.mv (gI_pI_i (by decide)) (fun k => rfl)) hW⟩
      · unfold M_becomes M_refusesCell
        rw [lt_e, M_isL ht, gd_e, if_pos (in_nyes hi (by omega)), Min_0_9, gd_e, if_pos (in_yes2 hv0 hv (by omega)), ad_18, aI_n (by omega) (by omega), bd_some, (MW_row (MI_th ht).2.1).2.2.2.1 i hi, if_pos (by rw [hb]), bd_some, if_neg (by decide)]
    · have hne : ¬ nI (wt (aW A) i) = nI v := fun h => hb ((nI_eq (by omega) (by omega)).mp h)
      refine both_act (xx := fun s1 => X_tapsOne s1 1 (nI i) (nI v)) (nI (10 + wt (aW A) i)) (wT' (aW A) i v) (nI_pos (by omega)) hu (hG.2.1.tap hv) hX hM hG (fun t hXt => ?_) (fun t ht => ?_)
      · have e4 : gI t 4 i = nI (wt (aW A) i) := hXt.2.1.2.2.1 i hi
        unfold X_tapsOne
        rw [if_pos (by omega), X_isL hXt, gd_e, if_pos (in_nyes hi (by omega)), Xin_0_9, gd_e, if_pos (in_yes2 hv0 hv (by omega)), aI_n (by omega) (by omega), bd_some, e4, tI_n (by omega) (by omega), bd_some, if_neg hne, ad_10]
        exact Tp_some ⟨rfl, (Fr.refl _ _).pI (by omega), XW.setT hXt.2.1⟩
      · have hM1 := MI_th ht
        unfold M_becomes M_refusesCell
        rw [lt_e, M_isL ht, gd_e, if_pos (in_nyes hi (by omega)), Min_0_9, gd_e, if_pos (in_yes2 hv0 hv (by omega)), ad_18, aI_n (by omega) (by omega), bd_some, (MW_row hM1.2.1).2.2.2.1 i hi, if_neg hne, bd_some, if_pos (by decide)]
        refine TtP (M_remember_ok hu h6 hM1.2.2.2.1 hG.2.2.1.1 (a := 46) (by omega) hM1.2.1) (fun t1 h1 => ?_)
        have hW1 : MW (gn (aG A)) t1 46 0 (aW A) := hM1.2.1.mv (fun k => h1.1.I (by omega))
        rw [aI_n (by omega) (by omega), bd_some, (MW_row hW1).2.2.2.1 i hi, tI_n (by omega) (by omega), bd_some, ad_10]
        exact Tp_some ⟨rfl, (((Fr.refl _ _).pI (by omega)).trans (h1.1.mono (fun i k q => Or.inl q))).pI (by omega), h1.2.mv (gI_pI_i (by decide)) (fun k => gI_pI_i (by decide)), MW.setT h6 hi hW1⟩
  simp only [b2_id] at goal
  exact goal
theorem op_gives {u c : Nat} {s : Sg} {A : AS} (hu : 20000 ≤ u) (hX : XI A s) (hM : MI u A s) (hG : GI c A) (x y : Int32) : Bth u c s (X_gives u s x y) (fun t => M_gives u t x y) := by
  have h6 := hG.1.1
  unfold X_gives M_gives
  simp only [b2_id]
  have goal : Bth u c s ((W_becomes s 21 1).bind fun s1 => b2 (X_givesOne s1 1 x y) fun v2 s3 => b2 (X_counts u s3 v2) fun v4 s5 => some (v4, s5)) (fun t => M_becomes u t 24 x y 3) := by
    rcases in_n x (gn (aG A)) (by omega) with ⟨i, hi, e⟩ | hno
    rotate_left
    · refine both_ref (xx := fun s1 => X_givesOne s1 1 x y) (-1) (by decide) hX hM hG (fun t hXt => ?_) (fun t ht => ?_)
      · unfold X_givesOne
        rw [if_pos (by omega), X_isL hXt, gd_e, if_neg hno]
        exact Tp_some ⟨rfl, Fr.refl _ _, hXt⟩
      · unfold M_becomes M_refusesCell
        rw [lt_e, M_isL ht, gd_e, if_neg hno, bd_some, if_neg (by decide)]
    subst e
    rcases in_or2 y 0 3 (by omega) (by omega) with ⟨v, hv0, hv, e⟩ | hno
    rotate_left
    · refine both_ref (xx := fun s1 => X_givesOne s1 1 (nI i) y) (-1) (by decide) hX hM hG (fun t hXt => ?_) (fun t ht => ?_)
      · unfold X_givesOne
        rw [if_pos (by omega), X_isL hXt, gd_e, if_pos (in_nyes hi (by omega)), Xin_0_3, gd_e, if_neg hno]
        exact Tp_some ⟨rfl, Fr.refl _ _, hXt⟩
      · unfold M_becomes M_refusesCell
        rw [lt_e, M_isL ht, gd_e, if_pos (in_nyes hi (by omega)), Min_0_3, gd_e, if_neg hno, bd_some, if_neg (by decide)]
    subst e
    have hlim := (hG.2.1.1 i hi).2.2.2
    by_cases hb : wk (aW A) i = v
    · refine both_ref (xx := fun s1 => X_givesOne s1 1 (nI i) (nI v)) (-2) (by decide) hX hM hG (fun t hXt => ?_) (fun t ht => ?_)
      · have e4 : gI t 5 i = nI (wk (aW A) i) := hXt.2.1.2.2.2.1 i hi
        unfold X_givesOne
        rw [if_pos (by omega), X_isL hXt, gd_e, if_pos (in_nyes hi (by omega)), Xin_0_3, gd_e, if_pos (in_yes2 hv0 hv (by omega)), aI_n (by omega) (by omega), bd_some, e4, tI_n (by omega) (by omega), bd_some, if_pos (by rw [hb])]
        have f : Fr dXn t (pI t 5 i (nI v)) := (Fr.refl _ _).pI (by omega)
        have hW := XW.setK (i := i) (v := v) hXt.2.1
        rw [show wK' (aW A) i v = aW A by unfold wK'; rw [← hb, show upN (aW A).2.2.2.1 i (wk (aW A) i) = (aW A).2.2.2.1 from upN_same _ _]] at hW
        exact Tp_some ⟨rfl, f, hXt.same hG f (hXt.2.2.1.mv (gI_pI_i (by decide)) (fun k => rfl)) hW⟩
      · unfold M_becomes M_refusesCell
        rw [lt_e, M_isL ht, gd_e, if_pos (in_nyes hi (by omega)), Min_0_3, gd_e, if_pos (in_yes2 hv0 hv (by omega)), ad_24, aI_n (by omega) (by omega), bd_some, (MW_row (MI_th ht).2.1).2.2.2.2.1 i hi, if_pos (by rw [hb]), bd_some, if_neg (by decide)]
    · have hne : ¬ nI (wk (aW A) i) = nI v := fun h => hb ((nI_eq (by omega) (by omega)).mp h)
      refine both_act (xx := fun s1 => X_givesOne s1 1 (nI i) (nI v)) (nI (10 + wk (aW A) i)) (wK' (aW A) i v) (nI_pos (by omega)) hu (hG.2.1.king hv) hX hM hG (fun t hXt => ?_) (fun t ht => ?_)
      · have e4 : gI t 5 i = nI (wk (aW A) i) := hXt.2.1.2.2.2.1 i hi
        unfold X_givesOne
        rw [if_pos (by omega), X_isL hXt, gd_e, if_pos (in_nyes hi (by omega)), Xin_0_3, gd_e, if_pos (in_yes2 hv0 hv (by omega)), aI_n (by omega) (by omega), bd_some, e4, tI_n (by omega) (by omega), bd_some, if_neg hne, ad_10]
        exact Tp_some ⟨rfl, (Fr.refl _ _).pI (by omega), XW.setK hXt.2.1⟩
      · have hM1 := MI_th ht
        unfold M_becomes M_refusesCell
        rw [lt_e, M_isL ht, gd_e, if_pos (in_nyes hi (by omega)), Min_0_3, gd_e, if_pos (in_yes2 hv0 hv (by omega)), ad_24, aI_n (by omega) (by omega), bd_some, (MW_row hM1.2.1).2.2.2.2.1 i hi, if_neg hne, bd_some, if_pos (by decide)]
        refine TtP (M_remember_ok hu h6 hM1.2.2.2.1 hG.2.2.1.1 (a := 46) (by omega) hM1.2.1) (fun t1 h1 => ?_)
        have hW1 : MW (gn (aG A)) t1 46 0 (aW A) := hM1.2.1.mv (fun k => h1.1.I (by omega))
        rw [aI_n (by omega) (by omega), bd_some, (MW_row hW1).2.2.2.2.1 i hi, tI_n (by omega) (by omega), bd_some, ad_10]
        exact Tp_some ⟨rfl, (((Fr.refl _ _).pI (by omega)).trans (h1.1.mono (fun i k q => Or.inl q))).pI (by omega), h1.2.mv (gI_pI_i (by decide)) (fun k => gI_pI_i (by decide)), MW.setK h6 hi hW1⟩
  simp only [b2_id] at goal
  exact goal
/-! ### undo -/
theorem op_undo {u c : Nat} {s : Sg} {A : AS} (hu : 20000 ≤ u) (hX : XI A s) (hM : MI u A s) (hG : GI c A) : Bth u c s (X_undo s) (fun t => M_undo u t) := by
  have h6 := hG.1.1
  have hl := hG.2.2.1.1
  by_cases e0 : (aU A).length = 0
  · refine both_no (-1) hX hM hG ?_ (fun t ht => ?_)
    · unfold X_undo
      rw [hX.2.2.2.1.1, if_pos (by rw [e0]; exact nI_0)]
    · unfold M_undo
      rw [lt_e, gI_pI_k (by omega), ht.2.2.2.1.1, if_pos (by rw [e0]; exact nI_0)]
  have hne : ¬ nI (aU A).length = 0 := nI_ne0 (by omega) (by omega)
  have hk : (aU A).length - 1 < (aU A).length := by omega
  have hlen : ((aU A).dropLast).length = (aU A).length - 1 := List.length_dropLast
  have hGn := GI_now (r := aRow A) hG (hG.2.2.1.2 _ (List.getElem_mem hk))
  have hG' : GI (c + 1) (sU (sN A (aU A)[(aU A).length - 1] (aRow A)) (aU A).dropLast) := ⟨hGn.1, hGn.2.1, ⟨by show ((aU A).dropLast).length ≤ 12; omega, fun W hW => hG.2.2.1.2 W ((List.dropLast_sublist (aU A)).subset hW)⟩, hGn.2.2.2⟩
  refine both_gen (A := A) (nI ((aU A).length - 1)) _ ?_ (fun t hXt ht => ?_) hG'
  · have hX0 := hX
    obtain ⟨h1, h2, h3, h4, h5, h6', h7, h8⟩ := hX
    obtain ⟨b, hb, hwb⟩ := h4.2 _ hk
    obtain ⟨h73, hdb⟩ := h8.b20 (by omega) hb
    unfold X_undo
    rw [h4.1, if_neg hne, nI_lit1, pk_sub (by omega), lt_e, gI_pI_s, aR_n (by omega) (by omega), bd_some, gR_pI, hb, bd_some]
    have f1 : Fr (fun i k => i = 0 ∧ k = 24) s (pI s 0 24 (nI ((aU A).length - 1))) := (Fr.refl _ _).pI ⟨rfl, rfl⟩
    have d1 : DWb (pI s 0 24 (nI ((aU A).length - 1))) 1 := DWb_st h1 (by omega)
    refine TtP (W_becomes_ok d1 (show DWb (pI s 0 24 (nI ((aU A).length - 1))) b from hdb) (by omega)) (fun t ht => ?_)
    obtain ⟨f2, hx⟩ := ht
    have e24 : gI t 0 24 = nI ((aU A).length - 1) := (f2.I (by omega)).trans gI_pI_s
    have f : Fr (fun i k => (i = 0 ∧ k = 24) ∨ (i = 1 ∧ 4 ≤ k) ∨ (2 ≤ i ∧ i ≤ 5)) s t := (f1.mono (fun i k q => Or.inl q)).trans (f2.mono (fun i k q => by show _ ∨ _ ∨ _; omega))
    have hWt : XW (gn (aG A)) t 1 (aU A)[(aU A).length - 1] := hx _ _ h6 (hwb.mv (fun i k a b => gI_pI_i (by omega)))
    rw [e24]
    refine Tp_some ⟨rfl, gx (c := c) hM f (fun i k h1 h2 => by omega) ⟨(h1.fr f ⟨fun k => ⟨by omega, by omega, by omega⟩, by omega, by omega, fun i k hi => by omega, fun w hw j hj => by omega⟩), hWt, (h3.mv (f.I (by omega)) (fun k => f.J (by omega))), ⟨by rw [e24]; show _ = nI ((aU A).dropLast).length; rw [hlen], fun k hk2 => ?_⟩, (h5.mv h8 (f.I (by omega)) (fun k => f.I (by omega)) (fun k => f.R (by omega)) (fun i k q _ => f.I (by omega))), h6'.mv (f.I (by omega)) (fun i k q1 q2 => f.I (by omega)), (h7.mv (f.I (by omega)) (fun k => f.I (by omega))), (h8.mv (fun k => f.R (by omega)) (fun k => f.R (by omega)) (fun b k q _ => f.R (by omega)) (fun i _ => by rw [f.K]) (by rw [f.N]; exact Nat.le_refl _))⟩⟩
    have hk2 : k < ((aU A).dropLast).length := hk2
    obtain ⟨bk, hbk, hwk⟩ := h4.2 k (by omega)
    obtain ⟨h73k, _⟩ := h8.b20 (by omega) hbk
    refine ⟨bk, (f.R (by omega)).trans hbk, ?_⟩
    show XW (gn (aG A)) t bk ((aU A).dropLast)[k]
    rw [List.getElem_dropLast]
    exact hwk.mv (fun i m a b => f.I (by omega))
  · obtain ⟨h1, h2, h3, h4, h5, h6', h7, h8⟩ := ht
    unfold M_undo
    rw [lt_e, gI_pI_k (by omega), h4.1, if_neg hne, nI_lit1, pk_sub (by omega), lt_e]
    refine loop_i (W := fun f j t' => Tp (M_undo_26 u f t' (nI j)) _)
      (I := fun j t' => Fr (fun i k => (i = 45 ∧ (k = 9 ∨ k = 22)) ∨ i = 46) t t' ∧ gI t' 45 22 = nI ((aU A).length - 1) ∧ ∀ k, k < j → gI t' 46 k = gI t 56 (33 * ((aU A).length - 1) + k)) 33 ?_ ?_ u 0 _ (by omega) (by omega) ⟨((Fr.refl _ _).pI (by omega)).pI (by omega), gI_pI_s, fun k hk => absurd hk (Nat.not_lt_zero _)⟩
    · intro f' t' ⟨f, e22, hr⟩
      rw [M_undo_26_s]
      unfold M_undo_26b
      rw [if_pos (by decide), e22]
      have hWt : MW (gn (aG A)) t' 46 0 (aU A)[(aU A).length - 1] := MW.off h6 (fun x hx => by rw [Nat.zero_add]; exact hr x hx) (h4.2 _ hk)
      refine Tp_some ⟨rfl, gm hXt hG' f (fun i k h => by omega) ⟨(h1.fr f ⟨fun k => ⟨by omega, by omega, by omega, by omega, by omega⟩, by omega, by omega, by omega⟩ (by omega) (by omega)), hWt, (h3.mv (f.I (by omega)) (fun k => f.J (by omega))), ⟨by rw [e22]; show _ = nI ((aU A).dropLast).length; rw [hlen], fun k hk2 => ?_⟩, (h5.mv (f.I (by omega)) (fun i k q1 q2 => f.I (by omega))), h6'.mv (f.I (by omega)) (fun i k q1 q2 => f.I (by omega)), (h7.mv (f.I (by omega)) (fun k => f.I (by omega))), (⟨(f.R (by omega)).trans h8.1, (f.R (by omega)).trans h8.2⟩)⟩⟩
      have hk2 : k < ((aU A).dropLast).length := hk2
      show MW (gn (aG A)) t' 56 (33 * k) ((aU A).dropLast)[k]
      rw [List.getElem_dropLast]
      exact (h4.2 k (by omega)).mv (fun m => f.I (by omega))
    · intro f' j t' hj ⟨f, e22, hr⟩ ih
      rw [M_undo_26_s]
      unfold M_undo_26b
      rw [show (33 : Int32) = nI 33 from rfl, if_neg (nI_ge hj (by omega)), e22, pk_mul, nI_add, aI_n (by omega) (by omega), bd_some, f.I (by omega), tI_n (by omega) (by omega), bd_some, nI_1]
      refine ih _ ⟨f.pI (by omega), (gI_pI_i (by decide)).trans e22, fun k hk => ?_⟩
      by_cases e : k = j
      · subst e
        exact gI_pI_s
      · exact (gI_pI_k e).trans (hr k (by omega))
