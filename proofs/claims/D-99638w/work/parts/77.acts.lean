/-! LAW: days, pulls, stops, combs, taps, gives, undo -/
set_option maxRecDepth 100000
def sU (A : AS) (U : List Wt) : AS := (A.1, A.2.1, A.2.2.1, U, A.2.2.2.2)
theorem XI_push {A : AS} {s t : Sg} {c : Nat} {U : List Wt} (h : XI A s) (hG : GI c A) (hu : UA (gn (aG A)) U s t) : XI (sU A U) t := by
  obtain ⟨fa, hks, hnd, hsl, hxu, h42, hw42, _, _⟩ := hu
  obtain ⟨⟨k1, g1, r1, w1⟩, h2, h3, h4, h5, h6, h7, h8⟩ := h
  have hs := k1.1
  refine ⟨⟨hks, ⟨(fa.I (by omega) (by omega)).trans g1.1, fun k hk => ⟨(fa.I (by omega) (by omega)).trans (g1.2 k hk).1, (fa.I (by omega) (by omega)).trans (g1.2 k hk).2.1, (fa.I (by omega) (by omega)).trans (g1.2 k hk).2.2⟩⟩, r1.nd hnd (fa.R (by omega) (by omega)), fun w hw j hj => (fa.R (by omega) (by omega)).trans (w1 w hw j hj)⟩, h2.mv (fun i k q1 q2 => fa.I (by omega) (by omega)), h3.mv (fa.I (by omega) (by omega)) (fun k => fa.J (by omega) (by omega)), hxu, ?_, h6.mv (fa.I (by omega) (by omega)) (fun i k q1 q2 => fa.I (by omega) (by omega)), h7.mv (fa.I (by omega) (by omega)) (fun k => fa.I (by omega) (by omega)), hsl⟩
  refine ⟨(fa.I (by omega) (by omega)).trans h5.1, fun i hi => ?_⟩
  have h52 := h5.2 i hi
  show match aK A i with
    | some W => gI t 43 i = nI (aC A) ∧ ∃ b, gR t 42 i = some b ∧ XW (gn (aG A)) t b W
    | none => gR t 42 i = none ∨ ∃ d, d < aC A ∧ gI t 43 i = nI d
  have e43 : gI t 43 i = gI s 43 i := fa.I (by omega) (by omega)
  cases hk : aK A i with
  | none =>
    rw [hk] at h52
    show gR t 42 i = none ∨ ∃ d, d < aC A ∧ gI t 43 i = nI d
    rw [h42 i hi, e43]
    exact h52
  | some W =>
    rw [hk] at h52
    obtain ⟨q1, b, hb, hw⟩ := h52
    exact ⟨e43.trans q1, b, (h42 i hi).trans hb, hw.mv (fun j k a1 a2 => hw42 i b hi hb j k a1 a2)⟩
theorem MI.fa {D : Nat → Nat → Prop} {u : Nat} {A : AS} {s t : Sg} (h : MI u A s) (h73 : 73 ≤ gN s) (f : Fa D s t) (hd : ∀ i k, 45 ≤ i → i ≤ 71 → ¬ D i k) : MI u A t := by
  obtain ⟨⟨⟨g1, r1⟩, l1, l2⟩, h2, h3, h4, h5, h6, h7, h8⟩ := h
  have I : ∀ i k, 45 ≤ i → i ≤ 71 → gI t i k = gI s i k := fun i k a b => f.I (by omega) (hd i k a b)
  refine ⟨⟨⟨⟨(I _ _ (by omega) (by omega)).trans g1.1, fun k hk => ⟨(I _ _ (by omega) (by omega)).trans (g1.2 k hk).1, (I _ _ (by omega) (by omega)).trans (g1.2 k hk).2.1, (I _ _ (by omega) (by omega)).trans (g1.2 k hk).2.2⟩⟩, r1.mv (f.R (by omega) (hd _ _ (by omega) (by omega))) (I _ _ (by omega) (by omega)) (fun r k hr => I _ _ (by omega) (by omega))⟩, (I _ _ (by omega) (by omega)).trans l1, ?_⟩, h2.mv (fun k => I _ _ (by omega) (by omega)), h3.mv (I _ _ (by omega) (by omega)) (fun k => f.J (by omega) (hd _ _ (by omega) (by omega))), h4.mv (I _ _ (by omega) (by omega)) (fun k => I _ _ (by omega) (by omega)), h5.mv (I _ _ (by omega) (by omega)) (fun i k a b => I _ _ (by omega) (by omega)), h6.mv (I _ _ (by omega) (by omega)) (fun i k a b => I _ _ (by omega) (by omega)), h7.mv (I _ _ (by omega) (by omega)) (fun k => I _ _ (by omega) (by omega)), (f.R (by omega) (hd _ _ (by omega) (by omega))).trans h8.1, (f.R (by omega) (hd _ _ (by omega) (by omega))).trans h8.2⟩
  obtain ⟨mo, h9, e⟩ := l2
  exact ⟨mo, h9, (I _ _ (by omega) (by omega)).trans e⟩
theorem MI_push {u : Nat} {A : AS} {s t : Sg} {U : List Wt} (h : MI u A s) (f : Fr dMu s t) (hu : MUn (gn (aG A)) U t) : MI u (sU A U) t := by
  obtain ⟨h1, h2, h3, h4, h5, h6, h7, h8⟩ := h
  exact ⟨(h1.fr f ⟨fun k => ⟨by omega, by omega, by omega, by omega, by omega⟩, by omega, by omega, by omega⟩ (by omega) (by omega)), (h2.mv (fun k => f.I (by omega))), (h3.mv (f.I (by omega)) (fun k => f.J (by omega))), hu, (h5.mv (f.I (by omega)) (fun i k q1 q2 => f.I (by omega))), (h6.mv (f.I (by omega)) (fun i k q1 q2 => f.I (by omega))), (h7.mv (f.I (by omega)) (fun k => f.I (by omega))), (⟨(f.R (by omega)).trans h8.1, (f.R (by omega)).trans h8.2⟩)⟩
theorem GI_push {c : Nat} {A : AS} {W : Wt} (hG : GI c A) (hW : GoodW (aG A) W) : GI c (sU A (pushU (aU A) W)) := ⟨hG.1, hG.2.1, ⟨pushU_len hG.2.2.1.1, fun V hV => by
  have hV : V ∈ pushU (aU A) W := hV
  unfold pushU at hV
  rcases List.mem_append.mp hV with h | h
  · refine hG.2.2.1.2 V ?_
    split at h
    · exact List.mem_of_mem_tail h
    · exact h
  · rw [List.mem_singleton] at h
    subst h
    exact hW⟩, hG.2.2.2⟩
theorem XI.ub {A : AS} {s : Sg} {c : Nat} (h : XI A s) (hG : GI c A) : UB (gn (aG A)) (aU A) s := ⟨h.1.1, h.2.2.2.2.2.2.2, h.2.2.2.1, hG.2.2.1.1⟩
/-- the class puts one by -/
theorem X_push {u c w : Nat} {A : AS} {s : Sg} {W : Wt} (hu : 20000 ≤ u) (hX : XI A s) (hG : GI c A) (hw : Wst w) (hW : XW (gn (aG A)) s w W) : Tt (X_putsBy u s w) (fun t => XI (sU A (pushU (aU A) W)) t ∧ Fa dU s t ∧ gC t ≤ gC s + 5 ∧ gZ t ≤ gZ s + 32 ∧ gS t = gS s) :=
  Tt_mono (X_putsBy_ok hu hG.1.1 (hX.ub hG) hw (DWb_st hX.1 hw) hW) (fun t h => ⟨XI_push hX hG h, h.1, h.2.2.2.2.2.2.2.1, h.2.2.2.2.2.2.2.2, h.1.S⟩)
/-! ### days -/
theorem X_days26 {u c m : Nat} {A : AS} {s : Sg} (hu : 20000 ≤ u) (hX : XI A s) (hG : GI c A) (hm : m ≤ 60) : Tp (X_days_26 u s (nI m)) (fun v t => v = nI (sm (wl (dyN (aG A) (aRu A) m (aW A))) (gn (aG A))) ∧ Fr dXn s t ∧ XI (sN A (dyN (aG A) (aRu A) m (aW A)) [(nI (ws (dyN (aG A) (aRu A) m (aW A))) - nI (ws (aW A))).toInt64, (nI (wr (dyN (aG A) (aRu A) m (aW A))) - nI (wr (aW A))).toInt64]) t) := by
  unfold X_days_26
  rw [lt_e, lt_e, hX.2.1.2.2.2.2.2.2.1, hX.2.1.2.2.2.2.2.2.2]
  refine TtP (X_daysGo_ok hu hG.1 hX.1 hG.2.1 hX.2.1 (by omega) (by omega)) (fun t1 h1 => ?_)
  have f1 : Fr dXn s t1 := h1.1.mono (fun i k q => by omega)
  have hW0 : XW (gn (aG A)) (pI t1 0 48 0) 1 _ := h1.2.r0 (by omega)
  rw [lt_e, hW0.2.2.2.2.2.2.1]
  refine TtP (X_tells_ok _ (XRow_0 (s := t1)) (Nat.le_of_ble_eq_true rfl)) (fun t2 h2 => ?_)
  have hW2 : XW (gn (aG A)) t2 1 _ := hW0.mv (fun i k a b => h2.2.I (by omega))
  rw [hW2.2.2.2.2.2.2.2]
  refine TtP (X_tells_ok _ h2.1 (Nat.le_of_ble_eq_true rfl)) (fun t3 h3 => ?_)
  have hW3 : XW (gn (aG A)) t3 1 _ := hW2.mv (fun i k a b => h3.2.I (by omega))
  have f3 : Fr dXn s t3 := ((f1.pI (by omega)).trans (h2.2.mono (fun i k q => by omega))).trans (h3.2.mono (fun i k q => by omega))
  have hfin := XI_now hX hG f3 h3.1 hW3
  rw [X_water_ok hu hG.1 hfin.1.2.1 (by omega) hW3, bd_some]
  exact Tp_some ⟨rfl, f3, hfin⟩
theorem M_days29 {u c m : Nat} {A : AS} {s : Sg} (hu : 20000 ≤ u) (hM : MI u A s) (hG : GI c A) (hm : m ≤ 60) : Tp (M_days_29 u s (nI m)) (fun v t => v = nI (sm (wl (dyN (aG A) (aRu A) m (aW A))) (gn (aG A))) ∧ Fr dMn s t ∧ MI u (sN A (dyN (aG A) (aRu A) m (aW A)) [(nI (ws (dyN (aG A) (aRu A) m (aW A))) - nI (ws (aW A))).toInt64, (nI (wr (dyN (aG A) (aRu A) m (aW A))) - nI (wr (aW A))).toInt64]) t) := by
  have l31 : ∀ (q : Sg) (a : Nat), aI q a 33 31 = some (gI q a 31) := fun q a => aI_n (k := 31) (by omega) (by omega)
  have l32 : ∀ (q : Sg) (a : Nat), aI q a 33 32 = some (gI q a 32) := fun q a => aI_n (k := 32) (by omega) (by omega)
  unfold M_days_29
  rw [l31, bd_some, l32, bd_some, (MW_row hM.2.1).2.2.2.2.2.2.1, (MW_row hM.2.1).2.2.2.2.2.2.2]
  refine TtP (M_days_ok hu hG.1 hM.1 hG.2.2.2.2.2.2.1 hG.2.1 hM.2.1 (by omega) (by omega)) (fun t1 h1 => ?_)
  have f1 : Fr dMn s t1 := h1.1.mono (fun i k q => by omega)
  have hW0 : MW (gn (aG A)) (pI t1 45 8 0) 46 0 _ := h1.2.r0 (by omega)
  rw [lt_e, l31, bd_some, (MW_row hW0).2.2.2.2.2.2.1]
  refine TtP (M_tell_ok _ (MRw_0 (s := t1)) (Nat.le_of_ble_eq_true rfl)) (fun t2 h2 => ?_)
  have hW2 : MW (gn (aG A)) t2 46 0 _ := hW0.mv (fun k => h2.2.I (by omega))
  rw [l32, bd_some, (MW_row hW2).2.2.2.2.2.2.2]
  refine TtP (M_tell_ok _ h2.1 (Nat.le_of_ble_eq_true rfl)) (fun t3 h3 => ?_)
  have hW3 : MW (gn (aG A)) t3 46 0 _ := hW2.mv (fun k => h3.2.I (by omega))
  have f3 : Fr dMn s t3 := ((f1.pI (by omega)).trans (h2.2.mono (fun i k q => by omega))).trans (h3.2.mono (fun i k q => by omega))
  have hfin := MI_now hM f3 h3.1 hW3
  rw [M_water_ok hu hG.1 hfin.1.1.1 (by omega) hW3, bd_some]
  exact Tp_some ⟨rfl, f3, hfin⟩
theorem MI_th {u : Nat} {A : AS} {s : Sg} (h : MI u A s) : MI u A (pI s 45 9 0) := MI_row h M_th (fun i k q => q.2.2) (h.2.2.1.mv (gI_pI_k (by omega)) (fun k => rfl))
theorem op_days {u c : Nat} {s : Sg} {A : AS} (hu : 20000 ≤ u) (hX : XI A s) (hM : MI u A s) (hG : GI c A) (x : Int32) : Bth u c s (X_days u s x) (fun t => M_days u t x) := by
  have h6 := hG.1.1
  have h73 := hX.1.1.1
  rcases in_or2 x 0 60 (by omega) (by omega) with ⟨m, hm0, hm, e⟩ | hno
  rotate_left
  · refine both_no (-1) hX hM hG ?_ (fun t ht => ?_)
    · unfold X_days
      rw [Xin_0_60, gd_e, if_neg hno]
    · unfold M_days
      rw [lt_e, Min_0_60, gd_e, if_neg hno] <;> rfl
  subst e
  by_cases e0 : m = 0
  · have hG' := GI_now (r := [(nI (ws (dyN (aG A) (aRu A) m (aW A))) - nI (ws (aW A))).toInt64, (nI (wr (dyN (aG A) (aRu A) m (aW A))) - nI (wr (aW A))).toInt64]) hG (dyN_good (ru := aRu A) hG.2.1 m)
    refine both_gen (A := A) (nI (sm (wl (dyN (aG A) (aRu A) m (aW A))) (gn (aG A)))) _ ?_ (fun t hXt ht => ?_) hG'
    · unfold X_days
      rw [Xin_0_60, gd_e, if_pos (in_yes2 hm0 hm (by omega)), if_pos (by rw [e0]; decide)]
      exact Tp_mono (X_days26 hu hX hG (by omega)) (fun v t h => ⟨h.1, gx (c := c) hM h.2.1 (fun i k h1 h2 => by omega) h.2.2⟩)
    · unfold M_days
      rw [lt_e, Min_0_60, gd_e, if_pos (in_yes2 hm0 hm (by omega)), if_pos (by rw [e0]; decide)]
      exact Tp_mono (M_days29 hu (MI_th ht) hG (by omega)) (fun v t' h => ⟨h.1, gm hXt hG' ((M_th.mono (fun i k q => Or.inl q)).trans h.2.1) (fun i k h => by omega) h.2.2⟩)
  · have hGp := GI_push hG hG.2.1
    have hG' := GI_now (r := [(nI (ws (dyN (aG A) (aRu A) m (aW A))) - nI (ws (aW A))).toInt64, (nI (wr (dyN (aG A) (aRu A) m (aW A))) - nI (wr (aW A))).toInt64]) hGp (dyN_good (ru := aRu A) hG.2.1 m)
    refine both_gen (A := A) (nI (sm (wl (dyN (aG A) (aRu A) m (aW A))) (gn (aG A)))) _ ?_ (fun t hXt ht => ?_) hG'
    · unfold X_days
      rw [Xin_0_60, gd_e, if_pos (in_yes2 hm0 hm (by omega)), if_neg (nI_nle (by omega) (by omega))]
      refine TtP (X_push hu hX hG (w := 1) (by omega) hX.2.1) (fun t1 h1 => ?_)
      obtain ⟨hX1, fa, hC, hZ, hS⟩ := h1
      refine Tp_mono (X_days26 hu hX1 hGp (by omega)) (fun v t h => ⟨h.1, h.2.2, ?_, ?_, ?_, ?_⟩)
      · exact (hM.fa h73 fa (fun i k a b => by omega)).fr h.2.1 (fun i k a b => by omega)
      · rw [h.2.1.S, hS]
      · rw [h.2.1.C]; omega
      · rw [h.2.1.Z]; omega
    · unfold M_days
      rw [lt_e, Min_0_60, gd_e, if_pos (in_yes2 hm0 hm (by omega)), if_neg (nI_nle (by omega) (by omega))]
      have hM1 := MI_th ht
      refine TtP (M_remember_ok hu h6 hM1.2.2.2.1 hG.2.2.1.1 (a := 46) (by omega) hM1.2.1) (fun t1 h1 => ?_)
      have hM2 : MI u (sU A (pushU (aU A) (aW A))) t1 := MI_push hM1 h1.1 h1.2
      refine Tp_mono (M_days29 hu hM2 hGp (by omega)) (fun v t' h => ⟨h.1, gm (D := fun i k => dMn i k ∨ dMu i k) hXt hG' (((M_th.mono (fun i k q => by omega)).trans (h1.1.mono (fun i k q => Or.inr q))).trans (h.2.1.mono (fun i k q => Or.inl q))) (fun i k h => by omega) h.2.2⟩)
