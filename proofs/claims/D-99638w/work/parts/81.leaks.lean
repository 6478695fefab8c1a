/-! LAW: leaks -/
set_option maxRecDepth 100000
def lkW (g : Geo) (ru : Ru) (lk : Int32) (mo m : Nat) (W : Wt) : Wt := fo (fun _ W => dayS g ru lk mo W) m W
theorem lkW_s (g : Geo) (ru : Ru) (lk : Int32) (mo m : Nat) (W : Wt) : lkW g ru lk mo (m + 1) W = dayS g ru lk mo (lkW g ru lk mo m W) := rfl
theorem lkW_good {g : Geo} {ru : Ru} {lk : Int32} {mo : Nat} {W : Wt} (h : GoodW g W) (m : Nat) : GoodW g (lkW g ru lk mo m W) := by
  induction m with
  | zero => exact h
  | succ m ih => exact dayS_good ih
theorem dayS_mo {g : Geo} {ru : Ru} {lk lk' : Int32} {mo mo' : Nat} (h : ∀ k, moN lk mo k = moN lk' mo' k) (W : Wt) : dayS g ru lk mo W = dayS g ru lk' mo' W := by
  have e : moN lk mo = moN lk' mo' := funext h
  have e2 : nx0 g ru lk mo W = nx0 g ru lk' mo' W := funext fun k => by unfold nx0; rw [e]
  have e3 : nxN g ru lk mo W = nxN g ru lk' mo' W := by unfold nxN; rw [e2]
  unfold dayS dayL dayP dayR
  rw [e3]
theorem lkW_none (g : Geo) (ru : Ru) (m : Nat) (W : Wt) : lkW g ru (nI 6) 1 m W = lkW g ru (-1) 0 m W := by
  induction m with
  | zero => rfl
  | succ m ih =>
    rw [lkW_s, lkW_s, ih]
    refine dayS_mo (fun k => ?_) _
    rw [moN_m1]
    exact if_neg (fun q => by have := (nI_eq (a := k) (b := 6) (by omega) (by omega)).mp q.2; omega)
/-- leak j (9 of each lake), on day d -/
def lkJ (g : Geo) (ru : Ru) (W : Wt) (j d : Nat) : Wt := lkW g ru (nI (j / 9)) (1 + j % 9) d W
def ftF (f : Nat → Wt) (rg : List (Nat × Nat × Nat)) : Nat → Bool
  | 0 => true
  | k + 1 => ftF f rg k && decide (wl (f (rg.getD k (0, 0, 0)).2.1) (rg.getD k (0, 0, 0)).1 = (rg.getD k (0, 0, 0)).2.2)
theorem ftF_s (f : Nat → Wt) (rg : List (Nat × Nat × Nat)) (k : Nat) : ftF f rg (k + 1) = (ftF f rg k && decide (wl (f (rg.getD k (0, 0, 0)).2.1) (rg.getD k (0, 0, 0)).1 = (rg.getD k (0, 0, 0)).2.2)) := rfl
theorem place_e (j k d : Nat) : X_place (nI j) (nI k) (nI d) = some (nI ((j * 6 + k) * 21 + d)) := by
  unfold X_place
  rw [show (6 : Int32) = nI 6 from rfl, show (21 : Int32) = nI 21 from rfl, pk_mul, nI_add, pk_mul, nI_add]
theorem bI_and (a b : Bool) : vp_nar .boolean (bI a &&& bI b) = bI (a && b) := by cases a <;> cases b <;> decide
theorem X_lays_ok {u c j : Nat} {s t : Sg} {A : AS} (hu : 20000 ≤ u) (hX : XI A s) (hG : GI c A) (hj : j < 55) (f : Fr dSX s t) : Tt (X_laysLevels u t (nI j)) (fun t' => Fr dSX s t' ∧ (∀ k d, k < gn (aG A) → d < 21 → gI t' 35 ((j * 6 + k) * 21 + d) = nI (wl (lkJ (aG A) (aRu A) (aW A) j d) k)) ∧ (∀ x, x < 126 * j ∨ 126 * j + 126 ≤ x → gI t' 35 x = gI t 35 x) ∧ gI t' 34 j = bI (ftF (lkJ (aG A) (aRu A) (aW A) j) (aRg A) (aRg A).length) ∧ ∀ x, x ≠ j → gI t' 34 x = gI t 34 x) := by
  have h6 := hG.1.1
  have hrl := hG.2.2.2.2.1.1
  have hrg := hG.2.2.2.2.1.2
  unfold X_laysLevels
  refine TtT (W_becomes_ok (DWb_st (X_env hX (f.mono (fun i k => dSX_Xr))).1 (w := 6) (by omega)) (DWb_st (X_env hX (f.mono (fun i k => dSX_Xr))).1 (w := 1) (by omega)) (by omega)) (fun t1 h1 => ?_)
  obtain ⟨f1, hx1⟩ := h1
  have hW1 := hx1 _ _ h6 (X_env hX (f.mono (fun i k => dSX_Xr))).2
  refine loop_i (W := fun w d t' => Tt (X_laysLevels_13 u w t' (nI j) (nI d)) _)
    (I := fun d t' => Fr dSX s t' ∧ XW (gn (aG A)) t' 6 (lkJ (aG A) (aRu A) (aW A) j d) ∧ (∀ k e, k < gn (aG A) → e < d → gI t' 35 ((j * 6 + k) * 21 + e) = nI (wl (lkJ (aG A) (aRu A) (aW A) j e) k)) ∧ (∀ x, x < 126 * j ∨ 126 * j + 126 ≤ x → gI t' 35 x = gI t 35 x) ∧ ∀ x, gI t' 34 x = gI t 34 x) 21 ?_ ?_ u 0 t1 (by omega) (by omega) ⟨f.trans (f1.mono (fun i k q => by omega)), hW1, fun k e _ he => absurd he (Nat.not_lt_zero _), fun x _ => f1.I (by omega), fun x => f1.I (by omega)⟩
  · intro w t2 ⟨f2, hW2, hl2, hx2, hy2⟩
    rw [X_laysLevels_13_s]
    unfold X_laysLevels_13b
    rw [if_pos (by decide), nar1, tI_n (by omega) (by omega), bd_some]
    refine loop_i (W := fun w i t' => Tt (X_laysLevels_88 u w t' (nI j) (nI i)) _)
      (I := fun i t' => Fr dSX s t' ∧ (∀ x, gI t' 35 x = gI t2 35 x) ∧ gI t' 34 j = bI (ftF (lkJ (aG A) (aRu A) (aW A) j) (aRg A) i) ∧ ∀ x, x ≠ j → gI t' 34 x = gI t 34 x) (aRg A).length ?_ ?_ u 0 _ (by omega) (by omega) ⟨f2.pI (by omega), fun x => gI_pI_i (by decide), gI_pI_s, fun x hx => (gI_pI_k hx).trans (hy2 x)⟩
    · intro w t3 ⟨f3, ha, hb, hd⟩
      have e31 : gI t3 0 31 = nI (aRg A).length := (f3.I (by omega)).trans hX.2.2.2.2.2.1.1
      rw [X_laysLevels_88_s]
      unfold X_laysLevels_88b
      rw [e31, if_pos (nI_le (Nat.le_refl _) (by omega))]
      exact Tt_some ⟨f3, fun k d hk hd' => (ha _).trans (hl2 k d hk hd'), fun x hx => (ha x).trans (hx2 x hx), hb, hd⟩
    · intro w i t3 hi ⟨f3, ha, hb, hd⟩ ih
      have e31 : gI t3 0 31 = nI (aRg A).length := (f3.I (by omega)).trans hX.2.2.2.2.2.1.1
      obtain ⟨r1, r2, r3⟩ := hX.2.2.2.2.2.1.2 i hi
      have hmem : (aRg A)[i] ∈ aRg A := List.getElem_mem hi
      obtain ⟨b1, b2', b3⟩ := hrg _ hmem
      have hgd : (aRg A).getD i (0, 0, 0) = (aRg A)[i] := by rw [List.getD_eq_getElem?_getD, List.getElem?_eq_getElem hi]; rfl
      have q1 : gI t3 31 i = _ := (f3.I (by omega)).trans r1
      have q2 : gI t3 32 i = _ := (f3.I (by omega)).trans r2
      have q3 : gI t3 33 i = _ := (f3.I (by omega)).trans r3
      have q5 : gI t3 35 ((j * 6 + (aRg A)[i].1) * 21 + (aRg A)[i].2.1) = nI (wl (lkJ (aG A) (aRu A) (aW A) j (aRg A)[i].2.1) (aRg A)[i].1) := (ha _).trans (hl2 _ _ b1 (by omega))
      have hl9 := lev99 hG.1 (lkW_good (ru := aRu A) (lk := nI (j / 9)) (mo := 1 + j % 9) hG.2.1 (aRg A)[i].2.1) b1
      rw [ftF_s, hgd] at ih
      rw [X_laysLevels_88_s]
      unfold X_laysLevels_88b X_laysLevels_138
      rw [e31, if_neg (nI_ge hi (by omega)), aI_n (by omega) (by omega), bd_some, hb, aI_n (by omega) (by omega), bd_some, q1, aI_n (by omega) (by omega), bd_some, q2, place_e, bd_some, aI_n (by omega) (by omega), bd_some, q5, aI_n (by omega) (by omega), bd_some, q3, nI_1]
      by_cases e : wl (lkJ (aG A) (aRu A) (aW A) j (aRg A)[i].2.1) (aRg A)[i].1 = (aRg A)[i].2.2
      · rw [decide_eq_true e] at ih
        rw [if_pos (by rw [e]), show (1 : Int32) = bI true from rfl, bI_and, tI_n (by omega) (by omega), bd_some]
        exact ih _ ⟨f3.pI (by omega), fun x => (gI_pI_i (by decide)).trans (ha x), gI_pI_s, fun x hx => (gI_pI_k hx).trans (hd x hx)⟩
      · rw [decide_eq_false e] at ih
        have hl9 : wl (lkJ (aG A) (aRu A) (aW A) j (aRg A)[i].2.1) (aRg A)[i].1 ≤ 99 := hl9
        rw [if_neg (fun h => e ((nI_eq (by omega) (by omega)).mp h)), show (0 : Int32) = bI false from rfl, bI_and, tI_n (by omega) (by omega), bd_some]
        exact ih _ ⟨f3.pI (by omega), fun x => (gI_pI_i (by decide)).trans (ha x), gI_pI_s, fun x hx => (gI_pI_k hx).trans (hd x hx)⟩
  · intro w d t2 hd ⟨f2, hW2, hl2, hx2, hy2⟩ ih
    rw [X_laysLevels_13_s]
    unfold X_laysLevels_13b
    rw [show (20 : Int32) = nI 20 from rfl, if_neg (nI_nlt (by omega) (by omega))]
    have hg2 := lkW_good (ru := aRu A) (lk := nI (j / 9)) (mo := 1 + j % 9) hG.2.1 d
    refine loop_i (W := fun w2 k t' => Tt (X_laysLevels_21 u (X_laysLevels_13 u w) w2 t' (nI j) (nI d) (nI k)) _)
      (I := fun k t' => Fr dSX s t' ∧ XW (gn (aG A)) t' 6 (lkJ (aG A) (aRu A) (aW A) j d) ∧ (∀ k' e, k' < gn (aG A) → e < d → gI t' 35 ((j * 6 + k') * 21 + e) = nI (wl (lkJ (aG A) (aRu A) (aW A) j e) k')) ∧ (∀ k', k' < k → gI t' 35 ((j * 6 + k') * 21 + d) = nI (wl (lkJ (aG A) (aRu A) (aW A) j d) k')) ∧ (∀ x, x < 126 * j ∨ 126 * j + 126 ≤ x → gI t' 35 x = gI t 35 x) ∧ ∀ x, gI t' 34 x = gI t 34 x) (gn (aG A)) ?_ ?_ u 0 t2 (by omega) (by omega) ⟨f2, hW2, hl2, fun k' h => absurd h (Nat.not_lt_zero _), hx2, hy2⟩
    · intro w2 t3 ⟨f3, hW3, hl3, hm3, hx3, hy3⟩
      have hE3 := (X_env hX (f3.mono (fun i k => dSX_Xr))).1
      rw [X_laysLevels_21_s]
      unfold X_laysLevels_21b
      rw [hE3.2.1.1, if_pos (nI_le (Nat.le_refl _) (by omega)), show (9 : Int32) = nI 9 from rfl, pk_rem (by omega) (by omega) (by omega), pk_div (by omega) (by omega) (by omega), nI_lit1, nI_add]
      refine TtT (X_leaksDay_ok hu hG.1 hE3 hg2 hW3 (by omega) (by omega)) (fun t4 h4 => ?_)
      obtain ⟨f4, hW4⟩ := h4
      rw [← nI_lit1, nI_1]
      refine ih t4 ⟨f3.trans (f4.mono (fun i k q => by omega)), hW4, fun k e hk he => ?_, fun x hx => (f4.I (by omega)).trans (hx3 x hx), fun x => (f4.I (by omega)).trans (hy3 x)⟩
      rw [f4.I (by omega)]
      by_cases q : e = d
      · subst q
        exact hm3 k hk
      · exact hl3 k e hk (by omega)
    · intro w2 k t3 hk ⟨f3, hW3, hl3, hm3, hx3, hy3⟩ ih2
      have hE3 := (X_env hX (f3.mono (fun i k => dSX_Xr))).1
      have e7 : gI t3 7 k = nI (wl (lkJ (aG A) (aRu A) (aW A) j d) k) := hW3.1 k hk
      rw [X_laysLevels_21_s]
      unfold X_laysLevels_21b
      rw [hE3.2.1.1, if_neg (nI_ge hk (by omega)), place_e, bd_some, aI_n (by omega) (by omega), bd_some, e7, tI_n (by omega) (by omega), bd_some, nI_1]
      refine ih2 _ ⟨f3.pI (by omega), hW3.mv (fun i m a b => gI_pI_i (by omega)), fun k' e hk' he => (gI_pI_k (by omega)).trans (hl3 k' e hk' he), fun k' hk' => ?_, fun x hx => (gI_pI_k (by omega)).trans (hx3 x hx), fun x => (gI_pI_i (by decide)).trans (hy3 x)⟩
      by_cases q : k' = k
      · subst q
        exact gI_pI_s
      · exact (gI_pI_k (by omega)).trans (hm3 k' (by omega))
