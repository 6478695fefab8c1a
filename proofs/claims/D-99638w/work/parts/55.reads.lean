/-! LAW: what is only read -/
set_option maxRecDepth 100000
def smB (f : Nat → Nat) (o n : Nat) : Nat := sm (fun k => if bt o k = 1 then f k else 0) n
theorem bt_all : ∀ n, n ≤ 6 → ∀ k, k < n → bt (2 ^ n - 1) k = 1 := by decide
theorem smB_all {f : Nat → Nat} {n : Nat} (hn : n ≤ 6) : smB f (2 ^ n - 1) n = sm f n := sm_congr (fun k hk => if_pos (bt_all n hn k hk))
theorem smB_le {f : Nat → Nat} {o n c : Nat} (h : ∀ k, k < n → f k ≤ c) : smB f o n ≤ n * c := sm_le (fun k hk => by
  have := h k hk
  by_cases e : bt o k = 1
  · rw [if_pos e]; exact this
  · rw [if_neg e]; omega)
/-- a set made of a question -/
def mkB (p : Nat → Bool) (n : Nat) : Nat := fo (fun k a => if p k then a ||| 2 ^ k else a) n 0
theorem mkB_s (p : Nat → Bool) (n : Nat) : mkB p (n + 1) = if p n then mkB p n ||| 2 ^ n else mkB p n := rfl
theorem mkB_lt (p : Nat → Bool) (n : Nat) : mkB p n < 2 ^ n := by
  induction n with
  | zero => exact Nat.one_pos
  | succ n ih =>
    have h1 : 2 ^ n < 2 ^ (n + 1) := Nat.pow_lt_pow_right (by omega) (by omega)
    rw [mkB_s]
    split
    · exact Nat.or_lt_two_pow (by omega) h1
    · omega
theorem bt_or (a b k : Nat) : bt (a ||| b) k = if bt a k = 1 ∨ bt b k = 1 then 1 else 0 := by
  have h := Nat.testBit_or a b k
  rw [bt_tb, bt_tb, bt_tb] at h
  have h1 := bt_lt (a ||| b) k
  by_cases ha : bt a k = 1 <;> by_cases hb : bt b k = 1 <;> simp [ha, hb] at h ⊢ <;> omega
theorem bt_pow (n k : Nat) : bt (2 ^ n) k = if n = k then 1 else 0 := by
  have h := @Nat.testBit_two_pow n k
  rw [bt_tb] at h
  have h1 := bt_lt (2 ^ n) k
  by_cases e : n = k <;> simp [e] at h ⊢ <;> first | exact h | omega
theorem bt_big {a n k : Nat} (h : a < 2 ^ n) (hk : n ≤ k) : bt a k = 0 := by
  have h2 : 2 ^ n ≤ 2 ^ k := Nat.pow_le_pow_right (by omega) hk
  unfold bt
  rw [Nat.div_eq_of_lt (by omega)]
theorem mkB_bt (p : Nat → Bool) (n k : Nat) (hk : k < n) : bt (mkB p n) k = if p k then 1 else 0 := by
  induction n with
  | zero => omega
  | succ n ih =>
    rw [mkB_s]
    by_cases e : k = n
    · subst e
      have hb : bt (mkB p k) k = 0 := bt_big (mkB_lt p k) (Nat.le_refl _)
      cases hp : p k with
      | true => simp only [if_true]; rw [bt_or, bt_pow, hb, if_pos rfl]; rfl
      | false => simp only [Bool.false_eq_true, if_false]; exact hb
    · have := ih (by omega)
      cases hp : p n with
      | true =>
        simp only [if_true]
        have h2 : bt (2 ^ n) k = 0 := by rw [bt_pow, if_neg (fun q => e q.symm)]
        rw [bt_or, h2, this]
        cases p k <;> rfl
      | false => simp only [Bool.false_eq_true, if_false]; exact this
theorem mkB_congr {p q : Nat → Bool} {n : Nat} (h : ∀ k, k < n → p k = q k) : mkB p n = mkB q n := fo_congr (fun k hk a => by rw [h k hk]) 0
theorem smB_mk (f : Nat → Nat) (p : Nat → Bool) (n : Nat) : smB f (mkB p n) n = sm (fun k => if p k then f k else 0) n := sm_congr (fun k hk => by
  rw [mkB_bt p n k hk]
  cases p k <;> rfl)
/-! ### the class -/
theorem X_all_ok {g : Geo} {s : Sg} (hg : GoodG g) (hG : XG g s) : X_all s = some (nI (2 ^ gn g - 1)) := by
  have h6 := hg.1
  have := Nat.one_le_two_pow (n := gn g)
  unfold X_all
  rw [hG.1, nI_shl1 (by omega), nI_lit1, pk_sub (by omega)]
theorem M_all_ok {g : Geo} {s : Sg} (hg : GoodG g) (hG : MG g s) : M_all s = some (nI (2 ^ gn g - 1)) := by
  have h6 := hg.1
  have := Nat.one_le_two_pow (n := gn g)
  unfold M_all
  rw [hG.1, nI_shl1 (by omega), nI_lit1, pk_sub (by omega)]
theorem X_isLake_ok {g : Geo} {s : Sg} (hG : XG g s) (x : Int32) : X_isLake s x = some (if 0 ≤ x ∧ x ≤ nI (gn g) - 1 then 1 else 0) := by
  unfold X_isLake
  rw [hG.1, Xin_0, zr_e]
theorem M_isLake_ok {g : Geo} {s : Sg} (hG : MG g s) (x : Int32) : M_isLake s x = some (if 0 ≤ x ∧ x ≤ nI (gn g) - 1 then 1 else 0) := by
  unfold M_isLake
  rw [hG.1, M_in_eq, zr_e]
theorem X_areLakes_ok {g : Geo} {s : Sg} (hg : GoodG g) (hG : XG g s) (x : Int32) : X_areLakes s x = some (if 0 ≤ x ∧ x ≤ nI (2 ^ gn g - 1) then 1 else 0) := by
  unfold X_areLakes
  rw [X_all_ok hg hG, bd_some, Xin_0, zr_e]
theorem X_sumOf_ok {g : Geo} {s : Sg} {a u o : Nat} {f : Nat → Nat} (hu : 20000 ≤ u) (hg : GoodG g) (hG : XG g s) (ha : Ai a) (hl : 6 ≤ sln a) (hl2 : sln a < 2 ^ 31) (ho : o < 2 ^ 31) (hf : ∀ k, k < gn g → gI s a k = nI (f k)) : X_sumOf u s a (nI o) = some (nI (smB f o (gn g))) := by
  have h6 := hg.1
  unfold X_sumOf
  rw [if_pos ha]
  refine loop_i (W := fun w j (_ : Unit) => X_sumOf_5 u s a w (nI o) (nI (smB f o j)) (nI j) = some (nI (smB f o (gn g)))) (I := fun _ _ => True) (gn g) ?_ ?_ u 0 () (by omega) (by omega) trivial
  · intro w _ _
    show X_sumOf_5 u s a (w + 1) (nI o) (nI (smB f o (gn g))) (nI (gn g)) = _
    rw [X_sumOf_5_s]
    unfold X_sumOf_5b
    rw [hG.1, if_pos (nI_le (Nat.le_refl _) (by omega))]
  · intro w j _ hj _ ih
    show X_sumOf_5 u s a (w + 1) (nI o) (nI (smB f o j)) (nI j) = _
    have ih : X_sumOf_5 u s a w (nI o) (nI (smB f o (j + 1))) (nI (j + 1)) = _ := ih () trivial
    rw [X_sumOf_5_s]
    unfold X_sumOf_5b
    have hs : smB f o (j + 1) = smB f o j + (if bt o j = 1 then f j else 0) := rfl
    have hb := bt_lt o j
    rw [hG.1, if_neg (nI_ge hj (by omega)), X_has_n ho (by omega), bd_some, nI_1]
    by_cases e : bt o j = 1
    · rw [if_pos e] at hs
      rw [e, if_neg (by decide), aI_n (by omega) hl2, bd_some, lt_e, hf j hj, nI_add, ← hs]
      exact ih
    · rw [if_neg e] at hs
      have e0 : bt o j = 0 := by omega
      rw [e0, if_pos nI_0, lt_e, nI_lit0, nI_add, ← hs]
      exact ih
theorem X_water_ok {g : Geo} {s : Sg} {w u : Nat} {W : Wt} (hu : 20000 ≤ u) (hg : GoodG g) (hG : XG g s) (hw : Wst w) (hW : XW (gn g) s w W) : X_water u s w = some (nI (sm (wl W) (gn g))) := by
  have h6 := hg.1
  have h64 := two6 h6
  have hA : Ai (w + 1) ∧ sln (w + 1) = 6 := by rcases hw with e | e | e <;> subst e <;> exact ⟨by decide, rfl⟩
  unfold X_water
  rw [if_pos hw, X_all_ok hg hG, bd_some, X_sumOf_ok hu hg hG hA.1 (by omega) (by omega) (by omega) hW.1, bd_some, smB_all h6]
theorem X_dryOnes_ok {g : Geo} {s : Sg} {w u : Nat} {W : Wt} (hu : 20000 ≤ u) (hg : GoodG g) (hgW : GoodW g W) (hG : XG g s) (hw : Wst w) (hW : XW (gn g) s w W) : X_dryOnes u s w = some (nI (mkB (fun k => decide (wl W k = 0)) (gn g))) := by
  have h6 := hg.1
  unfold X_dryOnes
  rw [if_pos hw]
  refine loop_i (W := fun f j (_ : Unit) => X_dryOnes_4 u s w f (nI (mkB (fun k => decide (wl W k = 0)) j)) (nI j) = some (nI (mkB (fun k => decide (wl W k = 0)) (gn g)))) (I := fun _ _ => True) (gn g) ?_ ?_ u 0 () (by omega) (by omega) trivial
  · intro f _ _
    show X_dryOnes_4 u s w (f + 1) (nI (mkB (fun k => decide (wl W k = 0)) (gn g))) (nI (gn g)) = _
    rw [X_dryOnes_4_s]
    unfold X_dryOnes_4b
    rw [hG.1, if_pos (nI_le (Nat.le_refl _) (by omega))]
  · intro f j _ hj _ ih
    show X_dryOnes_4 u s w (f + 1) (nI (mkB (fun k => decide (wl W k = 0)) j)) (nI j) = _
    have ih : X_dryOnes_4 u s w f (nI (mkB (fun k => decide (wl W k = 0)) (j + 1))) (nI (j + 1)) = _ := ih () trivial
    rw [X_dryOnes_4_s]
    unfold X_dryOnes_4b
    have hs := mkB_s (fun k => decide (wl W k = 0)) j
    have hlt := mkB_lt (fun k => decide (wl W k = 0)) j
    have h5 : 2 ^ j ≤ 2 ^ 5 := Nat.pow_le_pow_right (by omega) (by omega)
    have hl := (hgW.1 j hj).1
    have hb := (hg.2 j hj).2.1
    rw [hG.1, if_neg (nI_ge hj (by omega)), aI_n (by omega) (by omega), bd_some, hW.1 j hj, nI_1]
    by_cases e : wl W j = 0
    · rw [decide_eq_true e] at hs
      simp only [if_true] at hs
      rw [e, if_pos nI_0, lt_e, nI_shl1 (by omega), nI_or (by omega) (by omega), ← hs]
      exact ih
    · rw [decide_eq_false e] at hs
      simp only [Bool.false_eq_true, if_false] at hs
      rw [if_neg (nI_ne0 (by omega) (by omega)), lt_e, nI_lit0, nI_or (by omega) (by omega), Nat.or_zero, ← hs]
      exact ih
theorem X_lakesOf_ok {g : Geo} {s : Sg} {u q : Nat} {W : Wt} (hu : 20000 ≤ u) (hg : GoodG g) (hgW : GoodW g W) (hG : XG g s) (hW : XW (gn g) s 1 W) (hq : q < 2 ^ 31) : X_lakesOf u s (nI q) = some (nI (mkB (fun k => decide (wk W k = q)) (gn g))) := by
  have h6 := hg.1
  unfold X_lakesOf
  refine loop_i (W := fun f j (_ : Unit) => X_lakesOf_4 u s f (nI q) (nI (mkB (fun k => decide (wk W k = q)) j)) (nI j) = some (nI (mkB (fun k => decide (wk W k = q)) (gn g)))) (I := fun _ _ => True) (gn g) ?_ ?_ u 0 () (by omega) (by omega) trivial
  · intro f _ _
    show X_lakesOf_4 u s (f + 1) (nI q) (nI (mkB (fun k => decide (wk W k = q)) (gn g))) (nI (gn g)) = _
    rw [X_lakesOf_4_s]
    unfold X_lakesOf_4b
    rw [hG.1, if_pos (nI_le (Nat.le_refl _) (by omega))]
  · intro f j _ hj _ ih
    show X_lakesOf_4 u s (f + 1) (nI q) (nI (mkB (fun k => decide (wk W k = q)) j)) (nI j) = _
    have ih : X_lakesOf_4 u s f (nI q) (nI (mkB (fun k => decide (wk W k = q)) (j + 1))) (nI (j + 1)) = _ := ih () trivial
    rw [X_lakesOf_4_s]
    unfold X_lakesOf_4b
    have hs := mkB_s (fun k => decide (wk W k = q)) j
    have hlt := mkB_lt (fun k => decide (wk W k = q)) j
    have h5 : 2 ^ j ≤ 2 ^ 5 := Nat.pow_le_pow_right (by omega) (by omega)
    have hl := (hgW.1 j hj).1
    have hb := (hg.2 j hj).2.1
    have hk3 := (hgW.1 j hj).2.2.2
    rw [hG.1, if_neg (nI_ge hj (by omega)), aI_n (by omega) (by omega), bd_some, hW.2.2.2.1 j hj, nI_1]
    rw [nI_lit0]
    by_cases e : wk W j = q
    · rw [decide_eq_true e] at hs
      simp only [if_true] at hs
      rw [if_pos (by rw [e]), lt_e, nI_shl1 (by omega), nI_or (by omega) (by omega), ← hs]
      exact ih
    · rw [decide_eq_false e] at hs
      simp only [Bool.false_eq_true, if_false] at hs
      rw [if_neg (fun h => e ((nI_eq (by omega) (by omega)).mp h)), lt_e, nI_or (by omega) (by omega), Nat.or_zero, ← hs]
      exact ih
theorem X_fullOnes_ok {g : Geo} {s : Sg} {u : Nat} {W : Wt} (hu : 20000 ≤ u) (hg : GoodG g) (hgW : GoodW g W) (hG : XG g s) (hW : XW (gn g) s 1 W) : X_fullOnes u s = some (nI (mkB (fun k => decide (wl W k = gb g k)) (gn g))) := by
  have h6 := hg.1
  unfold X_fullOnes
  refine loop_i (W := fun f j (_ : Unit) => X_fullOnes_4 u s f (nI (mkB (fun k => decide (wl W k = gb g k)) j)) (nI j) = some (nI (mkB (fun k => decide (wl W k = gb g k)) (gn g)))) (I := fun _ _ => True) (gn g) ?_ ?_ u 0 () (by omega) (by omega) trivial
  · intro f _ _
    show X_fullOnes_4 u s (f + 1) (nI (mkB (fun k => decide (wl W k = gb g k)) (gn g))) (nI (gn g)) = _
    rw [X_fullOnes_4_s]
    unfold X_fullOnes_4b
    rw [hG.1, if_pos (nI_le (Nat.le_refl _) (by omega))]
  · intro f j _ hj _ ih
    show X_fullOnes_4 u s (f + 1) (nI (mkB (fun k => decide (wl W k = gb g k)) j)) (nI j) = _
    have ih : X_fullOnes_4 u s f (nI (mkB (fun k => decide (wl W k = gb g k)) (j + 1))) (nI (j + 1)) = _ := ih () trivial
    rw [X_fullOnes_4_s]
    unfold X_fullOnes_4b
    have hs := mkB_s (fun k => decide (wl W k = gb g k)) j
    have hlt := mkB_lt (fun k => decide (wl W k = gb g k)) j
    have h5 : 2 ^ j ≤ 2 ^ 5 := Nat.pow_le_pow_right (by omega) (by omega)
    have hl := (hgW.1 j hj).1
    have hb := (hg.2 j hj).2.1
    have hk3 := (hgW.1 j hj).2.2.2
    rw [hG.1, if_neg (nI_ge hj (by omega)), aI_n (by omega) (by omega), bd_some, aI_n (by omega) (by omega), bd_some, hW.1 j hj, (hG.2 j hj).1, nI_1]
    rw [nI_lit0]
    by_cases e : wl W j = gb g j
    · rw [decide_eq_true e] at hs
      simp only [if_true] at hs
      rw [if_pos (by rw [e]), lt_e, nI_shl1 (by omega), nI_or (by omega) (by omega), ← hs]
      exact ih
    · rw [decide_eq_false e] at hs
      simp only [Bool.false_eq_true, if_false] at hs
      rw [if_neg (fun h => e ((nI_eq (by omega) (by omega)).mp h)), lt_e, nI_or (by omega) (by omega), Nat.or_zero, ← hs]
      exact ih
theorem M_dryOnes_ok {g : Geo} {s : Sg} {u a : Nat} {W : Wt} (hu : 20000 ≤ u) (hg : GoodG g) (hgW : GoodW g W) (hG : MG g s) (ha : a = 46 ∨ a = 58) (hW : MW (gn g) s a 0 W) : M_dryOnes u s a = some (nI (mkB (fun k => decide (wl W k = 0)) (gn g))) := by
  have h6 := hg.1
  unfold M_dryOnes
  obtain ⟨hln, hAi⟩ := lnM ha
  obtain ⟨r1, r2, r3, r4, r5, r7, r8, r9⟩ := MW_row hW
  rw [if_pos hAi]
  refine loop_i (W := fun f j (_ : Unit) => M_dryOnes_4 u s a f (nI (mkB (fun k => decide (wl W k = 0)) j)) (nI j) = some (nI (mkB (fun k => decide (wl W k = 0)) (gn g)))) (I := fun _ _ => True) (gn g) ?_ ?_ u 0 () (by omega) (by omega) trivial
  · intro f _ _
    show M_dryOnes_4 u s a (f + 1) (nI (mkB (fun k => decide (wl W k = 0)) (gn g))) (nI (gn g)) = _
    rw [M_dryOnes_4_s]
    unfold M_dryOnes_4b
    rw [hG.1, if_pos (nI_le (Nat.le_refl _) (by omega))]
  · intro f j _ hj _ ih
    show M_dryOnes_4 u s a (f + 1) (nI (mkB (fun k => decide (wl W k = 0)) j)) (nI j) = _
    have ih : M_dryOnes_4 u s a f (nI (mkB (fun k => decide (wl W k = 0)) (j + 1))) (nI (j + 1)) = _ := ih () trivial
    rw [M_dryOnes_4_s]
    unfold M_dryOnes_4b
    have hs := mkB_s (fun k => decide (wl W k = 0)) j
    have hlt := mkB_lt (fun k => decide (wl W k = 0)) j
    have h5 : 2 ^ j ≤ 2 ^ 5 := Nat.pow_le_pow_right (by omega) (by omega)
    have hl := (hgW.1 j hj).1
    have hb := (hg.2 j hj).2.1
    have hk3 := (hgW.1 j hj).2.2.2
    rw [hG.1, if_neg (nI_ge hj (by omega)), hln, aI_n (by omega) (by omega), bd_some, r1 j hj, nI_1]
    rw [nI_lit0]
    by_cases e : wl W j = 0
    · rw [decide_eq_true e] at hs
      simp only [if_true] at hs
      rw [if_pos (by rw [e]), lt_e, nI_shl1 (by omega), nI_or (by omega) (by omega), ← hs]
      exact ih
    · rw [decide_eq_false e] at hs
      simp only [Bool.false_eq_true, if_false] at hs
      rw [if_neg (fun h => e ((nI_eq (by omega) (by omega)).mp h)), lt_e, nI_or (by omega) (by omega), Nat.or_zero, ← hs]
      exact ih
theorem M_ownOf_ok {g : Geo} {s : Sg} {u a q : Nat} {W : Wt} (hu : 20000 ≤ u) (hg : GoodG g) (hgW : GoodW g W) (hG : MG g s) (ha : a = 46 ∨ a = 58) (hW : MW (gn g) s a 0 W) (hq : q < 2 ^ 31) : M_ownOf u s a (nI q) = some (nI (mkB (fun k => decide (wk W k = q)) (gn g))) := by
  have h6 := hg.1
  unfold M_ownOf
  obtain ⟨hln, hAi⟩ := lnM ha
  obtain ⟨r1, r2, r3, r4, r5, r7, r8, r9⟩ := MW_row hW
  rw [if_pos hAi]
  refine loop_i (W := fun f j (_ : Unit) => M_ownOf_5 u s a f (nI q) (nI (mkB (fun k => decide (wk W k = q)) j)) (nI j) = some (nI (mkB (fun k => decide (wk W k = q)) (gn g)))) (I := fun _ _ => True) (gn g) ?_ ?_ u 0 () (by omega) (by omega) trivial
  · intro f _ _
    show M_ownOf_5 u s a (f + 1) (nI q) (nI (mkB (fun k => decide (wk W k = q)) (gn g))) (nI (gn g)) = _
    rw [M_ownOf_5_s]
    unfold M_ownOf_5b
    rw [hG.1, if_pos (nI_le (Nat.le_refl _) (by omega))]
  · intro f j _ hj _ ih
    show M_ownOf_5 u s a (f + 1) (nI q) (nI (mkB (fun k => decide (wk W k = q)) j)) (nI j) = _
    have ih : M_ownOf_5 u s a f (nI q) (nI (mkB (fun k => decide (wk W k = q)) (j + 1))) (nI (j + 1)) = _ := ih () trivial
    rw [M_ownOf_5_s]
    unfold M_ownOf_5b
    have hs := mkB_s (fun k => decide (wk W k = q)) j
    have hlt := mkB_lt (fun k => decide (wk W k = q)) j
    have h5 : 2 ^ j ≤ 2 ^ 5 := Nat.pow_le_pow_right (by omega) (by omega)
    have hl := (hgW.1 j hj).1
    have hb := (hg.2 j hj).2.1
    have hk3 := (hgW.1 j hj).2.2.2
    rw [hG.1, if_neg (nI_ge hj (by omega)), ad_24, hln, aI_n (by omega) (by omega), bd_some, r5 j hj, nI_1]
    rw [nI_lit0]
    by_cases e : wk W j = q
    · rw [decide_eq_true e] at hs
      simp only [if_true] at hs
      rw [if_pos (by rw [e]), lt_e, nI_shl1 (by omega), nI_or (by omega) (by omega), ← hs]
      exact ih
    · rw [decide_eq_false e] at hs
      simp only [Bool.false_eq_true, if_false] at hs
      rw [if_neg (fun h => e ((nI_eq (by omega) (by omega)).mp h)), lt_e, nI_or (by omega) (by omega), Nat.or_zero, ← hs]
      exact ih
theorem M_fullOnes_ok {g : Geo} {s : Sg} {u : Nat} {W : Wt} (hu : 20000 ≤ u) (hg : GoodG g) (hgW : GoodW g W) (hG : MG g s) (hW : MW (gn g) s 46 0 W) : M_fullOnes u s = some (nI (mkB (fun k => decide (wl W k = gb g k)) (gn g))) := by
  have h6 := hg.1
  unfold M_fullOnes
  obtain ⟨r1, r2, r3, r4, r5, r7, r8, r9⟩ := MW_row hW
  refine loop_i (W := fun f j (_ : Unit) => M_fullOnes_4 u s f (nI (mkB (fun k => decide (wl W k = gb g k)) j)) (nI j) = some (nI (mkB (fun k => decide (wl W k = gb g k)) (gn g)))) (I := fun _ _ => True) (gn g) ?_ ?_ u 0 () (by omega) (by omega) trivial
  · intro f _ _
    show M_fullOnes_4 u s (f + 1) (nI (mkB (fun k => decide (wl W k = gb g k)) (gn g))) (nI (gn g)) = _
    rw [M_fullOnes_4_s]
    unfold M_fullOnes_4b
    rw [hG.1, if_pos (nI_le (Nat.le_refl _) (by omega))]
  · intro f j _ hj _ ih
    show M_fullOnes_4 u s (f + 1) (nI (mkB (fun k => decide (wl W k = gb g k)) j)) (nI j) = _
    have ih : M_fullOnes_4 u s f (nI (mkB (fun k => decide (wl W k = gb g k)) (j + 1))) (nI (j + 1)) = _ := ih () trivial
    rw [M_fullOnes_4_s]
    unfold M_fullOnes_4b
    have hs := mkB_s (fun k => decide (wl W k = gb g k)) j
    have hlt := mkB_lt (fun k => decide (wl W k = gb g k)) j
    have h5 : 2 ^ j ≤ 2 ^ 5 := Nat.pow_le_pow_right (by omega) (by omega)
    have hl := (hgW.1 j hj).1
    have hb := (hg.2 j hj).2.1
    have hk3 := (hgW.1 j hj).2.2.2
    rw [hG.1, if_neg (nI_ge hj (by omega)), aI_n (by omega) (by omega), bd_some, aI_n (by omega) (by omega), bd_some, r1 j hj, (hG.2 j hj).1, nI_1]
    rw [nI_lit0]
    by_cases e : wl W j = gb g j
    · rw [decide_eq_true e] at hs
      simp only [if_true] at hs
      rw [if_pos (by rw [e]), lt_e, nI_shl1 (by omega), nI_or (by omega) (by omega), ← hs]
      exact ih
    · rw [decide_eq_false e] at hs
      simp only [Bool.false_eq_true, if_false] at hs
      rw [if_neg (fun h => e ((nI_eq (by omega) (by omega)).mp h)), lt_e, nI_or (by omega) (by omega), Nat.or_zero, ← hs]
      exact ih
theorem X_levelOf_ok {g : Geo} {s : Sg} {u o : Nat} {W : Wt} (hu : 20000 ≤ u) (hg : GoodG g) (hgW : GoodW g W) (hG : XG g s) (hW : XW (gn g) s 1 W) (ho : o < 2 ^ 31) : X_levelOf u s (nI o) = some (nI (sm (fun k => if bt o (wk W k) = 1 then wl W k else 0) (gn g))) := by
  have h6 := hg.1
  unfold X_levelOf
  refine loop_i (W := fun w j (_ : Unit) => X_levelOf_4 u s w (nI o) (nI (sm (fun k => if bt o (wk W k) = 1 then wl W k else 0) j)) (nI j) = some (nI (sm (fun k => if bt o (wk W k) = 1 then wl W k else 0) (gn g)))) (I := fun _ _ => True) (gn g) ?_ ?_ u 0 () (by omega) (by omega) trivial
  · intro w _ _
    show X_levelOf_4 u s (w + 1) (nI o) (nI (sm (fun k => if bt o (wk W k) = 1 then wl W k else 0) (gn g))) (nI (gn g)) = _
    rw [X_levelOf_4_s]
    unfold X_levelOf_4b
    rw [hG.1, if_pos (nI_le (Nat.le_refl _) (by omega))]
  · intro w j _ hj _ ih
    show X_levelOf_4 u s (w + 1) (nI o) (nI (sm (fun k => if bt o (wk W k) = 1 then wl W k else 0) j)) (nI j) = _
    have ih : X_levelOf_4 u s w (nI o) (nI (sm (fun k => if bt o (wk W k) = 1 then wl W k else 0) (j + 1))) (nI (j + 1)) = _ := ih () trivial
    rw [X_levelOf_4_s]
    unfold X_levelOf_4b
    have hs2 : sm (fun k => if bt o (wk W k) = 1 then wl W k else 0) (j + 1) = sm (fun k => if bt o (wk W k) = 1 then wl W k else 0) j + (if bt o (wk W j) = 1 then wl W j else 0) := rfl
    have hb := bt_lt o (wk W j)
    have hk3 := (hgW.1 j hj).2.2.2
    rw [hG.1, if_neg (nI_ge hj (by omega)), aI_n (by omega) (by omega), bd_some, hW.2.2.2.1 j hj, X_has_n ho (by omega), bd_some, nI_1]
    by_cases e : bt o (wk W j) = 1
    · rw [if_pos e] at hs2
      rw [e, if_neg (by decide), aI_n (by omega) (by omega), bd_some, lt_e, hW.1 j hj, nI_add, ← hs2]
      exact ih
    · rw [if_neg e] at hs2
      have e0 : bt o (wk W j) = 0 := by omega
      rw [e0, if_pos nI_0, lt_e, nI_lit0, nI_add, ← hs2]
      exact ih
theorem M_levelOfKings_ok {g : Geo} {s : Sg} {u o : Nat} {W : Wt} (hu : 20000 ≤ u) (hg : GoodG g) (hgW : GoodW g W) (hG : MG g s) (hW : MW (gn g) s 46 0 W) (ho : o < 2 ^ 31) : M_levelOfKings u s (nI o) = some (nI (sm (fun k => if bt o (wk W k) = 1 then wl W k else 0) (gn g))) := by
  have h6 := hg.1
  unfold M_levelOfKings
  obtain ⟨r1, r2, r3, r4, r5, r7, r8, r9⟩ := MW_row hW
  refine loop_i (W := fun w j (_ : Unit) => M_levelOfKings_4 u s w (nI o) (nI (sm (fun k => if bt o (wk W k) = 1 then wl W k else 0) j)) (nI j) = some (nI (sm (fun k => if bt o (wk W k) = 1 then wl W k else 0) (gn g)))) (I := fun _ _ => True) (gn g) ?_ ?_ u 0 () (by omega) (by omega) trivial
  · intro w _ _
    show M_levelOfKings_4 u s (w + 1) (nI o) (nI (sm (fun k => if bt o (wk W k) = 1 then wl W k else 0) (gn g))) (nI (gn g)) = _
    rw [M_levelOfKings_4_s]
    unfold M_levelOfKings_4b
    rw [hG.1, if_pos (nI_le (Nat.le_refl _) (by omega))]
  · intro w j _ hj _ ih
    show M_levelOfKings_4 u s (w + 1) (nI o) (nI (sm (fun k => if bt o (wk W k) = 1 then wl W k else 0) j)) (nI j) = _
    have ih : M_levelOfKings_4 u s w (nI o) (nI (sm (fun k => if bt o (wk W k) = 1 then wl W k else 0) (j + 1))) (nI (j + 1)) = _ := ih () trivial
    rw [M_levelOfKings_4_s]
    unfold M_levelOfKings_4b
    have hs2 : sm (fun k => if bt o (wk W k) = 1 then wl W k else 0) (j + 1) = sm (fun k => if bt o (wk W k) = 1 then wl W k else 0) j + (if bt o (wk W j) = 1 then wl W j else 0) := rfl
    have hb := bt_lt o (wk W j)
    have hk3 := (hgW.1 j hj).2.2.2
    rw [hG.1, if_neg (nI_ge hj (by omega)), ad_24, aI_n (by omega) (by omega), bd_some, r5 j hj, M_has_n ho (by omega), bd_some, nI_1]
    by_cases e : bt o (wk W j) = 1
    · rw [if_pos e] at hs2
      rw [e, if_neg (by decide), aI_n (by omega) (by omega), bd_some, lt_e, r1 j hj, nI_add, ← hs2]
      exact ih
    · rw [if_neg e] at hs2
      have e0 : bt o (wk W j) = 0 := by omega
      rw [e0, if_pos nI_0, lt_e, nI_lit0, nI_add, ← hs2]
      exact ih
theorem M_levelOf_ok {g : Geo} {s : Sg} {u a o : Nat} {W : Wt} (hu : 20000 ≤ u) (hg : GoodG g) (hgW : GoodW g W) (hG : MG g s) (ha : a = 46 ∨ a = 58) (hW : MW (gn g) s a 0 W) (ho : o < 2 ^ 31) : M_levelOf u s a (nI o) = some (nI (sm (fun k => if bt o k = 1 then wl W k else 0) (gn g))) := by
  have h6 := hg.1
  unfold M_levelOf
  obtain ⟨hln, hAi⟩ := lnM ha
  obtain ⟨r1, r2, r3, r4, r5, r7, r8, r9⟩ := MW_row hW
  rw [if_pos hAi]
  refine loop_i (W := fun w j (_ : Unit) => M_levelOf_5 u s a w (nI o) (nI (sm (fun k => if bt o k = 1 then wl W k else 0) j)) (nI j) = some (nI (sm (fun k => if bt o k = 1 then wl W k else 0) (gn g)))) (I := fun _ _ => True) (gn g) ?_ ?_ u 0 () (by omega) (by omega) trivial
  · intro w _ _
    show M_levelOf_5 u s a (w + 1) (nI o) (nI (sm (fun k => if bt o k = 1 then wl W k else 0) (gn g))) (nI (gn g)) = _
    rw [M_levelOf_5_s]
    unfold M_levelOf_5b
    rw [hG.1, if_pos (nI_le (Nat.le_refl _) (by omega))]
  · intro w j _ hj _ ih
    show M_levelOf_5 u s a (w + 1) (nI o) (nI (sm (fun k => if bt o k = 1 then wl W k else 0) j)) (nI j) = _
    have ih : M_levelOf_5 u s a w (nI o) (nI (sm (fun k => if bt o k = 1 then wl W k else 0) (j + 1))) (nI (j + 1)) = _ := ih () trivial
    rw [M_levelOf_5_s]
    unfold M_levelOf_5b
    have hs2 : sm (fun k => if bt o k = 1 then wl W k else 0) (j + 1) = sm (fun k => if bt o k = 1 then wl W k else 0) j + (if bt o j = 1 then wl W j else 0) := rfl
    have hb := bt_lt o (j)
    have hk3 := (hgW.1 j hj).2.2.2
    rw [hG.1, if_neg (nI_ge hj (by omega)), M_has_n ho (by omega), bd_some, nI_1]
    by_cases e : bt o j = 1
    · rw [if_pos e] at hs2
      rw [e, if_neg (by decide), hln, aI_n (by omega) (by omega), bd_some, lt_e, r1 j hj, nI_add, ← hs2]
      exact ih
    · rw [if_neg e] at hs2
      have e0 : bt o j = 0 := by omega
      rw [e0, if_pos nI_0, lt_e, nI_lit0, nI_add, ← hs2]
      exact ih
theorem M_sumOf_ok {g : Geo} {s : Sg} {u a o : Nat} {f : Nat → Nat} (hu : 20000 ≤ u) (hg : GoodG g) (hG : MG g s) (ha : a = 46 ∨ a = 58) (ho : o ≤ 24) (hf : ∀ k, k < gn g → gI s a (o + k) = nI (f k)) : M_sumOf u s a (nI o) = some (nI (sm f (gn g))) := by
  have h6 := hg.1
  obtain ⟨hs, hAi⟩ := lnM ha
  unfold M_sumOf
  rw [if_pos hAi]
  refine loop_i (W := fun w j (_ : Unit) => M_sumOf_5 u s a w (nI o) (nI (sm f j)) (nI j) = some (nI (sm f (gn g)))) (I := fun _ _ => True) (gn g) ?_ ?_ u 0 () (by omega) (by omega) trivial
  · intro w _ _
    show M_sumOf_5 u s a (w + 1) (nI o) (nI (sm f (gn g))) (nI (gn g)) = _
    rw [M_sumOf_5_s]
    unfold M_sumOf_5b
    rw [hG.1, if_pos (nI_le (Nat.le_refl _) (by omega))]
  · intro w j _ hj _ ih
    show M_sumOf_5 u s a (w + 1) (nI o) (nI (sm f j)) (nI j) = _
    have ih : M_sumOf_5 u s a w (nI o) (nI (sm f (j + 1))) (nI (j + 1)) = _ := ih () trivial
    rw [M_sumOf_5_s]
    unfold M_sumOf_5b
    rw [hG.1, if_neg (nI_ge hj (by omega)), hs, nI_add, aI_n (by omega) (by omega), bd_some, lt_e, hf j hj, nI_add, nI_1]
    exact ih
theorem M_water_ok {g : Geo} {s : Sg} {u a : Nat} {W : Wt} (hu : 20000 ≤ u) (hg : GoodG g) (hG : MG g s) (ha : a = 46 ∨ a = 58) (hW : MW (gn g) s a 0 W) : M_sumOf u s a 0 = some (nI (sm (wl W) (gn g))) := M_sumOf_ok (o := 0) hu hg hG ha (by omega) hW.1
