/-! LAW: richest, years, realm -/
set_option maxRecDepth 100000
theorem dyN_k (g : Geo) (ru : Ru) (m : Nat) (W : Wt) : wk (dyN g ru m W) = wk W := by
  induction m with
  | zero => rfl
  | succ m ih => rw [dyN_s]; exact ih
/-- what a king's lakes hold -/
def kgL (n : Nat) (K L : Nat → Nat) (q : Nat) : Nat := sm (fun i => if decide (K i = q) then L i else 0) n
theorem kgL_le {n : Nat} {K L : Nat → Nat} {q c : Nat} (h : ∀ k, k < n → L k ≤ c) : kgL n K L q ≤ n * c := sm_le (fun k hk => by
  have := h k hk
  split
  · exact this
  · omega)
theorem X_own {u c : Nat} {s t : Sg} {A : AS} {w q : Nat} {V : Wt} (hu : 20000 ≤ u) (hX : XI A s) (hG : GI c A) (hF : Fr dXr s t) (hw : Wst w) (hV : XW (gn (aG A)) t w V) (hq : q < 2 ^ 31) : X_lakesOf u t (nI q) = some (nI (mkB (fun k => decide (wk (aW A) k = q)) (gn (aG A)))) ∧ X_sumOf u t (w + 1) (nI (mkB (fun k => decide (wk (aW A) k = q)) (gn (aG A)))) = some (nI (kgL (gn (aG A)) (wk (aW A)) (wl V) q)) := by
  have h64 := two6 hG.1.1
  have hmk := mkB_lt (fun k => decide (wk (aW A) k = q)) (gn (aG A))
  have hA : Ai (w + 1) ∧ sln (w + 1) = 6 := by rcases hw with e | e | e <;> subst e <;> exact ⟨by decide, rfl⟩
  refine ⟨X_lakesOf_ok hu hG.1 hG.2.1 (X_env hX hF).1.2.1 (X_env hX hF).2 hq, ?_⟩
  rw [X_sumOf_ok hu hG.1 (X_env hX hF).1.2.1 hA.1 (by omega) (by omega) (by omega) hV.1, smB_mk]
  rfl
theorem M_own {u c : Nat} {s t : Sg} {A : AS} {a q : Nat} {V : Wt} (hu : 20000 ≤ u) (hM : MI u A s) (hG : GI c A) (hF : Fr dMr s t) (ha : a = 46 ∨ a = 58) (hV : MW (gn (aG A)) t a 0 V) (hg : GoodW (aG A) V) (hq : q < 2 ^ 31) : M_ownOf u t a (nI q) = some (nI (mkB (fun k => decide (wk V k = q)) (gn (aG A)))) ∧ M_levelOf u t a (nI (mkB (fun k => decide (wk V k = q)) (gn (aG A)))) = some (nI (kgL (gn (aG A)) (wk V) (wl V) q)) := by
  have h64 := two6 hG.1.1
  have hmk := mkB_lt (fun k => decide (wk V k = q)) (gn (aG A))
  refine ⟨M_ownOf_ok hu hG.1 hg (M_env hM hF).1.1.1 ha hV hq, ?_⟩
  rw [M_levelOf_ok hu hG.1 hg (M_env hM hF).1.1.1 ha hV (by omega)]
  congr 2
  exact smB_mk (wl V) _ _
def rcB (b : Option (Nat × Nat)) : Int32 := match b with
  | none => 0
  | some q => nI q.1
theorem bsT_some (f : Nat → Nat) (k : Nat) : ∃ q, bsF (fun _ => true) f (k + 1) = some q := by
  rw [bsF_s]
  cases bsF (fun _ => true) f k with
  | none => exact ⟨_, rfl⟩
  | some b =>
    by_cases e : (true && bsQ f k (some b)) = true
    · rw [if_pos e]
      exact ⟨_, rfl⟩
    · rw [if_neg e]
      exact ⟨_, rfl⟩
theorem bsT_n {f : Nat → Nat} {k : Nat} (h : bsF (fun _ => true) f k = none) : bsF (fun _ => true) f (k + 1) = some (k, f k) := by
  rw [bsF_s, h, Bool.true_and, if_pos (show bsQ f k none = true from rfl)]
theorem bsT_s {f : Nat → Nat} {k : Nat} {b : Nat × Nat} (h : bsF (fun _ => true) f k = some b) : bsF (fun _ => true) f (k + 1) = if b.2 < f k then some (k, f k) else some b := by
  rw [bsF_s, h, Bool.true_and]
  by_cases e : b.2 < f k
  · rw [if_pos e, if_pos (show bsQ f k (some b) = true from decide_eq_true e)]
  · rw [if_neg e, if_neg (by rw [show bsQ f k (some b) = false from decide_eq_false e]; decide)]
theorem op_richest {u c : Nat} {s : Sg} {A : AS} (hu : 20000 ≤ u) (hX : XI A s) (hM : MI u A s) (hG : GI c A) (x : Int32) : Bth u c s (X_richest u s x) (fun t => M_richest u t x) := by
  have h6 := hG.1.1
  rcases in_or2 x 0 99 (by omega) (by omega) with ⟨m, hm0, hm, e⟩ | hno
  rotate_left
  · refine both_no (-1) hX hM hG ?_ (fun t ht => ?_)
    · unfold X_richest
      rw [Xin_0_99, gd_e, if_neg hno]
    · unfold M_richest
      rw [lt_e, Min_0_99, gd_e, if_neg hno] <;> rfl
  subst e
  have hV : GoodW (aG A) (dyN (aG A) (aRu A) m (aW A)) := dyN_good hG.2.1 m
  have hL : ∀ q, kgL (gn (aG A)) (wk (aW A)) (wl (dyN (aG A) (aRu A) m (aW A))) q ≤ 594 := fun q => by
    have := kgL_le (n := gn (aG A)) (K := wk (aW A)) (L := wl (dyN (aG A) (aRu A) m (aW A))) (q := q) (c := 99) (fun k hk => lev99 hG.1 hV hk)
    omega
  obtain ⟨b, hb⟩ := bsT_some (kgL (gn (aG A)) (wk (aW A)) (wl (dyN (aG A) (aRu A) m (aW A)))) 3
  refine both_row (nI b.1) [(nI b.2).toInt64, (nI (sm (wl (dyN (aG A) (aRu A) m (aW A))) (gn (aG A))) - nI b.2).toInt64] hX hM hG ?_ (fun t ht => ?_)
  · unfold X_richest
    rw [Xin_0_99, gd_e, if_pos (in_yes2 hm0 hm (by omega))]
    refine TtP (X_try' hX hG (Fr.refl _ _)) (fun t1 h1 => TtP (X_tdays hu hX hG h1.1 h1.2.1 hG.2.1 (by omega)) (fun t2 h2 => ?_))
    have hS := (h1.2.2).trans h2.2.2
    have hown := fun q (hq : q < 2 ^ 31) => X_own (q := q) hu hX hG h2.1 (w := 6) (by omega) h2.2.1 hq
    refine loop_i (W := fun f j (_ : Unit) => Tp (X_richest_41 u f t2 (rcB (bsF (fun _ => true) (kgL (gn (aG A)) (wk (aW A)) (wl (dyN (aG A) (aRu A) m (aW A)))) j)) (oS (bsF (fun _ => true) (kgL (gn (aG A)) (wk (aW A)) (wl (dyN (aG A) (aRu A) m (aW A)))) j)) (nI j)) _)
      (I := fun j _ => True) 4 ?_ ?_ u 0 () (by omega) (by omega) trivial
    · intro f _ _
      rw [X_richest_41_s]
      unfold X_richest_41b
      rw [if_pos (by decide), hb, lt_e]
      have hF0 : Fr dXr s (pI t2 0 48 0) := h2.1.pI (by omega)
      refine TtP (X_tell' _ hF0 XRow_0 (Nat.le_of_ble_eq_true rfl)) (fun t3 h3 => ?_)
      rw [X_water_ok hu hG.1 (X_env hX h3.1).1.2.1 (by omega) ((h2.2.1.r0 (by omega)).g (by omega) h3.2.2), bd_some]
      exact TtP (X_tell' _ h3.1 h3.2.1 (Nat.le_of_ble_eq_true rfl)) (fun t4 h4 => Tp_some ⟨rfl, h4.1, h4.2.1⟩)
    · intro f j _ hj _ ih
      have ih := ih () trivial
      rw [X_richest_41_s]
      unfold X_richest_41b X_richest_78
      rw [show (4 : Int32) = nI 4 from rfl, if_neg (nI_ge hj (by omega)), (hown j (by omega)).1, bd_some, (hown j (by omega)).2, bd_some]
      simp only [lt_e, nI_1]
      have hLj := hL j
      cases hc : bsF (fun _ => true) (kgL (gn (aG A)) (wk (aW A)) (wl (dyN (aG A) (aRu A) m (aW A)))) j with
      | none =>
        have hs := bsT_n hc
        rw [hs] at ih
        have hm1 : (-1 : Int32).toInt = -1 := by decide
        have hx : mx (-1) (nI (kgL (gn (aG A)) (wk (aW A)) (wl (dyN (aG A) (aRu A) m (aW A))) j)) = nI (kgL (gn (aG A)) (wk (aW A)) (wl (dyN (aG A) (aRu A) m (aW A))) j) := if_pos (Int32.lt_iff_toInt_lt.mpr (by
          rw [nI_toInt (by omega)]
          omega))
        have hn : ¬ nI (kgL (gn (aG A)) (wk (aW A)) (wl (dyN (aG A) (aRu A) m (aW A))) j) ≤ -1 := fun h => by
          have h := Int32.le_iff_toInt_le.mp h
          rw [nI_toInt (by omega)] at h
          omega
        show Tp (if _ ≤ (-1 : Int32) then _ else (X_richest_41 u f t2 (nI j) (mx (-1) _) _)) _
        rw [if_neg hn, hx]
        exact ih
      | some q =>
        have hs := bsT_s hc
        have hq2 : q.2 ≤ 594 := by
          rw [(bsF_lt _ _ _ q hc).2]
          exact hL _
        show Tp (if _ ≤ nI q.2 then (X_richest_41 u f t2 (nI q.1) (mx (nI q.2) _) _) else (X_richest_41 u f t2 (nI j) (mx (nI q.2) _) _)) _
        rw [nI_mx (by omega) (by omega)]
        by_cases e2 : q.2 < kgL (gn (aG A)) (wk (aW A)) (wl (dyN (aG A) (aRu A) m (aW A))) j
        · rw [if_pos e2] at hs
          rw [hs] at ih
          rw [if_neg (nI_ge e2 (by omega)), Nat.max_eq_right (by omega)]
          exact ih
        · rw [if_neg e2] at hs
          rw [hs] at ih
          rw [if_pos (nI_le (by omega) (by omega)), Nat.max_eq_left (by omega)]
          exact ih
  · unfold M_richest
    rw [lt_e, Min_0_99, gd_e, if_pos (in_yes2 hm0 hm (by omega))]
    refine TtP (M_then hu ht hG M_th (by omega)) (fun t2 h2 => ?_)
    have hown := fun q (hq : q < 2 ^ 31) => M_own (q := q) hu ht hG h2.1 (a := 58) (by omega) h2.2 hV hq
    rw [dyN_k] at hown
    refine loop_i (W := fun f j (_ : Unit) => Tp (M_richest_26 u f t2 (rcB (bsF (fun _ => true) (kgL (gn (aG A)) (wk (aW A)) (wl (dyN (aG A) (aRu A) m (aW A)))) (j + 1))) (nI (j + 1))) _)
      (I := fun j _ => True) 3 ?_ ?_ u 0 () (by omega) (by omega) trivial
    · intro f _ _
      rw [M_richest_26_s]
      unfold M_richest_26b
      have hbl := bsF_lt _ _ _ b hb
      rw [if_pos (by decide), hb]
      show Tp ((M_ownOf u t2 58 (nI b.1)).bind _) _
      rw [(hown b.1 (by omega)).1, bd_some, (hown b.1 (by omega)).2, bd_some, lt_e, ← hbl.2]
      have hF0 : Fr dMr t (pI t2 45 8 0) := h2.1.pI (by omega)
      refine TtP (M_tell' _ hF0 MRw_0 (Nat.le_of_ble_eq_true rfl)) (fun t3 h3 => ?_)
      rw [M_water_ok hu hG.1 (M_env ht h3.1).1.1.1 (by omega) ((h2.2.r0 (by omega)).g (by omega) h3.2.2), bd_some]
      exact TtP (M_tell' _ h3.1 h3.2.1 (Nat.le_of_ble_eq_true rfl)) (fun t4 h4 => Tp_some ⟨rfl, h4.1, h4.2.1⟩)
    · intro f j _ hj _ ih
      have ih := ih () trivial
      obtain ⟨q, hc⟩ := bsT_some (kgL (gn (aG A)) (wk (aW A)) (wl (dyN (aG A) (aRu A) m (aW A)))) j
      have hql := bsF_lt _ _ _ q hc
      have hs := bsT_s hc
      rw [M_richest_26_s]
      unfold M_richest_26b
      rw [show (4 : Int32) = nI 4 from rfl, if_neg (nI_ge (by omega) (by omega)), (hown (j + 1) (by omega)).1, bd_some, (hown (j + 1) (by omega)).2, bd_some, hc]
      show Tp ((M_ownOf u t2 58 (nI q.1)).bind _) _
      rw [(hown q.1 (by omega)).1, bd_some, (hown q.1 (by omega)).2, bd_some, nI_1, ← hql.2]
      have hLj := hL (j + 1)
      have hq2 : q.2 ≤ 594 := by
        rw [hql.2]
        exact hL _
      by_cases e2 : q.2 < kgL (gn (aG A)) (wk (aW A)) (wl (dyN (aG A) (aRu A) m (aW A))) (j + 1)
      · rw [if_pos e2] at hs
        rw [hs] at ih
        rw [if_neg (nI_ge e2 (by omega))]
        exact ih
      · rw [if_neg e2] at hs
        rw [hs] at ih
        rw [if_pos (nI_le (by omega) (by omega))]
        exact ih
/-! ### realm -/
theorem op_realm {u c : Nat} {s : Sg} {A : AS} (hu : 20000 ≤ u) (hX : XI A s) (hM : MI u A s) (hG : GI c A) (x : Int32) : Bth u c s (X_realm u s x) (fun t => M_realm u t x) := by
  have h6 := hG.1.1
  have h64 := two6 hG.1.1
  rcases in_or2 x 0 3 (by omega) (by omega) with ⟨q, hq0, hq, e⟩ | hno
  rotate_left
  · refine both_no (-1) hX hM hG ?_ (fun t ht => ?_)
    · unfold X_realm
      rw [Xin_0_3, gd_e, if_neg hno]
    · unfold M_realm
      rw [lt_e, M_isKing_ok, gd_e, if_neg hno] <;> rfl
  subst e
  have hmk := mkB_lt (fun k => decide (wk (aW A) k = q)) (gn (aG A))
  refine both_row (nI (mkB (fun k => decide (wk (aW A) k = q)) (gn (aG A)))) [(nI (kgL (gn (aG A)) (wk (aW A)) (wl (aW A)) q)).toInt64, (nI (smB (gb (aG A)) (mkB (fun k => decide (wk (aW A) k = q)) (gn (aG A))) (gn (aG A)))).toInt64] hX hM hG ?_ (fun t ht => ?_)
  · unfold X_realm
    have hF0 : Fr dXr s (pI s 0 48 0) := (Fr.refl _ _).pI (by omega)
    have h1 := X_own (q := q) hu hX hG (Fr.refl _ _) (w := 1) (by omega) hX.2.1 (by omega)
    have h2 := X_own (q := q) hu hX hG hF0 (w := 1) (by omega) (hX.2.1.r0 (by omega)) (by omega)
    have h22 : X_sumOf u (pI s 0 48 0) 2 _ = _ := h2.2
    rw [Xin_0_3, gd_e, if_pos (in_yes2 hq0 hq (by omega)), h1.1, bd_some, lt_e, h22, bd_some]
    refine TtP (X_tell' _ hF0 XRow_0 (Nat.le_of_ble_eq_true rfl)) (fun t3 h3 => ?_)
    rw [X_sumOf_ok hu hG.1 (X_env hX h3.1).1.2.1 (by decide) (by decide) (by decide) (by omega) (fun k hk => ((X_env hX h3.1).1.2.1.2 k hk).1), bd_some]
    exact TtP (X_tell' _ h3.1 h3.2.1 (Nat.le_of_ble_eq_true rfl)) (fun t4 h4 => Tp_some ⟨rfl, h4.1, h4.2.1⟩)
  · unfold M_realm
    have hown := M_own (q := q) hu ht hG M_th (a := 46) (by omega) (M_env ht M_th).2 hG.2.1 (by omega)
    rw [lt_e, M_isKing_ok, gd_e, if_pos (in_yes2 hq0 hq (by omega)), hown.1, bd_some]
    refine loop_i (W := fun f j (_ : Unit) => Tp (M_realm_29 u f (pI t 45 9 0) (nI (mkB (fun k => decide (wk (aW A) k = q)) (gn (aG A)))) (nI (smB (gb (aG A)) (mkB (fun k => decide (wk (aW A) k = q)) (gn (aG A))) j)) (nI j)) _)
      (I := fun j _ => True) (gn (aG A)) ?_ ?_ u 0 () (by omega) (by omega) trivial
    · intro f _ _
      rw [M_realm_29_s]
      unfold M_realm_29b
      have hF0 : Fr dMr t (pI (pI t 45 9 0) 45 8 0) := (Fr.pI M_th (by omega))
      have h2 := M_own (q := q) hu ht hG hF0 (a := 46) (by omega) (M_env ht hF0).2 hG.2.1 (by omega)
      rw [(M_env ht M_th).1.1.1.1, if_pos (nI_le (Nat.le_refl _) (by omega)), lt_e, h2.2, bd_some]
      exact TtP (M_tell' _ hF0 MRw_0 (Nat.le_of_ble_eq_true rfl)) (fun t3 h3 => TtP (M_tell' _ h3.1 h3.2.1 (Nat.le_of_ble_eq_true rfl)) (fun t4 h4 => Tp_some ⟨rfl, h4.1, h4.2.1⟩))
    · intro f j _ hj _ ih
      have ih := ih () trivial
      have hs : smB (gb (aG A)) (mkB (fun k => decide (wk (aW A) k = q)) (gn (aG A))) (j + 1) = smB (gb (aG A)) (mkB (fun k => decide (wk (aW A) k = q)) (gn (aG A))) j + (if bt (mkB (fun k => decide (wk (aW A) k = q)) (gn (aG A))) j = 1 then gb (aG A) j else 0) := rfl
      have hbt := bt_lt (mkB (fun k => decide (wk (aW A) k = q)) (gn (aG A))) j
      rw [M_realm_29_s]
      unfold M_realm_29b
      rw [(M_env ht M_th).1.1.1.1, if_neg (nI_ge hj (by omega)), M_has_n (by omega) (by omega), bd_some, nI_1]
      by_cases e : bt (mkB (fun k => decide (wk (aW A) k = q)) (gn (aG A))) j = 1
      · rw [if_pos e] at hs
        rw [e, if_neg (by decide), aI_n (by omega) (by omega), bd_some, lt_e, ((M_env ht M_th).1.1.1.2 j hj).1, nI_add, ← hs]
        exact ih
      · rw [if_neg e] at hs
        have e0 : bt (mkB (fun k => decide (wk (aW A) k = q)) (gn (aG A))) j = 0 := by omega
        rw [e0, if_pos nI_0, lt_e, nI_lit0, nI_add, ← hs]
        exact ih
