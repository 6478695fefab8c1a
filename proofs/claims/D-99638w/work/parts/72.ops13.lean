/-! LAW: feared, rests, count -/
set_option maxRecDepth 100000
/-! ### feared -/
theorem an15 : ∀ k, k < 4 → ∀ j, j < 4 → bt (anB 15 (2 ^ k)) j = if j = k then 0 else 1 := by decide
theorem lv_split {g : Geo} {W : Wt} (hW : GoodW g W) {q : Nat} (hq : q < 4) : lvK (gn g) W (anB 15 (2 ^ q)) + kgL (gn g) (wk W) (wl W) q = sm (wl W) (gn g) := by
  have key : ∀ n, n ≤ gn g → lvK n W (anB 15 (2 ^ q)) + kgL n (wk W) (wl W) q = sm (wl W) n := by
    intro n
    induction n with
    | zero => intro _; rfl
    | succ n ih =>
      intro hn
      have ih := ih (by omega)
      have hk := (hW.1 n (by omega)).2.2.2
      have e1 : lvK (n + 1) W (anB 15 (2 ^ q)) = lvK n W (anB 15 (2 ^ q)) + (if bt (anB 15 (2 ^ q)) (wk W n) = 1 then wl W n else 0) := rfl
      have e2 : kgL (n + 1) (wk W) (wl W) q = kgL n (wk W) (wl W) q + (if decide (wk W n = q) then wl W n else 0) := rfl
      have hb := an15 q hq (wk W n) (by omega)
      rw [sm_s, e1, e2]
      by_cases e : wk W n = q
      · rw [if_pos e] at hb
        rw [if_neg (by omega), decide_eq_true e, if_pos rfl]
        omega
      · rw [if_neg e] at hb
        rw [if_pos hb, decide_eq_false e]
        simp only [Bool.false_eq_true, if_false]
        omega
  exact key _ (Nat.le_refl _)
theorem ls_bs {f l : Nat → Nat} {T n : Nat} (h : ∀ k, k < n → l k + f k = T) : lsF l n = (bsF (fun _ => true) f n).map (fun q => (q.1, T - q.2)) := by
  induction n with
  | zero => rfl
  | succ n ih =>
    have ih := ih (fun k hk => h k (by omega))
    have hn := h n (by omega)
    cases hb : bsF (fun _ => true) f n with
    | none =>
      rw [hb] at ih
      rw [lsF_n ih, bsT_n hb]
      show some (n, l n) = some (n, T - f n)
      rw [← hn, Nat.add_sub_cancel]
    | some b =>
      have hbl := bsF_lt _ _ _ b hb
      have hbT := h b.1 (by omega)
      rw [hb] at ih
      rw [lsF_i ih, bsT_s hb]
      dsimp only
      have h2 := hbl.2
      by_cases e : b.2 < f n
      · rw [if_pos e, if_pos (by omega)]
        show some (n, l n) = some (n, T - f n)
        rw [← hn, Nat.add_sub_cancel]
      · rw [if_neg e, if_neg (by omega)]
        rfl
theorem op_feared {u c : Nat} {s : Sg} {A : AS} (hu : 20000 ≤ u) (hX : XI A s) (hM : MI u A s) (hG : GI c A) : Bth u c s (X_feared u s) (fun t => M_feared u t) := by
  have h6 := hG.1.1
  have htot := sm600 hG.1 hG.2.1
  have hsp := fun q hq => lv_split (q := q) hG.2.1 hq
  obtain ⟨b, hb⟩ := bsT_some (kgL (gn (aG A)) (wk (aW A)) (wl (aW A))) 3
  have hbl := bsF_lt _ _ _ b hb
  have hbk := hsp b.1 (by omega)
  refine both_row (nI b.1) [(nI (sm (wl (aW A)) (gn (aG A)) - b.2)).toInt64] hX hM hG ?_ (fun t ht => ?_)
  · have hls : ∀ n, n ≤ 4 → lsF (fun k => lvK (gn (aG A)) (aW A) (anB 15 (2 ^ k))) n = (bsF (fun _ => true) (kgL (gn (aG A)) (wk (aW A)) (wl (aW A))) n).map (fun q => (q.1, sm (wl (aW A)) (gn (aG A)) - q.2)) := fun n hn => ls_bs (fun k hk => hsp k (by omega))
    have hle : ∀ o, o < 2 ^ 31 → X_levelOf u s (nI o) = some (nI (lvK (gn (aG A)) (aW A) o)) := fun o ho => X_levelOf_ok hu hG.1 hG.2.1 hX.1.2.1 hX.2.1 ho
    unfold X_feared
    refine loop_i (W := fun f j (_ : Unit) => Tp (X_feared_8 u f s (rcB (lsF (fun k => lvK (gn (aG A)) (aW A) (anB 15 (2 ^ k))) j)) (crL (lsF (fun k => lvK (gn (aG A)) (aW A) (anB 15 (2 ^ k))) j)) (nI j)) _)
      (I := fun j _ => True) 4 ?_ ?_ u 0 () (by omega) (by omega) trivial
    · intro f _ _
      rw [X_feared_8_s]
      unfold X_feared_8b
      rw [if_pos (by decide), lt_e, hls 4 (Nat.le_refl _), hb]
      exact TtP (X_tell' _ ((Fr.refl _ _).pI (by omega)) XRow_0 (Nat.le_of_ble_eq_true rfl)) (fun t2 h2 => Tp_some ⟨rfl, h2.1, h2.2.1⟩)
    · intro f j _ hj _ ih
      have ih := ih () trivial
      have hp4 : 2 ^ j < 2 ^ 4 := Nat.pow_lt_pow_right (by omega) hj
      have han := anB_e 15 (by omega) (2 ^ j) (by omega)
      have hlj := lvK_le hG.1 hG.2.1 (anB 15 (2 ^ j))
      rw [X_feared_8_s]
      unfold X_feared_8b X_feared_38
      rw [show (4 : Int32) = nI 4 from rfl, if_neg (nI_ge hj (by omega)), nI_shl1 (by omega), show (15 : Int32) = nI 15 from rfl, han.1, hle _ (by omega), bd_some]
      simp only [lt_e, nI_1]
      cases hc : lsF (fun k => lvK (gn (aG A)) (aW A) (anB 15 (2 ^ k))) j with
      | none =>
        rw [lsF_n hc] at ih
        rw [show crL none = nI 1000000 from rfl, if_neg (nI_ge (by omega) (by omega)), nI_mi (by omega) (by omega), Nat.min_eq_right (by omega)]
        exact ih
      | some q =>
        have hq2 : q.2 ≤ 594 := by rw [(lsF_lt _ _ q hc).2]; exact lvK_le hG.1 hG.2.1 _
        rw [lsF_i hc] at ih
        rw [show crL (some q) = nI q.2 from rfl, nI_mi (by omega) (by omega)]
        by_cases e : lvK (gn (aG A)) (aW A) (anB 15 (2 ^ j)) < q.2
        · rw [if_pos e] at ih
          rw [if_neg (nI_ge e (by omega)), Nat.min_eq_right (by omega)]
          exact ih
        · rw [if_neg e] at ih
          rw [if_pos (nI_le (by omega) (by omega)), Nat.min_eq_left (by omega)]
          exact ih
  · have hL : ∀ q, kgL (gn (aG A)) (wk (aW A)) (wl (aW A)) q ≤ 594 := fun q => by
      have := kgL_le (n := gn (aG A)) (K := wk (aW A)) (L := wl (aW A)) (q := q) (c := 99) (fun k hk => lev99 hG.1 hG.2.1 hk)
      omega
    unfold M_feared
    rw [lt_e]
    have hown := fun t' (hF : Fr dMr t t') q (hq : q < 2 ^ 31) => M_own (q := q) hu ht hG hF (a := 46) (by omega) (M_env ht hF).2 hG.2.1 hq
    refine loop_i (W := fun f j (_ : Unit) => Tp (M_feared_9 u f (pI t 45 9 0) (rcB (bsF (fun _ => true) (kgL (gn (aG A)) (wk (aW A)) (wl (aW A))) (j + 1))) (nI (j + 1))) _)
      (I := fun j _ => True) 3 ?_ ?_ u 0 () (by omega) (by omega) trivial
    · intro f _ _
      rw [M_feared_9_s]
      unfold M_feared_9b
      have hF0 : Fr dMr t (pI (pI t 45 9 0) 45 8 0) := Fr.pI M_th (by omega)
      rw [if_pos (by decide), hb, lt_e, M_water_ok hu hG.1 (M_env ht hF0).1.1.1 (by omega) (M_env ht hF0).2, bd_some]
      show Tp ((M_ownOf u _ 46 (nI b.1)).bind _) _
      rw [(hown _ hF0 b.1 (by omega)).1, bd_some, (hown _ hF0 b.1 (by omega)).2, bd_some, ← hbl.2, pk_sub (by omega)]
      exact TtP (M_tell' _ hF0 MRw_0 (Nat.le_of_ble_eq_true rfl)) (fun t2 h2 => Tp_some ⟨rfl, h2.1, h2.2.1⟩)
    · intro f j _ hj _ ih
      have ih := ih () trivial
      obtain ⟨q, hc⟩ := bsT_some (kgL (gn (aG A)) (wk (aW A)) (wl (aW A))) j
      have hql := bsF_lt _ _ _ q hc
      have hs := bsT_s hc
      rw [M_feared_9_s]
      unfold M_feared_9b
      rw [show (4 : Int32) = nI 4 from rfl, if_neg (nI_ge (by omega) (by omega)), (hown _ M_th (j + 1) (by omega)).1, bd_some, (hown _ M_th (j + 1) (by omega)).2, bd_some, hc]
      show Tp ((M_ownOf u _ 46 (nI q.1)).bind _) _
      rw [(hown _ M_th q.1 (by omega)).1, bd_some, (hown _ M_th q.1 (by omega)).2, bd_some, nI_1, ← hql.2]
      have hLj := hL (j + 1)
      have hq2 : q.2 ≤ 594 := by
        rw [hql.2]
        exact hL _
      by_cases e2 : q.2 < kgL (gn (aG A)) (wk (aW A)) (wl (aW A)) (j + 1)
      · rw [if_pos e2] at hs
        rw [hs] at ih
        rw [if_neg (nI_ge e2 (by omega))]
        exact ih
      · rw [if_neg e2] at hs
        rw [hs] at ih
        rw [if_pos (nI_le (by omega) (by omega))]
        exact ih
/-! ### count -/
theorem op_count {u c : Nat} {s : Sg} {A : AS} (hu : 20000 ≤ u) (hX : XI A s) (hM : MI u A s) (hG : GI c A) (x : Int32) : Bth u c s ((X_count u s x).bind fun v => some (v, s)) (fun t => M_count u t x) := by
  have h6 := hG.1.1
  have h64 := two6 hG.1.1
  have hW := hX.2.1
  have key : ∀ a, (X_count u s x = some a) → (∀ t, MI u A t → M_count u t x = some (a, pI t 45 9 0)) → Bth u c s ((X_count u s x).bind fun v => some (v, s)) (fun t => M_count u t x) := fun a h1 h2 => both_no a hX hM hG (by rw [h1]; rfl) h2
  have hE := fun t (ht : MI u A t) => M_env ht M_th
  have l30 : ∀ (q : Sg) (a : Nat), aI q a 33 30 = some (gI q a 30) := fun q a => aI_n (k := 30) (by omega) (by omega)
  have l31 : ∀ (q : Sg) (a : Nat), aI q a 33 31 = some (gI q a 31) := fun q a => aI_n (k := 31) (by omega) (by omega)
  have l32 : ∀ (q : Sg) (a : Nat), aI q a 33 32 = some (gI q a 32) := fun q a => aI_n (k := 32) (by omega) (by omega)
  by_cases e : x = 0
  · refine key (nI (gn (aG A))) (by unfold X_count; rw [if_pos e, hX.1.2.1.1]) (fun t ht => ?_)
    unfold M_count
    rw [lt_e, if_pos e, (hE t ht).1.1.1.1]
  by_cases e1 : x = 1
  · refine key (wd (aW A)) (by unfold X_count; rw [if_neg e, if_pos e1, hW.2.2.2.2.2.1]) (fun t ht => ?_)
    unfold M_count
    rw [lt_e, if_neg e, if_pos e1, l30, bd_some, (MW_row (hE t ht).2).2.2.2.2.2.1]
  by_cases e2 : x = 2
  · refine key (nI (ws (aW A))) (by unfold X_count; rw [if_neg e, if_neg e1, if_pos e2, hW.2.2.2.2.2.2.1]) (fun t ht => ?_)
    unfold M_count
    rw [lt_e, if_neg e, if_neg e1, if_pos e2, l31, bd_some, (MW_row (hE t ht).2).2.2.2.2.2.2.1]
  by_cases e3 : x = 3
  · refine key (nI (wr (aW A))) (by unfold X_count; rw [if_neg e, if_neg e1, if_neg e2, if_pos e3, hW.2.2.2.2.2.2.2]) (fun t ht => ?_)
    unfold M_count
    rw [lt_e, if_neg e, if_neg e1, if_neg e2, if_pos e3, l32, bd_some, (MW_row (hE t ht).2).2.2.2.2.2.2.2]
  by_cases e4 : x = 4
  · refine key (nI (sm (wl (aW A)) (gn (aG A)))) (by unfold X_count; rw [if_neg e, if_neg e1, if_neg e2, if_neg e3, if_pos e4, X_water_ok hu hG.1 hX.1.2.1 (by omega) hW, bd_some]) (fun t ht => ?_)
    unfold M_count
    rw [lt_e, if_neg e, if_neg e1, if_neg e2, if_neg e3, if_pos e4, M_water_ok hu hG.1 (hE t ht).1.1.1 (by omega) (hE t ht).2, bd_some]
  by_cases e5 : x = 5
  · refine key (nI (wo (aW A))) (by unfold X_count; rw [if_neg e, if_neg e1, if_neg e2, if_neg e3, if_neg e4, if_pos e5, hW.2.2.2.2.1]) (fun t ht => ?_)
    unfold M_count
    rw [lt_e, if_neg e, if_neg e1, if_neg e2, if_neg e3, if_neg e4, if_pos e5, M_outOnes_ok hu (hE t ht).1.1.1.1 h6 (by decide) rfl hG.2.1.2.1 (MW_row (hE t ht).2).2.1, bd_some]
  by_cases e6 : x = 6
  · refine key (nI (sm (wh (aW A)) (gn (aG A)))) (by
      unfold X_count
      rw [if_neg e, if_neg e1, if_neg e2, if_neg e3, if_neg e4, if_neg e5, if_pos e6, X_all_ok hG.1 hX.1.2.1, bd_some, X_sumOf_ok hu hG.1 hX.1.2.1 (by decide) (by decide) (by decide) (by omega) hW.2.1, bd_some, smB_all h6]) (fun t ht => ?_)
    unfold M_count
    have hh : M_sumOf u (pI t 45 9 0) 46 12 = _ := M_sumOf_ok (o := 12) hu hG.1 (hE t ht).1.1.1 (by omega) (by omega) (MW_row (hE t ht).2).2.2.1
    rw [lt_e, if_neg e, if_neg e1, if_neg e2, if_neg e3, if_neg e4, if_neg e5, if_pos e6, hh, bd_some]
  by_cases e7 : x = 7
  · refine key (nI (mkB (fun k => decide (wl (aW A) k = 0)) (gn (aG A)))) (by unfold X_count; rw [if_neg e, if_neg e1, if_neg e2, if_neg e3, if_neg e4, if_neg e5, if_neg e6, if_pos e7, X_dryOnes_ok hu hG.1 hG.2.1 hX.1.2.1 (by omega) hW, bd_some]) (fun t ht => ?_)
    unfold M_count
    rw [lt_e, if_neg e, if_neg e1, if_neg e2, if_neg e3, if_neg e4, if_neg e5, if_neg e6, if_pos e7, M_dryOnes_ok hu hG.1 hG.2.1 (hE t ht).1.1.1 (by omega) (hE t ht).2, bd_some]
  by_cases e8 : x = 8
  · refine key (nI (aRg A).length) (by unfold X_count; rw [if_neg e, if_neg e1, if_neg e2, if_neg e3, if_neg e4, if_neg e5, if_neg e6, if_neg e7, if_pos e8, hX.2.2.2.2.2.1.1]) (fun t ht => ?_)
    unfold M_count
    rw [lt_e, if_neg e, if_neg e1, if_neg e2, if_neg e3, if_neg e4, if_neg e5, if_neg e6, if_neg e7, if_pos e8, gI_pI_k (by omega), ht.2.2.2.2.2.1.1]
  by_cases e9 : x = 9
  · refine key (nI (aU A).length) (by unfold X_count; rw [if_neg e, if_neg e1, if_neg e2, if_neg e3, if_neg e4, if_neg e5, if_neg e6, if_neg e7, if_neg e8, if_pos e9, hX.2.2.2.1.1]) (fun t ht => ?_)
    unfold M_count
    rw [lt_e, if_neg e, if_neg e1, if_neg e2, if_neg e3, if_neg e4, if_neg e5, if_neg e6, if_neg e7, if_neg e8, if_pos e9, gI_pI_k (by omega), ht.2.2.2.1.1]
  by_cases e10 : x = 10
  · refine key (nI (aRow A).length) (by unfold X_count; rw [if_neg e, if_neg e1, if_neg e2, if_neg e3, if_neg e4, if_neg e5, if_neg e6, if_neg e7, if_neg e8, if_neg e9, if_pos e10, hX.2.2.1.1]) (fun t ht => ?_)
    unfold M_count
    rw [lt_e, if_neg e, if_neg e1, if_neg e2, if_neg e3, if_neg e4, if_neg e5, if_neg e6, if_neg e7, if_neg e8, if_neg e9, if_pos e10, gI_pI_k (by omega), ht.2.2.1.1]
  by_cases e11 : x = 11
  · refine key (nI (aT A).1) (by unfold X_count; rw [if_neg e, if_neg e1, if_neg e2, if_neg e3, if_neg e4, if_neg e5, if_neg e6, if_neg e7, if_neg e8, if_neg e9, if_neg e10, if_pos e11, hX.2.2.2.2.2.2.1.1]) (fun t ht => ?_)
    unfold M_count
    rw [lt_e, if_neg e, if_neg e1, if_neg e2, if_neg e3, if_neg e4, if_neg e5, if_neg e6, if_neg e7, if_neg e8, if_neg e9, if_neg e10, if_pos e11, gI_pI_k (by omega), ht.2.2.2.2.2.2.1.1]
  by_cases e12 : x = 12
  · refine key (nI (mkB (fun k => decide (wl (aW A) k = gb (aG A) k)) (gn (aG A)))) (by unfold X_count; rw [if_neg e, if_neg e1, if_neg e2, if_neg e3, if_neg e4, if_neg e5, if_neg e6, if_neg e7, if_neg e8, if_neg e9, if_neg e10, if_neg e11, if_pos e12, X_fullOnes_ok hu hG.1 hG.2.1 hX.1.2.1 hW, bd_some]) (fun t ht => ?_)
    unfold M_count
    rw [lt_e, if_neg e, if_neg e1, if_neg e2, if_neg e3, if_neg e4, if_neg e5, if_neg e6, if_neg e7, if_neg e8, if_neg e9, if_neg e10, if_neg e11, if_pos e12, M_fullOnes_ok hu hG.1 hG.2.1 (hE t ht).1.1.1 (hE t ht).2, bd_some]
  · refine key (-1) (by unfold X_count; rw [if_neg e, if_neg e1, if_neg e2, if_neg e3, if_neg e4, if_neg e5, if_neg e6, if_neg e7, if_neg e8, if_neg e9, if_neg e10, if_neg e11, if_neg e12]) (fun t ht => ?_)
    unfold M_count
    rw [lt_e, if_neg e, if_neg e1, if_neg e2, if_neg e3, if_neg e4, if_neg e5, if_neg e6, if_neg e7, if_neg e8, if_neg e9, if_neg e10, if_neg e11, if_neg e12]
/-! ### rests -/
def gnI (x y v : Nat) : Int32 := match X_gains (nI x) (nI y) (nI v) with
  | some r => r
  | none => 0
theorem gn_e : ∀ v, v < 21 → ∀ x, x < 10 → ∀ y, y < 10 → X_gains (nI x) (nI y) (nI v) = some (gnI x y v) ∧ M_getsBy (nI x) (nI y) (nI v) = some (gnI x y v) := by decide +kernel
/-- for all from z on -/
def alF (p : Nat → Bool) : Nat → Nat → Bool
  | 0, _ => true
  | m + 1, z => p z && alF p m (z + 1)
theorem alF_s (p : Nat → Bool) {m z : Nat} (h : z < m) : alF p (m - z) z = (p z && alF p (m - (z + 1)) (z + 1)) := by
  have e : m - z = (m - (z + 1)) + 1 := by omega
  rw [e]
  rfl
theorem alF_and (p q : Nat → Bool) (m z : Nat) : alF (fun k => p k && q k) m z = (alF p m z && alF q m z) := by
  induction m generalizing z with
  | zero => rfl
  | succ m ih =>
    show (p z && q z && alF _ m (z + 1)) = ((p z && alF p m (z + 1)) && (q z && alF q m (z + 1)))
    rw [ih]
    cases p z <;> cases q z <;> cases alF p m (z + 1) <;> rfl
def bsP (x y v z : Nat) : Bool := decide (gnI z y v ≤ gnI x y v)
theorem M_isBest_ok {u x y v : Nat} (hu : 20000 ≤ u) (hx : x < 10) (hy : y < 10) (hv : v < 21) : M_isBest u (nI x) (nI y) (nI v) = some (bI (alF (bsP x y v) 10 0)) := by
  unfold M_isBest
  refine loop_i (W := fun f z (_ : Unit) => M_isBest_2 u f (nI x) (nI y) (nI v) (nI z) = some (bI (alF (bsP x y v) (10 - z) z))) (I := fun _ _ => True) 10 ?_ ?_ u 0 () (by omega) (by omega) trivial
  · intro f _ _
    rw [M_isBest_2_s]
    unfold M_isBest_2b
    rw [if_pos (by decide)]
    rfl
  · intro f z _ hz _ ih
    have ih := ih () trivial
    rw [alF_s _ hz, M_isBest_2_s]
    unfold M_isBest_2b
    rw [show (9 : Int32) = nI 9 from rfl, if_neg (nI_nlt (by omega) (by omega)), (gn_e v hv z hz y hy).2, bd_some, (gn_e v hv x hx y hy).2, bd_some, nI_1]
    by_cases e : gnI z y v ≤ gnI x y v
    · rw [if_pos e, show bsP x y v z = true from decide_eq_true e, Bool.true_and]
      exact ih
    · rw [if_neg e, show bsP x y v z = false from decide_eq_false e, Bool.false_and]
      rfl
theorem X_isRest_ok {u x y v : Nat} (hu : 20000 ≤ u) (hx : x < 10) (hy : y < 10) (hv : v < 21) : X_isRest u (nI x) (nI y) (nI v) = some (bI (alF (bsP x y v) 10 0 && alF (bsP y x v) 10 0)) := by
  rw [← alF_and]
  unfold X_isRest
  refine loop_i (W := fun f z (_ : Unit) => X_isRest_2 u f (nI x) (nI y) (nI v) (nI z) = some (bI (alF (fun k => bsP x y v k && bsP y x v k) (10 - z) z))) (I := fun _ _ => True) 10 ?_ ?_ u 0 () (by omega) (by omega) trivial
  · intro f _ _
    rw [X_isRest_2_s]
    unfold X_isRest_2b
    rw [if_pos (by decide)]
    rfl
  · intro f z _ hz _ ih
    have ih := ih () trivial
    rw [alF_s _ hz, X_isRest_2_s]
    unfold X_isRest_2b
    rw [show (9 : Int32) = nI 9 from rfl, if_neg (nI_nlt (by omega) (by omega)), (gn_e v hv z hz y hy).1, bd_some, (gn_e v hv x hx y hy).1, bd_some, (gn_e v hv z hz x hx).1, bd_some, (gn_e v hv y hy x hx).1, bd_some, nI_1]
    by_cases e : gnI z y v ≤ gnI x y v
    · rw [if_neg (Int32.not_lt.mpr e), show bsP x y v z = true from decide_eq_true e, Bool.true_and]
      by_cases e2 : gnI z x v ≤ gnI y x v
      · rw [if_pos e2, show bsP y x v z = true from decide_eq_true e2, Bool.true_and]
        exact ih
      · rw [if_neg e2, show bsP y x v z = false from decide_eq_false e2, Bool.false_and]
        rfl
    · rw [if_pos (Int32.not_le.mp e), show bsP x y v z = false from decide_eq_false e, Bool.false_and, Bool.false_and]
      rfl
def rsP (v x y : Nat) : Bool := alF (bsP x y v) 10 0 && alF (bsP y x v) 10 0
def rsT (v x y : Nat) (q : Nat × List Int64) : Nat × List Int64 := if rsP v x y then (q.1 + 1, if q.1 = 0 then q.2 ++ [(nI x).toInt64] ++ [(nI y).toInt64] else q.2) else q
def rsI (v x : Nat) (q : Nat × List Int64) (y : Nat) : Nat × List Int64 := fo (rsT v x) y q
def rsS (v : Nat) (x : Nat) : Nat × List Int64 := fo (fun x q => rsI v x q 10) x (0, [])
theorem rsI_s (v x : Nat) (q : Nat × List Int64) (y : Nat) : rsI v x q (y + 1) = rsT v x y (rsI v x q y) := by unfold rsI; rw [fo_s]
theorem rsS_s (v x : Nat) : rsS v (x + 1) = rsI v x (rsS v x) 10 := by unfold rsS; rw [fo_s]
theorem rsT_ok {v x y : Nat} {q : Nat × List Int64} (h : q.2.length ≤ 2 ∧ (q.1 = 0 → q.2 = []) ∧ q.1 ≤ 200) : (rsT v x y q).2.length ≤ 2 ∧ ((rsT v x y q).1 = 0 → (rsT v x y q).2 = []) ∧ (rsT v x y q).1 ≤ q.1 + 1 := by
  unfold rsT
  cases rsP v x y with
  | false => simp only [Bool.false_eq_true, if_false]; exact ⟨h.1, h.2.1, by omega⟩
  | true =>
    rw [if_pos rfl]
    dsimp only
    by_cases e : q.1 = 0
    · rw [if_pos e, h.2.1 e]
      exact ⟨(Nat.le_of_ble_eq_true rfl), fun q => by omega, Nat.le_refl _⟩
    · rw [if_neg e]
      exact ⟨h.1, fun q => by omega, Nat.le_refl _⟩
def rsK (q : Nat × List Int64) (b : Nat) : Prop := q.2.length ≤ 2 ∧ (q.1 = 0 → q.2 = []) ∧ q.1 ≤ b
theorem rsI_ok {v x y b : Nat} {q : Nat × List Int64} (h : rsK q b) (hb : b + y ≤ 200) : rsK (rsI v x q y) (b + y) := by
  induction y with
  | zero => exact h
  | succ y ih =>
    have ih := ih (by omega)
    have h1 := rsT_ok (v := v) (x := x) (y := y) (q := rsI v x q y) ⟨ih.1, ih.2.1, by have := ih.2.2; omega⟩
    rw [rsI_s]
    exact ⟨h1.1, h1.2.1, by have := ih.2.2; have := h1.2.2; omega⟩
theorem rsS_ok {v x : Nat} (hx : x ≤ 10) : rsK (rsS v x) (10 * x) := by
  induction x with
  | zero => exact ⟨Nat.zero_le _, fun _ => rfl, Nat.le_refl _⟩
  | succ x ih =>
    rw [rsS_s]
    have := rsI_ok (v := v) (x := x) (y := 10) (ih (by omega)) (by omega)
    exact this
theorem op_rests {u c : Nat} {s : Sg} {A : AS} (hu : 20000 ≤ u) (hX : XI A s) (hM : MI u A s) (hG : GI c A) (x : Int32) : Bth u c s (X_rests u s x) (fun t => M_rests u t x) := by
  rcases in_or2 x 0 20 (by omega) (by omega) with ⟨v, hv0, hv, e⟩ | hno
  rotate_left
  · refine both_no (-1) hX hM hG ?_ (fun t ht => ?_)
    · unfold X_rests
      rw [Xin_0_20, gd_e, if_neg hno]
    · unfold M_rests
      rw [lt_e, Min_0_20, gd_e, if_neg hno] <;> rfl
  subst e
  refine both_row (nI (rsS v 10).1) (rsS v 10).2 hX hM hG ?_ (fun t ht => ?_)
  · unfold X_rests
    rw [Xin_0_20, gd_e, if_pos (in_yes2 hv0 hv (by omega)), lt_e]
    refine loop_i (W := fun f x t' => Tp (X_rests_23 u f t' (nI v) (nI (rsS v x).1) (nI x)) _)
      (I := fun x t' => Fr dXr s t' ∧ XRow (rsS v x).2 t') 10 ?_ ?_ u 0 _ (by omega) (by omega) ⟨(Fr.refl _ _).pI (by omega), XRow_0⟩
    · intro f t' ⟨hF, hr⟩
      rw [X_rests_23_s]
      unfold X_rests_23b
      rw [if_pos (by decide)]
      exact Tp_some ⟨rfl, hF, hr⟩
    · intro f x t' hx ⟨hF, hr⟩ ih
      have hk := rsS_ok (v := v) (x := x) (by omega)
      rw [rsS_s] at ih
      rw [X_rests_23_s]
      unfold X_rests_23b
      rw [show (9 : Int32) = nI 9 from rfl, if_neg (nI_nlt (by omega) (by omega))]
      generalize rsS v x = q0 at hk ih hr
      refine loop_i (W := fun f2 y t' => Tp (X_rests_32 u (X_rests_23 u f) f2 t' (nI v) (nI (rsI v x q0 y).1) (nI x) (nI y)) _)
        (I := fun y t' => Fr dXr s t' ∧ XRow (rsI v x q0 y).2 t') 10 ?_ ?_ u 0 t' (by omega) (by omega) ⟨hF, hr⟩
      · intro f2 t2 ⟨hF2, hr2⟩
        rw [X_rests_32_s]
        unfold X_rests_32b
        rw [if_pos (by decide), nI_1]
        exact ih t2 ⟨hF2, hr2⟩
      · intro f2 y t2 hy ⟨hF2, hr2⟩ ih2
        have hk2 := rsI_ok (v := v) (x := x) (y := y) hk (by omega)
        rw [rsI_s] at ih2
        rw [X_rests_32_s]
        unfold X_rests_32b
        rw [show (9 : Int32) = nI 9 from rfl, if_neg (nI_nlt (by omega) (by omega)), X_isRest_ok hu hx hy (by omega), bd_some, nI_1]
        rw [show (alF (bsP x y v) 10 0 && alF (bsP y x v) 10 0) = rsP v x y from rfl]
        generalize rsI v x q0 y = q at hk2 ih2 hr2
        unfold rsT at ih2
        obtain ⟨hk21, hk22, hk23⟩ := hk2
        cases hp : rsP v x y with
        | false =>
          rw [hp] at ih2
          simp only [Bool.false_eq_true, if_false] at ih2
          rw [if_pos (show bI false = 0 from rfl)]
          exact ih2 t2 ⟨hF2, hr2⟩
        | true =>
          rw [hp, if_pos rfl] at ih2
          dsimp only at ih2
          rw [if_neg (by decide), nI_1, nI_lit1]
          by_cases e : q.1 = 0
          · rw [if_pos e] at ih2
            rw [if_pos (nI_le (by omega) (by omega))]
            refine TtP (X_tell' _ hF2 hr2 (by omega)) (fun t3 h3 => TtP (X_tell' _ h3.1 h3.2.1 (by rw [List.length_append]; show q.2.length + 1 < 16; omega)) (fun t4 h4 => ih2 t4 ⟨h4.1, h4.2.1⟩))
          · rw [if_neg e] at ih2
            rw [if_neg (nI_ge (by omega) (by omega))]
            exact ih2 t2 ⟨hF2, hr2⟩
  · unfold M_rests
    rw [lt_e, Min_0_20, gd_e, if_pos (in_yes2 hv0 hv (by omega)), lt_e]
    refine loop_i (W := fun f x t' => Tp (M_rests_26 u f t' (nI v) (nI (rsS v x).1) (nI x)) _)
      (I := fun x t' => Fr dMr t t' ∧ MRw (rsS v x).2 t') 10 ?_ ?_ u 0 _ (by omega) (by omega) ⟨Fr.pI M_th (by omega), MRw_0⟩
    · intro f t' ⟨hF, hr⟩
      rw [M_rests_26_s]
      unfold M_rests_26b
      rw [if_pos (by decide)]
      exact Tp_some ⟨rfl, hF, hr⟩
    · intro f x t' hx ⟨hF, hr⟩ ih
      have hk := rsS_ok (v := v) (x := x) (by omega)
      rw [rsS_s] at ih
      rw [M_rests_26_s]
      unfold M_rests_26b
      rw [show (9 : Int32) = nI 9 from rfl, if_neg (nI_nlt (by omega) (by omega))]
      generalize rsS v x = q0 at hk ih hr
      refine loop_i (W := fun f2 y t' => Tp (M_rests_35 u (M_rests_26 u f) f2 t' (nI v) (nI (rsI v x q0 y).1) (nI x) (nI y)) _)
        (I := fun y t' => Fr dMr t t' ∧ MRw (rsI v x q0 y).2 t') 10 ?_ ?_ u 0 t' (by omega) (by omega) ⟨hF, hr⟩
      · intro f2 t2 ⟨hF2, hr2⟩
        rw [M_rests_35_s]
        unfold M_rests_35b
        rw [if_pos (by decide), nI_1]
        exact ih t2 ⟨hF2, hr2⟩
      · intro f2 y t2 hy ⟨hF2, hr2⟩ ih2
        have hk2 := rsI_ok (v := v) (x := x) (y := y) hk (by omega)
        rw [rsI_s] at ih2
        rw [M_rests_35_s]
        unfold M_rests_35b M_rests_82
        rw [show (9 : Int32) = nI 9 from rfl, if_neg (nI_nlt (by omega) (by omega)), M_isBest_ok hu hx hy (by omega), bd_some, M_isBest_ok hu hy hx (by omega), bd_some, nI_1]
        generalize rsI v x q0 y = q at hk2 ih2 hr2
        unfold rsT rsP at ih2
        obtain ⟨hk21, hk22, hk23⟩ := hk2
        cases hp : alF (bsP x y v) 10 0 with
        | false =>
          rw [hp, Bool.false_and] at ih2
          simp only [Bool.false_eq_true, if_false] at ih2
          rw [if_pos (show bI false = 0 from rfl)]
          exact ih2 t2 ⟨hF2, hr2⟩
        | true =>
          rw [if_neg (by decide)]
          cases hp2 : alF (bsP y x v) 10 0 with
          | false =>
            rw [hp2, Bool.and_false] at ih2
            simp only [Bool.false_eq_true, if_false] at ih2
            rw [if_pos (show bI false = 0 from rfl)]
            exact ih2 t2 ⟨hF2, hr2⟩
          | true =>
            rw [hp, hp2, Bool.and_true, if_pos rfl] at ih2
            dsimp only at ih2
            rw [if_neg (by decide), nI_1]
            by_cases e : q.1 = 0
            · rw [if_pos e] at ih2
              rw [if_pos (by rw [e]; exact nI_0)]
              refine TtP (M_tell' _ hF2 hr2 (by omega)) (fun t3 h3 => TtP (M_tell' _ h3.1 h3.2.1 (by rw [List.length_append]; show q.2.length + 1 < 16; omega)) (fun t4 h4 => ih2 t4 ⟨h4.1, h4.2.1⟩))
            · rw [if_neg e] at ih2
              rw [if_neg (nI_ne0 (by omega) (by omega))]
              exact ih2 t2 ⟨hF2, hr2⟩
