/-! LAW: years -/
set_option maxRecDepth 100000
/-! ### years -/
theorem X_tryZ {A : AS} {s t : Sg} {c : Nat} (hX : XI A s) (hG : GI c A) (f : Fr dXr s t) : Tt (W_becomes t 6 1) (fun t' => Fr dXr s t' ∧ XW (gn (aG A)) t' 6 (aW A) ∧ ∀ k, gI t' 0 k = gI t 0 k) := by
  obtain ⟨hE, hW⟩ := X_env hX f
  refine Tt_mono (W_becomes_ok (DWb_st hE (by omega)) (DWb_st hE (by omega)) (by omega)) (fun t' h => ⟨f.trans (h.1.mono (fun i k q => by omega)), h.2 _ _ hG.1.1 hW, fun k => h.1.I (by omega)⟩)
theorem X_tdayZ {A : AS} {s t : Sg} {c u : Nat} {W : Wt} (hu : 20000 ≤ u) (hX : XI A s) (hG : GI c A) (f : Fr dXr s t) (hW : XW (gn (aG A)) t 6 W) (hg : GoodW (aG A) W) : Tt (X_dayGoes u t 6) (fun t' => Fr dXr s t' ∧ XW (gn (aG A)) t' 6 (dyS (aG A) (aRu A) W) ∧ ∀ k, 20 < k → gI t' 0 k = gI t 0 k) :=
  Tt_mono (X_day_ok hu hG.1 (X_env hX f).1 hg hW (by omega)) (fun t' h => ⟨f.trans (h.1.mono (fun i k q => by omega)), h.2, fun k hk => h.1.I (by omega)⟩)
theorem M_tryZ {u : Nat} {A : AS} {s t : Sg} {c : Nat} (hu : 20000 ≤ u) (hM : MI u A s) (hG : GI c A) (f : Fr dMr s t) : Tt (M_lay u t 46 58 0) (fun t' => Fr dMr s t' ∧ MW (gn (aG A)) t' 58 0 (aW A) ∧ ∀ k, gI t' 45 k = gI t 45 k) := by
  obtain ⟨hE, hW⟩ := M_env hM f
  refine Tt_mono (M_lay_ok (o := 0) hu (by decide) (by decide) rfl (by decide) (by decide) (by decide)) (fun t' h => ⟨f.trans (h.1.mono (fun i k q => by omega)), lay_MW hG.1.1 h.2 hW, fun k => h.1.I (by omega)⟩)
theorem M_tdayZ {u : Nat} {A : AS} {s t : Sg} {c : Nat} {W : Wt} (hu : 20000 ≤ u) (hM : MI u A s) (hG : GI c A) (f : Fr dMr s t) (hW : MW (gn (aG A)) t 58 0 W) (hg : GoodW (aG A) W) : Tt (M_goDay u t 58) (fun t' => Fr dMr s t' ∧ MW (gn (aG A)) t' 58 0 (dyS (aG A) (aRu A) W) ∧ ∀ k, 20 < k → gI t' 45 k = gI t 45 k) :=
  Tt_mono (M_day_ok hu hG.1 (M_env hM f).1 hG.2.2.2.2.2.2.1 hg hW (by omega)) (fun t' h => ⟨f.trans (h.1.mono (fun i k q => by omega)), h.2, fun k hk => h.1.I (by omega)⟩)
def rnX (r : Int32) : Int32 := r * 1103515245 + 12345
def rnV (r : Int32) (n : Nat) : Nat := r.toBitVec.toNat / 65536 % n
theorem sh16 : (((16 : Int32).toUInt32 &&& Int32.toUInt32 31).toBitVec % 32).toNat = 16 := by decide
theorem rn_e (r : Int32) {n : Nat} (h0 : 0 < n) (hn : n < 2 ^ 31) : ((r.toUInt32 >>> ((16 : Int32).toUInt32 &&& Int32.toUInt32 31)).toInt32 - (r.toUInt32 >>> ((16 : Int32).toUInt32 &&& Int32.toUInt32 31)).toInt32 / nI n * nI n) = nI (rnV r n) := by
  have h1 := pk_ushr r 16 16 sh16
  have h2 : r.toBitVec.toNat < 2 ^ 32 := r.toBitVec.isLt
  have e : (r.toUInt32 >>> ((16 : Int32).toUInt32 &&& Int32.toUInt32 31)).toInt32 = nI (r.toBitVec.toNat / 65536) := bv_ext (by rw [h1, nI_bv (by omega)])
  rw [e, pk_rem (by omega) h0 hn]
  rfl
theorem rnV_lt (r : Int32) {n : Nat} (h0 : 0 < n) : rnV r n < n := Nat.mod_lt _ h0
theorem X_draws_ok {t : Sg} {n : Nat} (h0 : 0 < n) (hn : n < 2 ^ 31) : X_draws t (nI n) = some (nI (rnV (rnX (gI t 0 44)) n), pI t 0 44 (rnX (gI t 0 44))) := by
  unfold X_draws
  rw [lt_e, gI_pI_s, if_neg (nI_ne0 h0 hn)]
  show some (_, _) = _
  rw [rn_e _ h0 hn]
  rfl
theorem M_draw_ok {t : Sg} {n : Nat} (h0 : 0 < n) (hn : n < 2 ^ 31) : M_draw t (nI n) = some (nI (rnV (rnX (gI t 45 38)) n), pI t 45 38 (rnX (gI t 45 38))) := by
  unfold M_draw
  rw [lt_e, gI_pI_s, if_neg (nI_ne0 h0 hn)]
  show some (_, _) = _
  rw [rn_e _ h0 hn]
  rfl
def yrT (g : Geo) (ru : Ru) (q : Int32 × Wt) : Int32 × Wt :=
  if rnV (rnX q.1) 4 < 2 then (rnX q.1, dyS g ru q.2)
  else if gn g = 0 then (rnX q.1, q.2)
  else if rnV (rnX q.1) 4 = 2 then (rnX (rnX q.1), wO' q.2 (wo q.2 ^^^ 2 ^ rnV (rnX (rnX q.1)) (gn g)))
  else (rnX (rnX (rnX q.1)), wT' q.2 (rnV (rnX (rnX q.1)) (gn g)) (rnV (rnX (rnX (rnX q.1))) 10))
def yrS (g : Geo) (ru : Ru) (q : Int32 × Wt) (k : Nat) : Int32 × Wt := fo (fun _ q => yrT g ru q) k q
theorem yrS_s (g : Geo) (ru : Ru) (q : Int32 × Wt) (k : Nat) : yrS g ru q (k + 1) = yrT g ru (yrS g ru q k) := by
  unfold yrS
  rw [fo_s]
theorem yrT_good {g : Geo} {ru : Ru} {q : Int32 × Wt} (h : GoodW g q.2) : GoodW g (yrT g ru q).2 := by
  unfold yrT
  by_cases e1 : rnV (rnX q.1) 4 < 2
  · rw [if_pos e1]
    exact dayS_good h
  · rw [if_neg e1]
    by_cases e2 : gn g = 0
    · rw [if_pos e2]
      exact h
    · rw [if_neg e2]
      by_cases e3 : rnV (rnX q.1) 4 = 2
      · rw [if_pos e3]
        exact h.out (Nat.xor_lt_two_pow h.2.1 (Nat.pow_lt_pow_right (by omega) (rnV_lt _ (by omega))))
      · rw [if_neg e3]
        exact h.tap (by have := rnV_lt (rnX (rnX (rnX q.1))) (n := 10) (by omega); omega)
theorem yrS_good {g : Geo} {ru : Ru} {q : Int32 × Wt} (h : GoodW g q.2) (k : Nat) : GoodW g (yrS g ru q k).2 := by
  induction k with
  | zero => exact h
  | succ k ih => rw [yrS_s]; exact yrT_good ih
theorem op_years {u c : Nat} {s : Sg} {A : AS} (hu : 20000 ≤ u) (hX : XI A s) (hM : MI u A s) (hG : GI c A) (x y : Int32) : Bth u c s (X_years u s x y) (fun t => M_years u t x y) := by
  have h6 := hG.1.1
  have h64 := two6 hG.1.1
  rcases in_or2 y 1 60 (by omega) (by omega) with ⟨m, hm0, hm, e⟩ | hno
  rotate_left
  · refine both_no (-1) hX hM hG ?_ (fun t ht => ?_)
    · unfold X_years
      rw [Xin_1_60, gd_e, if_neg hno]
    · unfold M_years
      rw [lt_e, Min_1_60, gd_e, if_neg hno] <;> rfl
  subst e
  refine both_row (nI (sm (wl (yrS (aG A) (aRu A) (x, aW A) m).2) (gn (aG A)))) [(nI (ws (yrS (aG A) (aRu A) (x, aW A) m).2) - nI (ws (aW A))).toInt64, (nI (wr (yrS (aG A) (aRu A) (x, aW A) m).2) - nI (wr (aW A))).toInt64] hX hM hG ?_ (fun t ht => ?_)
  · unfold X_years
    rw [Xin_1_60, gd_e, if_pos (in_yes2 hm0 hm (by omega)), lt_e]
    refine TtP (X_tryZ hX hG ((Fr.refl _ _).pI (by omega))) (fun t1 h1 => ?_)
    have e44 : gI t1 0 44 = x := (h1.2.2 44).trans gI_pI_s
    refine loop_i (W := fun f j t' => Tp (X_years_32 u f t' (nI m) (nI j)) _)
      (I := fun j t' => Fr dXr s t' ∧ XW (gn (aG A)) t' 6 (yrS (aG A) (aRu A) (x, aW A) j).2 ∧ gI t' 0 44 = (yrS (aG A) (aRu A) (x, aW A) j).1) m ?_ ?_ u 0 t1 (by omega) (by omega) ⟨h1.1, h1.2.1, e44⟩
    · intro f t' ⟨hF, hW, hr⟩
      rw [X_years_32_s]
      unfold X_years_32b
      have hF0 : Fr dXr s (pI t' 0 48 0) := hF.pI (by omega)
      have hW0 := hW.r0 (by omega)
      rw [if_pos (nI_le (Nat.le_refl _) (by omega)), lt_e, hW0.2.2.2.2.2.2.1, (X_env hX hF0).2.2.2.2.2.2.2.1]
      refine TtP (X_tell' _ hF0 XRow_0 (Nat.le_of_ble_eq_true rfl)) (fun t3 h3 => ?_)
      have hW3 := hW0.g (by omega) h3.2.2
      rw [hW3.2.2.2.2.2.2.2, (X_env hX h3.1).2.2.2.2.2.2.2.2]
      refine TtP (X_tell' _ h3.1 h3.2.1 (Nat.le_of_ble_eq_true rfl)) (fun t4 h4 => ?_)
      rw [X_water_ok hu hG.1 (X_env hX h4.1).1.2.1 (by omega) (hW3.g (by omega) h4.2.2), bd_some]
      exact Tp_some ⟨rfl, h4.1, h4.2.1⟩
    · intro f j t' hj ⟨hF, hW, hr⟩ ih
      have hg := yrS_good (ru := aRu A) (q := (x, aW A)) hG.2.1 j
      have hs := yrS_s (aG A) (aRu A) (x, aW A) j
      rw [hs] at ih
      generalize yrS (aG A) (aRu A) (x, aW A) j = q at hW hr hg ih
      rw [X_years_32_s]
      unfold X_years_32b
      have hv4 := rnV_lt (rnX q.1) (n := 4) (by omega)
      rw [if_neg (nI_ge hj (by omega)), show (4 : Int32) = nI 4 from rfl, X_draws_ok (by omega) (by omega), b2_some, hr, nI_1]
      have hF1 : Fr dXr s (pI t' 0 44 (rnX q.1)) := hF.pI (by omega)
      have hW1 : XW (gn (aG A)) (pI t' 0 44 (rnX q.1)) 6 q.2 := hW.mv (fun i k h1 h2 => gI_pI_i (by omega))
      have e05 : gI (pI t' 0 44 (rnX q.1)) 0 5 = nI (gn (aG A)) := (X_env hX hF1).1.2.1.1
      unfold yrT at ih
      by_cases e1 : rnV (rnX q.1) 4 < 2
      · rw [if_pos e1] at ih
        rw [show (2 : Int32) = nI 2 from rfl, if_neg (nI_ge e1 (by omega))]
        exact TtP (X_tdayZ hu hX hG hF1 hW1 hg) (fun t2 h2 => ih t2 ⟨h2.1, h2.2.1, (h2.2.2 44 (by decide)).trans gI_pI_s⟩)
      · rw [if_neg e1] at ih
        rw [show (2 : Int32) = nI 2 from rfl, if_pos (nI_le (by omega) (by omega)), e05]
        by_cases e2 : gn (aG A) = 0
        · rw [if_pos e2] at ih
          rw [if_pos (by rw [e2]; decide)]
          exact ih _ ⟨hF1, hW1, gI_pI_s⟩
        · rw [if_neg e2] at ih
          have hvl := rnV_lt (rnX (rnX q.1)) (n := gn (aG A)) (by omega)
          rw [if_neg (nI_nle (by omega) (by omega)), X_draws_ok (by omega) (by omega), b2_some, gI_pI_s]
          by_cases e3 : rnV (rnX q.1) 4 = 2
          · rw [if_pos e3] at ih
            have ho := hg.2.1
            have hpw : 2 ^ rnV (rnX (rnX q.1)) (gn (aG A)) < 2 ^ gn (aG A) := Nat.pow_lt_pow_right (by omega) hvl
            have e64 : gI (pI (pI t' 0 44 (rnX q.1)) 0 44 (rnX (rnX q.1))) 6 4 = nI (wo q.2) := (gI_pI_i (by decide)).trans ((gI_pI_i (by decide)).trans hW.2.2.2.2.1)
            rw [if_pos (by rw [e3]), lt_e, e64, nI_shl1 (by omega), nI_xor (by omega) (by omega)]
            refine ih _ ⟨(hF1.pI (by omega)).pI (by omega), XW.setO (hW1.mv (fun i k h1 h2 => gI_pI_i (by omega))), ?_⟩
            rw [gI_pI_i (by decide), gI_pI_s]
          · rw [if_neg e3] at ih
            have hv10 := rnV_lt (rnX (rnX (rnX q.1))) (n := 10) (by omega)
            rw [if_neg (fun h => e3 ((nI_eq (by omega) (by omega)).mp h)), show (10 : Int32) = nI 10 from rfl, X_draws_ok (by omega) (by omega), b2_some, gI_pI_s, tI_n (by omega) (by omega), bd_some]
            refine ih _ ⟨((hF1.pI (by omega)).pI (by omega)).pI (by omega), XW.setT ((hW1.mv (fun i k h1 h2 => gI_pI_i (by omega))).mv (fun i k h1 h2 => gI_pI_i (by omega))), ?_⟩
            rw [gI_pI_i (by decide), gI_pI_s]
  · unfold M_years
    rw [lt_e, Min_1_60, gd_e, if_pos (in_yes2 hm0 hm (by omega)), lt_e]
    refine TtP (M_tryZ hu ht hG (M_th.pI (by omega))) (fun t1 h1 => ?_)
    have e38 : gI t1 45 38 = x := (h1.2.2 38).trans gI_pI_s
    refine loop_i (W := fun f j t' => Tp (M_years_36 u f t' (nI m) (nI j)) _)
      (I := fun j t' => Fr dMr t t' ∧ MW (gn (aG A)) t' 58 0 (yrS (aG A) (aRu A) (x, aW A) j).2 ∧ gI t' 45 38 = (yrS (aG A) (aRu A) (x, aW A) j).1) m ?_ ?_ u 0 t1 (by omega) (by omega) ⟨h1.1, h1.2.1, e38⟩
    · intro f t' ⟨hF, hW, hr⟩
      rw [M_years_36_s]
      unfold M_years_36b
      have l31 : ∀ (q : Sg) (a : Nat), aI q a 33 31 = some (gI q a 31) := fun q a => aI_n (k := 31) (by omega) (by omega)
      have l32 : ∀ (q : Sg) (a : Nat), aI q a 33 32 = some (gI q a 32) := fun q a => aI_n (k := 32) (by omega) (by omega)
      have hF0 : Fr dMr t (pI t' 45 8 0) := hF.pI (by omega)
      have hW0 : MW (gn (aG A)) (pI t' 45 8 0) 58 0 _ := hW.r0 (by omega)
      rw [if_pos (nI_le (Nat.le_refl _) (by omega)), lt_e, l31, bd_some, l31, bd_some, (MW_row hW0).2.2.2.2.2.2.1, (MW_row (M_env ht hF0).2).2.2.2.2.2.2.1]
      refine TtP (M_tell' _ hF0 MRw_0 (Nat.le_of_ble_eq_true rfl)) (fun t3 h3 => ?_)
      have hW3 := hW0.g (by omega) h3.2.2
      rw [l32, bd_some, l32, bd_some, (MW_row hW3).2.2.2.2.2.2.2, (MW_row (M_env ht h3.1).2).2.2.2.2.2.2.2]
      refine TtP (M_tell' _ h3.1 h3.2.1 (Nat.le_of_ble_eq_true rfl)) (fun t4 h4 => ?_)
      rw [M_water_ok hu hG.1 (M_env ht h4.1).1.1.1 (by omega) (hW3.g (by omega) h4.2.2), bd_some]
      exact Tp_some ⟨rfl, h4.1, h4.2.1⟩
    · intro f j t' hj ⟨hF, hW, hr⟩ ih
      have hg := yrS_good (ru := aRu A) (q := (x, aW A)) hG.2.1 j
      have hs := yrS_s (aG A) (aRu A) (x, aW A) j
      rw [hs] at ih
      generalize yrS (aG A) (aRu A) (x, aW A) j = q at hW hr hg ih
      rw [M_years_36_s]
      unfold M_years_36b
      have hv4 := rnV_lt (rnX q.1) (n := 4) (by omega)
      rw [if_neg (nI_ge hj (by omega)), show (4 : Int32) = nI 4 from rfl, M_draw_ok (by omega) (by omega), b2_some, hr]
      have hF1 : Fr dMr t (pI t' 45 38 (rnX q.1)) := hF.pI (by omega)
      have hW1 : MW (gn (aG A)) (pI t' 45 38 (rnX q.1)) 58 0 q.2 := hW.r0 (by omega)
      have e05 : gI (pI t' 45 38 (rnX q.1)) 45 1 = nI (gn (aG A)) := (M_env ht hF1).1.1.1.1
      unfold yrT at ih
      unfold M_years_62
      simp only [nI_1]
      by_cases e1 : rnV (rnX q.1) 4 < 2
      · rw [if_pos e1] at ih
        rw [show (2 : Int32) = nI 2 from rfl, if_neg (nI_ge e1 (by omega))]
        refine TtP (M_tdayZ hu ht hG hF1 hW1 hg) (fun t2 h2 => ?_)
        rw [if_pos (nI_lt e1 (by omega))]
        exact ih t2 ⟨h2.1, h2.2.1, (h2.2.2 38 (by decide)).trans gI_pI_s⟩
      · rw [if_neg e1] at ih
        rw [show (2 : Int32) = nI 2 from rfl, if_pos (nI_le (by omega) (by omega)), if_neg (nI_nlt (by omega) (by omega)), e05]
        by_cases e2 : gn (aG A) = 0
        · rw [if_pos e2] at ih
          rw [if_pos (by rw [e2]; decide)]
          exact ih _ ⟨hF1, hW1, gI_pI_s⟩
        · rw [if_neg e2] at ih
          have hvl := rnV_lt (rnX (rnX q.1)) (n := gn (aG A)) (by omega)
          rw [if_neg (nI_ne0 (by omega) (by omega)), M_draw_ok (by omega) (by omega), b2_some, gI_pI_s, ad_6, ad_18]
          have hW2 : MW (gn (aG A)) (pI (pI t' 45 38 (rnX q.1)) 45 38 (rnX (rnX q.1))) 58 0 q.2 := hW1.r0 (by omega)
          by_cases e3 : rnV (rnX q.1) 4 = 2
          · rw [if_pos e3] at ih
            have hbt := bt_lt (wo q.2) (rnV (rnX (rnX q.1)) (gn (aG A)))
            rw [if_pos (by rw [e3]), aI_n (by omega) (by omega), bd_some, (MW_row hW2).2.1 _ hvl, tI_n (by omega) (by omega), bd_some, nI_lit1, pk_sub (by omega)]
            refine ih _ ⟨(hF1.pI (by omega)).pI (by omega), MW.setO h6 hvl hW2 (fun k hk => bt_xor_pow _ _ _), ?_⟩
            rw [gI_pI_i (by decide), gI_pI_s]
          · rw [if_neg e3] at ih
            have hv10 := rnV_lt (rnX (rnX (rnX q.1))) (n := 10) (by omega)
            rw [if_neg (fun h => e3 ((nI_eq (by omega) (by omega)).mp h)), show (10 : Int32) = nI 10 from rfl, M_draw_ok (by omega) (by omega), b2_some, gI_pI_s, tI_n (by omega) (by omega), bd_some]
            refine ih _ ⟨((hF1.pI (by omega)).pI (by omega)).pI (by omega), MW.setT h6 hvl (hW2.r0 (by omega)), ?_⟩
            rw [gI_pI_i (by decide), gI_pI_s]
