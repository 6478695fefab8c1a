/-! LAW: marks, swims, spoon, needs -/
set_option maxRecDepth 100000
def upN (f : Nat → Nat) (i v : Nat) : Nat → Nat := fun k => if k = i then v else f k
theorem upN_s (f : Nat → Nat) (i v : Nat) : upN f i v i = v := if_pos rfl
theorem upN_n {f : Nat → Nat} {i v k : Nat} (h : k ≠ i) : upN f i v k = f k := if_neg h
def wL' (W : Wt) (i v : Nat) : Wt := (upN W.1 i v, W.2)
def wH' (W : Wt) (i v : Nat) : Wt := (W.1, upN W.2.1 i v, W.2.2)
def wT' (W : Wt) (i v : Nat) : Wt := (W.1, W.2.1, upN W.2.2.1 i v, W.2.2.2)
def wK' (W : Wt) (i v : Nat) : Wt := (W.1, W.2.1, W.2.2.1, upN W.2.2.2.1 i v, W.2.2.2.2)
def wO' (W : Wt) (o : Nat) : Wt := (W.1, W.2.1, W.2.2.1, W.2.2.2.1, o, W.2.2.2.2.2)
theorem up_row {s : Sg} {a n i v : Nat} {f : Nat → Nat} (h : ∀ k, k < n → gI s a k = nI (f k)) : ∀ k, k < n → gI (pI s a i (nI v)) a k = nI (upN f i v k) := by
  intro k hk
  by_cases e : k = i
  · subst e
    rw [gI_pI_s, upN_s]
  · rw [gI_pI_k e, upN_n e]
    exact h k hk
theorem XW.setL {n : Nat} {s : Sg} {w i v : Nat} {W : Wt} (h : XW n s w W) : XW n (pI s (w + 1) i (nI v)) w (wL' W i v) := by
  obtain ⟨h1, h2, h3, h4, h5, h6, h7, h8⟩ := h
  exact ⟨up_row h1, fun k hk => (gI_pI_i (by omega)).trans (h2 k hk), fun k hk => (gI_pI_i (by omega)).trans (h3 k hk), fun k hk => (gI_pI_i (by omega)).trans (h4 k hk), (gI_pI_i (by omega)).trans h5, (gI_pI_i (by omega)).trans h6, (gI_pI_i (by omega)).trans h7, (gI_pI_i (by omega)).trans h8⟩
theorem XW.setH {n : Nat} {s : Sg} {w i v : Nat} {W : Wt} (h : XW n s w W) : XW n (pI s (w + 2) i (nI v)) w (wH' W i v) := by
  obtain ⟨h1, h2, h3, h4, h5, h6, h7, h8⟩ := h
  exact ⟨fun k hk => (gI_pI_i (by omega)).trans (h1 k hk), up_row h2, fun k hk => (gI_pI_i (by omega)).trans (h3 k hk), fun k hk => (gI_pI_i (by omega)).trans (h4 k hk), (gI_pI_i (by omega)).trans h5, (gI_pI_i (by omega)).trans h6, (gI_pI_i (by omega)).trans h7, (gI_pI_i (by omega)).trans h8⟩
theorem XW.setT {n : Nat} {s : Sg} {w i v : Nat} {W : Wt} (h : XW n s w W) : XW n (pI s (w + 3) i (nI v)) w (wT' W i v) := by
  obtain ⟨h1, h2, h3, h4, h5, h6, h7, h8⟩ := h
  exact ⟨fun k hk => (gI_pI_i (by omega)).trans (h1 k hk), fun k hk => (gI_pI_i (by omega)).trans (h2 k hk), up_row h3, fun k hk => (gI_pI_i (by omega)).trans (h4 k hk), (gI_pI_i (by omega)).trans h5, (gI_pI_i (by omega)).trans h6, (gI_pI_i (by omega)).trans h7, (gI_pI_i (by omega)).trans h8⟩
theorem XW.setK {n : Nat} {s : Sg} {w i v : Nat} {W : Wt} (h : XW n s w W) : XW n (pI s (w + 4) i (nI v)) w (wK' W i v) := by
  obtain ⟨h1, h2, h3, h4, h5, h6, h7, h8⟩ := h
  exact ⟨fun k hk => (gI_pI_i (by omega)).trans (h1 k hk), fun k hk => (gI_pI_i (by omega)).trans (h2 k hk), fun k hk => (gI_pI_i (by omega)).trans (h3 k hk), up_row h4, (gI_pI_i (by omega)).trans h5, (gI_pI_i (by omega)).trans h6, (gI_pI_i (by omega)).trans h7, (gI_pI_i (by omega)).trans h8⟩
theorem XW.setO {n : Nat} {s : Sg} {w o : Nat} {W : Wt} (h : XW n s w W) : XW n (pI s w 4 (nI o)) w (wO' W o) := by
  obtain ⟨h1, h2, h3, h4, h5, h6, h7, h8⟩ := h
  exact ⟨fun k hk => (gI_pI_i (by omega)).trans (h1 k hk), fun k hk => (gI_pI_i (by omega)).trans (h2 k hk), fun k hk => (gI_pI_i (by omega)).trans (h3 k hk), fun k hk => (gI_pI_i (by omega)).trans (h4 k hk), gI_pI_s, (gI_pI_k (by omega)).trans h6, (gI_pI_k (by omega)).trans h7, (gI_pI_k (by omega)).trans h8⟩
theorem MRow.up {n : Nat} {s : Sg} {a i j v : Nat} {L H : Nat → Nat} {W : Wt} {p r : Nat} (h : MRow n s a L H W p r) : (∀ k, k < n → k ≠ j → gI (pI s a j (nI v)) a k = nI (L k)) ∧ (∀ k, k < n → 6 + k ≠ j → gI (pI s a j (nI v)) a (6 + k) = nI (bt (wo W) k)) ∧ (∀ k, k < n → 12 + k ≠ j → gI (pI s a j (nI v)) a (12 + k) = nI (H k)) ∧ (∀ k, k < n → 18 + k ≠ j → gI (pI s a j (nI v)) a (18 + k) = nI (wt W k)) ∧ (∀ k, k < n → 24 + k ≠ j → gI (pI s a j (nI v)) a (24 + k) = nI (wk W k)) ∧ (j < 30 → gI (pI s a j (nI v)) a 30 = wd W ∧ gI (pI s a j (nI v)) a 31 = nI p ∧ gI (pI s a j (nI v)) a 32 = nI r) := by
  obtain ⟨h1, h2, h3, h4, h5, h7, h8, h9⟩ := h
  exact ⟨fun k hk e => (gI_pI_k e).trans (h1 k hk), fun k hk e => (gI_pI_k e).trans (h2 k hk), fun k hk e => (gI_pI_k e).trans (h3 k hk), fun k hk e => (gI_pI_k e).trans (h4 k hk), fun k hk e => (gI_pI_k e).trans (h5 k hk), fun e => ⟨(gI_pI_k (by omega)).trans h7, (gI_pI_k (by omega)).trans h8, (gI_pI_k (by omega)).trans h9⟩⟩
theorem upN_row {s : Sg} {a n i o v : Nat} {f : Nat → Nat} (h : ∀ k, k < n → o + k ≠ o + i → gI (pI s a (o + i) (nI v)) a (o + k) = nI (f k)) : ∀ k, k < n → gI (pI s a (o + i) (nI v)) a (o + k) = nI (upN f i v k) := by
  intro k hk
  by_cases e : k = i
  · subst e
    rw [gI_pI_s, upN_s]
  · rw [h k hk (by omega), upN_n e]
theorem MW.setL {n : Nat} {s : Sg} {a i v : Nat} {W : Wt} (hn : n ≤ 6) (hi : i < n) (h : MW n s a 0 W) : MW n (pI s a i (nI v)) a 0 (wL' W i v) := by
  obtain ⟨h1, h2, h3, h4, h5, h7⟩ := (MW_row h).up (i := i) (j := i) (v := v)
  obtain ⟨h7, h8, h9⟩ := h7 (by omega)
  refine row_MW ⟨?_, fun k hk => h2 k hk (by omega), fun k hk => h3 k hk (by omega), fun k hk => h4 k hk (by omega), fun k hk => h5 k hk (by omega), h7, h8, h9⟩
  intro k hk
  have := upN_row (o := 0) (i := i) (v := v) (a := a) (s := s) (f := wl W) (n := n) (fun k hk e => by rw [Nat.zero_add, Nat.zero_add]; exact h1 k hk (by omega)) k hk
  rw [Nat.zero_add, Nat.zero_add] at this
  exact this
theorem MW.setH {n : Nat} {s : Sg} {a i v : Nat} {W : Wt} (hn : n ≤ 6) (hi : i < n) (h : MW n s a 0 W) : MW n (pI s a (12 + i) (nI v)) a 0 (wH' W i v) := by
  obtain ⟨h1, h2, h3, h4, h5, h7⟩ := (MW_row h).up (i := i) (j := 12 + i) (v := v)
  obtain ⟨h7, h8, h9⟩ := h7 (by omega)
  exact row_MW ⟨fun k hk => h1 k hk (by omega), fun k hk => h2 k hk (by omega), upN_row h3, fun k hk => h4 k hk (by omega), fun k hk => h5 k hk (by omega), h7, h8, h9⟩
theorem MW.setT {n : Nat} {s : Sg} {a i v : Nat} {W : Wt} (hn : n ≤ 6) (hi : i < n) (h : MW n s a 0 W) : MW n (pI s a (18 + i) (nI v)) a 0 (wT' W i v) := by
  obtain ⟨h1, h2, h3, h4, h5, h7⟩ := (MW_row h).up (i := i) (j := 18 + i) (v := v)
  obtain ⟨h7, h8, h9⟩ := h7 (by omega)
  exact row_MW ⟨fun k hk => h1 k hk (by omega), fun k hk => h2 k hk (by omega), fun k hk => h3 k hk (by omega), upN_row h4, fun k hk => h5 k hk (by omega), h7, h8, h9⟩
theorem MW.setK {n : Nat} {s : Sg} {a i v : Nat} {W : Wt} (hn : n ≤ 6) (hi : i < n) (h : MW n s a 0 W) : MW n (pI s a (24 + i) (nI v)) a 0 (wK' W i v) := by
  obtain ⟨h1, h2, h3, h4, h5, h7⟩ := (MW_row h).up (i := i) (j := 24 + i) (v := v)
  obtain ⟨h7, h8, h9⟩ := h7 (by omega)
  exact row_MW ⟨fun k hk => h1 k hk (by omega), fun k hk => h2 k hk (by omega), fun k hk => h3 k hk (by omega), fun k hk => h4 k hk (by omega), upN_row h5, h7, h8, h9⟩
theorem MW.setO {n : Nat} {s : Sg} {a i v o : Nat} {W : Wt} (hn : n ≤ 6) (hi : i < n) (h : MW n s a 0 W) (ho : ∀ k, k < n → bt o k = upN (bt (wo W)) i v k) : MW n (pI s a (6 + i) (nI v)) a 0 (wO' W o) := by
  obtain ⟨h1, h2, h3, h4, h5, h7⟩ := (MW_row h).up (i := i) (j := 6 + i) (v := v)
  obtain ⟨h7, h8, h9⟩ := h7 (by omega)
  refine row_MW ⟨fun k hk => h1 k hk (by omega), fun k hk => ?_, fun k hk => h3 k hk (by omega), fun k hk => h4 k hk (by omega), fun k hk => h5 k hk (by omega), h7, h8, h9⟩
  show _ = nI (bt o k)
  rw [ho k hk]
  exact upN_row h2 k hk
/-! ### marks: least, most, when -/
def mkS (g : Geo) (ru : Ru) (W : Wt) (i : Nat) : Nat → Nat × Nat × Nat × Nat
  | 0 => (wl W i, wl W i, 0, 0)
  | k + 1 => (min (mkS g ru W i k).1 (wl (dyN g ru (k + 1) W) i), max (mkS g ru W i k).2.1 (wl (dyN g ru (k + 1) W) i), if wl (dyN g ru (k + 1) W) i < (mkS g ru W i k).1 then k + 1 else (mkS g ru W i k).2.2.1, if (mkS g ru W i k).2.1 < wl (dyN g ru (k + 1) W) i then k + 1 else (mkS g ru W i k).2.2.2)
theorem lev99 {g : Geo} {W : Wt} (hg : GoodG g) (h : GoodW g W) {i : Nat} (hi : i < gn g) : wl W i ≤ 99 := by
  have h1 := (h.1 i hi).1
  have h2 := (hg.2 i hi).2.1
  omega
theorem mkS_le {g : Geo} {ru : Ru} {W : Wt} (hg : GoodG g) (h : GoodW g W) {i : Nat} (hi : i < gn g) (k : Nat) : (mkS g ru W i k).1 ≤ 99 ∧ (mkS g ru W i k).2.1 ≤ 99 := by
  induction k with
  | zero => exact ⟨lev99 hg h hi, lev99 hg h hi⟩
  | succ k ih =>
    have := lev99 hg (dyN_good (ru := ru) h (k + 1)) hi
    show min _ _ ≤ 99 ∧ max _ _ ≤ 99
    omega
theorem op_marks {u c : Nat} {s : Sg} {A : AS} (hu : 20000 ≤ u) (hX : XI A s) (hM : MI u A s) (hG : GI c A) (x y : Int32) : Bth u c s (X_marks u s x y) (fun t => M_marks u t x y) := by
  have h6 := hG.1.1
  rcases in_n x (gn (aG A)) (by omega) with ⟨i, hi, e⟩ | hno
  rotate_left
  · refine both_no (-1) hX hM hG ?_ (fun t ht => ?_)
    · unfold X_marks
      rw [X_isL hX, gd_e, if_neg hno]
    · unfold M_marks
      rw [lt_e, M_isL ht, gd_e, if_neg hno] <;> rfl
  subst e
  rcases in_or2 y 0 99 (by omega) (by omega) with ⟨m, hm0, hm, e⟩ | hno
  rotate_left
  · refine both_no (-1) hX hM hG ?_ (fun t ht => ?_)
    · unfold X_marks
      rw [X_isL hX, gd_e, if_pos (in_nyes hi (by omega)), Xin_0_99, gd_e, if_neg hno]
    · unfold M_marks
      rw [lt_e, M_isL ht, gd_e, if_pos (in_nyes hi (by omega)), Min_0_99, gd_e, if_neg hno] <;> rfl
  subst e
  refine both_row (nI (mkS (aG A) (aRu A) (aW A) i m).1) [(nI (mkS (aG A) (aRu A) (aW A) i m).2.2.1).toInt64, (nI (mkS (aG A) (aRu A) (aW A) i m).2.1).toInt64, (nI (mkS (aG A) (aRu A) (aW A) i m).2.2.2).toInt64] hX hM hG ?_ (fun t ht => ?_)
  · unfold X_marks
    rw [X_isL hX, gd_e, if_pos (in_nyes hi (by omega)), Xin_0_99, gd_e, if_pos (in_yes2 hm0 hm (by omega))]
    refine TtP (X_try' hX hG (Fr.refl _ _)) (fun t1 h1 => ?_)
    have e2 : gI t1 2 i = nI (wl (aW A) i) := (X_env hX h1.1).2.1 i hi
    rw [aI_n (by omega) (by omega), bd_some, e2]
    refine loop_i (W := fun f j t => Tp (X_marks_55 u f t (nI i) (nI m) (nI (mkS (aG A) (aRu A) (aW A) i j).1) (nI (mkS (aG A) (aRu A) (aW A) i j).2.1) (nI (mkS (aG A) (aRu A) (aW A) i j).2.2.1) (nI (mkS (aG A) (aRu A) (aW A) i j).2.2.2) (nI (j + 1))) _)
      (I := fun j t => Fr dXr s t ∧ XW (gn (aG A)) t 6 (dyN (aG A) (aRu A) j (aW A))) m ?_ ?_ u 0 t1 (by omega) (by omega) ⟨h1.1, h1.2.1⟩
    · intro f t ⟨hF, hW⟩
      rw [X_marks_55_s]
      unfold X_marks_55b
      rw [if_pos (nI_lt (by omega) (by omega)), lt_e]
      have hF0 : Fr dXr s (pI t 0 48 0) := hF.pI (by omega)
      exact TtP (X_tell' _ hF0 XRow_0 (by decide)) (fun t2 h2 => TtP (X_tell' _ h2.1 h2.2.1 (Nat.le_of_ble_eq_true rfl)) (fun t3 h3 => TtP (X_tell' _ h3.1 h3.2.1 (Nat.le_of_ble_eq_true rfl)) (fun t4 h4 => Tp_some ⟨rfl, h4.1, h4.2.1⟩)))
    · intro f j t hj ⟨hF, hW⟩ ih
      rw [X_marks_55_s]
      unfold X_marks_55b
      rw [if_neg (nI_nlt (by omega) (by omega))]
      refine TtP (X_tday hu hX hG hF hW (dyN_good hG.2.1 j)) (fun t2 h2 => ?_)
      have ih := ih t2 ⟨h2.1, h2.2.1⟩
      have hv := lev99 hG.1 (dyN_good (ru := aRu A) hG.2.1 (j + 1)) hi
      have hq := mkS_le (ru := aRu A) hG.1 hG.2.1 hi j
      have e7 : gI t2 7 i = nI (wl (dyN (aG A) (aRu A) (j + 1) (aW A)) i) := h2.2.1.1 i hi
      rw [aI_n (by omega) (by omega), bd_some, e7]
      have hs : mkS (aG A) (aRu A) (aW A) i (j + 1) = (min (mkS (aG A) (aRu A) (aW A) i j).1 (wl (dyN (aG A) (aRu A) (j + 1) (aW A)) i), max (mkS (aG A) (aRu A) (aW A) i j).2.1 (wl (dyN (aG A) (aRu A) (j + 1) (aW A)) i), if wl (dyN (aG A) (aRu A) (j + 1) (aW A)) i < (mkS (aG A) (aRu A) (aW A) i j).1 then j + 1 else (mkS (aG A) (aRu A) (aW A) i j).2.2.1, if (mkS (aG A) (aRu A) (aW A) i j).2.1 < wl (dyN (aG A) (aRu A) (j + 1) (aW A)) i then j + 1 else (mkS (aG A) (aRu A) (aW A) i j).2.2.2) := rfl
      rw [hs] at ih
      dsimp only at ih
      unfold X_marks_93 X_marks_109
      simp only [lt_e]
      rw [nI_mi (by omega) (by omega), nI_mx (by omega) (by omega), nI_1]
      by_cases e1 : wl (dyN (aG A) (aRu A) (j + 1) (aW A)) i < (mkS (aG A) (aRu A) (aW A) i j).1
      · rw [if_neg (nI_ge e1 (by omega))]
        rw [if_pos e1] at ih
        by_cases e2 : (mkS (aG A) (aRu A) (aW A) i j).2.1 < wl (dyN (aG A) (aRu A) (j + 1) (aW A)) i
        · rw [if_neg (nI_ge e2 (by omega))]
          rw [if_pos e2] at ih
          exact ih
        · rw [if_pos (nI_le (by omega) (by omega))]
          rw [if_neg e2] at ih
          exact ih
      · rw [if_pos (nI_le (by omega) (by omega))]
        rw [if_neg e1] at ih
        by_cases e2 : (mkS (aG A) (aRu A) (aW A) i j).2.1 < wl (dyN (aG A) (aRu A) (j + 1) (aW A)) i
        · rw [if_neg (nI_ge e2 (by omega))]
          rw [if_pos e2] at ih
          exact ih
        · rw [if_pos (nI_le (by omega) (by omega))]
          rw [if_neg e2] at ih
          exact ih
  · unfold M_marks
    rw [lt_e, M_isL ht, gd_e, if_pos (in_nyes hi (by omega)), Min_0_99, gd_e, if_pos (in_yes2 hm0 hm (by omega))]
    refine TtP (M_try' hu ht hG M_th) (fun t1 h1 => ?_)
    have e2 : gI t1 46 i = nI (wl (aW A) i) := (MW_row (M_env ht h1.1).2).1 i hi
    rw [aI_n (by omega) (by omega), bd_some, bd_some, e2]
    refine loop_i (W := fun f j t => Tp (M_marks_61 u f t (nI i) (nI m) (nI (mkS (aG A) (aRu A) (aW A) i j).1) (nI (mkS (aG A) (aRu A) (aW A) i j).2.1) (nI (mkS (aG A) (aRu A) (aW A) i j).2.2.1) (nI (mkS (aG A) (aRu A) (aW A) i j).2.2.2) (nI (j + 1))) _)
      (I := fun j t' => Fr dMr t t' ∧ MW (gn (aG A)) t' 58 0 (dyN (aG A) (aRu A) j (aW A))) m ?_ ?_ u 0 t1 (by omega) (by omega) ⟨h1.1, h1.2.1⟩
    · intro f t' ⟨hF, hW⟩
      rw [M_marks_61_s]
      unfold M_marks_61b
      rw [if_pos (nI_lt (by omega) (by omega)), lt_e]
      have hF0 : Fr dMr t (pI t' 45 8 0) := hF.pI (by omega)
      exact TtP (M_tell' _ hF0 MRw_0 (by decide)) (fun t2 h2 => TtP (M_tell' _ h2.1 h2.2.1 (Nat.le_of_ble_eq_true rfl)) (fun t3 h3 => TtP (M_tell' _ h3.1 h3.2.1 (Nat.le_of_ble_eq_true rfl)) (fun t4 h4 => Tp_some ⟨rfl, h4.1, h4.2.1⟩)))
    · intro f j t' hj ⟨hF, hW⟩ ih
      rw [M_marks_61_s]
      unfold M_marks_61b
      rw [if_neg (nI_nlt (by omega) (by omega))]
      refine TtP (M_tday hu ht hG hF hW (dyN_good hG.2.1 j)) (fun t2 h2 => ?_)
      have ih := ih t2 ⟨h2.1, h2.2.1⟩
      have hv := lev99 hG.1 (dyN_good (ru := aRu A) hG.2.1 (j + 1)) hi
      have hq := mkS_le (ru := aRu A) hG.1 hG.2.1 hi j
      have e7 : gI t2 58 i = nI (wl (dyN (aG A) (aRu A) (j + 1) (aW A)) i) := (MW_row h2.2.1).1 i hi
      unfold M_marks_96
      rw [aI_n (by omega) (by omega), bd_some, bd_some, e7]
      have hs : mkS (aG A) (aRu A) (aW A) i (j + 1) = (min (mkS (aG A) (aRu A) (aW A) i j).1 (wl (dyN (aG A) (aRu A) (j + 1) (aW A)) i), max (mkS (aG A) (aRu A) (aW A) i j).2.1 (wl (dyN (aG A) (aRu A) (j + 1) (aW A)) i), if wl (dyN (aG A) (aRu A) (j + 1) (aW A)) i < (mkS (aG A) (aRu A) (aW A) i j).1 then j + 1 else (mkS (aG A) (aRu A) (aW A) i j).2.2.1, if (mkS (aG A) (aRu A) (aW A) i j).2.1 < wl (dyN (aG A) (aRu A) (j + 1) (aW A)) i then j + 1 else (mkS (aG A) (aRu A) (aW A) i j).2.2.2) := rfl
      rw [hs] at ih
      dsimp only at ih
      rw [nI_1]
      simp only [bd_some, e7]
      by_cases e1 : wl (dyN (aG A) (aRu A) (j + 1) (aW A)) i < (mkS (aG A) (aRu A) (aW A) i j).1
      · rw [if_neg (nI_ge e1 (by omega))]
        rw [if_pos e1, Nat.min_eq_right (by omega)] at ih
        by_cases e2 : (mkS (aG A) (aRu A) (aW A) i j).2.1 < wl (dyN (aG A) (aRu A) (j + 1) (aW A)) i
        · rw [if_neg (nI_ge e2 (by omega))]
          rw [if_pos e2, Nat.max_eq_right (by omega)] at ih
          exact ih
        · rw [if_pos (nI_le (by omega) (by omega))]
          rw [if_neg e2, Nat.max_eq_left (by omega)] at ih
          exact ih
      · rw [if_pos (nI_le (by omega) (by omega))]
        rw [if_neg e1, Nat.min_eq_left (by omega)] at ih
        by_cases e2 : (mkS (aG A) (aRu A) (aW A) i j).2.1 < wl (dyN (aG A) (aRu A) (j + 1) (aW A)) i
        · rw [if_neg (nI_ge e2 (by omega))]
          rw [if_pos e2, Nat.max_eq_right (by omega)] at ih
          exact ih
        · rw [if_pos (nI_le (by omega) (by omega))]
          rw [if_neg e2, Nat.max_eq_left (by omega)] at ih
          exact ih
/-! ### swims: how many days, the longest run, the first day, the run -/
def swS (g : Geo) (ru : Ru) (W : Wt) (i v : Nat) : Nat → Nat × Nat × Nat × Nat
  | 0 => (0, 0, 0, 0)
  | k + 1 => if v ≤ wl (dyN g ru (k + 1) W) i then ((swS g ru W i v k).1 + 1, max (swS g ru W i v k).2.1 ((swS g ru W i v k).2.2.2 + 1), if (swS g ru W i v k).1 = 0 then k + 1 else (swS g ru W i v k).2.2.1, (swS g ru W i v k).2.2.2 + 1) else ((swS g ru W i v k).1, (swS g ru W i v k).2.1, (swS g ru W i v k).2.2.1, 0)
theorem swS_s (g : Geo) (ru : Ru) (W : Wt) (i v k : Nat) : swS g ru W i v (k + 1) = if v ≤ wl (dyN g ru (k + 1) W) i then ((swS g ru W i v k).1 + 1, max (swS g ru W i v k).2.1 ((swS g ru W i v k).2.2.2 + 1), if (swS g ru W i v k).1 = 0 then k + 1 else (swS g ru W i v k).2.2.1, (swS g ru W i v k).2.2.2 + 1) else ((swS g ru W i v k).1, (swS g ru W i v k).2.1, (swS g ru W i v k).2.2.1, 0) := rfl
theorem c10 : ((1 : Int32) = 0) = False := eq_false (by decide)
theorem swS_le (g : Geo) (ru : Ru) (W : Wt) (i v k : Nat) : (swS g ru W i v k).1 ≤ k ∧ (swS g ru W i v k).2.1 ≤ k ∧ (swS g ru W i v k).2.2.1 ≤ k ∧ (swS g ru W i v k).2.2.2 ≤ k ∧ ((swS g ru W i v k).1 = 0 ↔ (swS g ru W i v k).2.2.1 = 0) := by
  induction k with
  | zero => exact ⟨Nat.le_refl _, Nat.le_refl _, Nat.le_refl _, Nat.le_refl _, Iff.rfl⟩
  | succ k ih =>
    unfold swS
    by_cases e : v ≤ wl (dyN g ru (k + 1) W) i
    · rw [if_pos e]
      dsimp only
      by_cases e2 : (swS g ru W i v k).1 = 0
      · rw [if_pos e2]
        omega
      · rw [if_neg e2]
        omega
    · rw [if_neg e]
      dsimp only
      omega
theorem op_swims {u c : Nat} {s : Sg} {A : AS} (hu : 20000 ≤ u) (hX : XI A s) (hM : MI u A s) (hG : GI c A) (x y z : Int32) : Bth u c s (X_swims u s x y z) (fun t => M_swims u t x y z) := by
  have h6 := hG.1.1
  rcases in_n x (gn (aG A)) (by omega) with ⟨i, hi, e⟩ | hno
  rotate_left
  · refine both_no (-1) hX hM hG ?_ (fun t ht => ?_)
    · unfold X_swims
      rw [X_isL hX, gd_e, if_neg hno]
    · unfold M_swims
      rw [lt_e, M_isL ht, gd_e, if_neg hno] <;> rfl
  subst e
  rcases in_or2 y 0 99 (by omega) (by omega) with ⟨v, hv0, hv, e⟩ | hno
  rotate_left
  · refine both_no (-1) hX hM hG ?_ (fun t ht => ?_)
    · unfold X_swims
      rw [X_isL hX, gd_e, if_pos (in_nyes hi (by omega)), Xin_0_99, gd_e, if_neg hno]
    · unfold M_swims
      rw [lt_e, M_isL ht, gd_e, if_pos (in_nyes hi (by omega)), Min_0_99, gd_e, if_neg hno] <;> rfl
  subst e
  rcases in_or2 z 1 99 (by omega) (by omega) with ⟨m, hm0, hm, e⟩ | hno
  rotate_left
  · refine both_no (-1) hX hM hG ?_ (fun t ht => ?_)
    · unfold X_swims
      rw [X_isL hX, gd_e, if_pos (in_nyes hi (by omega)), Xin_0_99, gd_e, if_pos (in_yes2 hv0 hv (by omega)), Xin_1_99, gd_e, if_neg hno]
    · unfold M_swims
      rw [lt_e, M_isL ht, gd_e, if_pos (in_nyes hi (by omega)), Min_0_99, gd_e, if_pos (in_yes2 hv0 hv (by omega)), Min_1_99, gd_e, if_neg hno] <;> rfl
  subst e
  refine both_row (nI (swS (aG A) (aRu A) (aW A) i v m).1) [(nI (swS (aG A) (aRu A) (aW A) i v m).2.1).toInt64, (nI (swS (aG A) (aRu A) (aW A) i v m).2.2.1).toInt64] hX hM hG ?_ (fun t ht => ?_)
  · unfold X_swims
    rw [X_isL hX, gd_e, if_pos (in_nyes hi (by omega)), Xin_0_99, gd_e, if_pos (in_yes2 hv0 hv (by omega)), Xin_1_99, gd_e, if_pos (in_yes2 hm0 hm (by omega))]
    refine TtP (X_try' hX hG (Fr.refl _ _)) (fun t1 h1 => ?_)
    refine loop_i (W := fun f j t => Tp (X_swims_60 u f t (nI i) (nI v) (nI m) (nI (swS (aG A) (aRu A) (aW A) i v j).1) (nI (swS (aG A) (aRu A) (aW A) i v j).2.1) (nI (swS (aG A) (aRu A) (aW A) i v j).2.2.1) (nI (swS (aG A) (aRu A) (aW A) i v j).2.2.2) (nI (j + 1))) _)
      (I := fun j t => Fr dXr s t ∧ XW (gn (aG A)) t 6 (dyN (aG A) (aRu A) j (aW A))) m ?_ ?_ u 0 t1 (by omega) (by omega) ⟨h1.1, h1.2.1⟩
    · intro f t ⟨hF, hW⟩
      rw [X_swims_60_s]
      unfold X_swims_60b
      rw [if_pos (nI_lt (by omega) (by omega)), lt_e]
      have hF0 : Fr dXr s (pI t 0 48 0) := hF.pI (by omega)
      exact TtP (X_tell' _ hF0 XRow_0 (Nat.le_of_ble_eq_true rfl)) (fun t2 h2 => TtP (X_tell' _ h2.1 h2.2.1 (Nat.le_of_ble_eq_true rfl)) (fun t4 h4 => Tp_some ⟨rfl, h4.1, h4.2.1⟩))
    · intro f j t hj ⟨hF, hW⟩ ih
      rw [X_swims_60_s]
      unfold X_swims_60b
      rw [if_neg (nI_nlt (by omega) (by omega))]
      refine TtP (X_tday hu hX hG hF hW (dyN_good hG.2.1 j)) (fun t2 h2 => ?_)
      have ih := ih t2 ⟨h2.1, h2.2.1⟩
      have hv := lev99 hG.1 (dyN_good (ru := aRu A) hG.2.1 (j + 1)) hi
      have hq := swS_le (aG A) (aRu A) (aW A) i v j
      have e7 : gI t2 7 i = nI (wl (dyN (aG A) (aRu A) (j + 1) (aW A)) i) := h2.2.1.1 i hi
      rw [aI_n (by omega) (by omega), bd_some, e7]
      unfold X_swims_92 X_swims_109 X_swims_111 X_swims_125 X_swims_141
      rw [swS_s] at ih
      simp only [lt_e, nI_1, c10, if_false, if_true]
      by_cases e : v ≤ wl (dyN (aG A) (aRu A) (j + 1) (aW A)) i
      · rw [if_pos e] at ih
        dsimp only at ih
        rw [if_neg (nI_nlt e (by omega)), nI_mx (by omega) (by omega)]
        by_cases e2 : (swS (aG A) (aRu A) (aW A) i v j).1 = 0
        · rw [if_pos (by rw [e2]; exact nI_0)]
          rw [if_pos e2] at ih
          exact ih
        · rw [if_neg (nI_ne0 (by omega) (by omega))]
          rw [if_neg e2] at ih
          exact ih
      · rw [if_neg e] at ih
        dsimp only at ih
        rw [if_pos (nI_lt (by omega) (by omega)), nI_lit0, nI_add, nI_mx (by omega) (by omega), Nat.max_eq_left (by omega)]
        exact ih
  · unfold M_swims
    rw [lt_e, M_isL ht, gd_e, if_pos (in_nyes hi (by omega)), Min_0_99, gd_e, if_pos (in_yes2 hv0 hv (by omega)), Min_1_99, gd_e, if_pos (in_yes2 hm0 hm (by omega))]
    refine TtP (M_try' hu ht hG M_th) (fun t1 h1 => ?_)
    refine loop_i (W := fun f j t => Tp (M_swims_62 u f t (nI i) (nI v) (nI m) (nI (swS (aG A) (aRu A) (aW A) i v j).1) (nI (swS (aG A) (aRu A) (aW A) i v j).2.2.1) (nI (swS (aG A) (aRu A) (aW A) i v j).2.2.2) (nI (swS (aG A) (aRu A) (aW A) i v j).2.1) (nI (j + 1))) _)
      (I := fun j t' => Fr dMr t t' ∧ MW (gn (aG A)) t' 58 0 (dyN (aG A) (aRu A) j (aW A))) m ?_ ?_ u 0 t1 (by omega) (by omega) ⟨h1.1, h1.2.1⟩
    · intro f t' ⟨hF, hW⟩
      rw [M_swims_62_s]
      unfold M_swims_62b
      rw [if_pos (nI_lt (by omega) (by omega)), lt_e]
      have hF0 : Fr dMr t (pI t' 45 8 0) := hF.pI (by omega)
      exact TtP (M_tell' _ hF0 MRw_0 (Nat.le_of_ble_eq_true rfl)) (fun t2 h2 => TtP (M_tell' _ h2.1 h2.2.1 (Nat.le_of_ble_eq_true rfl)) (fun t4 h4 => Tp_some ⟨rfl, h4.1, h4.2.1⟩))
    · intro f j t' hj ⟨hF, hW⟩ ih
      rw [M_swims_62_s]
      unfold M_swims_62b
      rw [if_neg (nI_nlt (by omega) (by omega))]
      refine TtP (M_tday hu ht hG hF hW (dyN_good hG.2.1 j)) (fun t2 h2 => ?_)
      have ih := ih t2 ⟨h2.1, h2.2.1⟩
      have hv := lev99 hG.1 (dyN_good (ru := aRu A) hG.2.1 (j + 1)) hi
      have hq := swS_le (aG A) (aRu A) (aW A) i v j
      have e7 : gI t2 58 i = nI (wl (dyN (aG A) (aRu A) (j + 1) (aW A)) i) := (MW_row h2.2.1).1 i hi
      rw [aI_n (by omega) (by omega), bd_some, e7]
      unfold M_swims_94 M_swims_125
      rw [swS_s] at ih
      simp only [lt_e, nI_1, c10, if_false, if_true]
      by_cases e : v ≤ wl (dyN (aG A) (aRu A) (j + 1) (aW A)) i
      · rw [if_pos e] at ih
        dsimp only at ih
        rw [if_neg (nI_nlt e (by omega)), if_neg (nI_ne0 (by omega) (by omega)), nI_mx (by omega) (by omega)]
        by_cases e2 : (swS (aG A) (aRu A) (aW A) i v j).1 = 0
        · rw [if_pos (by rw [hq.2.2.2.2.mp e2]; exact nI_0)]
          rw [if_pos e2] at ih
          exact ih
        · rw [if_neg (nI_ne0 (by omega) (by omega))]
          rw [if_neg e2] at ih
          exact ih
      · rw [if_neg e] at ih
        dsimp only at ih
        rw [if_pos (nI_lt (by omega) (by omega)), nI_lit0, nI_mx (by omega) (by omega), Nat.max_eq_left (by omega)]
        exact ih
