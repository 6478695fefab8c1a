/-! LAW: threat, treaty, wants, evens, feared -/
set_option maxRecDepth 100000
/-! ### threat -/
def xoB (f : Nat → Nat) (o n : Nat) : Nat := fo (fun k a => a ^^^ (if bt o k = 1 then f k else 0)) n 0
theorem xoB_s (f : Nat → Nat) (o n : Nat) : xoB f o (n + 1) = xoB f o n ^^^ (if bt o n = 1 then f n else 0) := rfl
theorem xoB_lt {f : Nat → Nat} {o n : Nat} (h : ∀ k, k < n → f k < 128) : xoB f o n < 128 := by
  induction n with
  | zero => show 0 < 128; decide
  | succ n ih =>
    rw [xoB_s]
    have h1 := ih (fun k hk => h k (by omega))
    have h2 := h n (by omega)
    have h3 : (if bt o n = 1 then f n else 0) < 2 ^ 7 := by split <;> omega
    exact Nat.xor_lt_two_pow (n := 7) h1 h3
theorem xoB_bt {f : Nat → Nat} {o n h : Nat} (hb : bt (xoB f o n) h = 1) : ∃ k, k < n ∧ bt o k = 1 ∧ bt (f k) h = 1 := by
  induction n with
  | zero =>
    have : bt (xoB f o 0) h = 0 := bt_big (n := 0) (by show 0 < 2 ^ 0; decide) (by omega)
    omega
  | succ n ih =>
    rw [xoB_s, bt_xor] at hb
    by_cases e : bt o n = 1
    · rw [if_pos e] at hb
      by_cases e2 : bt (f n) h = 1
      · exact ⟨n, by omega, e, e2⟩
      · rw [if_neg e2] at hb
        obtain ⟨k, hk, h1, h2⟩ := ih hb
        exact ⟨k, by omega, h1, h2⟩
    · rw [if_neg e, if_neg (by rw [bt_big (n := 0) (show 0 < 2 ^ 0 by decide) (by omega)]; decide)] at hb
      obtain ⟨k, hk, h1, h2⟩ := ih hb
      exact ⟨k, by omega, h1, h2⟩
def thP (W : Wt) (o n k : Nat) : Bool := decide (bt o k = 1) && decide (wl W k ^^^ xoB (wl W) o n < wl W k)
theorem th_ex {g : Geo} {W : Wt} {o : Nat} (hg : GoodG g) (hW : GoodW g W) (hz : xoB (wl W) o (gn g) ≠ 0) : ∃ k, k < gn g ∧ thP W o (gn g) k = true := by
  have hl : ∀ k, k < gn g → wl W k < 128 := fun k hk => by have := lev99 hg hW hk; omega
  obtain ⟨h, h7, hb, hlt⟩ := top7 _ (xoB_lt (o := o) hl) hz
  obtain ⟨k, hk, h1, h2⟩ := xoB_bt hb
  refine ⟨k, hk, ?_⟩
  unfold thP
  rw [decide_eq_true h1, decide_eq_true (nim7 h h7 _ (xoB_lt (o := o) hl) _ (hl k hk) ⟨hb, hlt, h2⟩)]
  rfl
/-- the first one of those that are: below n -/
theorem fs_some {p : Nat → Bool} {n j : Nat} (h : ∃ k, j ≤ k ∧ k < n ∧ p k = true) : ∃ q, fs p (n - j) j = some q ∧ q < n ∧ p q = true := by
  obtain ⟨k, h1, h2, h3⟩ := h
  generalize hm : n - j = m
  induction m generalizing j with
  | zero => omega
  | succ m ih =>
    by_cases e : p j = true
    · refine ⟨j, ?_, by omega, e⟩
      show (if p j then some j else _) = _
      rw [if_pos e]
    · have hjk : j ≠ k := fun q => e (by rw [q]; exact h3)
      obtain ⟨q, hq⟩ := ih (j := j + 1) (by omega) (by omega)
      refine ⟨q, ?_, hq.2⟩
      show (if p j then some j else _) = _
      rw [if_neg e]
      exact hq.1
theorem op_threat {u c : Nat} {s : Sg} {A : AS} (hu : 20000 ≤ u) (hX : XI A s) (hM : MI u A s) (hG : GI c A) (x : Int32) : Bth u c s (X_threat u s x) (fun t => M_threat u t x) := by
  have h6 := hG.1.1
  have h64 := two6 hG.1.1
  have hall : ∀ t, MI u A t → M_all (pI t 45 9 0) = some (nI (2 ^ gn (aG A) - 1)) := fun t ht => M_all_ok hG.1 (M_env ht M_th).1.1.1
  rcases in_or x (2 ^ gn (aG A) - 1) (by omega) with ⟨o, ho, e⟩ | hno
  rotate_left
  · refine both_no (-1) hX hM hG ?_ (fun t ht => ?_)
    · unfold X_threat
      rw [X_areLakes_ok hG.1 hX.1.2.1, gd_e, if_neg hno]
    · unfold M_threat
      rw [lt_e, hall t ht, bd_some, M_in_eq, gd_e, if_neg hno]
  subst e
  have hl : ∀ k, k < gn (aG A) → wl (aW A) k < 128 := fun k hk => by have := lev99 hG.1 hG.2.1 hk; omega
  have hxl := fun j (hj : j ≤ gn (aG A)) => xoB_lt (o := o) (n := j) (f := wl (aW A)) (fun k hk => hl k (by omega))
  refine both_row (if xoB (wl (aW A)) o (gn (aG A)) = 0 then 0 else 1) (if xoB (wl (aW A)) o (gn (aG A)) = 0 then [] else match fs (thP (aW A) o (gn (aG A))) (gn (aG A)) 0 with | none => [] | some k => [(nI k).toInt64, (nI (wl (aW A) k) - nI (wl (aW A) k ^^^ xoB (wl (aW A)) o (gn (aG A)))).toInt64]) hX hM hG ?_ (fun t ht => ?_)
  · unfold X_threat
    rw [X_areLakes_ok hG.1 hX.1.2.1, gd_e, if_pos (in_yes ho (by omega))]
    refine loop_i (W := fun f j (_ : Unit) => Tp (X_threat_14 u f s (nI o) (nI (xoB (wl (aW A)) o j)) (nI j)) _)
      (I := fun j _ => True) (gn (aG A)) ?_ ?_ u 0 () (by omega) (by omega) trivial
    · intro f _ _
      have hx := hxl (gn (aG A)) (Nat.le_refl _)
      have hF0 : Fr dXr s (pI s 0 48 0) := (Fr.refl _ _).pI (by omega)
      rw [X_threat_14_s]
      unfold X_threat_14b
      rw [hX.1.2.1.1, if_pos (nI_le (Nat.le_refl _) (by omega)), lt_e]
      by_cases z : xoB (wl (aW A)) o (gn (aG A)) = 0
      · rw [if_pos (by rw [z]; exact nI_0), if_pos z, if_pos z]
        exact Tp_some ⟨rfl, hF0, XRow_0⟩
      · rw [if_neg (nI_ne0 (by omega) (by omega)), if_neg z, if_neg z]
        obtain ⟨kx, hk1, hk2⟩ := th_ex hG.1 hG.2.1 z
        obtain ⟨q, hq1, hq2, hq3⟩ := fs_some (p := thP (aW A) o (gn (aG A))) (n := gn (aG A)) (j := 0) ⟨kx, by omega, hk1, hk2⟩
        rw [Nat.sub_zero] at hq1
        rw [hq1]
        refine loop_i (W := fun f j (_ : Unit) => Tp (X_threat_65 u f (pI s 0 48 0) (nI o) (nI (xoB (wl (aW A)) o (gn (aG A)))) (nI j)) _)
          (I := fun j _ => fs (thP (aW A) o (gn (aG A))) (gn (aG A) - j) j = some q) (gn (aG A)) ?_ ?_ u 0 () (by omega) (by omega) hq1
        · intro f _ hq
          rw [Nat.sub_self] at hq
          cases hq
        · intro f j _ hj hq ih
          have hlj := hl j hj
          have hbt := bt_lt o j
          have hxj : wl (aW A) j ^^^ xoB (wl (aW A)) o (gn (aG A)) < 2 ^ 7 := Nat.xor_lt_two_pow (by omega) (by omega)
          have e2 : gI (pI s 0 48 0) 2 j = nI (wl (aW A) j) := (X_env hX hF0).2.1 j hj
          rw [fs_s _ hj] at hq
          rw [X_threat_65_s]
          unfold X_threat_65b
          rw [X_has_n (by omega) (by omega), bd_some, nI_1]
          by_cases e : bt o j = 1
          · rw [e, if_neg (by decide), aI_n (by omega) (by omega), bd_some, bd_some, e2, nI_xor (by omega) (by omega)]
            by_cases e3 : wl (aW A) j ^^^ xoB (wl (aW A)) o (gn (aG A)) < wl (aW A) j
            · have hp : thP (aW A) o (gn (aG A)) j = true := by unfold thP; rw [decide_eq_true e, decide_eq_true e3]; rfl
              rw [if_pos hp] at hq
              cases hq
              rw [if_pos (nI_lt e3 (by omega))]
              refine TtP (X_tell' _ hF0 XRow_0 (Nat.le_of_ble_eq_true rfl)) (fun t3 h3 => ?_)
              have e23 : gI t3 2 q = nI (wl (aW A) q) := (X_env hX h3.1).2.1 q hj
              rw [aI_n (by omega) (by omega), bd_some, bd_some, e23, nI_xor (by omega) (by omega)]
              exact TtP (X_tell' _ h3.1 h3.2.1 (Nat.le_of_ble_eq_true rfl)) (fun t4 h4 => Tp_some ⟨rfl, h4.1, h4.2.1⟩)
            · have hp : thP (aW A) o (gn (aG A)) j = false := by unfold thP; rw [decide_eq_false e3, Bool.and_false]
              rw [hp] at hq
              simp only [Bool.false_eq_true, if_false] at hq
              rw [if_neg (nI_nlt (by omega) (by omega))]
              exact ih () hq
          · have e0 : bt o j = 0 := by omega
            have hp : thP (aW A) o (gn (aG A)) j = false := by unfold thP; rw [decide_eq_false e, Bool.false_and]
            rw [hp] at hq
            simp only [Bool.false_eq_true, if_false] at hq
            rw [e0, if_pos nI_0]
            exact ih () hq
    · intro f j _ hj _ ih
      have ih := ih () trivial
      have hxj := hxl j (by omega)
      have hbt := bt_lt o j
      have hlj := hl j hj
      rw [xoB_s] at ih
      rw [X_threat_14_s]
      unfold X_threat_14b
      rw [hX.1.2.1.1, if_neg (nI_ge hj (by omega)), X_has_n (by omega) (by omega), bd_some, nI_1]
      by_cases e : bt o j = 1
      · have e2 : gI s 2 j = nI (wl (aW A) j) := hX.2.1.1 j hj
        rw [if_pos e] at ih
        rw [e, if_neg (by decide), aI_n (by omega) (by omega), bd_some, lt_e, e2, nI_xor (by omega) (by omega)]
        exact ih
      · have e0 : bt o j = 0 := by omega
        rw [if_neg e] at ih
        rw [e0, if_pos nI_0, lt_e, nI_lit0, nI_xor (by omega) (by omega)]
        exact ih
  · unfold M_threat
    rw [lt_e, hall t ht, bd_some, M_in_eq, gd_e, if_pos (in_yes ho (by omega))]
    refine loop_i (W := fun f j (_ : Unit) => Tp (M_threat_23 u f (pI t 45 9 0) (nI o) (nI (xoB (wl (aW A)) o j)) (nI j)) _)
      (I := fun j _ => True) (gn (aG A)) ?_ ?_ u 0 () (by omega) (by omega) trivial
    · intro f _ _
      have hx := hxl (gn (aG A)) (Nat.le_refl _)
      have hF0 : Fr dMr t (pI (pI t 45 9 0) 45 8 0) := (Fr.pI M_th (by omega))
      rw [M_threat_23_s]
      unfold M_threat_23b
      rw [(M_env ht M_th).1.1.1.1, if_pos (nI_le (Nat.le_refl _) (by omega)), lt_e]
      by_cases z : xoB (wl (aW A)) o (gn (aG A)) = 0
      · rw [if_pos z, if_pos z, z]
        obtain ⟨w, ew⟩ : ∃ w, u = w + 1 := ⟨u - 1, by omega⟩
        rw [ew, M_threat_65_s]
        unfold M_threat_65b
        rw [(M_env ht hF0).1.1.1.1]
        by_cases z2 : gn (aG A) = 0
        · rw [if_pos (by rw [z2]; decide)]
          exact Tp_some ⟨rfl, hF0, MRw_0⟩
        · rw [if_neg (show ¬ nI (gn (aG A)) ≤ 0 from nI_nle (by omega) (by omega)), if_pos nI_0]
          exact Tp_some ⟨rfl, hF0, MRw_0⟩
      · rw [if_neg z, if_neg z]
        obtain ⟨kx, hk1, hk2⟩ := th_ex hG.1 hG.2.1 z
        obtain ⟨q, hq1, hq2, hq3⟩ := fs_some (p := thP (aW A) o (gn (aG A))) (n := gn (aG A)) (j := 0) ⟨kx, by omega, hk1, hk2⟩
        rw [Nat.sub_zero] at hq1
        rw [hq1]
        refine loop_i (W := fun f j (_ : Unit) => Tp (M_threat_65 u f (pI (pI t 45 9 0) 45 8 0) (nI o) (nI (xoB (wl (aW A)) o (gn (aG A)))) (nI j)) _)
          (I := fun j _ => fs (thP (aW A) o (gn (aG A))) (gn (aG A) - j) j = some q) (gn (aG A)) ?_ ?_ u 0 () (by omega) (by omega) hq1
        · intro f _ hq
          rw [Nat.sub_self] at hq
          cases hq
        · intro f j _ hj hq ih
          have hlj := hl j hj
          have hbt := bt_lt o j
          have hxj : wl (aW A) j ^^^ xoB (wl (aW A)) o (gn (aG A)) < 2 ^ 7 := Nat.xor_lt_two_pow (by omega) (by omega)
          have e2 : gI (pI (pI t 45 9 0) 45 8 0) 46 j = nI (wl (aW A) j) := (MW_row (M_env ht hF0).2).1 j hj
          rw [fs_s _ hj] at hq
          rw [M_threat_65_s]
          unfold M_threat_65b
          rw [(M_env ht hF0).1.1.1.1, if_neg (nI_ge hj (by omega)), if_neg (nI_ne0 (by omega) (by omega)), M_has_n (by omega) (by omega), bd_some, nI_1]
          by_cases e : bt o j = 1
          · rw [e, if_neg (by decide), aI_n (by omega) (by omega), bd_some, bd_some, e2, nI_xor (by omega) (by omega)]
            by_cases e3 : wl (aW A) j ^^^ xoB (wl (aW A)) o (gn (aG A)) < wl (aW A) j
            · have hp : thP (aW A) o (gn (aG A)) j = true := by unfold thP; rw [decide_eq_true e, decide_eq_true e3]; rfl
              rw [if_pos hp] at hq
              cases hq
              rw [if_pos (nI_lt e3 (by omega))]
              refine TtP (M_tell' _ hF0 MRw_0 (Nat.le_of_ble_eq_true rfl)) (fun t3 h3 => ?_)
              have e23 : gI t3 46 q = nI (wl (aW A) q) := (MW_row (M_env ht h3.1).2).1 q hj
              rw [aI_n (by omega) (by omega), bd_some, bd_some, e23, nI_xor (by omega) (by omega)]
              exact TtP (M_tell' _ h3.1 h3.2.1 (Nat.le_of_ble_eq_true rfl)) (fun t4 h4 => Tp_some ⟨rfl, h4.1, h4.2.1⟩)
            · have hp : thP (aW A) o (gn (aG A)) j = false := by unfold thP; rw [decide_eq_false e3, Bool.and_false]
              rw [hp] at hq
              simp only [Bool.false_eq_true, if_false] at hq
              rw [if_neg (nI_nlt (by omega) (by omega))]
              exact ih () hq
          · have e0 : bt o j = 0 := by omega
            have hp : thP (aW A) o (gn (aG A)) j = false := by unfold thP; rw [decide_eq_false e, Bool.false_and]
            rw [hp] at hq
            simp only [Bool.false_eq_true, if_false] at hq
            rw [e0, if_pos nI_0]
            exact ih () hq
    · intro f j _ hj _ ih
      have ih := ih () trivial
      have hxj := hxl j (by omega)
      have hbt := bt_lt o j
      have hlj := hl j hj
      rw [xoB_s] at ih
      rw [M_threat_23_s]
      unfold M_threat_23b
      rw [(M_env ht M_th).1.1.1.1, if_neg (nI_ge hj (by omega)), M_has_n (by omega) (by omega), bd_some, nI_1]
      by_cases e : bt o j = 1
      · rw [if_pos e] at ih
        rw [e, if_neg (by decide), aI_n (by omega) (by omega), bd_some, lt_e, (MW_row (M_env ht M_th).2).1 j hj, nI_xor (by omega) (by omega)]
        exact ih
      · have e0 : bt o j = 0 := by omega
        rw [if_neg e] at ih
        rw [e0, if_pos nI_0, lt_e, nI_lit0, nI_xor (by omega) (by omega)]
        exact ih
