/-! LAW: leaks, the operation -/
set_option maxRecDepth 100000
theorem fs_gen (p : Nat → Bool) (n j : Nat) : fs p (n + 1) j = match fs p n j with
    | some q => some q
    | none => if p (j + n) then some (j + n) else none := by
  induction n generalizing j with
  | zero =>
    show (if p j then some j else none) = _
    rfl
  | succ n ih =>
    show (if p j then some j else fs p (n + 1) (j + 1)) = match (if p j then some j else fs p n (j + 1)) with
      | some q => some q
      | none => if p (j + (n + 1)) then some (j + (n + 1)) else none
    by_cases e : p j = true
    · rw [if_pos e, if_pos e]
    · rw [if_neg e, if_neg e, ih (j + 1), show j + 1 + n = j + (n + 1) by omega]
theorem fs_snoc (p : Nat → Bool) (n : Nat) : fs p (n + 1) 0 = match fs p n 0 with
    | some q => some q
    | none => if p n then some n else none := by
  have := fs_gen p n 0
  rw [Nat.zero_add] at this
  exact this
theorem fs_keep {p : Nat → Bool} {n m q : Nat} (h : fs p n 0 = some q) (hm : n ≤ m) : fs p m 0 = some q := by
  induction m with
  | zero =>
    have : n = 0 := by omega
    subst this
    exact h
  | succ m ih =>
    by_cases e : n = m + 1
    · subst e
      exact h
    · rw [fs_snoc, ih (by omega)]
def ftJ (A : AS) (j : Nat) : Bool := alB (rgO (lkJ (aG A) (aRu A) (aW A) j) (aRg A)) (aRg A).length
def ctJ (A : AS) (n : Nat) : Nat := sm (fun j => if ftJ A j then 1 else 0) n
theorem ctJ_s (A : AS) (n : Nat) : ctJ A (n + 1) = ctJ A n + (if ftJ A n then 1 else 0) := rfl
theorem ctJ_le (A : AS) (n : Nat) : ctJ A n ≤ n := by
  have : ctJ A n ≤ n * 1 := sm_le (fun k _ => by split <;> omega)
  omega
theorem ctJ_fs (A : AS) (n : Nat) : ctJ A n = 0 ↔ fs (ftJ A) n 0 = none := by
  induction n with
  | zero => exact ⟨fun _ => rfl, fun _ => rfl⟩
  | succ n ih =>
    rw [ctJ_s, fs_snoc]
    cases hf : fs (ftJ A) n 0 with
    | some q =>
      have hn : ctJ A n ≠ 0 := fun h => by rw [ih.mp h] at hf; cases hf
      exact ⟨fun h => by omega, fun h => by cases h⟩
    | none =>
      have h0 := ih.mpr hf
      cases hp : ftJ A n with
      | true => exact ⟨fun h => by rw [if_pos rfl] at h; omega, fun h => by simp at h⟩
      | false => exact ⟨fun _ => by simp, fun _ => by rw [h0]; simp⟩
def rrJ (o : Option Nat) : List Int64 := match o with
  | none => []
  | some j => [(nI (j / 9)).toInt64, (nI (1 + j % 9)).toInt64]
def b54 (A : AS) : Int64 := if ftJ A 54 then 1 else 0
theorem X_leaksAll {u c : Nat} {s : Sg} {A : AS} (hu : 20000 ≤ u) (hX : XI A s) (hG : GI c A) : Tp (X_laysLeaks u s) (fun v t => v = nI (ctJ A (gn (aG A) * 9)) ∧ Fr dSX s t ∧ ∀ j, j < gn (aG A) * 9 → (∀ k d, k < gn (aG A) → d < 21 → gI t 35 ((j * 6 + k) * 21 + d) = nI (wl (lkJ (aG A) (aRu A) (aW A) j d) k)) ∧ gI t 34 j = bI (ftJ A j)) := by
  have h6 := hG.1.1
  unfold X_laysLeaks
  refine loop_i (W := fun w j t => Tp (X_laysLeaks_4 u w t (nI (ctJ A j)) (nI j)) _)
    (I := fun j t => Fr dSX s t ∧ ∀ j', j' < j → (∀ k d, k < gn (aG A) → d < 21 → gI t 35 ((j' * 6 + k) * 21 + d) = nI (wl (lkJ (aG A) (aRu A) (aW A) j' d) k)) ∧ gI t 34 j' = bI (ftJ A j')) (gn (aG A) * 9) ?_ ?_ u 0 s (by omega) (by omega) ⟨Fr.refl _ _, fun j' h => absurd h (Nat.not_lt_zero _)⟩
  · intro w t ⟨f, h⟩
    rw [X_laysLeaks_4_s]
    unfold X_laysLeaks_4b
    rw [(X_env hX (f.mono (fun i k => dSX_Xr))).1.2.1.1, show (9 : Int32) = nI 9 from rfl, pk_mul, if_pos (nI_le (Nat.le_refl _) (by omega))]
    exact Tp_some ⟨rfl, f, h⟩
  · intro w j t hj ⟨f, h⟩ ih
    rw [ctJ_s] at ih
    rw [X_laysLeaks_4_s]
    unfold X_laysLeaks_4b
    rw [(X_env hX (f.mono (fun i k => dSX_Xr))).1.2.1.1, show (9 : Int32) = nI 9 from rfl, pk_mul, if_neg (nI_ge hj (by omega))]
    refine TtP (X_lays_ok hu hX hG (by omega) f) (fun t2 h2 => ?_)
    obtain ⟨f2, hl, hx, hf, hy⟩ := h2
    have hf2 : gI t2 34 j = bI (ftJ A j) := by rw [hf, ftF_al]; rfl
    have hI : Fr dSX s t2 ∧ ∀ j', j' < j + 1 → (∀ k d, k < gn (aG A) → d < 21 → gI t2 35 ((j' * 6 + k) * 21 + d) = nI (wl (lkJ (aG A) (aRu A) (aW A) j' d) k)) ∧ gI t2 34 j' = bI (ftJ A j') := ⟨f2, fun j' hj' => by
      by_cases e : j' = j
      · subst e
        exact ⟨hl, hf2⟩
      · refine ⟨fun k d hk hd => (hx _ (by omega)).trans ((h j' (by omega)).1 k d hk hd), (hy j' e).trans (h j' (by omega)).2⟩⟩
    rw [aI_n (by omega) (by omega), bd_some, hf2, nI_1]
    cases hp : ftJ A j with
    | false =>
      rw [hp] at ih
      simp only [Bool.false_eq_true, if_false] at ih
      rw [if_pos (show bI false = 0 from rfl), lt_e, nI_lit0, nI_add]
      exact ih t2 hI
    | true =>
      rw [hp, if_pos rfl] at ih
      rw [if_neg (by decide), lt_e, nI_1]
      exact ih t2 hI
theorem X_leaks_ok {u c : Nat} {s : Sg} {A : AS} (hu : 20000 ≤ u) (hX : XI A s) (hG : GI c A) : Tp (X_leaks u s) (fun v t => v = nI (ctJ A (gn (aG A) * 9)) ∧ Fr dXr s t ∧ XRow (b54 A :: rrJ (fs (ftJ A) (gn (aG A) * 9) 0)) t) := by
  have h6 := hG.1.1
  unfold X_leaks
  refine TpP (X_leaksAll hu hX hG) (fun v t1 h1 => ?_)
  obtain ⟨hv, f1, hall⟩ := h1
  subst hv
  refine TtP (X_lays_ok (j := 54) hu hX hG (by omega) f1) (fun t2 h2 => ?_)
  obtain ⟨f2, _, hx, hf, hy⟩ := h2
  have hf2 : gI t2 34 54 = bI (ftJ A 54) := by rw [hf, ftF_al]; rfl
  have hfit : ∀ j, j < gn (aG A) * 9 → gI t2 34 j = bI (ftJ A j) := fun j hj => (hy j (by omega)).trans (hall j hj).2
  have l54 : aI (pI t2 0 48 0) 34 55 54 = some (gI (pI t2 0 48 0) 34 54) := aI_n (k := 54) (by omega) (by omega)
  have hF2 : Fr dXr s t2 := f2.mono (fun i k => dSX_Xr)
  rw [lt_e, l54, bd_some, gI_pI_i (by decide), hf2]
  have hgo : Tp (X_leaks_32 u (pI t2 0 48 0) (nI (ctJ A (gn (aG A) * 9))) (b54 A)) (fun v t => v = nI (ctJ A (gn (aG A) * 9)) ∧ Fr dXr s t ∧ XRow (b54 A :: rrJ (fs (ftJ A) (gn (aG A) * 9) 0)) t) := by
    unfold X_leaks_32
    refine TtP (X_tell' _ (hF2.pI (by omega)) XRow_0 (Nat.le_of_ble_eq_true rfl)) (fun t3 h3 => ?_)
    obtain ⟨f3, hr3, hi3⟩ := h3
    refine loop_i (W := fun w j t => Tp (X_leaks_37 u w t (nI (ctJ A (gn (aG A) * 9))) (nI j)) _)
      (I := fun j t => Fr dXr s t ∧ XRow (b54 A :: rrJ (fs (ftJ A) j 0)) t ∧ ∀ x, gI t 34 x = gI t2 34 x) (gn (aG A) * 9) ?_ ?_ u 0 t3 (by omega) (by omega) ⟨f3, hr3, fun x => (hi3 34 x (by decide) (by decide)).trans (gI_pI_i (by decide))⟩
    · intro w t ⟨f, hr, hi⟩
      rw [X_leaks_37_s]
      unfold X_leaks_37b
      rw [(X_env hX f).1.2.1.1, show (9 : Int32) = nI 9 from rfl, pk_mul, if_pos (nI_le (Nat.le_refl _) (by omega))]
      exact Tp_some ⟨rfl, f, hr⟩
    · intro w j t hj ⟨f, hr, hi⟩ ih
      rw [fs_snoc] at ih
      rw [X_leaks_37_s]
      unfold X_leaks_37b
      rw [(X_env hX f).1.2.1.1, show (9 : Int32) = nI 9 from rfl, pk_mul, if_neg (nI_ge hj (by omega)), hr.1]
      cases hq : fs (ftJ A) j 0 with
      | some q =>
        rw [hq] at hr
        rw [if_neg (show ¬ nI (b54 A :: rrJ (some q)).length = 1 by show ¬ nI 3 = 1; decide)]
        refine Tp_some ⟨rfl, f, ?_⟩
        rw [fs_keep hq (by omega)]
        exact hr
      | none =>
        rw [hq] at hr ih
        rw [if_pos (show nI (b54 A :: rrJ none).length = 1 by show nI 1 = 1; decide), aI_n (by omega) (by omega), bd_some, hi j, hfit j hj, nI_1]
        cases hp : ftJ A j with
        | false =>
          rw [hp] at ih
          simp only [Bool.false_eq_true, if_false] at ih
          rw [if_pos (show bI false = 0 from rfl)]
          exact ih t ⟨f, hr, hi⟩
        | true =>
          rw [hp] at ih
          simp only [if_true] at ih
          rw [if_neg (by decide), pk_div (by omega) (by omega) (by omega), ← pk_div (a := j) (d := 9) (by omega) (by omega) (by omega), pk_rem (by omega) (by omega) (by omega), pk_div (by omega) (by omega) (by omega), nI_lit1, nI_add]
          refine TtP (X_tell' _ f hr (Nat.le_of_ble_eq_true rfl)) (fun t5 h5 => TtP (X_tell' _ h5.1 h5.2.1 (Nat.le_of_ble_eq_true rfl)) (fun t6 h6' => ih t6 ⟨h6'.1, h6'.2.1, fun x => (h6'.2.2 34 x (by decide) (by decide)).trans ((h5.2.2 34 x (by decide) (by decide)).trans (hi x))⟩))
  unfold b54 at hgo
  unfold b54
  cases hp : ftJ A 54 with
  | false =>
    rw [hp] at hgo
    rw [if_pos (show bI false = 0 from rfl)]
    exact hgo
  | true =>
    rw [hp] at hgo
    rw [if_neg (by decide)]
    exact hgo
