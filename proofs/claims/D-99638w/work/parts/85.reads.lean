/-! LAW: reads (the class) -/
set_option maxRecDepth 100000
def lvJ (A : AS) (j k d : Nat) : Nat := wl (lkJ (aG A) (aRu A) (aW A) j d) k
theorem lvJ_le {A : AS} {c : Nat} (hG : GI c A) {j k d : Nat} (hk : k < gn (aG A)) : lvJ A j k d ≤ 99 := lev99 hG.1 (lkW_good hG.2.1 d) hk
/-- how many of the first N leaks fit and make that level -/
def cnR (A : AS) (k d N v : Nat) : Nat := sm (fun j => if ftJ A j && decide (lvJ A j k d = v) then 1 else 0) N
theorem cnR_s (A : AS) (k d N v : Nat) : cnR A k d (N + 1) v = cnR A k d N v + (if ftJ A N && decide (lvJ A N k d = v) then 1 else 0) := rfl
theorem cnR_le (A : AS) (k d N v : Nat) : cnR A k d N v ≤ N := by
  have : cnR A k d N v ≤ N * 1 := sm_le (fun k _ => by split <;> omega)
  omega
def mxV (f : Nat → Nat) (n : Nat) : Nat := fo (fun v a => max a (f v)) n 0
theorem mxV_s (f : Nat → Nat) (n : Nat) : mxV f (n + 1) = max (mxV f n) (f n) := by unfold mxV; rw [fo_s]
theorem mxV_congr {f g : Nat → Nat} {n : Nat} (h : ∀ v, v < n → f v = g v) : mxV f n = mxV g n := by
  induction n with
  | zero => rfl
  | succ n ih => rw [mxV_s, mxV_s, ih (fun v hv => h v (by omega)), h n (by omega)]
theorem mxV_0 {f : Nat → Nat} {n : Nat} (h : ∀ v, v < n → f v = 0) : mxV f n = 0 := by
  induction n with
  | zero => rfl
  | succ n ih => rw [mxV_s, ih (fun v hv => h v (by omega)), h n (by omega)]; rfl
theorem mxV_le {f : Nat → Nat} {n c : Nat} (h : ∀ v, v < n → f v ≤ c) : mxV f n ≤ c := by
  induction n with
  | zero => exact Nat.zero_le _
  | succ n ih =>
    have h1 := ih (fun v hv => h v (by omega))
    have h2 := h n (by omega)
    rw [mxV_s]
    omega
theorem mxV_up {f : Nat → Nat} {n w : Nat} (hw : w < n) : mxV (fun v => f v + (if v = w then 1 else 0)) n = max (mxV f n) (f w + 1) := by
  induction n with
  | zero => omega
  | succ n ih =>
    rw [mxV_s, mxV_s]
    by_cases e : n = w
    · subst e
      rw [if_pos rfl, mxV_congr (g := f) (fun v hv => by rw [if_neg (by omega)]; rfl)]
      omega
    · rw [ih (by omega), if_neg e]
      omega
def moR (A : AS) (k d N : Nat) : Nat := mxV (cnR A k d N) 100
theorem moR_le (A : AS) (k d N : Nat) : moR A k d N ≤ N := mxV_le (fun v _ => cnR_le A k d N v)
theorem moR_s {A : AS} {c : Nat} (hG : GI c A) {k d N : Nat} (hk : k < gn (aG A)) : moR A k d (N + 1) = if ftJ A N then max (moR A k d N) (cnR A k d N (lvJ A N k d) + 1) else moR A k d N := by
  have hl := lvJ_le hG (j := N) (d := d) hk
  unfold moR
  cases hf : ftJ A N with
  | true =>
    rw [if_pos rfl, ← mxV_up (f := cnR A k d N) (w := lvJ A N k d) (n := 100) (by omega)]
    refine mxV_congr (fun v _ => ?_)
    rw [cnR_s, hf, Bool.true_and]
    by_cases e : lvJ A N k d = v
    · rw [decide_eq_true e, if_pos rfl, if_pos e.symm]
    · rw [decide_eq_false e, if_neg (by decide), if_neg (fun h => e h.symm)]
  | false =>
    rw [if_neg (by decide)]
    refine mxV_congr (fun v _ => ?_)
    rw [cnR_s, hf, Bool.false_and, if_neg (by decide)]
    rfl
theorem X_alike_ok {u c k d : Nat} {s t : Sg} {A : AS} (hu : 20000 ≤ u) (hX : XI A s) (hG : GI c A) (f : Fr dSX s t) (hk : k < gn (aG A)) (hd : d < 21) (hall : ∀ j, j < gn (aG A) * 9 → (∀ k d, k < gn (aG A) → d < 21 → gI t 35 ((j * 6 + k) * 21 + d) = nI (lvJ A j k d)) ∧ gI t 34 j = bI (ftJ A j)) : Tp (X_mostAlike u t (nI k) (nI d)) (fun v t' => v = nI (moR A k d (gn (aG A) * 9)) ∧ Fr (fun i _ => i = 36) t t') := by
  have h6 := hG.1.1
  unfold X_mostAlike
  refine loop_i (W := fun w v t' => Tp (X_mostAlike_2 u w t' (nI k) (nI d) (nI v)) _)
    (I := fun v t' => Fr (fun i _ => i = 36) t t' ∧ ∀ x, x < v → gI t' 36 x = nI 0) 100 ?_ ?_ u 0 t (by omega) (by omega) ⟨Fr.refl _ _, fun x hx => absurd hx (Nat.not_lt_zero _)⟩
  · intro w t1 ⟨f1, h1⟩
    rw [X_mostAlike_2_s]
    unfold X_mostAlike_2b
    rw [if_pos (by decide)]
    have m0 : moR A k d 0 = 0 := mxV_0 (fun v _ => rfl)
    have key := loop_i (W := fun w j t' => Tp (X_mostAlike_26 u w t' (nI k) (nI d) (nI (moR A k d j)) (nI j)) (fun v t' => v = nI (moR A k d (gn (aG A) * 9)) ∧ Fr (fun i _ => i = 36) t t'))
      (I := fun j t' => Fr (fun i _ => i = 36) t t' ∧ ∀ x, x < 100 → gI t' 36 x = nI (cnR A k d j x)) (gn (aG A) * 9) ?_ ?_ u 0 t1 (by omega) (by omega) ⟨f1, fun x hx => h1 x hx⟩
    · rw [m0] at key
      exact key
    · intro w t2 ⟨f2, h2⟩
      have e5 : gI t2 0 5 = nI (gn (aG A)) := (f2.I (by omega)).trans (X_env hX (f.mono (fun i k => dSX_Xr))).1.2.1.1
      rw [X_mostAlike_26_s]
      unfold X_mostAlike_26b
      rw [e5, show (9 : Int32) = nI 9 from rfl, pk_mul, if_pos (nI_le (Nat.le_refl _) (by omega))]
      exact Tp_some ⟨rfl, f2⟩
    · intro w j t2 hj ⟨f2, h2⟩ ih
      have e5 : gI t2 0 5 = nI (gn (aG A)) := (f2.I (by omega)).trans (X_env hX (f.mono (fun i k => dSX_Xr))).1.2.1.1
      have e34 : gI t2 34 j = bI (ftJ A j) := (f2.I (by omega)).trans (hall j hj).2
      have e35 : gI t2 35 ((j * 6 + k) * 21 + d) = nI (lvJ A j k d) := (f2.I (by omega)).trans ((hall j hj).1 k d hk hd)
      have hl := lvJ_le hG (j := j) (d := d) hk
      have hcl := cnR_le A k d j (lvJ A j k d)
      have hml := moR_le A k d j
      rw [moR_s hG hk] at ih
      rw [X_mostAlike_26_s]
      unfold X_mostAlike_26b
      rw [e5, show (9 : Int32) = nI 9 from rfl, pk_mul, if_neg (nI_ge hj (by omega)), aI_n (by omega) (by omega), bd_some, e34, nI_1]
      cases hp : ftJ A j with
      | false =>
        rw [hp] at ih
        simp only [Bool.false_eq_true, if_false] at ih
        rw [if_pos (show bI false = 0 from rfl)]
        refine ih t2 ⟨f2, fun x hx => ?_⟩
        rw [cnR_s, hp, Bool.false_and, if_neg (by decide)]
        exact h2 x hx
      | true =>
        rw [hp, if_pos rfl] at ih
        rw [if_neg (by decide), place_e, bd_some, aI_n (by omega) (by omega), bd_some, e35, aI_n (by omega) (by omega), bd_some, h2 _ (by omega), nI_1, tI_n (by omega) (by omega), bd_some, aI_n (by omega) (by omega), bd_some, gI_pI_s, lt_e, nI_mx (by omega) (by omega)]
        refine ih _ ⟨f2.pI rfl, fun x hx => ?_⟩
        rw [cnR_s, hp, Bool.true_and]
        by_cases e : x = lvJ A j k d
        · subst e
          rw [gI_pI_s, decide_eq_true rfl, if_pos rfl]
        · rw [gI_pI_k e, decide_eq_false (fun h => e h.symm), if_neg (by decide)]
          exact h2 x hx
  · intro w v t1 hv ⟨f1, h1⟩ ih
    rw [X_mostAlike_2_s]
    unfold X_mostAlike_2b
    rw [show (99 : Int32) = nI 99 from rfl, if_neg (nI_nlt (by omega) (by omega)), tI_n (by omega) (by omega), bd_some, nI_1]
    refine ih _ ⟨f1.pI rfl, fun x hx => ?_⟩
    by_cases e : x = v
    · subst e
      exact gI_pI_s
    · exact (gI_pI_k e).trans (h1 x (by omega))
