/-! LAW: lakes, all of them read -/
set_option maxRecDepth 100000
/-- q lakes stand there and one more is looked for; of that one i checks pass -/
def LKS (f : Nat → Nat) (e nl q i : Nat) : Prop := (∀ j, j < q → (∀ k, k < 6 → ckL f e (nl + j) (7 * j) k) ∧ 7 * j + 6 < e ∧ f (7 * j + 6) = 59) ∧ nl + q ≤ 6 ∧ i ≤ 6 ∧ (∀ k, k < i → ckL f e (nl + q) (7 * q) k) ∧ (i = 6 ∨ ¬ ckL f e (nl + q) (7 * q) i) ∧ (i = 6 → ¬ (7 * q + 6 < e ∧ f (7 * q + 6) = 59)) ∧ ∀ j, j ≤ q → 7 * j ≤ e
theorem LKS_ex (f : Nat → Nat) (e nl : Nat) (hnl : nl ≤ 6) : ∃ q i, LKS f e nl q i := by
  obtain ⟨q, hq7, hP, hend⟩ := first_out (fun j => (∀ k, k < 6 → ckL f e (nl + j) (7 * j) k) ∧ 7 * j + 6 < e ∧ f (7 * j + 6) = 59) 7
  have hP : ∀ j, j < q → (∀ k, k < 6 → ckL f e (nl + j) (7 * j) k) ∧ 7 * j + 6 < e ∧ f (7 * j + 6) = 59 := hP
  obtain ⟨i, hi6, hI, hiend⟩ := first_out (fun k => ckL f e (nl + q) (7 * q) k) 6
  have hle : ∀ j, j ≤ q → nl + j ≤ 6 := by
    intro j
    induction j with
    | zero => intro _; omega
    | succ j ih =>
      intro hj
      have h1 := ih (by omega)
      have h2 := ((hP j (by omega)).1 0 (by omega)).1
      omega
  have hqq := hle q (Nat.le_refl _)
  refine ⟨q, i, hP, hqq, hi6, hI, hiend, fun h6 hm => ?_, fun j hj => ?_⟩
  · subst h6
    rcases hend with h | h
    · omega
    · exact h ⟨hI, hm⟩
  · by_cases e0 : j = 0
    · omega
    · have := (hP (j - 1) (by omega)).2.1
      omega
theorem XLk.mv {f : Nat → Nat} {p j : Nat} {s t : Sg} (h : XLk f p j s) (e : ∀ a, 15 ≤ a → a ≤ 19 → gI t a j = gI s a j) : XLk f p j t := ⟨(e _ (by omega) (by omega)).trans h.1, (e _ (by omega) (by omega)).trans h.2.1, (e _ (by omega) (by omega)).trans h.2.2.1, (e _ (by omega) (by omega)).trans h.2.2.2.1, (e _ (by omega) (by omega)).trans h.2.2.2.2⟩
theorem MLk.mv {f : Nat → Nat} {p j : Nat} {s t : Sg} (h : MLk f p j s) (e : ∀ k, k < 5 * j + 5 → gI t 52 k = gI s 52 k) : MLk f p j t := ⟨(e _ (by omega)).trans h.1, (e _ (by omega)).trans h.2.1, (e _ (by omega)).trans h.2.2.1, (e _ (by omega)).trans h.2.2.2.1, (e _ (by omega)).trans h.2.2.2.2⟩
theorem lk_Xg {u c : Nat} {s : Sg} {A : AS} {n e q i : Nat} {f : Nat → Nat} (hu : 20000 ≤ u) (hX : XI A s) (hG : GI c A) (hnf : aT A = (n, f)) (hn80 : n ≤ 80) (hn0 : n ≠ 0) (he : e = min n 41) (hL : LKS f e (gn (aG A)) q i) (Q : Int32 → Sg → Prop) (hQ : ∀ t, Fa dXd s t → gC t ≤ gC s + 20 → gZ t ≤ gZ s + 100 → gI t 0 8 = nI 0 → XRow (aRow A) t → XRd f e (7 * q + i) t → (i = 6 → gI t 0 17 = nI (q + 1) ∧ ∀ j, j ≤ q → XLk f (7 * j) j t) → Tp ((X_faultOf t (nI n) (if i < 6 then 0 else 1)).bind fun v1 => if 0 ≤ v1 then X_lakes_72 u u t 0 else some (v1, t)) Q) : Tp (X_lakes u s) Q := by
  have h6 := hG.1.1
  have h73 := hX.1.1.1
  obtain ⟨hP, hnq, hi6, hI, hiend, hmo, h7⟩ := hL
  unfold X_lakes
  refine TpP (X_begins_ok (m := 41) hX hG (by omega) rfl) (fun v t1 ⟨e1, f1, r1, g8, g11⟩ => ?_)
  rw [hnf, show min (n, f).1 41 = e from he.symm] at r1
  rw [hnf] at e1
  rw [e1, if_neg (nI_ne0 (by show 0 < n; omega) (by show n < 2 ^ 31; omega)), lt_e]
  have hrow : XRow (aRow A) (pI t1 0 17 0) := hX.2.2.1.mv ((gI_pI_k (by omega)).trans (f1.I (by omega))) (fun k => f1.J (by omega))
  refine loop_i (W := fun w k t => Tp (X_lakes_22 u w t (nI n) (if k = q + 1 ∧ i < 6 then 0 else 1) (if k = q + 1 then 0 else 1)) Q)
    (I := fun k t => Fa dXd s t ∧ gC t ≤ gC s + 2 * k ∧ gZ t ≤ gZ s + 10 * k ∧ gI t 0 8 = nI 0 ∧ XRow (aRow A) t ∧ ((k ≤ q ∧ XRd f e (7 * k) t ∧ gI t 0 17 = nI k ∧ ∀ j, j < k → XLk f (7 * j) j t) ∨ (k = q + 1 ∧ XRd f e (7 * q + i) t ∧ (i = 6 → gI t 0 17 = nI (q + 1) ∧ ∀ j, j ≤ q → XLk f (7 * j) j t)))) (q + 1) ?_ ?_ u 0 (pI t1 0 17 0) (by omega) (by omega) ⟨((f1.mono (fun i k h => by omega)).pI (by omega)).fa, Nat.le_of_eq f1.C, Nat.le_of_eq f1.Z, (gI_pI_k (by omega)).trans g8, hrow, Or.inl ⟨Nat.zero_le _, r1.mv (gI_pI_k (by omega)) (gI_pI_k (by omega)) (fun k => gI_pI_i (by omega)), gI_pI_s, fun j hj => absurd hj (Nat.not_lt_zero _)⟩⟩
  · intro w t ⟨f2, c2, z2, i8, w2, h2⟩
    rcases h2 with ⟨h, _⟩ | ⟨_, r2, d2⟩
    · omega
    · have ei : (if q + 1 = q + 1 ∧ i < 6 then (0 : Int32) else 1) = if i < 6 then 0 else 1 := by
        by_cases q6 : i < 6
        · rw [if_pos ⟨rfl, q6⟩, if_pos q6]
        · rw [if_neg (fun h => q6 h.2), if_neg q6]
      rw [if_pos (rfl : q + 1 = q + 1), ei, X_lakes_22_s]
      unfold X_lakes_22b
      rw [if_pos rfl]
      exact hQ t f2 (by omega) (by omega) i8 w2 r2 d2
  · intro w k t hk ⟨f2, c2, z2, i8, w2, h2⟩ ih
    rcases h2 with ⟨hkq, r2, e17, l2⟩ | ⟨h, _⟩
    rotate_left
    · omega
    have hN2 := f2.N
    have e5 : gI t 0 5 = nI (gn (aG A)) := (f2.I (by omega) (by omega)).trans hX.1.2.1.1
    rw [if_neg (by omega), if_neg (by omega), X_lakes_22_s]
    unfold X_lakes_22b X_lakes_48
    rw [if_neg (by decide)]
    by_cases hkq2 : k = q
    · subst hkq2
      refine TpP (X_readsLake_ok (i := i) hu (by omega) r2 e5 e17 hnq hi6 hI hiend) (fun v t2 ⟨f3, c3, z3, o3, h3⟩ => ?_)
      have f4 : Fa dXd s t2 := f2.trans (f3.mono (fun i k h => by omega))
      have i84 : gI t2 0 8 = nI 0 := (f3.I (by omega) (by omega)).trans i8
      have w4 : XRow (aRow A) t2 := w2.mv (f3.I (by omega) (by omega)) (fun k => f3.J (by omega) (by omega))
      have l4 : ∀ j, j < k → XLk f (7 * j) j t2 := fun j hj => (l2 j hj).mv (fun a h1 h2 => o3 a j h1 h2 hj)
      rcases h3 with ⟨hi, hv, r3, e3, x3⟩ | ⟨hi, hv, r3⟩
      · subst hi
        have hN3 := f3.N
        rw [hv, if_neg (by decide)]
        refine TpP (X_takes_ok (ch := 59) r3 rfl (by omega)) (fun v5 t3 ⟨f5, h5⟩ => ?_)
        rcases h5 with ⟨p5, q5, _⟩ | ⟨_, hv5, r5⟩
        · exact absurd ⟨p5, q5⟩ (hmo rfl)
        · rw [hv5, if_pos rfl]
          have := ih t3 ⟨f4.trans (f5.mono (fun i k h => by omega)).fa, by rw [f5.C]; omega, by rw [f5.Z]; omega, (f5.I (by omega)).trans i84, w4.mv (f5.I (by omega)) (fun k => f5.J (by omega)), Or.inr ⟨rfl, r5, fun _ => ⟨(f5.I (by omega)).trans e3, fun j hj => by
            by_cases hjk : j = k
            · subst hjk; exact x3.mv (fun a h1 h2 => f5.I (by omega))
            · exact (l4 j (by omega)).mv (fun a h1 h2 => f5.I (by omega))⟩⟩⟩
          rw [if_neg (by omega), if_pos rfl] at this
          exact this
      · rw [hv, if_pos rfl]
        have := ih t2 ⟨f4, by omega, by omega, i84, w4, Or.inr ⟨rfl, r3, fun h => by omega⟩⟩
        rw [if_pos ⟨rfl, hi⟩, if_pos rfl] at this
        exact this
    · obtain ⟨ha, hb, hc⟩ := hP k (by omega)
      refine TpP (X_readsLake_ok (i := 6) hu (by omega) r2 e5 e17 (by omega) (by omega) ha (Or.inl rfl)) (fun v t2 ⟨f3, c3, z3, o3, h3⟩ => ?_)
      have f4 : Fa dXd s t2 := f2.trans (f3.mono (fun i k h => by omega))
      have i84 : gI t2 0 8 = nI 0 := (f3.I (by omega) (by omega)).trans i8
      have w4 : XRow (aRow A) t2 := w2.mv (f3.I (by omega) (by omega)) (fun k => f3.J (by omega) (by omega))
      have l4 : ∀ j, j < k → XLk f (7 * j) j t2 := fun j hj => (l2 j hj).mv (fun a h1 h2 => o3 a j h1 h2 hj)
      rcases h3 with ⟨_, hv, r3, e3, x3⟩ | ⟨hi, _⟩
      · have hN3 := f3.N
        rw [hv, if_neg (by decide)]
        refine TpP (X_takes_ok (ch := 59) r3 rfl (by omega)) (fun v5 t3 ⟨f5, h5⟩ => ?_)
        rcases h5 with ⟨p5, q5, hv5, r5⟩ | ⟨hn, _⟩
        · rw [hv5, if_neg (by decide)]
          have := ih t3 ⟨f4.trans (f5.mono (fun i k h => by omega)).fa, by rw [f5.C]; omega, by rw [f5.Z]; omega, (f5.I (by omega)).trans i84, w4.mv (f5.I (by omega)) (fun k => f5.J (by omega)), Or.inl ⟨by omega, r5, (f5.I (by omega)).trans e3, fun j hj => by
            by_cases hjk : j = k
            · subst hjk; exact x3.mv (fun a h1 h2 => f5.I (by omega))
            · exact (l4 j (by omega)).mv (fun a h1 h2 => f5.I (by omega))⟩⟩
          rw [if_neg (by omega), if_neg (by omega)] at this
          exact this
        · exact absurd ⟨hb, hc⟩ hn
      · omega
theorem lk_Mg {u c : Nat} {t : Sg} {A : AS} {n e q i : Nat} {f : Nat → Nat} (hu : 20000 ≤ u) (ht : MI u A t) (hG : GI c A) (hnf : aT A = (n, f)) (hn80 : n ≤ 80) (hn0 : n ≠ 0) (he : e = min n 41) (hL : LKS f e (gn (aG A)) q i) (Q : Int32 → Sg → Prop) (hQ : ∀ t' p w, Fr dMd t t' → gI t' 45 6 = nI 0 → MRw (aRow A) t' → MRd 50 f n 41 p w t' → ((i = 6 ∧ w = none ∧ p = 7 * q + 6) ∨ (i < 6 ∧ w = some (7 * q + i))) → (i = 6 → ∀ j, j ≤ q → MLk f (7 * j) j t') → Tp (M_lakes_75 u t' (nI (q + 1))) Q) : Tp (M_lakes u t) Q := by
  have h6 := hG.1.1
  obtain ⟨hP, hnq, hi6, hI, hiend, hmo, h7⟩ := hL
  have hth := MI_th ht
  unfold M_lakes
  rw [lt_e]
  refine TtP (M_beginText_ok (m := 41) hth.2.2.2.2.2.2.1 hG (by omega) rfl) (fun t1 ⟨f1, r1, g6⟩ => ?_)
  rw [hnf] at r1
  have hrow : MRw (aRow A) t1 := ht.2.2.1.mv ((f1.I (by omega)).trans (gI_pI_k (by omega))) (fun k => f1.J (by omega))
  rw [r1.2.1, if_neg (nI_ne0 (by show 0 < n; omega) (by show n < 2 ^ 31; omega))]
  refine loop_i (W := fun w k t' => Tp (M_lakes_24 u w t' (nI k) (if k = q + 1 then 0 else 1)) Q)
    (I := fun k t' => Fr dMd t t' ∧ gI t' 45 6 = nI 0 ∧ MRw (aRow A) t' ∧ ((k ≤ q ∧ MRd 50 f n 41 (7 * k) none t' ∧ ∀ j, j < k → MLk f (7 * j) j t') ∨ (k = q + 1 ∧ (∃ p w, MRd 50 f n 41 p w t' ∧ ((i = 6 ∧ w = none ∧ p = 7 * q + 6) ∨ (i < 6 ∧ w = some (7 * q + i)))) ∧ (i = 6 → ∀ j, j ≤ q → MLk f (7 * j) j t')))) (q + 1) ?_ ?_ u 0 t1 (by omega) (by omega) ⟨((Fr.refl _ _).pI (by omega)).trans (f1.mono (fun i k h => by omega)), g6, hrow, Or.inl ⟨Nat.zero_le _, r1, fun j hj => absurd hj (Nat.not_lt_zero _)⟩⟩
  · intro w t2 ⟨f2, i6, w2, h2⟩
    rcases h2 with ⟨h, _⟩ | ⟨_, ⟨p, w', r2, hw⟩, l2⟩
    · omega
    · rw [if_pos rfl, M_lakes_24_s]
      unfold M_lakes_24b
      rw [if_pos rfl]
      exact hQ t2 p w' f2 i6 w2 r2 hw l2
  · intro w k t2 hk ⟨f2, i6, w2, h2⟩ ih
    rcases h2 with ⟨hkq, r2, l2⟩ | ⟨h, _⟩
    rotate_left
    · omega
    have e1 : gI t2 45 1 = nI (gn (aG A)) := (f2.I (by omega)).trans ht.1.1.1.1
    rw [if_neg (by omega), M_lakes_24_s]
    unfold M_lakes_24b M_lakes_62
    rw [if_neg (by decide), M_fine_y r2, bd_some, if_neg (by decide), e1, nI_add]
    rw [he] at hI hiend
    -- a fault: it is the last
    have hflt : ∀ t3 p', k = q → i < 6 → MRd 50 f n 41 p' (some (7 * q + i)) t3 → Fr dMd t t3 → gI t3 45 6 = nI 0 → MRw (aRow A) t3 → Tp (b2 (M_passes t3 59) fun v1 s2 => M_lakes_24 u w s2 (nI k + 1) v1) Q := by
      intro t3 p' hkq2 hi r3 f3 i63 w3
      rw [M_passes_n r3, b2_some, nI_1]
      have := ih t3 ⟨f3, i63, w3, Or.inr ⟨by omega, ⟨p', _, r3, Or.inr ⟨hi, rfl⟩⟩, fun h => by omega⟩⟩
      rw [if_pos (by omega)] at this
      exact this
    by_cases hm6 : gn (aG A) + k = 6
    · have hkq2 : k = q := by
        by_cases hh : k = q
        · exact hh
        · have := ((hP k (by omega)).1 0 (by omega)).1
          omega
      subst hkq2
      have hi0 : i = 0 := by
        by_cases hh : i = 0
        · exact hh
        · exact absurd hm6 (hI 0 (by omega)).1
      subst hi0
      have r3 := r2.flt (q := 7 * k) (by have := r2.2.2.2.2.2.2.2.2.2.1; omega)
      unfold M_fault
      rw [if_pos (by rw [hm6]; rfl), M_fine_y r2, bd_some, if_neg (by decide), r2.2.2.2.1, lt_e, bd_some]
      exact hflt _ _ rfl (by omega) r3 (f2.pI (by omega)) ((gI_pI_k (by omega)).trans i6) (w2.mv (gI_pI_k (by omega)) (fun k => rfl))
    · rw [if_neg (show ¬ nI (gn (aG A) + k) = 6 from fun h => hm6 ((nI_eq (b := 6) (by omega) (by omega)).mp h))]
      by_cases hkq2 : k = q
      · subst hkq2
        refine TtP (M_readLake_ok (i := i) r2 e1 (by omega) hi6 hI hiend) (fun t3 ⟨k3, h3⟩ => ?_)
        have f3 : Fr dMd t t3 := f2.trans (k3.1.mono (fun i k h => by omega))
        have i63 : gI t3 45 6 = nI 0 := (k3.1.I (by omega)).trans i6
        have w3 : MRw (aRow A) t3 := w2.mv (k3.1.I (by omega)) (fun k => k3.1.J (by omega))
        have l3 : ∀ j, j < k → MLk f (7 * j) j t3 := fun j hj => (l2 j hj).mv (fun x hx => k3.2 x (by omega))
        rcases h3 with ⟨hi, r3, m3⟩ | ⟨hi, p', r3⟩
        · subst hi
          have hno : ¬ (7 * k + 6 < n ∧ 7 * k + 6 < 41 ∧ f (7 * k + 6) = 59) := fun h => hmo rfl ⟨by omega, h.2.2⟩
          rw [M_passes_y (ch := 59) (x := 59) r3 rfl (by omega), if_neg hno, b2_some, nI_1]
          have := ih t3 ⟨f3, i63, w3, Or.inr ⟨rfl, ⟨_, _, r3, Or.inl ⟨rfl, rfl, rfl⟩⟩, fun _ j hj => by
            by_cases hjk : j = k
            · subst hjk; exact m3
            · exact l3 j (by omega)⟩⟩
          rw [if_pos rfl] at this
          exact this
        · exact hflt t3 p' rfl hi r3 f3 i63 w3
      · obtain ⟨ha, hb, hc⟩ := hP k (by omega)
        rw [he] at ha
        refine TtP (M_readLake_ok (i := 6) r2 e1 (by omega) (by omega) ha (Or.inl rfl)) (fun t3 ⟨k3, h3⟩ => ?_)
        have f3 : Fr dMd t t3 := f2.trans (k3.1.mono (fun i k h => by omega))
        have i63 : gI t3 45 6 = nI 0 := (k3.1.I (by omega)).trans i6
        have w3 : MRw (aRow A) t3 := w2.mv (k3.1.I (by omega)) (fun k => k3.1.J (by omega))
        have l3 : ∀ j, j < k → MLk f (7 * j) j t3 := fun j hj => (l2 j hj).mv (fun x hx => k3.2 x (by omega))
        rcases h3 with ⟨_, r3, m3⟩ | ⟨hi, _⟩
        · have hyes : 7 * k + 6 < n ∧ 7 * k + 6 < 41 ∧ f (7 * k + 6) = 59 := ⟨by omega, by omega, hc⟩
          rw [M_passes_y (ch := 59) (x := 59) r3 rfl (by omega), if_pos hyes, b2_some, nI_1]
          have := ih _ ⟨f3.pI (by omega), (gI_pI_k (by omega)).trans i63, w3.mv (gI_pI_k (by omega)) (fun k => rfl), Or.inl ⟨by omega, r3.adv (q := 7 * k + 6 + 1) (by omega) (by omega), fun j hj => by
            by_cases hjk : j = k
            · subst hjk; exact m3.mv (fun x hx => gI_pI_i (by omega))
            · exact (l3 j (by omega)).mv (fun x hx => gI_pI_i (by omega))⟩⟩
          rw [if_neg (by omega)] at this
          exact this
        · omega
