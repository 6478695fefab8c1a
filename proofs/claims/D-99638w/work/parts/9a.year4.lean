/-! LAW: year, joined -/
set_option maxRecDepth 100000
theorem year_Xa {u c : Nat} {s : Sg} {A : AS} {n e q z d : Nat} {f : Nat → Nat} (hu : 20000 ≤ u) (hX : XI A s) (hG : GI c A) (hnf : aT A = (n, f)) (hn80 : n ≤ 80) (he : e = min n 60) (hY : YR f e q) (hz : ftA f e (pA f q) z) (hA1 : pA f q = e) (hA2 : n ≤ e) (hD : YD A f q d) : ∀ (Q : Int32 → Sg → Prop), (∀ t', Fr dXy s t' → XI (sN (sTr A (aRow A)) (yW (aG A) (aRu A) f (aW A) d) (aRow A)) t' → XW (gn (aG A)) t' 21 (aW A) → gI t' 0 30 = nI q → Tp (X_year_88 u t' (nI d)) Q) → Tp (X_year u s) Q := by
  have h6 := hG.1.1
  have hG1 : GI (c + 1) (sTr A (aRow A)) := GI_tr _ hG
  intro Q hQ
  refine year_Xg hu hX hG hnf hn80 he hY hz Q (fun t g f1 i8 w1 hg h30 hac => ?_)
  rcases hg with ⟨rfl, r, _⟩ | ⟨_, _, hp⟩
  · have x1 : XI (sTr A (aRow A)) t := XI_tr hX hG f1 w1 i8
    have e30 : gI t 0 30 = nI q := h30.resolve_right (by decide)
    unfold X_year_37
    rw [X_faultOf_y r hn80, if_pos ⟨hA1, hA2⟩, bd_some, if_pos (by decide)]
    refine TtP (W_becomes_ok (DWb_st x1.1 (by omega)) (DWb_st x1.1 (by omega)) (by omega)) (fun t1 ⟨f2, hbw⟩ => ?_)
    have f2r : Fr dXr t t1 := f2.mono (fun i k q => by omega)
    have x2 : XI (sTr A (aRow A)) t1 := XI_row x1 hG1 f2r (fun i k q => q.2) (x1.2.2.1.mv (f2.I (by omega)) (fun k => f2.J (by omega)))
    refine year_X64 hu hG hY hD t1 Q x2 (hbw _ _ h6 x1.2.1) ((f2.I (by omega)).trans e30) (fun k hk => ?_) (fun t2 f3 x3 w3 e3 => hQ t2 (((f1.mono (fun i k q => Or.inl q)).trans (f2r.mono (fun i k q => Or.inl (Or.inl q)))).trans (f3.mono (fun i k q => Or.inr q))) x3 w3 e3)
    obtain ⟨c1, c2, c3, c4⟩ := hac k hk
    exact ⟨(f2.I (by omega)).trans c1, (f2.I (by omega)).trans c2, fun h => (f2.I (by omega)).trans (c3 h), fun h => (f2.I (by omega)).trans (c4 h)⟩
  · omega
theorem year_Ma {u c : Nat} {A : AS} {n e q z d : Nat} {f : Nat → Nat} (hu : 20000 ≤ u) (hG : GI c A) (hnf : aT A = (n, f)) (hn80 : n ≤ 80) (he : e = min n 60) (hY : YR f e q) (hz : ftA f e (pA f q) z) (hA1 : pA f q = e) (hA2 : n ≤ e) (hD : YD A f q d) : ∀ (t : Sg) (Q : Int32 → Sg → Prop), MI u A t → (∀ t', Fr dMy t t' → MI u (sN (sTr A (aRow A)) (yW (aG A) (aRu A) f (aW A) d) (aRow A)) t' → MW (gn (aG A)) t' 57 0 (aW A) → Tp (M_year_118 u t' (nI q) (nI d)) Q) → Tp (M_year u t) Q := by
  have h6 := hG.1.1
  intro t Q ht hQ
  refine year_Mg hu hG hnf hn80 he hY hz t Q ht (fun t' w p f1 i6 w1 r hw hac j hj => ?_)
  rcases hw with ⟨rfl, _, _, hpe⟩ | ⟨_, hb⟩
  · have m1 : MI u (sTr A (aRow A)) t' := MI_tr ht f1 w1 i6
    unfold M_year_44
    rw [M_wasRight_y r, if_pos (by omega), b2_some, if_neg (by decide), hj rfl]
    refine TtP (M_lay_ok (o := 0) hu (by decide) (by decide) rfl (by decide) (by decide) (by decide)) (fun t1 ⟨f2, hl⟩ => ?_)
    have f2r : Fr dMr t' t1 := f2.mono (fun i k q => by omega)
    have m2 : MI u (sTr A (aRow A)) t1 := MI_row m1 f2r (fun i k q => q.2.2) (m1.2.2.1.mv (f2.I (by omega)) (fun k => f2.J (by omega)))
    refine year_M72 hu hG hY hD t1 Q m2 (lay_MW h6 hl m1.2.1) (fun k hk => ?_) (fun t2 f3 m3 w3 => hQ t2 (((f1.mono (fun i k q => Or.inl q)).trans (f2r.mono (fun i k q => Or.inl (Or.inl q)))).trans (f3.mono (fun i k q => q.elim (fun h => Or.inl (Or.inl h)) (fun h => Or.inr h)))) m3 w3)
    obtain ⟨c1, c2, c3, c4⟩ := hac k hk
    exact ⟨(f2.I (by omega)).trans c1, (f2.I (by omega)).trans c2, fun h => (f2.I (by omega)).trans (c3 h), fun h => (f2.I (by omega)).trans (c4 h)⟩
  · exact absurd ⟨hA1, hA2⟩ hb
theorem op_year {u c : Nat} {s : Sg} {A : AS} (hu : 20000 ≤ u) (hX : XI A s) (hM : MI u A s) (hG : GI c A) : Bth u c s (X_year u s) (fun t => M_year u t) := by
  have h6 := hG.1.1
  have h73 := hX.1.1.1
  have h80 := hG.2.2.2.2.2.1.1
  obtain ⟨n, f, hnf⟩ : ∃ n f, aT A = (n, f) := ⟨_, _, rfl⟩
  have hn80 : n ≤ 80 := by rw [hnf] at h80; exact h80
  obtain ⟨e, he⟩ : ∃ e, e = min n 60 := ⟨_, rfl⟩
  obtain ⟨q, hq60, hP, hend⟩ := first_out (fun k => okA f e (pA f k)) 60
  have hP : ∀ j, j < q → okA f e (pA f j) := hP
  have hpl : ∀ k, k ≤ q → 2 * k ≤ pA f k ∧ pA f k ≤ e := by
    intro k
    induction k with
    | zero => intro _; exact ⟨Nat.le_refl _, Nat.zero_le _⟩
    | succ k ih =>
      intro hk
      have h1 := ih (by omega)
      have h2 := okA_nx (hP k (by omega))
      rw [pA_s]
      omega
  have hq30 : q ≤ 30 := by
    by_cases e0 : q = 0
    · omega
    · have h1 := hpl (q - 1) (by omega)
      have h2 := (hP (q - 1) (by omega)).1.1
      omega
  have hno : ¬ okA f e (pA f q) := hend.resolve_left (by omega)
  obtain ⟨z, hz⟩ := ftA_ex hno
  have hpq := (hpl q (Nat.le_refl _)).2
  have hze := ftA_le hpq hz
  have hY : YR f e q := ⟨hP, hpl, hq30, hno⟩
  by_cases hA : pA f q = e ∧ n ≤ e
  rotate_left
  · -- not to be read
    refine both_txt (-1 - nI z) (aRow A) hX hM hG (year_Xg hu hX hG hnf hn80 he hY hz _ (fun t g f1 i8 w1 hg _ _ => ?_)) (fun t ht => year_Mg hu hG hnf hn80 he hY hz t _ ht (fun t' w p f1 i6 w1 r hw _ j _ => ?_))
    · have hv : X_faultOf t (nI n) g = some (-1 - nI z) := by
        rcases hg with ⟨rfl, r, hp⟩ | ⟨rfl, r, hp⟩
        · have hzp : z = pA f q := by
            rcases hz with ⟨_, h⟩ | ⟨h, _⟩ | ⟨h, _⟩
            · exact h
            · omega
            · omega
          rw [X_faultOf_y r hn80, if_neg hA, hzp]
        · exact X_faultOf_n r hn80
      unfold X_year_37
      rw [hv, bd_some, if_neg (m1_neg (by omega))]
      exact Tp_some ⟨rfl, f1, w1, i8⟩
    · rcases hw with ⟨rfl, h1, h2, _⟩ | ⟨rfl, _⟩
      · exact absurd ⟨h1, h2⟩ hA
      · unfold M_year_44
        rw [M_wasRight_n r, b2_some, if_pos rfl, r.2.2.2.2.1]
        exact Tp_some ⟨rfl, f1, w1, i6⟩
  · obtain ⟨hA1, hA2⟩ := hA
    obtain ⟨d, hdq, hD, hdend⟩ := first_out (fun k => yA (aG A) (aRu A) (f (pA f k)) (f (pA f k + 1) - 48) (bA f (pA f k)) (yW (aG A) (aRu A) f (aW A) k) ≠ none) q
    have hD : YD A f q d := ⟨hdq, fun k hk => by
      have h1 := hD k hk
      rw [yW_s]
      cases hy : yA (aG A) (aRu A) (f (pA f k)) (f (pA f k + 1) - 48) (bA f (pA f k)) (yW (aG A) (aRu A) f (aW A) k) with
      | none => exact absurd hy h1
      | some W' => rfl, by
      rcases hdend with h | h
      · exact Or.inl h
      · exact Or.inr (Classical.byContradiction (fun q2 => h q2))⟩
    have hG2 : GI (c + 1) (sN (sTr A (aRow A)) (yW (aG A) (aRu A) f (aW A) d) (aRow A)) := GI_yk hG hP hdq
    by_cases hd0 : d = 0
    · have hG' : GI (c + 1) (sN (sN (sTr A (aRow A)) (yW (aG A) (aRu A) f (aW A) d) (aRow A)) (yW (aG A) (aRu A) f (aW A) d) [if d < q then 1 else 0, (nI (sm (wl (yW (aG A) (aRu A) f (aW A) d)) (gn (aG A)))).toInt64]) := hG2
      refine both_gen (A := A) (nI d) _ (year_Xa hu hX hG hnf hn80 he hY hz hA1 hA2 hD _ (fun t f1 x1 _ e1 => ?_)) (fun t hXt ht => year_Ma hu hG hnf hn80 he hY hz hA1 hA2 hD t _ ht (fun t' f1 m1 _ => ?_)) hG'
      · unfold X_year_88
        rw [if_pos (by rw [hd0]; decide)]
        exact Tp_mono (year_X101 hu hq30 hdq _ t x1 hG2 e1) (fun v t3 ⟨hv, f4, x3⟩ => ⟨hv, gx (c := c) hM (f1.trans (f4.mono (fun i k q => Or.inl (Or.inl q)))) (fun i k h1 h2 => by omega) x3⟩)
      · unfold M_year_118
        rw [if_pos (by rw [hd0]; decide)]
        exact Tp_mono (year_M130 hu hq30 hdq _ t' m1 hG2) (fun v t3 ⟨hv, f4, m3⟩ => ⟨hv, gm (D := dMy) hXt hG' (f1.trans (f4.mono (fun i k q => Or.inl (Or.inl q)))) (fun i k h => by omega) m3⟩)
    · have hG3 : GI (c + 1) (sU (sN (sTr A (aRow A)) (yW (aG A) (aRu A) f (aW A) d) (aRow A)) (pushU (aU A) (aW A))) := GI_push hG2 hG.2.1
      have hG' : GI (c + 1) (sN (sU (sN (sTr A (aRow A)) (yW (aG A) (aRu A) f (aW A) d) (aRow A)) (pushU (aU A) (aW A))) (yW (aG A) (aRu A) f (aW A) d) [if d < q then 1 else 0, (nI (sm (wl (yW (aG A) (aRu A) f (aW A) d)) (gn (aG A)))).toInt64]) := hG3
      refine both_gen (A := A) (nI d) _ (year_Xa hu hX hG hnf hn80 he hY hz hA1 hA2 hD _ (fun t f1 x1 w1 e1 => ?_)) (fun t hXt ht => year_Ma hu hG hnf hn80 he hY hz hA1 hA2 hD t _ ht (fun t' f1 m1 w1 => ?_)) hG'
      · unfold X_year_88
        rw [if_neg (nI_nle (by omega) (by omega))]
        refine TtP (X_push hu x1 hG2 (w := 21) (by omega) w1) (fun t1 ⟨x2, fa, hC, hZ, hS⟩ => ?_)
        have h73t : 73 ≤ gN t := by rw [f1.N]; exact h73
        have hMt : MI u A t := hM.fr f1 (fun i k h1 h2 => by omega)
        refine Tp_mono (year_X101 hu hq30 hdq _ t1 x2 hG3 ((fa.I (by omega) (by omega)).trans e1)) (fun v t3 ⟨hv, f4, x3⟩ => ⟨hv, x3, (hMt.fa h73t fa (fun i k a b => by omega)).fr f4 (fun i k a b => by omega), ?_, ?_, ?_⟩)
        · rw [f4.S, hS, f1.S]
        · rw [f4.C]; rw [f1.C] at hC; omega
        · rw [f4.Z]; rw [f1.Z] at hZ; omega
      · unfold M_year_118
        rw [if_neg (nI_nle (by omega) (by omega))]
        refine TtP (M_remember_ok hu h6 m1.2.2.2.1 hG.2.2.1.1 (a := 57) (by omega) w1) (fun t1 ⟨f2, hU⟩ => ?_)
        have m2 := MI_push m1 f2 hU
        exact Tp_mono (year_M130 hu hq30 hdq _ t1 m2 hG3) (fun v t3 ⟨hv, f4, m3⟩ => ⟨hv, gm (D := fun i k => dMy i k ∨ dMu i k) hXt hG' (((f1.mono (fun i k q => Or.inl q)).trans (f2.mono (fun i k q => Or.inr q))).trans (f4.mono (fun i k q => Or.inl (Or.inl (Or.inl q))))) (fun i k h => by omega) m3⟩)
