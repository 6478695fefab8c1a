/-! LAW: lakes -/
set_option maxRecDepth 100000
def sLk (A : AS) (f : Nat → Nat) (m : Nat) : AS := (nG (aG A) f m, nW (aG A) f (aW A), aRow A, [], fun _ => none, aRg A, (0, fun _ => 0), aRu A, aC A + 1)
theorem ck_geo {f : Nat → Nat} {e nl j : Nat} (h : ∀ k, k < 6 → ckL f e (nl + j) (7 * j) k) : 1 ≤ lkB f (7 * j) ∧ lkB f (7 * j) ≤ 99 ∧ f (7 * j + 2) - 48 ≤ 9 ∧ f (7 * j + 3) - 48 ≤ 9 ∧ f (7 * j + 4) - 97 ≤ 3 ∧ ∀ d, lkD f (7 * j) = some d → d < nl + j := by
  have c0 := (h 0 (by omega)).2.2
  have c1 := (h 1 (by omega)).1.2
  have c01 := (h 1 (by omega)).2
  have c2 := (h 2 (by omega)).2
  have c3 := (h 3 (by omega)).2
  have c4 := (h 4 (by omega)).2
  have c5 := (h 5 (by omega)).2
  refine ⟨by unfold lkB; omega, by unfold lkB; omega, by omega, by omega, by omega, fun d hd => ?_⟩
  unfold lkD at hd
  split at hd
  · cases hd
  · cases hd
    omega
theorem GI_lk {c : Nat} {A : AS} {f : Nat → Nat} {e q : Nat} (hG : GI c A) (hq : gn (aG A) + (q + 1) ≤ 6) (h : ∀ j, j ≤ q → ∀ k, k < 6 → ckL f e (gn (aG A) + j) (7 * j) k) : GI (c + 1) (sLk A f (gn (aG A) + (q + 1))) := by
  obtain ⟨g1, g2, g3, g4, g5, g6, g7, g8⟩ := hG
  have hnew : ∀ x, ¬ x < gn (aG A) → x < gn (aG A) + (q + 1) → ∃ j, j ≤ q ∧ x = gn (aG A) + j := fun x h1 h2 => ⟨x - gn (aG A), by omega, by omega⟩
  refine ⟨⟨hq, fun x hx => ?_⟩, ⟨fun x hx => ?_, ?_, g2.2.2⟩, ⟨Nat.zero_le _, fun W hW => (by cases hW)⟩, fun i W hW => (by cases hW), ⟨g5.1, fun r hr => ?_⟩, ⟨Nat.zero_le _, fun k => by show 0 < 256; decide⟩, g7, ?_⟩
  · have hx : x < gn (aG A) + (q + 1) := hx
    show 1 ≤ nB (aG A) f x ∧ nB (aG A) f x ≤ 99 ∧ nL (aG A) f x ≤ 9 ∧ ∀ d, nD (aG A) f x = some d → d < x
    by_cases e : x < gn (aG A)
    · unfold nB nL nD
      rw [if_pos e, if_pos e, if_pos e]
      exact g1.2 x e
    · obtain ⟨j, hj, rfl⟩ := hnew x e hx
      have b1 : nB (aG A) f (gn (aG A) + j) = lkB f (7 * j) := n_new _ j _ (fun j => lkB f (7 * j))
      have b2 : nL (aG A) f (gn (aG A) + j) = f (7 * j + 3) - 48 := n_new _ j _ (fun j => f (7 * j + 3) - 48)
      have b3 : nD (aG A) f (gn (aG A) + j) = lkD f (7 * j) := n_new _ j _ (fun j => lkD f (7 * j))
      obtain ⟨k1, k2, k3, k4, k5, k6⟩ := ck_geo (h j hj)
      rw [b1, b2, b3]
      exact ⟨k1, k2, k4, k6⟩
  · have hx : x < gn (aG A) + (q + 1) := hx
    show wl (nW (aG A) f (aW A)) x ≤ nB (aG A) f x ∧ wh (nW (aG A) f (aW A)) x ≤ 9 ∧ wt (nW (aG A) f (aW A)) x ≤ 9 ∧ wk (nW (aG A) f (aW A)) x ≤ 3
    by_cases e : x < gn (aG A)
    · unfold nB
      rw [if_pos e, nW_l e, nW_h e, nW_t e, nW_k e]
      exact g2.1 x e
    · obtain ⟨j, hj, rfl⟩ := hnew x e hx
      have b0 : nB (aG A) f (gn (aG A) + j) = lkB f (7 * j) := n_new _ j _ (fun j => lkB f (7 * j))
      have b1 : wl (nW (aG A) f (aW A)) (gn (aG A) + j) = lkB f (7 * j) := n_new _ j _ (fun j => lkB f (7 * j))
      have b2 : wh (nW (aG A) f (aW A)) (gn (aG A) + j) = 0 := n_new _ j _ (fun j => 0)
      have b3 : wt (nW (aG A) f (aW A)) (gn (aG A) + j) = f (7 * j + 2) - 48 := n_new _ j _ (fun j => f (7 * j + 2) - 48)
      have b4 : wk (nW (aG A) f (aW A)) (gn (aG A) + j) = f (7 * j + 4) - 97 := n_new _ j _ (fun j => f (7 * j + 4) - 97)
      obtain ⟨k1, k2, k3, k4, k5, k6⟩ := ck_geo (h j hj)
      rw [b0, b1, b2, b3, b4]
      exact ⟨Nat.le_refl _, by omega, k3, k5⟩
  · exact Nat.lt_of_lt_of_le g2.2.1 (Nat.pow_le_pow_right (by omega) (show gn (aG A) ≤ gn (aG A) + (q + 1) by omega))
  · have := g5.2 r hr
    exact ⟨Nat.lt_of_lt_of_le this.1 (show gn (aG A) ≤ gn (aG A) + (q + 1) by omega), this.2⟩
  · show aC A + 1 ≤ c + 1
    omega
abbrev dLk (i k : Nat) : Prop := dXd i k ∨ dCo i k ∨ (i = 0 ∧ (k = 6 ∨ k = 24))
abbrev dLkM (i k : Nat) : Prop := dMd i k ∨ dCoM i k ∨ (i = 45 ∧ (k = 22 ∨ k = 39))
theorem XI_come {A : AS} {s t : Sg} {c m : Nat} {f : Nat → Nat} (h : XI A s) (F : Fa dLk s t) (hG' : XG (nG (aG A) f m) t) (hW' : XW m t 1 (nW (aG A) f (aW A))) (hr : XRow (aRow A) t) (h8 : gI t 0 8 = nI 0) (h24 : gI t 0 24 = nI 0) (h6 : gI t 0 6 = nI (aC A + 1)) : XI (sLk A f m) t := by
  obtain ⟨⟨k1, g1, r1, w1⟩, h2, h3, h4, h5, h6', h7, hs⟩ := h
  have hN := k1.1
  refine ⟨⟨k1.fa F, hG', r1.nd (F.nd k1 (fun i k hi => by omega)) (F.R (by omega) (by omega)), fun w hw j hj => (F.R (by omega) (by omega)).trans (w1 w hw j hj)⟩, hW', hr, ⟨h24, fun k hk => absurd hk (Nat.not_lt_zero _)⟩, ⟨h6, fun i hi => ?_⟩, h6'.mv (F.I (by omega) (by omega)) (fun i k q1 q2 => F.I (by omega) (by omega)), XTx_0 h8, hs.mv (fun k => F.R (by omega) (by omega)) (fun k => F.R (by omega) (by omega)) (fun b k q hn => F.R hn (by omega)) (fun i hi => F.K hi) F.N⟩
  show gR t 42 i = none ∨ ∃ d, d < aC A + 1 ∧ gI t 43 i = nI d
  have h52 := h5.2 i hi
  have e43 : gI t 43 i = gI s 43 i := F.I (by omega) (by omega)
  have e42 : gR t 42 i = gR s 42 i := F.R (by omega) (by omega)
  rw [e43, e42]
  cases hk : aK A i with
  | none =>
    rw [hk] at h52
    rcases h52 with h | ⟨d, hd, h⟩
    · exact Or.inl h
    · exact Or.inr ⟨d, by omega, h⟩
  | some W =>
    rw [hk] at h52
    exact Or.inr ⟨aC A, by omega, h52.1⟩
theorem MI_come {u : Nat} {A : AS} {s t : Sg} {m : Nat} {f : Nat → Nat} (h : MI u A s) (F : Fr dLkM s t) (hG' : MG (nG (aG A) f m) t) (hW' : MW m t 46 0 (nW (aG A) f (aW A))) (hr : MRw (aRow A) t) (h6 : gI t 45 6 = nI 0) (h22 : gI t 45 22 = nI 0) (h39 : gI t 45 39 = nI (aC A + 1)) : MI u (sLk A f m) t := by
  obtain ⟨⟨⟨g1, r1⟩, b1, mo, b2, b3⟩, h2, h3, h4, h5, h6', h7, h8⟩ := h
  refine ⟨⟨⟨hG', r1.mv (F.R (by omega)) (F.I (by omega)) (fun r k hr => F.I (by omega))⟩, (F.I (by omega)).trans b1, mo, b2, (F.I (by omega)).trans b3⟩, hW', hr, ⟨h22, fun k hk => absurd hk (Nat.not_lt_zero _)⟩, ⟨h39, fun i hi => ?_⟩, h6'.mv (F.I (by omega)) (fun i k q1 q2 => F.I (by omega)), MTx_0 h6, (F.R (by omega)).trans h8.1, (F.R (by omega)).trans h8.2⟩
  show gI t 70 i = 0 ∨ ∃ d, d < aC A + 1 ∧ gI t 71 i = nI d
  have h52 := h5.2 i hi
  have e70 : gI t 70 i = gI s 70 i := F.I (by omega)
  have e71 : gI t 71 i = gI s 71 i := F.I (by omega)
  rw [e70, e71]
  cases hk : aK A i with
  | none =>
    rw [hk] at h52
    rcases h52 with h | ⟨d, hd, h⟩
    · exact Or.inl h
    · exact Or.inr ⟨d, by omega, h⟩
  | some W =>
    rw [hk] at h52
    exact Or.inr ⟨aC A, by omega, h52.2.1⟩
theorem op_lakes {u c : Nat} {s : Sg} {A : AS} (hu : 20000 ≤ u) (hX : XI A s) (hM : MI u A s) (hG : GI c A) : Bth u c s (X_lakes u s) (fun t => M_lakes u t) := by
  have h6 := hG.1.1
  have h73 := hX.1.1.1
  have h80 := hG.2.2.2.2.2.1.1
  obtain ⟨n, f, hnf⟩ : ∃ n f, aT A = (n, f) := ⟨_, _, rfl⟩
  have hn80 : n ≤ 80 := by rw [hnf] at h80; exact h80
  by_cases hn0 : n = 0
  · refine both_txt 0 (aRow A) hX hM hG ?_ (fun t ht => ?_)
    · unfold X_lakes
      refine TpP (X_begins_ok (m := 41) hX hG (by omega) rfl) (fun v t1 ⟨e1, f1, r1, g8, g11⟩ => ?_)
      rw [e1, if_pos (by rw [hnf, hn0]; exact nI_0)]
      exact Tp_some ⟨rfl, f1.mono (fun i k h => by omega), hX.2.2.1.mv (f1.I (by omega)) (fun k => f1.J (by omega)), g8⟩
    · have hth := MI_th ht
      unfold M_lakes
      rw [lt_e]
      refine TtP (M_beginText_ok (m := 41) hth.2.2.2.2.2.2.1 hG (by omega) rfl) (fun t1 ⟨f1, r1, g6⟩ => ?_)
      rw [r1.2.1, if_pos (by rw [hnf, hn0]; exact nI_0)]
      exact Tp_some ⟨rfl, ((Fr.refl _ _).pI (by omega)).trans (f1.mono (fun i k h => by omega)), ht.2.2.1.mv ((f1.I (by omega)).trans (gI_pI_k (by omega))) (fun k => f1.J (by omega)), g6⟩
  obtain ⟨e, he⟩ : ∃ e, e = min n 41 := ⟨_, rfl⟩
  obtain ⟨q, i, hL⟩ := LKS_ex f e (gn (aG A)) h6
  obtain ⟨hP, hnq, hi6, hI, hiend, hmo, h7⟩ := hL
  have hL : LKS f e (gn (aG A)) q i := ⟨hP, hnq, hi6, hI, hiend, hmo, h7⟩
  have h7q := h7 q (Nat.le_refl _)
  by_cases hA : i = 6 ∧ 7 * q + i = e ∧ n ≤ e
  rotate_left
  · refine both_txtA (-1 - nI (7 * q + i)) (aRow A) hX hM hG (lk_Xg hu hX hG hnf hn80 hn0 he hL _ (fun t f1 c1 z1 i8 w1 r1 _ => ?_)) (fun t ht => lk_Mg hu ht hG hnf hn80 hn0 he hL _ (fun t' p w f1 i6 w1 r hw _ => ?_))
    · have hv : X_faultOf t (nI n) (if i < 6 then 0 else 1) = some (-1 - nI (7 * q + i)) := by
        by_cases q6 : i < 6
        · rw [if_pos q6]
          exact X_faultOf_n r1 hn80
        · rw [if_neg q6, X_faultOf_y r1 hn80, if_neg (fun h => hA ⟨by omega, h⟩)]
      rw [hv, bd_some, if_neg (m1_neg (by omega))]
      exact Tp_some ⟨rfl, f1, w1, i8, by omega, by omega⟩
    · unfold M_lakes_75
      rcases hw with ⟨hi, rfl, rfl⟩ | ⟨_, rfl⟩
      · rw [M_wasRight_y r, if_neg (fun h => hA ⟨hi, by have := r.2.2.2.2.2.2.2.2.2.1; have := r.2.2.2.2.2.2.2.2.2.2.1; omega, by have := r.2.2.2.2.2.2.2.2.2.1; have := r.2.2.2.2.2.2.2.2.2.2.1; omega⟩), b2_some, if_pos rfl, gI_pI_s, hi]
        exact Tp_some ⟨rfl, f1.pI (by omega), w1.mv (gI_pI_k (by omega)) (fun k => rfl), (gI_pI_k (by omega)).trans i6⟩
      · rw [M_wasRight_n r, b2_some, if_pos rfl, r.2.2.2.2.1]
        exact Tp_some ⟨rfl, f1, w1, i6⟩
  · obtain ⟨hA0, hA1, hA2⟩ := hA
    subst hA0
    have hall : ∀ j, j ≤ q → ∀ k, k < 6 → ckL f e (gn (aG A) + j) (7 * j) k := fun j hj => by
      by_cases hjq : j = q
      · subst hjq; exact hI
      · exact (hP j (by omega)).1
    have hq5 : gn (aG A) + (q + 1) ≤ 6 := by
      have := (hI 0 (by omega)).1
      omega
    have hG' := GI_lk hG hq5 hall
    refine both_gen (A := A) (nI (q + 1)) _ (lk_Xg hu hX hG hnf hn80 hn0 he hL _ (fun t f1 c1 z1 i8 w1 r1 h1 => ?_)) (fun t hXt ht => lk_Mg hu ht hG hnf hn80 hn0 he hL _ (fun t' p w f1 i6 w1 r hw hl => ?_)) hG'
    · obtain ⟨e17, hl⟩ := h1 rfl
      have hN := f1.N
      rw [if_neg (by omega), X_faultOf_y r1 hn80, if_pos ⟨hA1, hA2⟩, bd_some, if_pos (by decide)]
      refine loop_i (W := fun w j t' => Tp (X_lakes_72 u w t' (nI j)) _)
        (I := fun j t' => Fr dCo t t' ∧ XG (nG (aG A) f (gn (aG A) + j)) t' ∧ XW (gn (aG A) + j) t' 1 (nW (aG A) f (aW A))) (q + 1) ?_ ?_ u 0 t (by omega) (by omega) ⟨Fr.refl _ _, XG_n (hX.1.fa f1 ⟨fun k => ⟨by omega, by omega, by omega⟩, by omega, by omega, fun i k hi => by omega, fun w hw j hj => by omega⟩).2.1, XW_n (hX.2.1.mv (fun i k q1 q2 => f1.I (by omega) (by omega)))⟩
      · intro w t2 ⟨f2, x2, w2⟩
        have e17' : gI t2 0 17 = nI (q + 1) := (f2.I (by omega)).trans e17
        have e6 : gI t2 0 6 = nI (aC A) := (f2.I (by omega)).trans ((f1.I (by omega) (by omega)).trans hX.2.2.2.2.1.1)
        rw [X_lakes_72_s]
        unfold X_lakes_72b
        rw [e17', if_pos (nI_le (Nat.le_refl _) (by omega)), lt_e, lt_e, gI_pI_k (by omega), gI_pI_k (by omega), gI_pI_k (by omega), e6, nI_1, e17']
        have F : Fa dLk s (pI (pI t2 0 24 0) 0 6 (nI (aC A + 1))) := (((f1.mono (fun i k h => Or.inl h)).trans (f2.mono (fun i k h => Or.inr (Or.inl h))).fa).pI (by omega)).pI (by omega)
        have f3 : Fr (fun i k => i = 0 ∧ (k = 6 ∨ k = 24)) t2 (pI (pI t2 0 24 0) 0 6 (nI (aC A + 1))) := ((Fr.refl _ _).pI (by omega)).pI (by omega)
        refine Tp_some ⟨rfl, XI_come (c := c) hX F (x2.fr f3 ⟨by omega, fun k => ⟨by omega, by omega, by omega⟩⟩) (w2.mv (fun i k a b => f3.I (by omega))) (w1.mv ((f3.I (by omega)).trans (f2.I (by omega))) (fun k => (f3.J (by omega)).trans (f2.J (by omega)))) ((f3.I (by omega)).trans ((f2.I (by omega)).trans i8)) ((gI_pI_k (by omega)).trans gI_pI_s) gI_pI_s, hM.fa h73 F (fun i k a b => by omega), F.S, ?_, ?_⟩
        · rw [f3.C, f2.C]; omega
        · rw [f3.Z, f2.Z]; omega
      · intro w j t2 hj ⟨f2, x2, w2⟩ ih
        have e17' : gI t2 0 17 = nI (q + 1) := (f2.I (by omega)).trans e17
        rw [X_lakes_72_s]
        unfold X_lakes_72b
        rw [e17', if_neg (nI_ge hj (by omega)), nI_1]
        exact TtP (X_comes_ok x2 w2 (by omega) ((hl j (by omega)).mv (fun a h1 h2 => f2.I (by omega)))) (fun t3 h3 => ih t3 ⟨f2.trans h3.1, h3.2.1, h3.2.2⟩)
    · rcases hw with ⟨_, rfl, rfl⟩ | ⟨hi, _⟩
      rotate_left
      · omega
      have hl := hl rfl
      obtain ⟨hB, hW⟩ := M_envT ht f1
      unfold M_lakes_75
      rw [M_wasRight_y r, if_pos (by omega), b2_some, if_neg (by decide)]
      refine loop_i (W := fun w j t2 => Tp (M_lakes_91 u w t2 (nI (q + 1)) (nI j)) _)
        (I := fun j t2 => Fr dCoM t' t2 ∧ MG (nG (aG A) f (gn (aG A) + j)) t2 ∧ MW (gn (aG A) + j) t2 46 0 (nW (aG A) f (aW A))) (q + 1) ?_ ?_ u 0 t' (by omega) (by omega) ⟨Fr.refl _ _, MG_n hB.1.1, MW_n hW⟩
      · intro w t2 ⟨f2, x2, w2⟩
        have e39 : gI t2 45 39 = nI (aC A) := (f2.I (by omega)).trans ((f1.I (by omega)).trans ht.2.2.2.2.1.1)
        rw [M_lakes_91_s]
        unfold M_lakes_91b
        rw [if_pos (nI_le (Nat.le_refl _) (by omega)), lt_e, lt_e, gI_pI_k (by omega), e39, nI_1]
        have F : Fr dLkM t (pI (pI t2 45 22 0) 45 39 (nI (aC A + 1))) := (((f1.mono (fun i k h => Or.inl h)).trans (f2.mono (fun i k h => Or.inr (Or.inl h)))).pI (by omega)).pI (by omega)
        have f3 : Fr (fun i k => i = 45 ∧ (k = 22 ∨ k = 39)) t2 (pI (pI t2 45 22 0) 45 39 (nI (aC A + 1))) := ((Fr.refl _ _).pI (by omega)).pI (by omega)
        refine Tp_some ⟨rfl, gm hXt hG' F (fun i k h => by omega) (MI_come ht F (x2.fr f3 ⟨by omega, fun k => ⟨by omega, by omega, by omega⟩⟩) (w2.mv (fun k => f3.I (by omega))) (w1.mv ((f3.I (by omega)).trans (f2.I (by omega))) (fun k => (f3.J (by omega)).trans (f2.J (by omega)))) ((f3.I (by omega)).trans ((f2.I (by omega)).trans i6)) ((gI_pI_k (by omega)).trans gI_pI_s) gI_pI_s)⟩
      · intro w j t2 hj ⟨f2, x2, w2⟩ ih
        rw [M_lakes_91_s]
        obtain ⟨t3, e3, k3, x3, w3⟩ := M_comes_ok (u := u) (n1 := q + 1) (K := M_lakes_91 u w) x2 w2 (by omega) hj (by omega) hG.2.1.2.1 ((hl j (by omega)).mv (fun k hk => f2.I (by omega)))
        rw [e3]
        exact ih t3 ⟨f2.trans k3, x3, w3⟩
