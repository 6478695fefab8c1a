/-! LAW: lakes, a lake read by the Model -/
set_option maxRecDepth 100000
abbrev dRK (i k : Nat) : Prop := i = 52 ∨ (i = 45 ∧ (k = 13 ∨ k = 14))
def MLk (f : Nat → Nat) (p j : Nat) (t : Sg) : Prop := gI t 52 (5 * j) = nI (lkB f p) ∧ gI t 52 (5 * j + 1) = nI (f (p + 2) - 48) ∧ gI t 52 (5 * j + 2) = nI (f (p + 3) - 48) ∧ gI t 52 (5 * j + 3) = nI (f (p + 4) - 97) ∧ gI t 52 (5 * j + 4) = oI (lkD f p)
theorem MRd.p52 {f : Nat → Nat} {n m p k : Nat} {w : Option Nat} {s : Sg} {v : Int32} (h : MRd 50 f n m p w s) : MRd 50 f n m p w (pI s 52 k v) := h.mv rfl (fun k _ _ => gI_pI_i (by omega)) (fun k => gI_pI_i (by omega))
/-- what a lake's reading leaves: the lakes ahead of it -/
def KB (j : Nat) (s t : Sg) : Prop := Fr dRK s t ∧ ∀ k, k < 5 * j → gI t 52 k = gI s 52 k
theorem KB.refl (j : Nat) (s : Sg) : KB j s s := ⟨Fr.refl _ _, fun _ _ => rfl⟩
theorem KB.p {j k : Nat} {s t : Sg} {v : Int32} (h : KB j s t) (hk : 5 * j ≤ k) : KB j s (pI t 52 k v) := ⟨h.1.pI (by omega), fun x hx => (gI_pI_k (by omega)).trans (h.2 x hx)⟩
theorem KB.at' {j k : Nat} {s t : Sg} {v : Int32} (h : KB j s t) (hk : k = 13 ∨ k = 14) : KB j s (pI t 45 k v) := ⟨h.1.pI (by omega), fun x hx => (gI_pI_i (by omega)).trans (h.2 x hx)⟩
theorem n5 (j : Nat) : nI (5 * j) + 2 = nI (5 * j + 2) ∧ nI (5 * j) + 3 = nI (5 * j + 3) ∧ nI (5 * j) + 4 = nI (5 * j + 4) := ⟨nI_add _ 2, nI_add _ 3, nI_add _ 4⟩
theorem M_rl58_n {f : Nat → Nat} {n m p z j : Nat} {s : Sg} (r : MRd 50 f n m p (some z) s) (hj : j ≤ 5) : Tt (M_readLake_58 s (nI j) (nI (5 * j))) (fun t => KB j s t ∧ ∃ p', MRd 50 f n m p' (some z) t) := by
  obtain ⟨n2, n3, n4⟩ := n5 j
  unfold M_readLake_58 M_readLake_137
  rw [nI_1, n2, n3, n4, M_oneOf_n r, b2_some, tI_n (by omega) (by omega), bd_some, M_oneOf_n r.p52, b2_some, tI_n (by omega) (by omega), bd_some, M_oneOf_n r.p52.p52, b2_some, tI_n (by omega) (by omega), bd_some, M_passes_n r.p52.p52.p52, b2_some, if_pos rfl, M_oneOf_n r.p52.p52.p52, b2_some, tI_n (by omega) (by omega), bd_some]
  exact Tt_some ⟨((((KB.refl j s).p (by omega)).p (by omega)).p (by omega)).p (by omega), p, r.p52.p52.p52.p52⟩
theorem M_readLake_ok {f : Nat → Nat} {n m p nl j i : Nat} {s : Sg} (r : MRd 50 f n m p none s) (e1 : gI s 45 1 = nI nl) (hm : nl + j < 6) (hi : i ≤ 6) (hc : ∀ k, k < i → ckL f (min n m) (nl + j) p k) (hend : i = 6 ∨ ¬ ckL f (min n m) (nl + j) p i) : Tt (M_readLake s (nI j)) (fun t => KB j s t ∧ ((i = 6 ∧ MRd 50 f n m (p + 6) none t ∧ MLk f p j t) ∨ (i < 6 ∧ ∃ p', MRd 50 f n m p' (some (p + i)) t))) := by
  obtain ⟨n2, n3, n4⟩ := n5 j
  have hb80 : n ≤ 80 := Nat.le_trans r.2.2.2.2.2.2.1.2 r.2.2.2.2.2.2.2.1
  have hbs := r.2.2.2.2.2.1
  have h10 : ¬ (1 : Int32) = 0 := by decide
  have hdg : ∀ q, dg f (min n m) q ↔ (q < n ∧ q < m ∧ 48 ≤ f q ∧ f q < 48 + 10) := fun q => ⟨fun h => ⟨by have := h.1; omega, by have := h.1; omega, h.2.1, by have := h.2.2; omega⟩, fun h => ⟨by omega, h.2.2.1, by omega⟩⟩
  have hl4 : ∀ q, lt4 f (min n m) q ↔ (q < n ∧ q < m ∧ 97 ≤ f q ∧ f q < 97 + 4) := fun q => ⟨fun h => ⟨by have := h.1; omega, by have := h.1; omega, h.2.1, by have := h.2.2; omega⟩, fun h => ⟨by omega, h.2.2.1, by omega⟩⟩
  have hck : ∀ k, ¬ ckL f (min n m) (nl + j) p k → i ≤ k := fun k hn => by
    by_cases q : k < i
    · exact absurd (hc k q) hn
    · omega
  have hne : ∀ k, k < 6 → ckL f (min n m) (nl + j) p k → i ≠ k := fun k hk h q => by
    subst q
    exact (hend.resolve_left (by omega)) h
  unfold M_readLake
  rw [lt_e, show (5 : Int32) * nI j = nI (5 * j) from pk_mul 5 j]
  by_cases c0 : p < n ∧ p < m ∧ 48 ≤ f p ∧ f p < 48 + 10
  rotate_left
  · -- no figure
    have hi0 : i = 0 := by have := hck 0 (fun h => c0 ((hdg p).mp h.2)); omega
    subst hi0
    have hp80 : p ≤ 80 := Nat.le_trans r.2.2.2.2.2.2.2.2.2.1 hb80
    have r1 := r.flt hp80
    rw [M_oneOf_y (x := 48) (y := 10) (a := 48) (b := 10) r rfl rfl (by omega) (by omega), if_neg c0, b2_some, M_oneOf_n r1, b2_some, tI_n (by omega) (by omega), bd_some, M_fine_n r1.p52, bd_some, if_pos rfl]
    refine Tt_mono (M_rl58_n r1.p52 (by omega)) (fun t h => ⟨⟨(((KB.refl j s).at' (by omega)).p (by omega)).1.trans h.1.1, fun k hk => (h.1.2 k hk).trans ((((KB.refl j s).at' (by omega)).p (by omega)).2 k hk)⟩, Or.inr ⟨by omega, h.2⟩⟩)
  have d0 := (hdg p).mpr c0
  have hi0 : i ≠ 0 := hne 0 (by omega) ⟨by omega, d0⟩
  have r1 := r.adv (q := p + 1) (by omega) (by omega)
  rw [M_oneOf_y (x := 48) (y := 10) (a := 48) (b := 10) r rfl rfl (by omega) (by omega), if_pos c0, b2_some]
  have k1 : KB j s (pI s 45 13 (nI (p + 1))) := (KB.refl j s).at' (by omega)
  generalize pI s 45 13 (nI (p + 1)) = s1 at r1 k1 ⊢
  by_cases c1 : p + 1 < n ∧ p + 1 < m ∧ 48 ≤ f (p + 1) ∧ f (p + 1) < 48 + 10
  rotate_left
  · have hi1 : i = 1 := by have := hck 1 (fun h => c1 ((hdg _).mp h.1)); omega
    subst hi1
    have r2 := r1.flt (q := p + 1) (by omega)
    rw [M_oneOf_y (x := 48) (y := 10) (a := 48) (b := 10) r1 rfl rfl (by omega) (by omega), if_neg c1, b2_some, tI_n (by omega) (by omega), bd_some, M_fine_n r2.p52, bd_some, if_pos rfl]
    have k2 : KB j s (pI (pI s1 45 14 (nI (p + 1))) 52 (5 * j) (10 * nI (f p - 48) + 0)) := (k1.at' (by omega)).p (by omega)
    exact Tt_mono (M_rl58_n r2.p52 (by omega)) (fun t h => ⟨⟨k2.1.trans h.1.1, fun k hk => (h.1.2 k hk).trans (k2.2 k hk)⟩, Or.inr ⟨by omega, h.2⟩⟩)
  have d1 := (hdg (p + 1)).mpr c1
  rw [M_oneOf_y (x := 48) (y := 10) (a := 48) (b := 10) r1 rfl rfl (by omega) (by omega), if_pos c1, b2_some, show (10 : Int32) * nI (f p - 48) + nI (f (p + 1) - 48) = nI (lkB f p) from by rw [show (10 : Int32) = nI 10 from rfl, pk_mul, nI_add]; rfl, tI_n (by omega) (by omega), bd_some]
  have r2 := (r1.adv (q := p + 2) (by omega) (by omega)).p52 (k := 5 * j) (v := nI (lkB f p))
  have k2 : KB j s (pI (pI s1 45 13 (nI (p + 1 + 1))) 52 (5 * j) (nI (lkB f p))) := (k1.at' (by omega)).p (by omega)
  have x0 : gI (pI (pI s1 45 13 (nI (p + 1 + 1))) 52 (5 * j) (nI (lkB f p))) 52 (5 * j) = nI (lkB f p) := gI_pI_s
  have hlb : lkB f p < 100 := by unfold lkB; omega
  generalize pI (pI s1 45 13 (nI (p + 1 + 1))) 52 (5 * j) (nI (lkB f p)) = s2 at r2 k2 x0 ⊢
  rw [M_fine_y r2, bd_some, if_neg h10, aI_n (by omega) (by omega), bd_some, x0]
  by_cases c01 : f p = 48 ∧ f (p + 1) = 48
  · have hi1 : i = 1 := by have := hck 1 (fun h => h.2 c01); omega
    subst hi1
    have hz0 : lkB f p = 0 := by unfold lkB; omega
    unfold M_fault
    rw [if_pos (by rw [hz0]; exact nI_0), M_fine_y r2, bd_some, if_neg h10, r2.2.2.2.1, nI_lit1, pk_sub (by omega), lt_e, bd_some]
    have r3 := r2.flt (q := p + 2 - 1) (by omega)
    have k3 : KB j s (pI s2 45 14 (nI (p + 2 - 1))) := k2.at' (by omega)
    refine Tt_mono (M_rl58_n r3 (by omega)) (fun t h => ⟨⟨k3.1.trans h.1.1, fun k hk => (h.1.2 k hk).trans (k3.2 k hk)⟩, Or.inr ⟨by omega, h.2⟩⟩)
  rw [if_neg (nI_ne0 (by unfold lkB; omega) (by omega))]
  have hi1 : i ≠ 1 := hne 1 (by omega) ⟨d1, c01⟩
  unfold M_readLake_58 M_readLake_137
  rw [nI_1, n2, n3, n4]
  by_cases c2 : p + 2 < n ∧ p + 2 < m ∧ 48 ≤ f (p + 2) ∧ f (p + 2) < 48 + 10
  rotate_left
  · have hi2 : i = 2 := by have := hck 2 (fun h => c2 ((hdg _).mp h)); omega
    subst hi2
    have r3 := r2.flt (q := p + 2) (by omega)
    rw [M_oneOf_y (x := 48) (y := 10) (a := 48) (b := 10) r2 rfl rfl (by omega) (by omega), if_neg c2, b2_some, tI_n (by omega) (by omega), bd_some, M_oneOf_n r3.p52, b2_some, tI_n (by omega) (by omega), bd_some, M_oneOf_n r3.p52.p52, b2_some, tI_n (by omega) (by omega), bd_some, M_passes_n r3.p52.p52.p52, b2_some, if_pos rfl, M_oneOf_n r3.p52.p52.p52, b2_some, tI_n (by omega) (by omega), bd_some]
    exact Tt_some ⟨((((k2.at' (by omega)).p (by omega)).p (by omega)).p (by omega)).p (by omega), Or.inr ⟨by omega, _, r3.p52.p52.p52.p52⟩⟩
  have d2 := (hdg (p + 2)).mpr c2
  have hi2 : i ≠ 2 := hne 2 (by omega) d2
  rw [M_oneOf_y (x := 48) (y := 10) (a := 48) (b := 10) r2 rfl rfl (by omega) (by omega), if_pos c2, b2_some, tI_n (by omega) (by omega), bd_some]
  have r3 := (r2.adv (q := p + 3) (by omega) (by omega)).p52 (k := 5 * j + 1) (v := nI (f (p + 2) - 48))
  have k3 : KB j s (pI (pI s2 45 13 (nI (p + 2 + 1))) 52 (5 * j + 1) (nI (f (p + 2) - 48))) := (k2.at' (by omega)).p (by omega)
  have y0 : gI (pI (pI s2 45 13 (nI (p + 2 + 1))) 52 (5 * j + 1) (nI (f (p + 2) - 48))) 52 (5 * j) = nI (lkB f p) := (gI_pI_k (by omega)).trans ((gI_pI_i (by omega)).trans x0)
  have y1 : gI (pI (pI s2 45 13 (nI (p + 2 + 1))) 52 (5 * j + 1) (nI (f (p + 2) - 48))) 52 (5 * j + 1) = nI (f (p + 2) - 48) := gI_pI_s
  generalize pI (pI s2 45 13 (nI (p + 2 + 1))) 52 (5 * j + 1) (nI (f (p + 2) - 48)) = s3 at r3 k3 y0 y1 ⊢
  by_cases c3 : p + 3 < n ∧ p + 3 < m ∧ 48 ≤ f (p + 3) ∧ f (p + 3) < 48 + 10
  rotate_left
  · have hi3 : i = 3 := by have := hck 3 (fun h => c3 ((hdg _).mp h)); omega
    subst hi3
    have r4 := r3.flt (q := p + 3) (by omega)
    rw [M_oneOf_y (x := 48) (y := 10) (a := 48) (b := 10) r3 rfl rfl (by omega) (by omega), if_neg c3, b2_some, tI_n (by omega) (by omega), bd_some, M_oneOf_n r4.p52, b2_some, tI_n (by omega) (by omega), bd_some, M_passes_n r4.p52.p52, b2_some, if_pos rfl, M_oneOf_n r4.p52.p52, b2_some, tI_n (by omega) (by omega), bd_some]
    exact Tt_some ⟨(((k3.at' (by omega)).p (by omega)).p (by omega)).p (by omega), Or.inr ⟨by omega, _, r4.p52.p52.p52⟩⟩
  have d3 := (hdg (p + 3)).mpr c3
  have hi3 : i ≠ 3 := hne 3 (by omega) d3
  rw [M_oneOf_y (x := 48) (y := 10) (a := 48) (b := 10) r3 rfl rfl (by omega) (by omega), if_pos c3, b2_some, tI_n (by omega) (by omega), bd_some]
  have r4 := (r3.adv (q := p + 4) (by omega) (by omega)).p52 (k := 5 * j + 2) (v := nI (f (p + 3) - 48))
  have k4 : KB j s (pI (pI s3 45 13 (nI (p + 3 + 1))) 52 (5 * j + 2) (nI (f (p + 3) - 48))) := (k3.at' (by omega)).p (by omega)
  have w0 : gI (pI (pI s3 45 13 (nI (p + 3 + 1))) 52 (5 * j + 2) (nI (f (p + 3) - 48))) 52 (5 * j) = nI (lkB f p) := (gI_pI_k (by omega)).trans ((gI_pI_i (by omega)).trans y0)
  have w1 : gI (pI (pI s3 45 13 (nI (p + 3 + 1))) 52 (5 * j + 2) (nI (f (p + 3) - 48))) 52 (5 * j + 1) = nI (f (p + 2) - 48) := (gI_pI_k (by omega)).trans ((gI_pI_i (by omega)).trans y1)
  have w2 : gI (pI (pI s3 45 13 (nI (p + 3 + 1))) 52 (5 * j + 2) (nI (f (p + 3) - 48))) 52 (5 * j + 2) = nI (f (p + 3) - 48) := gI_pI_s
  generalize pI (pI s3 45 13 (nI (p + 3 + 1))) 52 (5 * j + 2) (nI (f (p + 3) - 48)) = s4 at r4 k4 w0 w1 w2 ⊢
  by_cases c4 : p + 4 < n ∧ p + 4 < m ∧ 97 ≤ f (p + 4) ∧ f (p + 4) < 97 + 4
  rotate_left
  · have hi4 : i = 4 := by have := hck 4 (fun h => c4 ((hl4 _).mp h)); omega
    subst hi4
    have r5 := r4.flt (q := p + 4) (by omega)
    rw [M_oneOf_y (x := 97) (y := 4) (a := 97) (b := 4) r4 rfl rfl (by omega) (by omega), if_neg c4, b2_some, tI_n (by omega) (by omega), bd_some, M_passes_n r5.p52, b2_some, if_pos rfl, M_oneOf_n r5.p52, b2_some, tI_n (by omega) (by omega), bd_some]
    exact Tt_some ⟨((k4.at' (by omega)).p (by omega)).p (by omega), Or.inr ⟨by omega, _, r5.p52.p52⟩⟩
  have d4 := (hl4 (p + 4)).mpr c4
  have hi4 : i ≠ 4 := hne 4 (by omega) d4
  rw [M_oneOf_y (x := 97) (y := 4) (a := 97) (b := 4) r4 rfl rfl (by omega) (by omega), if_pos c4, b2_some, tI_n (by omega) (by omega), bd_some]
  have r5 := (r4.adv (q := p + 5) (by omega) (by omega)).p52 (k := 5 * j + 3) (v := nI (f (p + 4) - 97))
  have k5 : KB j s (pI (pI s4 45 13 (nI (p + 4 + 1))) 52 (5 * j + 3) (nI (f (p + 4) - 97))) := (k4.at' (by omega)).p (by omega)
  have v0 : gI (pI (pI s4 45 13 (nI (p + 4 + 1))) 52 (5 * j + 3) (nI (f (p + 4) - 97))) 52 (5 * j) = nI (lkB f p) := (gI_pI_k (by omega)).trans ((gI_pI_i (by omega)).trans w0)
  have v1 : gI (pI (pI s4 45 13 (nI (p + 4 + 1))) 52 (5 * j + 3) (nI (f (p + 4) - 97))) 52 (5 * j + 1) = nI (f (p + 2) - 48) := (gI_pI_k (by omega)).trans ((gI_pI_i (by omega)).trans w1)
  have v2 : gI (pI (pI s4 45 13 (nI (p + 4 + 1))) 52 (5 * j + 3) (nI (f (p + 4) - 97))) 52 (5 * j + 2) = nI (f (p + 3) - 48) := (gI_pI_k (by omega)).trans ((gI_pI_i (by omega)).trans w2)
  have v3 : gI (pI (pI s4 45 13 (nI (p + 4 + 1))) 52 (5 * j + 3) (nI (f (p + 4) - 97))) 52 (5 * j + 3) = nI (f (p + 4) - 97) := gI_pI_s
  generalize pI (pI s4 45 13 (nI (p + 4 + 1))) 52 (5 * j + 3) (nI (f (p + 4) - 97)) = s5 at r5 k5 v0 v1 v2 v3 ⊢
  have hgood : ∀ (t : Sg) (v : Int32), KB j s t → MRd 50 f n m (p + 6) none t → (∀ k, gI t 52 k = gI s5 52 k) → v = oI (lkD f p) → i = 6 → Tt ((tI t 52 30 (nI (5 * j + 4)) v).bind fun s1 => some s1) (fun t => KB j s t ∧ ((i = 6 ∧ MRd 50 f n m (p + 6) none t ∧ MLk f p j t) ∨ (i < 6 ∧ ∃ p', MRd 50 f n m p' (some (p + i)) t))) := by
    intro t v kt rt et hv hi6
    rw [tI_n (by omega) (by omega), bd_some]
    exact Tt_some ⟨kt.p (by omega), Or.inl ⟨hi6, rt.p52, (gI_pI_k (by omega)).trans ((et _).trans v0), (gI_pI_k (by omega)).trans ((et _).trans v1), (gI_pI_k (by omega)).trans ((et _).trans v2), (gI_pI_k (by omega)).trans ((et _).trans v3), by rw [gI_pI_s, hv]⟩⟩
  rw [M_passes_y (ch := 45) (x := 45) r5 rfl (by omega)]
  by_cases c5 : p + 5 < n ∧ p + 5 < m ∧ f (p + 5) = 45
  · have hi5 : i ≠ 5 := hne 5 (by omega) ⟨by omega, Or.inl c5.2.2⟩
    rw [if_pos c5, b2_some, if_neg h10]
    exact hgood _ (-1) (k5.at' (by omega)) (r5.adv (by omega) (by omega)) (fun k => gI_pI_i (by omega)) (by unfold lkD; rw [if_pos c5.2.2]; rfl) (by omega)
  · have e51 : gI s5 45 1 = nI nl := (k5.1.I (by omega)).trans e1
    rw [if_neg c5, b2_some, if_pos rfl, e51, nI_add, M_oneOf_y (x := 48) (y := nI (nl + j)) (a := 48) (b := nl + j) r5 rfl rfl (by omega) (by omega)]
    by_cases c6 : p + 5 < n ∧ p + 5 < m ∧ 48 ≤ f (p + 5) ∧ f (p + 5) < 48 + (nl + j)
    · have hi5 : i ≠ 5 := hne 5 (by omega) ⟨by omega, Or.inr c6.2.2⟩
      rw [if_pos c6, b2_some]
      exact hgood _ _ (k5.at' (by omega)) (r5.adv (by omega) (by omega)) (fun k => gI_pI_i (by omega)) (by unfold lkD; rw [if_neg (by omega)]; rfl) (by omega)
    · have hi5 : i = 5 := by
        have := hck 5 (fun h => by
          rcases h.2 with h2 | h2
          · exact c5 ⟨by have := h.1; omega, by have := h.1; omega, h2⟩
          · exact c6 ⟨by have := h.1; omega, by have := h.1; omega, h2⟩)
        omega
      subst hi5
      rw [if_neg c6, b2_some, tI_n (by omega) (by omega), bd_some]
      exact Tt_some ⟨(k5.at' (by omega)).p (by omega), Or.inr ⟨by omega, _, (r5.flt (by omega)).p52⟩⟩
