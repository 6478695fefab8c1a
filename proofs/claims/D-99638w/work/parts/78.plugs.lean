/-! LAW: pulls, stops, combs, taps, gives -/
set_option maxRecDepth 100000
/-- one act on the lakes of the class: wasAhead, then the act, then it is put by -/
theorem X_aside {A : AS} {s : Sg} {c : Nat} (hX : XI A s) (hG : GI c A) : Tt (W_becomes s 21 1) (fun t => Fr dXr s t ∧ XW (gn (aG A)) t 21 (aW A) ∧ XI A t) :=
  Tt_mono (W_becomes_ok (DWb_st hX.1 (by omega)) (DWb_st hX.1 (by omega)) (by omega)) (fun t h => ⟨h.1.mono (fun i k q => by omega), h.2 _ _ hG.1.1 hX.2.1, XI_row hX hG (D := dXr) (h.1.mono (fun i k q => by omega)) (fun i k q => q.2) (hX.2.2.1.mv (h.1.I (by omega)) (fun k => h.1.J (by omega)))⟩)
/-- the act is refused -/
theorem both_ref {u c : Nat} {s : Sg} {A : AS} {xx : Sg → Option (Int32 × Sg)} {m : Sg → Option (Int32 × Sg)} (a : Int32) (ha : a < 0) (hX : XI A s) (hM : MI u A s) (hG : GI c A) (hx : ∀ t, XI A t → Tp (xx t) (fun v t' => v = a ∧ Fr dXn t t' ∧ XI A t')) (hm : ∀ t, MI u A t → m t = some (a, pI t 45 9 0)) : Bth u c s ((W_becomes s 21 1).bind fun s1 => b2 (xx s1) fun v2 s3 => b2 (X_counts u s3 v2) fun v4 s5 => some (v4, s5)) m := by
  refine both_gen (A := A) a A ?_ (fun t hXt ht => ?_) hG.up
  · refine TtP (X_aside hX hG) (fun t1 h1 => TpP (hx t1 h1.2.2) (fun v t2 h2 => ?_))
    obtain ⟨hv, f2, hX2⟩ := h2
    subst hv
    unfold X_counts
    rw [if_pos ha, b2_some]
    exact Tp_some ⟨rfl, gx (c := c) hM ((h1.1.mono (fun i k q => Or.inl q)).trans f2) (fun i k h1 h2 => by omega) hX2⟩
  · rw [hm t ht]
    exact Tp_some ⟨rfl, gm (D := dMr) hXt hG.up M_th (fun i k h => by omega) (MI_th ht)⟩
/-- the act is done -/
theorem both_act {u c : Nat} {s : Sg} {A : AS} {xx : Sg → Option (Int32 × Sg)} {m : Sg → Option (Int32 × Sg)} (a : Int32) (W' : Wt) (ha : ¬ a < 0) (hu : 20000 ≤ u) (hgW : GoodW (aG A) W') (hX : XI A s) (hM : MI u A s) (hG : GI c A) (hx : ∀ t, XI A t → Tp (xx t) (fun v t' => v = a ∧ Fr (fun i k => (i = 1 ∧ k = 4) ∨ (2 ≤ i ∧ i ≤ 5)) t t' ∧ XW (gn (aG A)) t' 1 W')) (hm : ∀ t, MI u A t → Tp (m t) (fun v t' => v = a ∧ Fr (fun i k => dMu i k ∨ i = 46 ∨ (i = 45 ∧ k = 9)) t t' ∧ MUn (gn (aG A)) (pushU (aU A) (aW A)) t' ∧ MW (gn (aG A)) t' 46 0 W')) : Bth u c s ((W_becomes s 21 1).bind fun s1 => b2 (xx s1) fun v2 s3 => b2 (X_counts u s3 v2) fun v4 s5 => some (v4, s5)) m := by
  have h73 := hX.1.1.1
  have hGn : GI (c + 1) (sN A W' (aRow A)) := GI_now hG hgW
  have hG' : GI (c + 1) (sU (sN A W' (aRow A)) (pushU (aU A) (aW A))) := GI_push hGn hG.2.1
  refine both_gen (A := A) a (sU (sN A W' (aRow A)) (pushU (aU A) (aW A))) ?_ (fun t hXt ht => ?_) hG'
  · refine TtP (X_aside hX hG) (fun t1 h1 => TpP (hx t1 h1.2.2) (fun v t2 h2 => ?_))
    obtain ⟨hv, f2, hW2⟩ := h2
    subst hv
    have f2' : Fr dXn t1 t2 := f2.mono (fun i k q => by have q : (i = 1 ∧ k = 4) ∨ (2 ≤ i ∧ i ≤ 5) := q; omega)
    have hX2 : XI (sN A W' (aRow A)) t2 := XI_now h1.2.2 hG f2' (h1.2.2.2.2.1.mv (f2.I (by omega)) (fun k => f2.J (by omega))) hW2
    unfold X_counts
    rw [if_neg ha]
    have hA : XW (gn (aG A)) t2 21 (aW A) := h1.2.1.mv (fun i k a b => f2.I (by omega))
    obtain ⟨t3, e3, hX3, fa, hC, hZ, hS⟩ := X_push (A := sN A W' (aRow A)) hu hX2 hGn (w := 21) (by omega) hA
    rw [e3, bd_some, b2_some]
    have hM2 : MI u A t2 := (hM.fr h1.1 (fun i k a b => by omega)).fr f2' (fun i k a b => by omega)
    refine Tp_some ⟨rfl, hX3, hM2.fa (by rw [f2.N, h1.1.N]; exact h73) fa (fun i k a b => by omega), ?_, ?_, ?_⟩
    · rw [hS, f2.S, h1.1.S]
    · rw [f2.C, h1.1.C] at hC; omega
    · rw [f2.Z, h1.1.Z] at hZ; omega
  · refine Tp_mono (hm t ht) (fun v t' h => ?_)
    obtain ⟨hv, f, hu', hW⟩ := h
    refine ⟨hv, gm hXt hG' f (fun i k h => by omega) ?_⟩
    obtain ⟨h1, h2, h3, h4, h5, h6, h7, h8⟩ := ht
    exact ⟨(h1.fr f ⟨fun k => ⟨by omega, by omega, by omega, by omega, by omega⟩, by omega, by omega, by omega⟩ (by omega) (by omega)), hW, (h3.mv (f.I (by omega)) (fun k => f.J (by omega))), hu', (h5.mv (f.I (by omega)) (fun i k q1 q2 => f.I (by omega))), (h6.mv (f.I (by omega)) (fun i k q1 q2 => f.I (by omega))), (h7.mv (f.I (by omega)) (fun k => f.I (by omega))), (⟨(f.R (by omega)).trans h8.1, (f.R (by omega)).trans h8.2⟩)⟩
theorem pop_ge (o : Nat) : ¬ nI (pop o) < 0 := nI_pos (by have := pop_le o; omega)
theorem XI.same {A : AS} {s t : Sg} {c : Nat} (h : XI A s) (hG : GI c A) (f : Fr dXn s t) (hr : XRow (aRow A) t) (hW : XW (gn (aG A)) t 1 (aW A)) : XI A t := XI_now h hG f hr hW
/-! ### plugs -/
theorem X_touch_ok {A : AS} {s : Sg} {c i g : Nat} (hX : XI A s) (hG : GI c A) (hi : i < gn (aG A)) (hg : g < 2) (hb : bt (wo (aW A)) i ≠ g) : Tp (X_touches s 1 (nI i) (nI g)) (fun v t => v = nI (pop (wo (aW A) ^^^ 2 ^ i)) ∧ Fr (fun i k => (i = 1 ∧ k = 4) ∨ (2 ≤ i ∧ i ≤ 5)) s t ∧ XW (gn (aG A)) t 1 (wO' (aW A) (wo (aW A) ^^^ 2 ^ i))) := by
  have h6 := hG.1.1
  have h64 := two6 hG.1.1
  have ho := hG.2.1.2.1
  have hp : 2 ^ i < 2 ^ gn (aG A) := Nat.pow_lt_pow_right (by omega) hi
  have hx : wo (aW A) ^^^ 2 ^ i < 2 ^ gn (aG A) := Nat.xor_lt_two_pow ho hp
  have hbt := bt_lt (wo (aW A)) i
  unfold X_touches
  rw [if_pos (by omega), X_isL hX, gd_e, if_pos (in_nyes hi (by omega)), hX.2.1.2.2.2.2.1, X_has_n (by omega) (by omega), bd_some, if_neg (fun h => hb ((nI_eq (by omega) (by omega)).mp h)), lt_e, gI_pI_s, nI_shl1 (by omega), nI_xor (by omega) (by omega), pop_b _ (by omega), bd_some]
  exact Tp_some ⟨rfl, (Fr.refl _ _).pI (by omega), hX.2.1.setO⟩
theorem M_touch_ok {u c : Nat} {A : AS} {t : Sg} {i g : Nat} (hu : 20000 ≤ u) (ht : MI u A t) (hG : GI c A) (hi : i < gn (aG A)) (hg : g < 2) (hb : bt (wo (aW A)) i ≠ g) : Tp (M_touches u t (nI i) (nI g)) (fun v t' => v = nI (pop (wo (aW A) ^^^ 2 ^ i)) ∧ Fr (fun i k => dMu i k ∨ i = 46 ∨ (i = 45 ∧ k = 9)) t t' ∧ MUn (gn (aG A)) (pushU (aU A) (aW A)) t' ∧ MW (gn (aG A)) t' 46 0 (wO' (aW A) (wo (aW A) ^^^ 2 ^ i))) := by
  have h6 := hG.1.1
  have h64 := two6 hG.1.1
  have ho := hG.2.1.2.1
  have hp : 2 ^ i < 2 ^ gn (aG A) := Nat.pow_lt_pow_right (by omega) hi
  have hx : wo (aW A) ^^^ 2 ^ i < 2 ^ gn (aG A) := Nat.xor_lt_two_pow ho hp
  have hbt := bt_lt (wo (aW A)) i
  have hM1 := MI_th ht
  unfold M_touches M_refusesPlug
  rw [lt_e, M_isL ht, gd_e, if_pos (in_nyes hi (by omega)), ad_6, aI_n (by omega) (by omega), bd_some, (MW_row hM1.2.1).2.1 i hi, if_neg (fun h => hb ((nI_eq (by omega) (by omega)).mp h)), bd_some, if_pos (by decide)]
  refine TtP (M_remember_ok hu h6 hM1.2.2.2.1 hG.2.2.1.1 (a := 46) (by omega) hM1.2.1) (fun t1 h1 => ?_)
  have hW1 : MW (gn (aG A)) t1 46 0 (aW A) := hM1.2.1.mv (fun k => h1.1.I (by omega))
  have hW2 : MW (gn (aG A)) (pI t1 46 (6 + i) (nI g)) 46 0 (wO' (aW A) (wo (aW A) ^^^ 2 ^ i)) := MW.setO h6 hi hW1 (fun k hk => by
    rw [bt_xor_pow]
    by_cases q : k = i
    · subst q
      rw [upN_s, upN_s]
      omega
    · rw [upN_n q, upN_n q])
  have e1 : gI (pI t1 46 (6 + i) (nI g)) 45 1 = nI (gn (aG A)) := (gI_pI_i (by decide)).trans ((h1.1.I (by omega)).trans hM1.1.1.1.1)
  rw [tI_n (by omega) (by omega), bd_some, M_outOnes_ok hu e1 h6 (by decide) rfl hx (MW_row hW2).2.1, bd_some, pop_b _ (by omega), bd_some]
  refine Tp_some ⟨rfl, (((Fr.refl _ _).pI (by omega)).trans (h1.1.mono (fun i k q => Or.inl q))).pI (by omega), h1.2.mv (gI_pI_i (by decide)) (fun k => gI_pI_i (by decide)), hW2⟩
theorem op_touch {u c g : Nat} {s : Sg} {A : AS} (hu : 20000 ≤ u) (hX : XI A s) (hM : MI u A s) (hG : GI c A) (hg : g < 2) (x : Int32) : Bth u c s ((W_becomes s 21 1).bind fun s1 => b2 (X_touches s1 1 x (nI g)) fun v2 s3 => b2 (X_counts u s3 v2) fun v4 s5 => some (v4, s5)) (fun t => M_touches u t x (nI g)) := by
  have h6 := hG.1.1
  have h64 := two6 hG.1.1
  have ho := hG.2.1.2.1
  rcases in_n x (gn (aG A)) (by omega) with ⟨i, hi, e⟩ | hno
  rotate_left
  · refine both_ref (xx := fun s1 => X_touches s1 1 x (nI g)) (-1) (by decide) hX hM hG (fun t hXt => ?_) (fun t ht => ?_)
    · unfold X_touches
      rw [if_pos (by omega), X_isL hXt, gd_e, if_neg hno]
      exact Tp_some ⟨rfl, Fr.refl _ _, hXt⟩
    · unfold M_touches M_refusesPlug
      rw [lt_e, M_isL ht, gd_e, if_neg hno, bd_some, if_neg (by decide)]
  subst e
  have hbt := bt_lt (wo (aW A)) i
  by_cases hb : bt (wo (aW A)) i = g
  · refine both_ref (xx := fun s1 => X_touches s1 1 (nI i) (nI g)) (-2) (by decide) hX hM hG (fun t hXt => ?_) (fun t ht => ?_)
    · unfold X_touches
      rw [if_pos (by omega), X_isL hXt, gd_e, if_pos (in_nyes hi (by omega)), hXt.2.1.2.2.2.2.1, X_has_n (by omega) (by omega), bd_some, if_pos (by rw [hb])]
      exact Tp_some ⟨rfl, Fr.refl _ _, hXt⟩
    · unfold M_touches M_refusesPlug
      rw [lt_e, M_isL ht, gd_e, if_pos (in_nyes hi (by omega)), ad_6, aI_n (by omega) (by omega), bd_some, (MW_row (MI_th ht).2.1).2.1 i hi, if_pos (by rw [hb]), bd_some, if_neg (by decide)]
  · exact both_act (xx := fun s1 => X_touches s1 1 (nI i) (nI g)) _ _ (pop_ge _) hu (hG.2.1.out (Nat.xor_lt_two_pow ho (Nat.pow_lt_pow_right (by omega) hi))) hX hM hG (fun t hXt => X_touch_ok hXt hG hi hg hb) (fun t ht => M_touch_ok hu ht hG hi hg hb)
theorem b2_id {α : Type} (o : Option (α × Sg)) : (b2 o fun v s => some (v, s)) = o := by
  cases o with
  | none => rfl
  | some q => rfl
theorem op_pulls {u c : Nat} {s : Sg} {A : AS} (hu : 20000 ≤ u) (hX : XI A s) (hM : MI u A s) (hG : GI c A) (x : Int32) : Bth u c s (X_pulls u s x) (fun t => M_pulls u t x) := by
  have h := op_touch (g := 1) hu hX hM hG (by omega) x
  unfold X_pulls M_pulls
  simp only [b2_id] at h ⊢
  exact h
theorem op_stops {u c : Nat} {s : Sg} {A : AS} (hu : 20000 ≤ u) (hX : XI A s) (hM : MI u A s) (hG : GI c A) (x : Int32) : Bth u c s (X_stops u s x) (fun t => M_stops u t x) := by
  have h := op_touch (g := 0) hu hX hM hG (by omega) x
  unfold X_stops M_stops
  simp only [b2_id] at h ⊢
  exact h
