/-! LAW: rules, a thing -/
set_option maxRecDepth 100000
theorem GD_none {e p p2 : Nat} (h : p ≤ p2) (h2 : p2 ≤ e) : GD e p p2 none := ⟨h, h2, fun g hg => by cases hg⟩
theorem GD_some {e p p2 : Nat} {g : Den} (h : p < p2) (h2 : p2 ≤ e) (hr : RI g) : GD e p p2 (some g) := ⟨Nat.le_of_lt h, h2, fun g' hg => by cases hg; exact ⟨h, hr⟩⟩
theorem nd_succ {e p deep d : Nat} (h : nd_ e p deep ≤ d) : ∃ d', d = d' + 1 ∧ (e - p) + 5 * (4 - deep) ≤ d' := ⟨d - 1, by unfold nd_ at h; omega, by unfold nd_ at h; omega⟩
theorem thing_minus {f : Nat → Nat} {n m e u deep p : Nat} (hu : 20000 ≤ u) (he : e = min n m) (hpe : p < e) (c : f p = 45) (ih : TJ f n m e u deep (p + 1)) : TJ f n m e u deep p := by
  obtain ⟨p2, D, gd, hx, hm⟩ := ih
  have gd1 := gd.1
  have gd2 := gd.2.1
  refine ⟨p2, D.map (fun g a => -(g a)), ?_, fun d s hd hk r e11 => ?_, fun d r s hd hr => ?_⟩
  · cases D with
    | none => exact GD_none (by omega) gd2
    | some g => exact GD_some (by omega) gd2 (fun a b hab => by show -(g a) = -(g b); rw [(gd.2.2 g rfl).2 a b hab])
  · obtain ⟨d, rfl, hd2⟩ := nd_succ hd
    rw [X_thing_s]
    unfold X_readsThingo
    refine TpP (X_takes_ok (ch := 45) r rfl (by omega)) (fun v t ⟨f1, h1⟩ => ?_)
    rcases h1 with ⟨_, _, hv, r1⟩ | ⟨hn, _⟩
    rotate_left
    · exact absurd ⟨hpe, c⟩ hn
    have hk1 : KS t := hk.fr f1
    rw [hv, if_neg (by decide)]
    refine TpP (hx d t (by unfold nd_; omega) hk1 r1 ((f1.I (by omega)).trans e11)) (fun o t2 h2 => ?_)
    obtain ⟨F2, c2, z2, r2, h2⟩ := h2
    have hk2 : KS t2 := hk1.fa F2
    have F : Fa dPx s t2 := (f1.mono (fun i k q => by omega)).fa.trans F2
    have hN := hk2.1
    have c1 : gC t = gC s := f1.C
    have z1 : gZ t = gZ s := f1.Z
    rcases h2 with ⟨g, i, rfl, ho, ht, e11'⟩ | ⟨rfl, ho⟩
    · rw [ho, ox_some, bd_some, if_pos ht.1.1, lt_e]
      refine TtP (N5_ok (s := aw t2 (5 + 5) 3 3) gK_awN (Nat.lt_succ_self _) hN (Nat.lt_succ_of_lt ht.1.1)) (fun t3 ⟨f3, hr3⟩ => ?_)
      obtain ⟨n1, n2, n3, n4, n5⟩ := node_new f3
      have H := tr_less n4 n5 hr3 (ht.nd (n1.ndF hk2))
      exact Tp_some ⟨F.trans n1.f, by omega, by omega, r2.fa n1 hN (fun q => q) (fun q => q) (fun _ q => q), Or.inl ⟨_, _, rfl, rfl, H.up (by omega), (n1.I (by omega) (fun q => q)).trans e11'⟩⟩
    · rw [ho, ox_none]
      exact Tp_some ⟨F, by omega, by omega, r2, Or.inr ⟨rfl, rfl⟩⟩
  · obtain ⟨d, rfl, hd2⟩ := nd_succ hd
    rw [M_thing_s]
    unfold M_thingo
    rw [M_passes_y (ch := 45) (x := 45) hr rfl (by omega), if_pos ⟨by omega, by omega, c⟩, b2_some, if_neg (by decide)]
    refine TpP (hm d r _ (by unfold nd_; omega) (hr.adv (by omega) (by omega))) (fun v t h2 => ?_)
    obtain ⟨F2, h2⟩ := h2
    have F : Fr dPar s t := ((Fr.refl _ _).pI (by omega)).trans F2
    have e55 : gI (pI s 45 13 (nI (p + 1))) 55 = gI s 55 := funext fun k => gI_pI_i (by omega)
    rcases h2 with ⟨g, rfl, r2, hv⟩ | ⟨rfl, p3, r2⟩
    · refine Tp_some ⟨F, Or.inl ⟨_, rfl, r2, fun h => ?_⟩⟩
      rw [hv ((gI_pI_k (by omega)).trans h), e55]
    · exact Tp_some ⟨F, Or.inr ⟨rfl, p3, r2⟩⟩
/-- no minus, no figure here -/
theorem X_thing_nm {f : Nat → Nat} {e p u : Nat} {s : Sg} {Ft : Sg → Option (Option Nat × Sg)} {Fp : Sg → Int32 → Option (Option Nat × Sg)} {P : Option Nat → Sg → Prop} (r : XRd f e p s) (c : ¬ (p < e ∧ f p = 45)) (k : ∀ t, Fr dAt s t → XRd f e p t → Tp ((X_isDigit t).bind fun v3 => if v3 = 0 then ((X_among t 2).bind fun v4 => if v4 < 0 then ((X_isAt t 40).bind fun v5 => if v5 = 0 then (some (none, t)) else (if (gI t 0 11) = 4 then (some (none, t)) else (lt_ (pI t 0 9 ((gI t 0 9) + 1)) fun s6 => lt_ (pI s6 0 11 ((gI s6 0 11) + 1)) fun s7 => b2 (Fp s7 0) fun v8 s9 => ox v8 (some (none, s9)) (fun i10 => b2 (X_takes s9 41) fun v11 s12 => if v11 = 0 then (some (none, s12)) else (lt_ (pI s12 0 11 ((gI s12 0 11) - 1)) fun s13 => some ((some i10), s13)))))) else (lt_ (pI t 0 9 ((gI t 0 9) + 1)) fun s14 => lt_ (aw s14 (4 + 5) 3 3) fun s15 => (aI s15 14 80 ((gI s15 0 9) - 1)).bind fun v17 => (N7_init s15 (gN s14) 0 v17).bind fun s18 => some ((some (gN s14)), s18))) else (lt_ (aw t (3 + 5) 3 3) fun s19 => b2 (X_number u s19 3) fun v21 s22 => (N6_init s22 (gN t) 0 v21).bind fun s23 => some ((some (gN t)), s23))) P) : Tp (X_readsThingo Ft Fp u s) P := by
  unfold X_readsThingo
  refine TpP (X_takes_ok (ch := 45) r rfl (by omega)) (fun v t ⟨f1, h1⟩ => ?_)
  rcases h1 with ⟨h2, h3, _⟩ | ⟨_, hv, r1⟩
  · exact absurd ⟨h2, h3⟩ c
  · rw [hv, if_pos rfl]
    exact k t f1 r1
theorem M_thing_nm {f : Nat → Nat} {n m r p u : Nat} {s : Sg} {x : Int32} {Ft Fh : Sg → Int32 → Option (Int32 × Sg)} (h : MRd r f n m p none s) (c : ¬ (p < n ∧ p < m ∧ f p = 45)) : M_thingo Ft Fh u s x = if (if p < n ∧ p < m then nI (f p) else -1) = 40 then (if 4 ≤ x then M_thingo_67 Ft Fh u s (if p < n ∧ p < m then nI (f p) else -1) else (lt_ (pI s 45 13 (nI (p + 1))) fun s5 => b2 (Fh s5 (x + 1)) fun v6 s7 => (M_need s7 41).bind fun s8 => some (v6, s8))) else M_thingo_67 Ft Fh u s (if p < n ∧ p < m then nI (f p) else -1) := by
  unfold M_thingo
  rw [M_passes_y (ch := 45) (x := 45) h rfl (by omega), if_neg c, b2_some, if_pos rfl, M_fine_y h, bd_some, if_neg (by decide), M_here_ok h, bd_some, h.2.2.2.1, nI_1]
theorem thing_digit {f : Nat → Nat} {n m e u deep p : Nat} (hu : 20000 ≤ u) (he : e = min n m) (hpe : p < e) (c : 48 ≤ f p ∧ f p ≤ 57) : TJ f n m e u deep p := by
  have q : dg f e p := ⟨hpe, c⟩
  have em : nmr f e 3 p 0 = nmr f e 2 (p + 1) (10 * 0 + (f p - 48)) := if_pos ⟨hpe, c⟩
  have hl := nmr_le (f := f) (e := e) 2 (p + 1) (10 * 0 + (f p - 48)) (by omega)
  rw [← em] at hl
  refine ⟨(nmr f e 3 p 0).2, some (fun _ => nI (nmr f e 3 p 0).1), GD_some (by omega) hl.2.1 (fun a b _ => rfl), fun d s hd hk r e11 => ?_, fun d r s hd hr => ?_⟩
  · obtain ⟨d, rfl, hd2⟩ := nd_succ hd
    rw [X_thing_s]
    refine X_thing_nm r (fun h => by omega) (fun t f1 r1 => ?_)
    have hk1 : KS t := hk.fr f1
    have hN := hk1.1
    have F1 : Fa (fun _ _ => False) t (aw t (3 + 5) 3 3) := Fa.aw
    have hk2 : KS (aw t (3 + 5) 3 3) := hk1.fa F1
    rw [X_isDigit_y r1 q, bd_some, if_neg (by decide), lt_e]
    refine TpP (X_number_ok (d := 3) hu (by omega) rfl (r1.fa F1 hN (fun q => q) (fun q => q) (fun _ q => q))) (fun v t2 ⟨f2, h2⟩ => ?_)
    rcases h2 with ⟨_, hv, r2⟩ | ⟨hn, _⟩
    rotate_left
    · exact absurd q hn
    have hN2 : gN t2 = gN t + 1 := f2.N
    refine TtP (N6_ok (s := t2) (i := gN t) (v := v) (by rw [f2.K]; exact gK_awN) (by omega) hN) (fun t3 ⟨f3, hv3⟩ => ?_)
    have F2 : Fa dPx t t2 := F1.f.trans (f2.mono (fun i k q => by omega)).fa
    have F3 : Fa dPx t t3 := F2.new (Nat.le_refl _) f3
    have c3 : gC t3 = gC s + 1 := f3.C.trans (f2.C.trans (show gC t + 1 = gC s + 1 by rw [f1.C]))
    have z3 : gZ t3 = gZ s + 3 := f3.Z.trans (f2.Z.trans (show gZ t + 3 = gZ s + 3 by rw [f1.Z]))
    have H := tr_number (s := t3) (i := gN t) (v := v) (by rw [f3.K, f2.K]; exact gK_awN) (by rw [f3.N]; omega) hv3
    rw [hv] at H
    refine Tp_some ⟨(f1.mono (fun i k q => by omega)).fa.trans F3, by omega, by omega, r2.mv (f3.I (by omega)) (f3.I (by omega)) (fun k => f3.I (by omega)), Or.inl ⟨_, _, rfl, rfl, H.up (by omega), ?_⟩⟩
    rw [f3.I (by omega), f2.I (by omega), gI_aw (by omega), f1.I (by omega)]
    exact e11
  · obtain ⟨d, rfl, hd2⟩ := nd_succ hd
    have hb := (hr.2.2.2.2.2.1 p (by omega)).2
    rw [M_thing_s, M_thing_nm hr (fun h => by omega), if_pos (show p < n ∧ p < m by omega), if_neg (show ¬ nI (f p) = 40 from fun h => by have := (nI_eq (b := 40) (by omega) (by omega)).mp h; omega)]
    unfold M_thingo_67
    rw [Min_48_57, if_pos ⟨nI_le c.1 (by omega), nI_le c.2 (by omega)⟩, bd_some, if_neg (by decide)]
    refine TpP (M_number_ok hu hr (by rw [← he]; exact q)) (fun v t ⟨h1, h2, h3⟩ => ?_)
    rw [← he] at h1 h3
    exact Tp_some ⟨h2, Or.inl ⟨_, rfl, h3, fun _ => h1⟩⟩
theorem thing_letter {f : Nat → Nat} {n m e u deep p : Nat} (hu : 20000 ≤ u) (he : e = min n m) (hpe : p < e) (c : isLt (f p)) : TJ f n m e u deep p := by
  have hc : f p = 108 ∨ f p = 98 ∨ f p = 104 ∨ f p = 116 ∨ f p = 107 ∨ f p = 110 := c
  have hl6 := ltI_lt (f p)
  refine ⟨p + 1, some (fun a => a (ltI (f p))), GD_some (by omega) (by omega) (fun a b hab => hab _ hl6), fun d s hd hk r e11 => ?_, fun d r s hd hr => ?_⟩
  · obtain ⟨d, rfl, hd2⟩ := nd_succ hd
    have hb := (r.2.2.1 p hpe).2
    rw [X_thing_s]
    refine X_thing_nm r (fun h => by omega) (fun t f1 r1 => ?_)
    have hk1 : KS t := hk.fr f1
    have hN := hk1.1
    have h80 := r.2.2.2.1
    rw [X_isDigit_n r1 (fun h => by have := h.2; omega), bd_some, if_pos rfl, X_among_ok r1 (by omega), if_pos hpe, bd_some, if_neg (fun h => (ix_2 _ hb).mp h hc), lt_e, lt_e, r1.1, nI_1]
    have e9 : gI (aw (pI t 0 9 (nI (p + 1))) (4 + 5) 3 3) 0 9 = nI (p + 1) := by rw [gI_aw (show 0 < gN (pI t 0 9 (nI (p + 1))) from by rw [gN_pI]; omega), gI_pI_s]
    have e14 : gI (aw (pI t 0 9 (nI (p + 1))) (4 + 5) 3 3) 14 p = nI (f p) := by rw [gI_aw (show 14 < gN (pI t 0 9 (nI (p + 1))) from by rw [gN_pI]; omega), gI_pI_i (by omega)]; exact (r1.2.2.1 p hpe).1
    rw [e9, nI_lit1, pk_sub (by omega), Nat.add_sub_cancel, aI_n (by omega) (by omega), bd_some, e14]
    refine TtP (N7_ok (s := aw (pI t 0 9 (nI (p + 1))) (4 + 5) 3 3) (i := gN (pI t 0 9 (nI (p + 1)))) gK_awN (Nat.lt_succ_self _) hN) (fun t3 ⟨f3, hv3, hr3⟩ => ?_)
    obtain ⟨n1, n2, n3, n4, n5⟩ := node_new f3
    have F1 : Fa dPx s (pI t 0 9 (nI (p + 1))) := ((f1.mono (fun i k q => by omega)).pI (by omega)).fa
    have c1 : gC (pI t 0 9 (nI (p + 1))) = gC s := f1.C
    have z1 : gZ (pI t 0 9 (nI (p + 1))) = gZ s := f1.Z
    refine Tp_some ⟨F1.trans n1.f, by omega, by omega, (r1.set (q := p + 1) (by omega)).fa n1 hN (fun q => q) (fun q => q) (fun _ q => q), Or.inl ⟨_, _, rfl, rfl, (tr_sign c n4 n5 hv3 hr3).up (by omega), ?_⟩⟩
    rw [n1.I (show 0 < gN (pI t 0 9 (nI (p + 1))) from by rw [gN_pI]; omega) (fun q => q), gI_pI_k (by omega), f1.I (by omega)]
    exact e11
  · obtain ⟨d, rfl, hd2⟩ := nd_succ hd
    have hb := (hr.2.2.2.2.2.1 p (by omega)).2
    rw [M_thing_s, M_thing_nm hr (fun h => by omega), if_pos (show p < n ∧ p < m by omega), if_neg (show ¬ nI (f p) = 40 from fun h => by have := (nI_eq (b := 40) (by omega) (by omega)).mp h; omega)]
    unfold M_thingo_67
    rw [Min_48_57, if_neg (fun h => by have h1 := (nI_leI (by omega) (by omega)).mp h.1; have h2 := (nI_leI (by omega) (by omega)).mp h.2; omega), bd_some, if_pos rfl, lo_y _ hb hc, bd_some, if_neg (m1_lt (by omega)), lt_e, hr.2.2.2.1, nI_1, gI_pI_k (by omega)]
    have F1 : Fr dPar s (pI s 45 13 (nI (p + 1))) := (Fr.refl _ _).pI (by omega)
    have r1 := hr.adv (q := p + 1) (by omega) (by omega)
    by_cases h0 : gI s 45 19 = 0
    · rw [if_pos h0]
      exact Tp_some ⟨F1, Or.inl ⟨_, rfl, r1, fun h => by rw [h0] at h; exact absurd h (by decide)⟩⟩
    · rw [if_neg h0, bd_some, aI_n (by omega) (by omega), bd_some, gI_pI_i (by omega)]
      exact Tp_some ⟨F1, Or.inl ⟨_, rfl, r1, fun _ => rfl⟩⟩
theorem thing_paren {f : Nat → Nat} {n m e u deep p : Nat} (hu : 20000 ≤ u) (he : e = min n m) (hpe : p < e) (c : f p = 40) (hd4 : deep < 4) (ih : PJ f n m e u 0 (deep + 1) (p + 1)) : TJ f n m e u deep p := by
  obtain ⟨p2, D, gd, hx, hm⟩ := ih
  have gd1 := gd.1
  have gd2 := gd.2.1
  -- both, up to the closing sign
  have hX : ∀ d s, nd_ e p deep ≤ d → KS s → XRd f e p s → gI s 0 11 = nI deep → ∀ P : Option Nat → Sg → Prop, (∀ o t, OX f e (deep + 1) (p + 1) s 0 p2 D o t → KS t → Tp (ox o (some (none, t)) (fun i10 => b2 (X_takes t 41) fun v11 s12 => if v11 = 0 then (some (none, s12)) else (lt_ (pI s12 0 11 ((gI s12 0 11) - 1)) fun s13 => some ((some i10), s13)))) P) → Tp (X_px u d 1 s 0) P := by
    intro d s hd hk r e11 P hP
    obtain ⟨d, rfl, hd2⟩ := nd_succ hd
    have hb := (r.2.2.1 p hpe).2
    rw [X_thing_s]
    refine X_thing_nm r (fun h => by omega) (fun t f1 r1 => ?_)
    have hk1 : KS t := hk.fr f1
    rw [X_isDigit_n r1 (fun h => by have := h.2; omega), bd_some, if_pos rfl, X_among_ok r1 (by omega), if_pos hpe, bd_some, if_pos ((ix_2 _ hb).mpr (by omega)), X_isAt_ok (x := 40) (ch := 40) r1 rfl (by omega), if_pos ⟨hpe, c⟩, bd_some, if_neg (by decide), show gI t 0 11 = nI deep from (f1.I (by omega)).trans e11, if_neg (show ¬ nI deep = 4 from fun h => by have := (nI_eq (b := 4) (by omega) (by omega)).mp h; omega), lt_e, lt_e, r1.1, nI_1, gI_pI_k (by omega), show gI t 0 11 = nI deep from (f1.I (by omega)).trans e11, nI_1]
    have r2 : XRd f e (p + 1) (pI (pI t 0 9 (nI (p + 1))) 0 11 (nI (deep + 1))) := (r1.set (q := p + 1) (by omega)).mv (gI_pI_k (by omega)) (gI_pI_k (by omega)) (fun k => gI_pI_i (by omega))
    have f2 : Fr dPx s (pI (pI t 0 9 (nI (p + 1))) 0 11 (nI (deep + 1))) := ((f1.mono (fun i k q => by omega)).pI (by omega)).pI (by omega)
    have e11' : gI (pI (pI t 0 9 (nI (p + 1))) 0 11 (nI (deep + 1))) 0 11 = nI (deep + 1) := gI_pI_s
    generalize pI (pI t 0 9 (nI (p + 1))) 0 11 (nI (deep + 1)) = t2 at r2 f2 e11' ⊢
    have hk2 : KS t2 := hk.fr f2
    refine TpP (hx d t2 (by unfold nd_; omega) hk2 r2 e11') (fun o t3 h3 => ?_)
    obtain ⟨F3, c3, z3, r3, h3⟩ := h3
    exact hP o t3 ⟨f2.fa.trans F3, by rw [f2.C] at c3; exact c3, by rw [f2.Z] at z3; exact z3, r3, h3⟩ (hk2.fa F3)
  have hM : ∀ d r s, nd_ e p deep ≤ d → MRd r f n m p none s → ∀ P : Int32 → Sg → Prop, (∀ v t, OM f n m r p2 D s v t → Tp ((M_need t 41).bind fun s8 => some (v, s8)) P) → Tp (M_ex u d 3 s (nI deep)) P := by
    intro d r s hd hr P hP
    obtain ⟨d, rfl, hd2⟩ := nd_succ hd
    rw [M_thing_s, M_thing_nm hr (fun h => by omega), if_pos (show p < n ∧ p < m by omega), if_pos (by rw [c]; decide), if_neg (show ¬ (4 : Int32) ≤ nI deep from by rw [show (4 : Int32) = nI 4 from rfl]; exact nI_ge hd4 (by omega)), lt_e, nI_1]
    refine TpP (hm d r _ (by unfold nd_; omega) (hr.adv (by omega) (by omega))) (fun v t h2 => ?_)
    obtain ⟨F2, h2⟩ := h2
    have e55 : gI (pI s 45 13 (nI (p + 1))) 55 = gI s 55 := funext fun k => gI_pI_i (by omega)
    have e19 : gI (pI s 45 13 (nI (p + 1))) 45 19 = gI s 45 19 := gI_pI_k (by omega)
    rw [e55, e19] at h2
    exact hP v t ⟨((Fr.refl _ _).pI (by omega)).trans F2, h2⟩
  cases D with
  | none =>
    refine ⟨p2, none, GD_none (by omega) gd2, fun d s hd hk r e11 => hX d s hd hk r e11 _ (fun o t h hkt => ?_), fun d r s hd hr => hM d r s hd hr _ (fun v t h => ?_)⟩
    · obtain ⟨F, c1, z1, r1, h1⟩ := h
      rcases h1 with ⟨g, i, hg, _⟩ | ⟨_, ho⟩
      · cases hg
      · rw [ho, ox_none]
        exact Tp_some ⟨F, by omega, by omega, r1, Or.inr ⟨rfl, rfl⟩⟩
    · obtain ⟨F, h1⟩ := h
      rcases h1 with ⟨g, hg, _⟩ | ⟨_, p3, r1⟩
      · cases hg
      · rw [M_need_n r1, bd_some]
        exact Tp_some ⟨F, Or.inr ⟨rfl, p3, r1⟩⟩
  | some g0 =>
    have hri := (gd.2.2 g0 rfl).2
    by_cases c2 : p2 < e ∧ f p2 = 41
    · refine ⟨p2 + 1, some g0, GD_some (by omega) (by omega) hri, fun d s hd hk r e11 => hX d s hd hk r e11 _ (fun o t h hkt => ?_), fun d r s hd hr => hM d r s hd hr _ (fun v t h => ?_)⟩
      · obtain ⟨F, c1, z1, r1, h1⟩ := h
        rcases h1 with ⟨g, i, hg, ho, ht, e11'⟩ | ⟨hg, _⟩
        · cases hg
          rw [ho, ox_some]
          refine TpP (X_takes_ok (ch := 41) r1 rfl (by omega)) (fun v t2 ⟨f2, h2⟩ => ?_)
          rcases h2 with ⟨_, _, hv, r2⟩ | ⟨hn, _⟩
          rotate_left
          · exact absurd c2 hn
          rw [hv, if_neg (by decide), lt_e, show gI t2 0 11 = nI (deep + 1) from (f2.I (by omega)).trans e11', nI_lit1, pk_sub (by omega), Nat.add_sub_cancel]
          have f3 : Fr dPx t (pI t2 0 11 (nI deep)) := (f2.mono (fun i k q => by omega)).pI (by omega)
          refine Tp_some ⟨F.trans f3.fa, ?_, ?_, r2.mv (gI_pI_k (by omega)) (gI_pI_k (by omega)) (fun k => gI_pI_i (by omega)), Or.inl ⟨_, _, rfl, rfl, (ht.nd (f3.nd hkt (fun i k hi q => by omega))).up (by omega), gI_pI_s⟩⟩
          · rw [f3.C]; omega
          · rw [f3.Z]; omega
        · cases hg
      · obtain ⟨F, h1⟩ := h
        rcases h1 with ⟨g, hg, r1, hv⟩ | ⟨hg, _⟩
        · cases hg
          rw [M_need_ok r1, if_pos ⟨by omega, by omega, c2.2⟩, bd_some]
          exact Tp_some ⟨F.pI (by omega), Or.inl ⟨_, rfl, r1.adv (by omega) (by omega), hv⟩⟩
        · cases hg
    · refine ⟨p2, none, GD_none (by omega) gd2, fun d s hd hk r e11 => hX d s hd hk r e11 _ (fun o t h hkt => ?_), fun d r s hd hr => hM d r s hd hr _ (fun v t h => ?_)⟩
      · obtain ⟨F, c1, z1, r1, h1⟩ := h
        rcases h1 with ⟨g, i, hg, ho, ht, e11'⟩ | ⟨hg, _⟩
        · rw [ho, ox_some]
          refine TpP (X_takes_ok (ch := 41) r1 rfl (by omega)) (fun v t2 ⟨f2, h2⟩ => ?_)
          rcases h2 with ⟨h3, h4, _⟩ | ⟨_, hv, r2⟩
          · exact absurd ⟨h3, h4⟩ c2
          rw [hv, if_pos rfl]
          exact Tp_some ⟨F.trans (f2.mono (fun i k q => by omega)).fa, by rw [f2.C]; omega, by rw [f2.Z]; omega, r2, Or.inr ⟨rfl, rfl⟩⟩
        · cases hg
      · obtain ⟨F, h1⟩ := h
        rcases h1 with ⟨g, hg, r1, hv⟩ | ⟨hg, _⟩
        · have hp80 : p2 ≤ 80 := by have := r1.2.2.2.2.2.2.2.2.1; have := r1.2.2.2.2.2.2.2.2.2.2.1; omega
          rw [M_need_ok r1, if_neg (fun h => c2 ⟨by omega, h.2.2⟩), bd_some]
          exact Tp_some ⟨F.pI (by omega), Or.inr ⟨rfl, p2, r1.flt hp80⟩⟩
        · cases hg
theorem thing_none {f : Nat → Nat} {n m e u deep p : Nat} (he : e = min n m) (hpe : p ≤ e) (hd4 : deep ≤ 4) (c : p < e → f p ≠ 45 ∧ ¬ (48 ≤ f p ∧ f p ≤ 57) ∧ ¬ isLt (f p) ∧ (f p = 40 → ¬ deep < 4)) : TJ f n m e u deep p := by
  refine ⟨p, none, GD_none (Nat.le_refl _) hpe, fun d s hd hk r e11 => ?_, fun d r s hd hr => ?_⟩
  · obtain ⟨d, rfl, hd2⟩ := nd_succ hd
    rw [X_thing_s]
    refine X_thing_nm r (fun h => (c h.1).1 h.2) (fun t f1 r1 => ?_)
    have hfin : Tp (some ((none : Option Nat), t)) (OX f e deep p s 0 p none) := Tp_some ⟨(f1.mono (fun i k q => by omega)).fa, by rw [f1.C]; omega, by rw [f1.Z]; omega, r1, Or.inr ⟨rfl, rfl⟩⟩
    rw [X_isDigit_n r1 (fun h => (c h.1).2.1 h.2), bd_some, if_pos rfl, X_among_ok r1 (by omega)]
    have hneg : (if p < e then ixC 2 (f p) else -1) < (0 : Int32) := by
      by_cases q : p < e
      · rw [if_pos q]
        exact (ix_2 _ (r.2.2.1 p q).2).mpr (fun h => (c q).2.2.1 h)
      · rw [if_neg q]
        decide
    rw [bd_some, if_pos hneg, X_isAt_ok (x := 40) (ch := 40) r1 rfl (by omega), bd_some]
    by_cases q : p < e ∧ f p = 40
    · have h4 := (c q.1).2.2.2 q.2
      have hd : deep = 4 := by omega
      rw [if_pos q, if_neg (by decide), show gI t 0 11 = nI deep from (f1.I (by omega)).trans e11, if_pos (by rw [hd]; rfl)]
      exact hfin
    · rw [if_neg q, if_pos rfl]
      exact hfin
  · obtain ⟨d, rfl, hd2⟩ := nd_succ hd
    have hp80 : p ≤ 80 := by have := hr.2.2.2.2.2.2.2.2.1; have := hr.2.2.2.2.2.2.2.2.2.2.1; omega
    have h67 : ∀ x, x = (if p < n ∧ p < m then nI (f p) else -1) → Tp (M_thingo_67 (M_ex u d 3) (M_ex u d 0) u s x) (OM f n m r p none s) := by
      intro x hx
      have hfin : Tp ((M_fault s (gI s 45 13)).bind fun s6 => some ((0 : Int32), s6)) (OM f n m r p none s) := by
        unfold M_fault
        rw [M_fine_y hr, bd_some, if_neg (by decide), lt_e, bd_some, hr.2.2.2.1]
        exact Tp_some ⟨(Fr.refl _ _).pI (by omega), Or.inr ⟨rfl, p, hr.flt hp80⟩⟩
      unfold M_thingo_67
      rw [Min_48_57, gd_e]
      by_cases q : p < n ∧ p < m
      · have hb := (hr.2.2.2.2.2.1 p q.1).2
        have cq := c (by omega)
        rw [if_pos q] at hx
        rw [hx, if_neg (fun h => cq.2.1 ⟨(nI_leI (by omega) (by omega)).mp h.1, (nI_leI (by omega) (by omega)).mp h.2⟩), lo_n _ hb cq.2.2.1, bd_some, if_pos rfl]
        exact hfin
      · rw [if_neg q] at hx
        rw [hx, if_neg (by decide), show M_letterOf (-1) = some (-1) from by decide, bd_some, if_pos rfl]
        exact hfin
    rw [M_thing_s, M_thing_nm hr (fun h => (c (by omega)).1 h.2.2)]
    by_cases q : (if p < n ∧ p < m then nI (f p) else -1) = (40 : Int32)
    · have hpn : p < n ∧ p < m := by
        by_cases q1 : p < n ∧ p < m
        · exact q1
        · rw [if_neg q1] at q
          exact absurd q (by decide)
      have hb := (hr.2.2.2.2.2.1 p hpn.1).2
      have q' := q
      rw [if_pos hpn] at q'
      have hfp : f p = 40 := (nI_eq (b := 40) (by omega) (by omega)).mp q'
      have h4 := (c (by omega)).2.2.2 hfp
      have hd : deep = 4 := by omega
      rw [if_pos q, if_pos (by rw [hd]; decide)]
      exact h67 _ rfl
    · rw [if_neg q]
      exact h67 _ rfl
