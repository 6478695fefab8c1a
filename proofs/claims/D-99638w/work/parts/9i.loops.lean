/-! LAW: rules, sums and products -/
set_option maxRecDepth 100000
theorem ch_b {b : Nat} (hb : b < 256) : (((nI b : Int32).toUInt32 % 65536).toInt32) = nI b := by
  rw [pk_char, pk_tn (by omega), Nat.mod_eq_of_lt (by omega)]
theorem loop_sum {f : Nat → Nat} {n m e u deep : Nat} (hu : 20000 ≤ u) (he : e = min n m) (N : Nat) : ∀ (p : Nat) (g0 : Den), RI g0 → p ≤ e → e - p ≤ N → (∀ p', p ≤ p' → p' ≤ e → PJ f n m e u 2 deep p') → ∃ p2 D, (p ≤ p2 ∧ p2 ≤ e ∧ ∀ g, D = some g → RI g) ∧ (∀ d w s i h, nd_ e p deep + 2 ≤ d → N + 2 ≤ w → KS s → XRd f e p s → gI s 0 11 = nI deep → TrH s i g0 h → Tp (X_parseso_20 (fun s => X_px u d 1 s 0) (X_px u d 0) u w s (nI 1) (some i) 1) (OX f e deep p s h p2 D)) ∧ (∀ d w r s v, nd_ e p deep + 2 ≤ d → N + 2 ≤ w → MRd r f n m p none s → (gI s 45 19 = nI 1 → v = g0 (gI s 55)) → Tp (M_sumo_6 (M_ex u d 2) u w s (nI deep) v) (OM f n m r p2 D s)) := by
  have hno : ∀ N p g0, RI g0 → p ≤ e → ¬ (p < e ∧ (f p = 43 ∨ f p = 45)) → ∃ p2 D, (p ≤ p2 ∧ p2 ≤ e ∧ ∀ g, D = some g → RI g) ∧ (∀ d w s i h, nd_ e p deep + 2 ≤ d → N + 2 ≤ w → KS s → XRd f e p s → gI s 0 11 = nI deep → TrH s i g0 h → Tp (X_parseso_20 (fun s => X_px u d 1 s 0) (X_px u d 0) u w s (nI 1) (some i) 1) (OX f e deep p s h p2 D)) ∧ (∀ d w r s v, nd_ e p deep + 2 ≤ d → N + 2 ≤ w → MRd r f n m p none s → (gI s 45 19 = nI 1 → v = g0 (gI s 55)) → Tp (M_sumo_6 (M_ex u d 2) u w s (nI deep) v) (OM f n m r p2 D s)) := by
    intro N p g0 hr0 hpe c
    refine ⟨p, some g0, ⟨Nat.le_refl _, hpe, fun g hg => by cases hg; exact hr0⟩, fun d w s i h hd hw hk r e11 ht => ?_, fun d w r s v hd hw hr hv => ?_⟩
    · obtain ⟨w, rfl⟩ : ∃ w', w = w' + 1 := ⟨w - 1, by omega⟩
      rw [X_parseso_20_s]
      unfold X_parseso_20b
      have hneg : (if p < e then ixC 4 (f p) else -1) < (0 : Int32) := by
        by_cases q : p < e
        · rw [if_pos q]
          exact (ix_4 _ (r.2.2.1 p q).2).mpr (fun h => c ⟨q, h⟩)
        · rw [if_neg q]
          decide
      rw [ox_some, if_neg (by decide), show X_acts (nI 1) = some 4 from by decide, bd_some, X_among_ok r (by omega), bd_some, if_pos hneg]
      exact Tp_some ⟨Fa.refl _ _, by omega, by omega, r, Or.inl ⟨g0, i, rfl, rfl, ht.up (by omega), e11⟩⟩
    · obtain ⟨w, rfl⟩ : ∃ w', w = w' + 1 := ⟨w - 1, by omega⟩
      rw [M_sumo_6_s]
      unfold M_sumo_6b
      have hh : ∀ x : Nat, (x = 43 ∨ x = 45) → ¬ (if p < n ∧ p < m then nI (f p) else -1) = nI x := by
        intro x hx h
        by_cases q : p < n ∧ p < m
        · have hb := (hr.2.2.2.2.2.1 p q.1).2
          rw [if_pos q] at h
          have := (nI_eq (by omega) (by omega)).mp h
          exact c ⟨by omega, by omega⟩
        · rw [if_neg q] at h
          exact m1_lt (a := x) (by omega) h.symm
      rw [M_fine_y hr, bd_some, if_neg (by decide), M_here_ok hr, bd_some, bd_some, if_neg (show ¬ (if p < n ∧ p < m then nI (f p) else -1) = 43 from hh 43 (Or.inl rfl)), if_neg (show ¬ (if p < n ∧ p < m then nI (f p) else -1) = 45 from hh 45 (Or.inr rfl))]
      exact Tp_some ⟨Fr.refl _ _, Or.inl ⟨g0, rfl, hr, hv⟩⟩
  induction N with
  | zero => intro p g0 hr0 hpe hN _; exact hno 0 p g0 hr0 hpe (fun h => by omega)
  | succ N ih =>
    intro p g0 hr0 hpe hN hP
    by_cases c : p < e ∧ (f p = 43 ∨ f p = 45)
    rotate_left
    · exact hno (N + 1) p g0 hr0 hpe c
    obtain ⟨cp, cb⟩ := c
    obtain ⟨p1, D1, gd, hx, hm⟩ := hP (p + 1) (by omega) (by omega)
    have gd1 := gd.1
    have gd2 := gd.2.1
    -- the class: to behind the second one
    have hX : ∀ d w s i h, nd_ e p deep + 2 ≤ d → KS s → XRd f e p s → gI s 0 11 = nI deep → TrH s i g0 h → ∀ P : Option Nat → Sg → Prop, (∀ o t, Fa dPx s t → KS t → gC t ≤ gC s + (p1 - (p + 1)) → gZ t ≤ gZ s + 5 * (p1 - (p + 1)) → XRd f e p1 t → TrH t i g0 h → ((∃ g i, D1 = some g ∧ o = some i ∧ TrH t i g (0 + (p1 - (p + 1))) ∧ gI t 0 11 = nI deep) ∨ (D1 = none ∧ o = none)) → Tp (ox o (X_parseso_92 (fun s => X_px u d 1 s 0) (X_px u d 0) u (X_parseso_20 (fun s => X_px u d 1 s 0) (X_px u d 0) u w) t (nI 1) none) (fun i10 => (some ()).bind fun _ => if i < gN t then (some ()).bind fun _ => if i10 < gN t then lt_ (aw t (6 + 5) 5 5) fun s13 => (N8_init s13 (gN t) 0 (nI (f p)) i i10).bind fun s15 => X_parseso_92 (fun s => X_px u d 1 s 0) (X_px u d 0) u (X_parseso_20 (fun s => X_px u d 1 s 0) (X_px u d 0) u w) s15 (nI 1) (some (gN t)) else none else none)) P) → Tp (X_parseso_20 (fun s => X_px u d 1 s 0) (X_px u d 0) u (w + 1) s (nI 1) (some i) 1) P := by
      intro d w s i h hd hk r e11 ht P hQ
      have hb := (r.2.2.1 p cp).2
      have h80 := r.2.2.2.1
      rw [X_parseso_20_s]
      unfold X_parseso_20b
      rw [ox_some, if_neg (by decide), show X_acts (nI 1) = some 4 from by decide, bd_some, X_among_ok r (by omega), if_pos cp, bd_some, if_neg (fun h => (ix_4 _ hb).mp h cb), r.1, aI_n (by omega) (by omega), bd_some, (r.2.2.1 p cp).1, lt_e, lt_e, nI_1, bd_some, ch_b hb, nI_1]
      have f1 : Fr dPx s (pI s 0 9 (nI (p + 1))) := (Fr.refl _ _).pI (by omega)
      have hk1 : KS (pI s 0 9 (nI (p + 1))) := hk.fr f1
      have ht1 : TrH (pI s 0 9 (nI (p + 1))) i g0 h := ht.nd (f1.nd hk (fun i k hi q => by omega))
      rw [if_pos ht1.1.1]
      refine TpP (hx d (pI s 0 9 (nI (p + 1))) (by unfold nd_ at hd ⊢; omega) hk1 (r.set (by omega)) ((gI_pI_k (by omega)).trans e11)) (fun o t h2 => ?_)
      obtain ⟨F2, c2, z2, r2, h2⟩ := h2
      exact hQ o t (f1.fa.trans F2) (hk1.fa F2) c2 z2 r2 (ht1.nd (ndPx F2 hk1)) h2
    have h92 : ∀ d w t (o : Option Nat), X_parseso_92 (fun s => X_px u d 1 s 0) (X_px u d 0) u (X_parseso_20 (fun s => X_px u d 1 s 0) (X_px u d 0) u w) t (nI 1) o = X_parseso_20 (fun s => X_px u d 1 s 0) (X_px u d 0) u w t (nI 1) o 1 := fun d w t o => by
      unfold X_parseso_92
      rw [if_neg (by decide)]
    -- the Model: to behind the second one
    have hM : ∀ d w r s v, nd_ e p deep + 2 ≤ d → MRd r f n m p none s → ∀ P : Int32 → Sg → Prop, (∀ v2 t, Fr dPar s t → ((∃ g, D1 = some g ∧ MRd r f n m p1 none t ∧ (gI s 45 19 = nI 1 → v2 = g (gI s 55))) ∨ (D1 = none ∧ ∃ p3, MRd r f n m p3 (some p1) t)) → Tp (M_sumo_6 (M_ex u d 2) u w t (nI deep) (opF (f p) v v2)) P) → Tp (M_sumo_6 (M_ex u d 2) u (w + 1) s (nI deep) v) P := by
      intro d w r s v hd hr P hQ
      have hb := (hr.2.2.2.2.2.1 p (by omega)).2
      have hh : (if p < n ∧ p < m then nI (f p) else -1) = nI (f p) := if_pos (by omega)
      have e55 : gI (pI s 45 13 (nI (p + 1))) 55 = gI s 55 := funext fun k => gI_pI_i (by omega)
      have e19 : gI (pI s 45 13 (nI (p + 1))) 45 19 = gI s 45 19 := gI_pI_k (by omega)
      have f1 : Fr dPar s (pI s 45 13 (nI (p + 1))) := (Fr.refl _ _).pI (by omega)
      have hop := hm d r (pI s 45 13 (nI (p + 1))) (by unfold nd_ at hd ⊢; omega) (hr.adv (by omega) (by omega))
      rw [M_sumo_6_s]
      unfold M_sumo_6b M_sumo_31 M_sumo_45
      rw [M_fine_y hr, bd_some, if_neg (by decide), M_here_ok hr, bd_some, bd_some, bd_some, hh, hr.2.2.2.1, lt_e, nI_1]
      rcases cb with cb | cb
      · rw [cb] at hQ ⊢
        rw [if_pos (by decide), if_pos (by decide)]
        refine TpP hop (fun v2 t h2 => ?_)
        obtain ⟨F2, h2⟩ := h2
        rw [e55, e19] at h2
        have := hQ v2 t (f1.trans F2) h2
        rw [if_neg (by decide), lt_e]
        exact this
      · rw [cb] at hQ ⊢
        rw [if_neg (by decide), if_pos (by decide), if_neg (by decide), lt_e]
        refine TpP hop (fun v2 t h2 => ?_)
        obtain ⟨F2, h2⟩ := h2
        rw [e55, e19] at h2
        have := hQ v2 t (f1.trans F2) h2
        rw [if_pos rfl]
        rw [lt_e]
        exact this
    cases D1 with
    | none =>
      refine ⟨p1, none, ⟨by omega, gd2, fun g hg => by cases hg⟩, fun d w s i h hd hw hk r e11 ht => ?_, fun d w r s v hd hw hr hv => ?_⟩
      · obtain ⟨w, rfl⟩ : ∃ w', w = w' + 1 + 1 := ⟨w - 2, by omega⟩
        refine hX d (w + 1) s i h hd hk r e11 ht _ (fun o t F hkt c1 z1 r1 _ h1 => ?_)
        rcases h1 with ⟨g, j, hg, _⟩ | ⟨_, ho⟩
        · cases hg
        · rw [ho, ox_none, h92, X_parseso_20_s]
          unfold X_parseso_20b
          rw [ox_none]
          exact Tp_some ⟨F, by omega, by omega, r1, Or.inr ⟨rfl, rfl⟩⟩
      · obtain ⟨w, rfl⟩ : ∃ w', w = w' + 1 + 1 := ⟨w - 2, by omega⟩
        refine hM d (w + 1) r s v hd hr _ (fun v2 t F h1 => ?_)
        rcases h1 with ⟨g, hg, _⟩ | ⟨_, p3, r1⟩
        · cases hg
        · rw [M_sumo_6_s]
          unfold M_sumo_6b
          rw [M_fine_n r1, bd_some, if_pos rfl]
          exact Tp_some ⟨F, Or.inr ⟨rfl, p3, r1⟩⟩
    | some g1 =>
      have g1p := (gd.2.2 g1 rfl).1
      have g1r := (gd.2.2 g1 rfl).2
      obtain ⟨p2, D, gd', hx', hm'⟩ := ih p1 (fun a => opF (f p) (g0 a) (g1 a)) (fun a b hab => by show opF (f p) (g0 a) (g1 a) = opF (f p) (g0 b) (g1 b); rw [hr0 a b hab, g1r a b hab]) gd2 (by omega) (fun p' h1 h2 => hP p' (by omega) h2)
      have gd3 := gd'.1
      refine ⟨p2, D, ⟨by omega, gd'.2⟩, fun d w s i h hd hw hk r e11 ht => ?_, fun d w r s v hd hw hr hv => ?_⟩
      · obtain ⟨w, rfl⟩ : ∃ w', w = w' + 1 := ⟨w - 1, by omega⟩
        refine hX d w s i h hd hk r e11 ht _ (fun o t F hkt c1 z1 r1 ht1 h1 => ?_)
        rcases h1 with ⟨g, j, hg, ho, hj, e11'⟩ | ⟨hg, _⟩
        · cases hg
          have hb := (r.2.2.1 p cp).2
          have hN := hkt.1
          rw [ho, ox_some, bd_some, if_pos ht1.1.1, bd_some, if_pos hj.1.1, lt_e]
          refine TtP (N8_ok (s := aw t (6 + 5) 5 5) (b := f p) (by omega) gK_awN (Nat.lt_succ_self _) hN (Nat.lt_succ_of_lt ht1.1.1) (Nat.lt_succ_of_lt hj.1.1)) (fun t3 ⟨f3, hv3, hr2, hr3⟩ => ?_)
          obtain ⟨n1, n2, n3, n4, n5⟩ := node_new f3
          have hn := n1.ndF hkt
          have H : TrH t3 (gN t) (fun a => opF (f p) (g0 a) (g1 a)) (h + (p1 - p)) := tr_act hb n4 n5 hv3 hr2 hr3 (ht1.nd hn) (hj.nd hn) (by omega) (by omega)
          rw [h92]
          refine Tp_mono (hx' d w t3 (gN t) (h + (p1 - p)) (by unfold nd_ at hd ⊢; omega) (by omega) (hkt.fa n1) (r1.fa n1 hN (fun q => q) (fun q => q) (fun _ q => q)) ((n1.I (by omega) (fun q => q)).trans e11') H) (fun o4 t4 h4 => ?_)
          obtain ⟨F4, c4, z4, r4, h4⟩ := h4
          refine ⟨(F.trans n1.f).trans F4, by omega, by omega, r4, ?_⟩
          rcases h4 with ⟨g, j, q1, q2, q3, q4⟩ | h4
          · exact Or.inl ⟨g, j, q1, q2, q3.up (by omega), q4⟩
          · exact Or.inr h4
        · cases hg
      · obtain ⟨w, rfl⟩ : ∃ w', w = w' + 1 := ⟨w - 1, by omega⟩
        refine hM d w r s v hd hr _ (fun v2 t F h1 => ?_)
        rcases h1 with ⟨g, hg, r1, hv2⟩ | ⟨hg, _⟩
        · cases hg
          have e55 : gI t 55 = gI s 55 := funext fun k => F.I (by omega)
          have e19 : gI t 45 19 = gI s 45 19 := F.I (by omega)
          refine Tp_mono (hm' d w r t (opF (f p) v v2) (by unfold nd_ at hd ⊢; omega) (by omega) r1 (fun h => by
            rw [e19] at h
            rw [e55, hv h, hv2 h])) (fun v4 t4 h4 => ?_)
          obtain ⟨F4, h4⟩ := h4
          rw [e55, e19] at h4
          exact ⟨F.trans F4, h4⟩
        · cases hg
theorem loop_product {f : Nat → Nat} {n m e u deep : Nat} (hu : 20000 ≤ u) (he : e = min n m) (N : Nat) : ∀ (p : Nat) (g0 : Den), RI g0 → p ≤ e → e - p ≤ N → (∀ p', p ≤ p' → p' ≤ e → PJ f n m e u 3 deep p') → ∃ p2 D, (p ≤ p2 ∧ p2 ≤ e ∧ ∀ g, D = some g → RI g) ∧ (∀ d w s i h, nd_ e p deep + 1 ≤ d → N + 2 ≤ w → KS s → XRd f e p s → gI s 0 11 = nI deep → TrH s i g0 h → Tp (X_parseso_20 (fun s => X_px u d 1 s 0) (X_px u d 0) u w s (nI 2) (some i) 1) (OX f e deep p s h p2 D)) ∧ (∀ d w r s v, nd_ e p deep + 1 ≤ d → N + 2 ≤ w → MRd r f n m p none s → (gI s 45 19 = nI 1 → v = g0 (gI s 55)) → Tp (M_producto_6 (M_ex u d 3) u w s (nI deep) v) (OM f n m r p2 D s)) := by
  have hno : ∀ N p g0, RI g0 → p ≤ e → ¬ (p < e ∧ (f p = 42 ∨ f p = 47)) → ∃ p2 D, (p ≤ p2 ∧ p2 ≤ e ∧ ∀ g, D = some g → RI g) ∧ (∀ d w s i h, nd_ e p deep + 1 ≤ d → N + 2 ≤ w → KS s → XRd f e p s → gI s 0 11 = nI deep → TrH s i g0 h → Tp (X_parseso_20 (fun s => X_px u d 1 s 0) (X_px u d 0) u w s (nI 2) (some i) 1) (OX f e deep p s h p2 D)) ∧ (∀ d w r s v, nd_ e p deep + 1 ≤ d → N + 2 ≤ w → MRd r f n m p none s → (gI s 45 19 = nI 1 → v = g0 (gI s 55)) → Tp (M_producto_6 (M_ex u d 3) u w s (nI deep) v) (OM f n m r p2 D s)) := by
    intro N p g0 hr0 hpe c
    refine ⟨p, some g0, ⟨Nat.le_refl _, hpe, fun g hg => by cases hg; exact hr0⟩, fun d w s i h hd hw hk r e11 ht => ?_, fun d w r s v hd hw hr hv => ?_⟩
    · obtain ⟨w, rfl⟩ : ∃ w', w = w' + 1 := ⟨w - 1, by omega⟩
      rw [X_parseso_20_s]
      unfold X_parseso_20b
      have hneg : (if p < e then ixC 5 (f p) else -1) < (0 : Int32) := by
        by_cases q : p < e
        · rw [if_pos q]
          exact (ix_5 _ (r.2.2.1 p q).2).mpr (fun h => c ⟨q, h⟩)
        · rw [if_neg q]
          decide
      rw [ox_some, if_neg (by decide), show X_acts (nI 2) = some 5 from by decide, bd_some, X_among_ok r (by omega), bd_some, if_pos hneg]
      exact Tp_some ⟨Fa.refl _ _, by omega, by omega, r, Or.inl ⟨g0, i, rfl, rfl, ht.up (by omega), e11⟩⟩
    · obtain ⟨w, rfl⟩ : ∃ w', w = w' + 1 := ⟨w - 1, by omega⟩
      rw [M_producto_6_s]
      unfold M_producto_6b
      have hh : ∀ x : Nat, (x = 42 ∨ x = 47) → ¬ (if p < n ∧ p < m then nI (f p) else -1) = nI x := by
        intro x hx h
        by_cases q : p < n ∧ p < m
        · have hb := (hr.2.2.2.2.2.1 p q.1).2
          rw [if_pos q] at h
          have := (nI_eq (by omega) (by omega)).mp h
          exact c ⟨by omega, by omega⟩
        · rw [if_neg q] at h
          exact m1_lt (a := x) (by omega) h.symm
      rw [M_fine_y hr, bd_some, if_neg (by decide), M_here_ok hr, bd_some, bd_some, if_neg (show ¬ (if p < n ∧ p < m then nI (f p) else -1) = 42 from hh 42 (Or.inl rfl)), if_neg (show ¬ (if p < n ∧ p < m then nI (f p) else -1) = 47 from hh 47 (Or.inr rfl))]
      exact Tp_some ⟨Fr.refl _ _, Or.inl ⟨g0, rfl, hr, hv⟩⟩
  induction N with
  | zero => intro p g0 hr0 hpe hN _; exact hno 0 p g0 hr0 hpe (fun h => by omega)
  | succ N ih =>
    intro p g0 hr0 hpe hN hP
    by_cases c : p < e ∧ (f p = 42 ∨ f p = 47)
    rotate_left
    · exact hno (N + 1) p g0 hr0 hpe c
    obtain ⟨cp, cb⟩ := c
    obtain ⟨p1, D1, gd, hx, hm⟩ := hP (p + 1) (by omega) (by omega)
    have gd1 := gd.1
    have gd2 := gd.2.1
    -- the class: to behind the second one
    have hX : ∀ d w s i h, nd_ e p deep + 1 ≤ d → KS s → XRd f e p s → gI s 0 11 = nI deep → TrH s i g0 h → ∀ P : Option Nat → Sg → Prop, (∀ o t, Fa dPx s t → KS t → gC t ≤ gC s + (p1 - (p + 1)) → gZ t ≤ gZ s + 5 * (p1 - (p + 1)) → XRd f e p1 t → TrH t i g0 h → ((∃ g i, D1 = some g ∧ o = some i ∧ TrH t i g (0 + (p1 - (p + 1))) ∧ gI t 0 11 = nI deep) ∨ (D1 = none ∧ o = none)) → Tp (ox o (X_parseso_92 (fun s => X_px u d 1 s 0) (X_px u d 0) u (X_parseso_20 (fun s => X_px u d 1 s 0) (X_px u d 0) u w) t (nI 2) none) (fun i10 => (some ()).bind fun _ => if i < gN t then (some ()).bind fun _ => if i10 < gN t then lt_ (aw t (6 + 5) 5 5) fun s13 => (N8_init s13 (gN t) 0 (nI (f p)) i i10).bind fun s15 => X_parseso_92 (fun s => X_px u d 1 s 0) (X_px u d 0) u (X_parseso_20 (fun s => X_px u d 1 s 0) (X_px u d 0) u w) s15 (nI 2) (some (gN t)) else none else none)) P) → Tp (X_parseso_20 (fun s => X_px u d 1 s 0) (X_px u d 0) u (w + 1) s (nI 2) (some i) 1) P := by
      intro d w s i h hd hk r e11 ht P hQ
      have hb := (r.2.2.1 p cp).2
      have h80 := r.2.2.2.1
      rw [X_parseso_20_s]
      unfold X_parseso_20b
      rw [ox_some, if_neg (by decide), show X_acts (nI 2) = some 5 from by decide, bd_some, X_among_ok r (by omega), if_pos cp, bd_some, if_neg (fun h => (ix_5 _ hb).mp h cb), r.1, aI_n (by omega) (by omega), bd_some, (r.2.2.1 p cp).1, lt_e, lt_e, nI_1, bd_some, ch_b hb, nI_1]
      have f1 : Fr dPx s (pI s 0 9 (nI (p + 1))) := (Fr.refl _ _).pI (by omega)
      have hk1 : KS (pI s 0 9 (nI (p + 1))) := hk.fr f1
      have ht1 : TrH (pI s 0 9 (nI (p + 1))) i g0 h := ht.nd (f1.nd hk (fun i k hi q => by omega))
      rw [if_pos ht1.1.1]
      refine TpP (hx d (pI s 0 9 (nI (p + 1))) (by unfold nd_ at hd ⊢; omega) hk1 (r.set (by omega)) ((gI_pI_k (by omega)).trans e11)) (fun o t h2 => ?_)
      obtain ⟨F2, c2, z2, r2, h2⟩ := h2
      exact hQ o t (f1.fa.trans F2) (hk1.fa F2) c2 z2 r2 (ht1.nd (ndPx F2 hk1)) h2
    have h92 : ∀ d w t (o : Option Nat), X_parseso_92 (fun s => X_px u d 1 s 0) (X_px u d 0) u (X_parseso_20 (fun s => X_px u d 1 s 0) (X_px u d 0) u w) t (nI 2) o = X_parseso_20 (fun s => X_px u d 1 s 0) (X_px u d 0) u w t (nI 2) o 1 := fun d w t o => by
      unfold X_parseso_92
      rw [if_neg (by decide)]
    -- the Model: to behind the second one
    have hM : ∀ d w r s v, nd_ e p deep + 1 ≤ d → MRd r f n m p none s → ∀ P : Int32 → Sg → Prop, (∀ v2 t, Fr dPar s t → ((∃ g, D1 = some g ∧ MRd r f n m p1 none t ∧ (gI s 45 19 = nI 1 → v2 = g (gI s 55))) ∨ (D1 = none ∧ ∃ p3, MRd r f n m p3 (some p1) t)) → Tp (M_producto_6 (M_ex u d 3) u w t (nI deep) (opF (f p) v v2)) P) → Tp (M_producto_6 (M_ex u d 3) u (w + 1) s (nI deep) v) P := by
      intro d w r s v hd hr P hQ
      have hb := (hr.2.2.2.2.2.1 p (by omega)).2
      have hh : (if p < n ∧ p < m then nI (f p) else -1) = nI (f p) := if_pos (by omega)
      have e55 : gI (pI s 45 13 (nI (p + 1))) 55 = gI s 55 := funext fun k => gI_pI_i (by omega)
      have e19 : gI (pI s 45 13 (nI (p + 1))) 45 19 = gI s 45 19 := gI_pI_k (by omega)
      have f1 : Fr dPar s (pI s 45 13 (nI (p + 1))) := (Fr.refl _ _).pI (by omega)
      have hop := hm d r (pI s 45 13 (nI (p + 1))) (by unfold nd_ at hd ⊢; omega) (hr.adv (by omega) (by omega))
      rw [M_producto_6_s]
      unfold M_producto_6b M_producto_31 M_producto_45
      rw [M_fine_y hr, bd_some, if_neg (by decide), M_here_ok hr, bd_some, bd_some, bd_some, hh, hr.2.2.2.1, lt_e, nI_1]
      rcases cb with cb | cb
      · rw [cb] at hQ ⊢
        rw [if_pos (by decide), if_pos (by decide)]
        refine TpP hop (fun v2 t h2 => ?_)
        obtain ⟨F2, h2⟩ := h2
        rw [e55, e19] at h2
        have := hQ v2 t (f1.trans F2) h2
        rw [if_neg (by decide), lt_e]
        exact this
      · rw [cb] at hQ ⊢
        rw [if_neg (by decide), if_pos (by decide), if_neg (by decide), lt_e]
        refine TpP hop (fun v2 t h2 => ?_)
        obtain ⟨F2, h2⟩ := h2
        rw [e55, e19] at h2
        have := hQ v2 t (f1.trans F2) h2
        rw [if_pos rfl]
        by_cases h0 : v2 = 0
        · rw [if_pos h0]
          have e : opF 47 v v2 = 0 := if_pos h0
          rw [e] at this
          exact this
        · rw [if_neg h0, if_neg h0, lt_e]
          have e : opF 47 v v2 = v / v2 := if_neg h0
          rw [e] at this
          exact this
    cases D1 with
    | none =>
      refine ⟨p1, none, ⟨by omega, gd2, fun g hg => by cases hg⟩, fun d w s i h hd hw hk r e11 ht => ?_, fun d w r s v hd hw hr hv => ?_⟩
      · obtain ⟨w, rfl⟩ : ∃ w', w = w' + 1 + 1 := ⟨w - 2, by omega⟩
        refine hX d (w + 1) s i h hd hk r e11 ht _ (fun o t F hkt c1 z1 r1 _ h1 => ?_)
        rcases h1 with ⟨g, j, hg, _⟩ | ⟨_, ho⟩
        · cases hg
        · rw [ho, ox_none, h92, X_parseso_20_s]
          unfold X_parseso_20b
          rw [ox_none]
          exact Tp_some ⟨F, by omega, by omega, r1, Or.inr ⟨rfl, rfl⟩⟩
      · obtain ⟨w, rfl⟩ : ∃ w', w = w' + 1 + 1 := ⟨w - 2, by omega⟩
        refine hM d (w + 1) r s v hd hr _ (fun v2 t F h1 => ?_)
        rcases h1 with ⟨g, hg, _⟩ | ⟨_, p3, r1⟩
        · cases hg
        · rw [M_producto_6_s]
          unfold M_producto_6b
          rw [M_fine_n r1, bd_some, if_pos rfl]
          exact Tp_some ⟨F, Or.inr ⟨rfl, p3, r1⟩⟩
    | some g1 =>
      have g1p := (gd.2.2 g1 rfl).1
      have g1r := (gd.2.2 g1 rfl).2
      obtain ⟨p2, D, gd', hx', hm'⟩ := ih p1 (fun a => opF (f p) (g0 a) (g1 a)) (fun a b hab => by show opF (f p) (g0 a) (g1 a) = opF (f p) (g0 b) (g1 b); rw [hr0 a b hab, g1r a b hab]) gd2 (by omega) (fun p' h1 h2 => hP p' (by omega) h2)
      have gd3 := gd'.1
      refine ⟨p2, D, ⟨by omega, gd'.2⟩, fun d w s i h hd hw hk r e11 ht => ?_, fun d w r s v hd hw hr hv => ?_⟩
      · obtain ⟨w, rfl⟩ : ∃ w', w = w' + 1 := ⟨w - 1, by omega⟩
        refine hX d w s i h hd hk r e11 ht _ (fun o t F hkt c1 z1 r1 ht1 h1 => ?_)
        rcases h1 with ⟨g, j, hg, ho, hj, e11'⟩ | ⟨hg, _⟩
        · cases hg
          have hb := (r.2.2.1 p cp).2
          have hN := hkt.1
          rw [ho, ox_some, bd_some, if_pos ht1.1.1, bd_some, if_pos hj.1.1, lt_e]
          refine TtP (N8_ok (s := aw t (6 + 5) 5 5) (b := f p) (by omega) gK_awN (Nat.lt_succ_self _) hN (Nat.lt_succ_of_lt ht1.1.1) (Nat.lt_succ_of_lt hj.1.1)) (fun t3 ⟨f3, hv3, hr2, hr3⟩ => ?_)
          obtain ⟨n1, n2, n3, n4, n5⟩ := node_new f3
          have hn := n1.ndF hkt
          have H : TrH t3 (gN t) (fun a => opF (f p) (g0 a) (g1 a)) (h + (p1 - p)) := tr_act hb n4 n5 hv3 hr2 hr3 (ht1.nd hn) (hj.nd hn) (by omega) (by omega)
          rw [h92]
          refine Tp_mono (hx' d w t3 (gN t) (h + (p1 - p)) (by unfold nd_ at hd ⊢; omega) (by omega) (hkt.fa n1) (r1.fa n1 hN (fun q => q) (fun q => q) (fun _ q => q)) ((n1.I (by omega) (fun q => q)).trans e11') H) (fun o4 t4 h4 => ?_)
          obtain ⟨F4, c4, z4, r4, h4⟩ := h4
          refine ⟨(F.trans n1.f).trans F4, by omega, by omega, r4, ?_⟩
          rcases h4 with ⟨g, j, q1, q2, q3, q4⟩ | h4
          · exact Or.inl ⟨g, j, q1, q2, q3.up (by omega), q4⟩
          · exact Or.inr h4
        · cases hg
      · obtain ⟨w, rfl⟩ : ∃ w', w = w' + 1 := ⟨w - 1, by omega⟩
        refine hM d w r s v hd hr _ (fun v2 t F h1 => ?_)
        rcases h1 with ⟨g, hg, r1, hv2⟩ | ⟨hg, _⟩
        · cases hg
          have e55 : gI t 55 = gI s 55 := funext fun k => F.I (by omega)
          have e19 : gI t 45 19 = gI s 45 19 := F.I (by omega)
          refine Tp_mono (hm' d w r t (opF (f p) v v2) (by unfold nd_ at hd ⊢; omega) (by omega) r1 (fun h => by
            rw [e19] at h
            rw [e55, hv h, hv2 h])) (fun v4 t4 h4 => ?_)
          obtain ⟨F4, h4⟩ := h4
          rw [e55, e19] at h4
          exact ⟨F.trans F4, h4⟩
        · cases hg
