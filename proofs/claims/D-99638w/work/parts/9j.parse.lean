/-! LAW: rules, the parsers whole -/
set_option maxRecDepth 100000
theorem pj_3 {f : Nat → Nat} {n m e u deep p : Nat} (h : TJ f n m e u deep p) : PJ f n m e u 3 deep p := by
  obtain ⟨p1, D1, gd, hx, hm⟩ := h
  refine ⟨p1, D1, gd, fun d s hd hk r e11 => ?_, fun d r s hd hr => hm d r s (by omega) hr⟩
  obtain ⟨d, rfl⟩ : ∃ d', d = d' + 1 := ⟨d - 1, by omega⟩
  rw [X_px_s]
  unfold X_parseso
  rw [if_pos (by decide)]
  exact TpP (hx d s (by omega) hk r e11) (fun o t h => Tp_some h)
theorem pj_2 {f : Nat → Nat} {n m e u deep p : Nat} (hu : 20000 ≤ u) (he : e = min n m) (hpe : p ≤ e) (hP : ∀ p', p ≤ p' → p' ≤ e → PJ f n m e u 3 deep p') : PJ f n m e u 2 deep p := by
  obtain ⟨p1, D1, gd, hx, hm⟩ := hP p (Nat.le_refl _) hpe
  have gd1 := gd.1
  have gd2 := gd.2.1
  have hd1 : ∀ d, nd_ e p deep + (4 - 2) ≤ d → ∃ d', d = d' + 1 ∧ nd_ e p deep + 1 ≤ d' := fun d hd => ⟨d - 1, by omega, by omega⟩
  have hX : ∀ d s, nd_ e p deep + 1 ≤ d → KS s → XRd f e p s → gI s 0 11 = nI deep → ∀ P : Option Nat → Sg → Prop, (∀ o t, OX f e deep p s 0 p1 D1 o t → Tp (X_parseso_20 (fun s => X_px u d 1 s 0) (X_px u d 0) u u t (nI 2) o 1) P) → Tp (X_px u (d + 1) 0 s (nI 2)) P := by
    intro d s hd hk r e11 P hQ
    rw [X_px_s]
    unfold X_parseso
    rw [if_neg (by decide), nI_1]
    exact TpP (hx d s (by omega) hk r e11) (fun o t h => hQ o t h)
  have hM : ∀ d r s, nd_ e p deep + 1 ≤ d → MRd r f n m p none s → ∀ P : Int32 → Sg → Prop, (∀ v t, OM f n m r p1 D1 s v t → Tp (M_producto_6 (M_ex u d 3) u u t (nI deep) v) P) → Tp (M_ex u (d + 1) 2 s (nI deep)) P := by
    intro d r s hd hr P hQ
    rw [M_product_s]
    unfold M_producto
    exact TpP (hm d r s (by omega) hr) (fun v t h => hQ v t h)
  cases D1 with
  | none =>
    refine ⟨p1, none, GD_none (by omega) gd2, fun d s hd hk r e11 => ?_, fun d r s hd hr => ?_⟩
    · obtain ⟨d, rfl, hd2⟩ := hd1 d hd
      refine hX d s hd2 hk r e11 _ (fun o t h => ?_)
      obtain ⟨F, c1, z1, r1, h1⟩ := h
      rcases h1 with ⟨g, i, hg, _⟩ | ⟨_, ho⟩
      · cases hg
      · obtain ⟨w, hw⟩ : ∃ w, u = w + 1 := ⟨u - 1, by omega⟩
        rw [ho, show X_parseso_20 (fun s => X_px u d 1 s 0) (X_px u d 0) u u t (nI 2) none 1 = X_parseso_20 (fun s => X_px u d 1 s 0) (X_px u d 0) u (w + 1) t (nI 2) none 1 from by rw [← hw], X_parseso_20_s]
        unfold X_parseso_20b
        rw [ox_none]
        exact Tp_some ⟨F, c1, z1, r1, Or.inr ⟨rfl, rfl⟩⟩
    · obtain ⟨d, rfl, hd2⟩ := hd1 d hd
      refine hM d r s hd2 hr _ (fun v t h => ?_)
      obtain ⟨F, h1⟩ := h
      rcases h1 with ⟨g, hg, _⟩ | ⟨_, p3, r1⟩
      · cases hg
      · obtain ⟨w, hw⟩ : ∃ w, u = w + 1 := ⟨u - 1, by omega⟩
        rw [show M_producto_6 (M_ex u d 3) u u t (nI deep) v = M_producto_6 (M_ex u d 3) u (w + 1) t (nI deep) v from by rw [← hw], M_producto_6_s]
        unfold M_producto_6b
        rw [M_fine_n r1, bd_some, if_pos rfl]
        exact Tp_some ⟨F, Or.inr ⟨rfl, p3, r1⟩⟩
  | some g1 =>
    have g1p := (gd.2.2 g1 rfl).1
    have g1r := (gd.2.2 g1 rfl).2
    obtain ⟨p2, D, gd', hx', hm'⟩ := loop_product (n := n) (m := m) (deep := deep) hu he (e - p1) p1 g1 g1r gd2 (Nat.le_refl _) (fun p' h1 h2 => hP p' (by omega) h2)
    have gd3 := gd'.1
    refine ⟨p2, D, ⟨by omega, gd'.2.1, fun g hg => ⟨by omega, gd'.2.2 g hg⟩⟩, fun d s hd hk r e11 => ?_, fun d r s hd hr => ?_⟩
    · obtain ⟨d, rfl, hd2⟩ := hd1 d hd
      have h80 := r.2.2.2.1
      refine hX d s hd2 hk r e11 _ (fun o t h => ?_)
      obtain ⟨F, c1, z1, r1, h1⟩ := h
      rcases h1 with ⟨g, i, hg, ho, ht, e11'⟩ | ⟨hg, _⟩
      · cases hg
        rw [ho]
        refine Tp_mono (hx' d u t i _ (by unfold nd_ at hd2 ⊢; omega) (by omega) (hk.fa F) r1 e11' ht) (fun o2 t2 h2 => ?_)
        obtain ⟨F2, c2, z2, r2, h2⟩ := h2
        refine ⟨F.trans F2, by omega, by omega, r2, ?_⟩
        rcases h2 with ⟨g, j, q1, q2, q3, q4⟩ | h2
        · exact Or.inl ⟨g, j, q1, q2, q3.up (by omega), q4⟩
        · exact Or.inr h2
      · cases hg
    · obtain ⟨d, rfl, hd2⟩ := hd1 d hd
      have h80 := hr.2.2.2.2.2.2.2.2.1
      refine hM d r s hd2 hr _ (fun v t h => ?_)
      obtain ⟨F, h1⟩ := h
      rcases h1 with ⟨g, hg, r1, hv⟩ | ⟨hg, _⟩
      · cases hg
        have e55 : gI t 55 = gI s 55 := funext fun k => F.I (by omega)
        have e19 : gI t 45 19 = gI s 45 19 := F.I (by omega)
        refine Tp_mono (hm' d u r t v (by unfold nd_ at hd2 ⊢; omega) (by omega) r1 (fun h => by
          rw [e19] at h
          rw [e55]
          exact hv h)) (fun v2 t2 h2 => ?_)
        obtain ⟨F2, h2⟩ := h2
        rw [e55, e19] at h2
        exact ⟨F.trans F2, h2⟩
      · cases hg
theorem pj_1 {f : Nat → Nat} {n m e u deep p : Nat} (hu : 20000 ≤ u) (he : e = min n m) (hpe : p ≤ e) (hP : ∀ p', p ≤ p' → p' ≤ e → PJ f n m e u 2 deep p') : PJ f n m e u 1 deep p := by
  obtain ⟨p1, D1, gd, hx, hm⟩ := hP p (Nat.le_refl _) hpe
  have gd1 := gd.1
  have gd2 := gd.2.1
  have hd1 : ∀ d, nd_ e p deep + (4 - 1) ≤ d → ∃ d', d = d' + 1 ∧ nd_ e p deep + 2 ≤ d' := fun d hd => ⟨d - 1, by omega, by omega⟩
  have hX : ∀ d s, nd_ e p deep + 2 ≤ d → KS s → XRd f e p s → gI s 0 11 = nI deep → ∀ P : Option Nat → Sg → Prop, (∀ o t, OX f e deep p s 0 p1 D1 o t → Tp (X_parseso_20 (fun s => X_px u d 1 s 0) (X_px u d 0) u u t (nI 1) o 1) P) → Tp (X_px u (d + 1) 0 s (nI 1)) P := by
    intro d s hd hk r e11 P hQ
    rw [X_px_s]
    unfold X_parseso
    rw [if_neg (by decide), nI_1]
    exact TpP (hx d s (by omega) hk r e11) (fun o t h => hQ o t h)
  have hM : ∀ d r s, nd_ e p deep + 2 ≤ d → MRd r f n m p none s → ∀ P : Int32 → Sg → Prop, (∀ v t, OM f n m r p1 D1 s v t → Tp (M_sumo_6 (M_ex u d 2) u u t (nI deep) v) P) → Tp (M_ex u (d + 1) 1 s (nI deep)) P := by
    intro d r s hd hr P hQ
    rw [M_sum_s]
    unfold M_sumo
    exact TpP (hm d r s (by omega) hr) (fun v t h => hQ v t h)
  cases D1 with
  | none =>
    refine ⟨p1, none, GD_none (by omega) gd2, fun d s hd hk r e11 => ?_, fun d r s hd hr => ?_⟩
    · obtain ⟨d, rfl, hd2⟩ := hd1 d hd
      refine hX d s hd2 hk r e11 _ (fun o t h => ?_)
      obtain ⟨F, c1, z1, r1, h1⟩ := h
      rcases h1 with ⟨g, i, hg, _⟩ | ⟨_, ho⟩
      · cases hg
      · obtain ⟨w, hw⟩ : ∃ w, u = w + 1 := ⟨u - 1, by omega⟩
        rw [ho, show X_parseso_20 (fun s => X_px u d 1 s 0) (X_px u d 0) u u t (nI 1) none 1 = X_parseso_20 (fun s => X_px u d 1 s 0) (X_px u d 0) u (w + 1) t (nI 1) none 1 from by rw [← hw], X_parseso_20_s]
        unfold X_parseso_20b
        rw [ox_none]
        exact Tp_some ⟨F, c1, z1, r1, Or.inr ⟨rfl, rfl⟩⟩
    · obtain ⟨d, rfl, hd2⟩ := hd1 d hd
      refine hM d r s hd2 hr _ (fun v t h => ?_)
      obtain ⟨F, h1⟩ := h
      rcases h1 with ⟨g, hg, _⟩ | ⟨_, p3, r1⟩
      · cases hg
      · obtain ⟨w, hw⟩ : ∃ w, u = w + 1 := ⟨u - 1, by omega⟩
        rw [show M_sumo_6 (M_ex u d 2) u u t (nI deep) v = M_sumo_6 (M_ex u d 2) u (w + 1) t (nI deep) v from by rw [← hw], M_sumo_6_s]
        unfold M_sumo_6b
        rw [M_fine_n r1, bd_some, if_pos rfl]
        exact Tp_some ⟨F, Or.inr ⟨rfl, p3, r1⟩⟩
  | some g1 =>
    have g1p := (gd.2.2 g1 rfl).1
    have g1r := (gd.2.2 g1 rfl).2
    obtain ⟨p2, D, gd', hx', hm'⟩ := loop_sum (n := n) (m := m) (deep := deep) hu he (e - p1) p1 g1 g1r gd2 (Nat.le_refl _) (fun p' h1 h2 => hP p' (by omega) h2)
    have gd3 := gd'.1
    refine ⟨p2, D, ⟨by omega, gd'.2.1, fun g hg => ⟨by omega, gd'.2.2 g hg⟩⟩, fun d s hd hk r e11 => ?_, fun d r s hd hr => ?_⟩
    · obtain ⟨d, rfl, hd2⟩ := hd1 d hd
      have h80 := r.2.2.2.1
      refine hX d s hd2 hk r e11 _ (fun o t h => ?_)
      obtain ⟨F, c1, z1, r1, h1⟩ := h
      rcases h1 with ⟨g, i, hg, ho, ht, e11'⟩ | ⟨hg, _⟩
      · cases hg
        rw [ho]
        refine Tp_mono (hx' d u t i _ (by unfold nd_ at hd2 ⊢; omega) (by omega) (hk.fa F) r1 e11' ht) (fun o2 t2 h2 => ?_)
        obtain ⟨F2, c2, z2, r2, h2⟩ := h2
        refine ⟨F.trans F2, by omega, by omega, r2, ?_⟩
        rcases h2 with ⟨g, j, q1, q2, q3, q4⟩ | h2
        · exact Or.inl ⟨g, j, q1, q2, q3.up (by omega), q4⟩
        · exact Or.inr h2
      · cases hg
    · obtain ⟨d, rfl, hd2⟩ := hd1 d hd
      have h80 := hr.2.2.2.2.2.2.2.2.1
      refine hM d r s hd2 hr _ (fun v t h => ?_)
      obtain ⟨F, h1⟩ := h
      rcases h1 with ⟨g, hg, r1, hv⟩ | ⟨hg, _⟩
      · cases hg
        have e55 : gI t 55 = gI s 55 := funext fun k => F.I (by omega)
        have e19 : gI t 45 19 = gI s 45 19 := F.I (by omega)
        refine Tp_mono (hm' d u r t v (by unfold nd_ at hd2 ⊢; omega) (by omega) r1 (fun h => by
          rw [e19] at h
          rw [e55]
          exact hv h)) (fun v2 t2 h2 => ?_)
        obtain ⟨F2, h2⟩ := h2
        rw [e55, e19] at h2
        exact ⟨F.trans F2, h2⟩
      · cases hg
theorem op_60 (x y : Int32) (t : Sg) : (if y ≤ x then some ((0 : Int32), t) else some (1, t)) = some (opF 60 x y, t) := by
  show _ = some ((if y ≤ x then (0 : Int32) else 1), t)
  by_cases h : y ≤ x
  · rw [if_pos h, if_pos h]
  · rw [if_neg h, if_neg h]
theorem op_62 (x y : Int32) (t : Sg) : (if x ≤ y then some ((0 : Int32), t) else some (1, t)) = some (opF 62 x y, t) := by
  show _ = some ((if x ≤ y then (0 : Int32) else 1), t)
  by_cases h : x ≤ y
  · rw [if_pos h, if_pos h]
  · rw [if_neg h, if_neg h]
theorem op_61 (x y : Int32) (t : Sg) : (if x = y then some ((1 : Int32), t) else some (0, t)) = some (opF 61 x y, t) := by
  show _ = some ((if x = y then (1 : Int32) else 0), t)
  by_cases h : x = y
  · rw [if_pos h, if_pos h]
  · rw [if_neg h, if_neg h]
theorem pj_0 {f : Nat → Nat} {n m e u deep p : Nat} (hu : 20000 ≤ u) (he : e = min n m) (hpe : p ≤ e) (hP : ∀ p', p ≤ p' → p' ≤ e → PJ f n m e u 1 deep p') : PJ f n m e u 0 deep p := by
  obtain ⟨p1, D1, gd, hx, hm⟩ := hP p (Nat.le_refl _) hpe
  have gd1 := gd.1
  have gd2 := gd.2.1
  have hd1 : ∀ d, nd_ e p deep + (4 - 0) ≤ d → ∃ d', d = d' + 1 ∧ nd_ e p deep + 3 ≤ d' := fun d hd => ⟨d - 1, by omega, by omega⟩
  obtain ⟨w, hw⟩ : ∃ w, u = w + 1 + 1 := ⟨u - 2, by omega⟩
  have hX : ∀ d s, nd_ e p deep + 3 ≤ d → KS s → XRd f e p s → gI s 0 11 = nI deep → ∀ P : Option Nat → Sg → Prop, (∀ o t, OX f e deep p s 0 p1 D1 o t → Tp (X_parseso_20b (fun s => X_px u d 1 s 0) (X_px u d 0) u (X_parseso_20 (fun s => X_px u d 1 s 0) (X_px u d 0) u (w + 1)) t (nI 0) o 1) P) → Tp (X_px u (d + 1) 0 s (nI 0)) P := by
    intro d s hd hk r e11 P hQ
    rw [X_px_s]
    unfold X_parseso
    rw [if_neg (by decide), nI_1]
    refine TpP (hx d s (by omega) hk r e11) (fun o t h => ?_)
    have := hQ o t h
    rw [← X_parseso_20_s, ← hw] at this
    exact this
  have hM : ∀ d r s, nd_ e p deep + 3 ≤ d → MRd r f n m p none s → ∀ P : Int32 → Sg → Prop, (∀ v1 s2, OM f n m r p1 D1 s v1 s2 → Tp (b2 (M_passes s2 60) fun v3 s4 => if v3 = 0 then (b2 (M_passes s4 62) fun v5 s6 => if v5 = 0 then (b2 (M_passes s6 61) fun v7 s8 => if v7 = 0 then (some (v1, s8)) else (b2 (M_ex u d 1 s8 (nI deep)) fun v9 s10 => if v1 = v9 then (some (1, s10)) else (some (0, s10)))) else (b2 (M_ex u d 1 s6 (nI deep)) fun v11 s12 => if v1 ≤ v11 then (some (0, s12)) else (some (1, s12)))) else (b2 (M_ex u d 1 s4 (nI deep)) fun v13 s14 => if v13 ≤ v1 then (some (0, s14)) else (some (1, s14)))) P) → Tp (M_ex u (d + 1) 0 s (nI deep)) P := by
    intro d r s hd hr P hQ
    rw [M_held_s]
    unfold M_heldo
    exact TpP (hm d r s (by omega) hr) (fun v t h => hQ v t h)
  cases D1 with
  | none =>
    refine ⟨p1, none, GD_none (by omega) gd2, fun d s hd hk r e11 => ?_, fun d r s hd hr => ?_⟩
    · obtain ⟨d, rfl, hd2⟩ := hd1 d hd
      refine hX d s hd2 hk r e11 _ (fun o t h => ?_)
      obtain ⟨F, c1, z1, r1, h1⟩ := h
      rcases h1 with ⟨g, i, hg, _⟩ | ⟨_, ho⟩
      · cases hg
      · unfold X_parseso_20b
        rw [ho, ox_none]
        exact Tp_some ⟨F, c1, z1, r1, Or.inr ⟨rfl, rfl⟩⟩
    · obtain ⟨d, rfl, hd2⟩ := hd1 d hd
      refine hM d r s hd2 hr _ (fun v t h => ?_)
      obtain ⟨F, h1⟩ := h
      rcases h1 with ⟨g, hg, _⟩ | ⟨_, p3, r1⟩
      · cases hg
      · rw [M_passes_n r1, b2_some, if_pos rfl, M_passes_n r1, b2_some, if_pos rfl, M_passes_n r1, b2_some, if_pos rfl]
        exact Tp_some ⟨F, Or.inr ⟨rfl, p3, r1⟩⟩
  | some g1 =>
    have g1p := (gd.2.2 g1 rfl).1
    have g1r := (gd.2.2 g1 rfl).2
    by_cases c : p1 < e ∧ (f p1 = 60 ∨ f p1 = 62 ∨ f p1 = 61)
    rotate_left
    · refine ⟨p1, some g1, GD_some g1p gd2 g1r, fun d s hd hk r e11 => ?_, fun d r s hd hr => ?_⟩
      · obtain ⟨d, rfl, hd2⟩ := hd1 d hd
        refine hX d s hd2 hk r e11 _ (fun o t h => ?_)
        obtain ⟨F, c1, z1, r1, h1⟩ := h
        rcases h1 with ⟨g, i, hg, ho, ht, e11'⟩ | ⟨hg, _⟩
        · cases hg
          have hneg : (if p1 < e then ixC 3 (f p1) else -1) < (0 : Int32) := by
            by_cases q : p1 < e
            · rw [if_pos q]
              exact (ix_3 _ (r1.2.2.1 p1 q).2).mpr (fun h => c ⟨q, h⟩)
            · rw [if_neg q]
              decide
          unfold X_parseso_20b
          rw [ho, ox_some, if_neg (by decide), show X_acts (nI 0) = some 3 from by decide, bd_some, X_among_ok r1 (by omega), bd_some, if_pos hneg]
          exact Tp_some ⟨F, c1, z1, r1, Or.inl ⟨g1, i, rfl, rfl, ht, e11'⟩⟩
        · cases hg
      · obtain ⟨d, rfl, hd2⟩ := hd1 d hd
        refine hM d r s hd2 hr _ (fun v t h => ?_)
        obtain ⟨F, h1⟩ := h
        rcases h1 with ⟨g, hg, r1, hv⟩ | ⟨hg, _⟩
        · cases hg
          rw [M_passes_y (ch := 60) (x := 60) r1 rfl (by omega), if_neg (fun h => c ⟨by omega, Or.inl h.2.2⟩), b2_some, if_pos rfl, M_passes_y (ch := 62) (x := 62) r1 rfl (by omega), if_neg (fun h => c ⟨by omega, Or.inr (Or.inl h.2.2)⟩), b2_some, if_pos rfl, M_passes_y (ch := 61) (x := 61) r1 rfl (by omega), if_neg (fun h => c ⟨by omega, Or.inr (Or.inr h.2.2)⟩), b2_some, if_pos rfl]
          exact Tp_some ⟨F, Or.inl ⟨g1, rfl, r1, hv⟩⟩
        · cases hg
    obtain ⟨cp, cb⟩ := c
    obtain ⟨p2, D2, gd', hx', hm'⟩ := hP (p1 + 1) (by omega) (by omega)
    have gd3 := gd'.1
    have gd4 := gd'.2.1
    -- the class behind the act
    have hX2 : ∀ d s, nd_ e p deep + 3 ≤ d → KS s → XRd f e p s → gI s 0 11 = nI deep → ∀ P : Option Nat → Sg → Prop, (∀ i o t, f p1 < 256 → Fa dPx s t → KS t → gC t ≤ gC s + (p1 - p) + (p2 - (p1 + 1)) → gZ t ≤ gZ s + 5 * (p1 - p) + 5 * (p2 - (p1 + 1)) → XRd f e p2 t → TrH t i g1 (0 + (p1 - p)) → ((∃ g i, D2 = some g ∧ o = some i ∧ TrH t i g (0 + (p2 - (p1 + 1))) ∧ gI t 0 11 = nI deep) ∨ (D2 = none ∧ o = none)) → Tp (ox o (X_parseso_92 (fun s => X_px u d 1 s 0) (X_px u d 0) u (X_parseso_20 (fun s => X_px u d 1 s 0) (X_px u d 0) u (w + 1)) t (nI 0) none) (fun i10 => (some ()).bind fun _ => if i < gN t then (some ()).bind fun _ => if i10 < gN t then lt_ (aw t (6 + 5) 5 5) fun s13 => (N8_init s13 (gN t) 0 (nI (f p1)) i i10).bind fun s15 => X_parseso_92 (fun s => X_px u d 1 s 0) (X_px u d 0) u (X_parseso_20 (fun s => X_px u d 1 s 0) (X_px u d 0) u (w + 1)) s15 (nI 0) (some (gN t)) else none else none)) P) → Tp (X_px u (d + 1) 0 s (nI 0)) P := by
      intro d s hd hk r e11 P hQ
      refine hX d s hd hk r e11 P (fun o t h => ?_)
      obtain ⟨F, c1, z1, r1, h1⟩ := h
      rcases h1 with ⟨g, i, hg, ho, ht, e11'⟩ | ⟨hg, _⟩
      rotate_left
      · cases hg
      cases hg
      have hb := (r1.2.2.1 p1 cp).2
      have h80 := r1.2.2.2.1
      have hkt := hk.fa F
      unfold X_parseso_20b
      rw [ho, ox_some, if_neg (by decide), show X_acts (nI 0) = some 3 from by decide, bd_some, X_among_ok r1 (by omega), if_pos cp, bd_some, if_neg (fun h => (ix_3 _ hb).mp h cb), r1.1, aI_n (by omega) (by omega), bd_some, (r1.2.2.1 p1 cp).1, lt_e, lt_e, nI_1, bd_some, ch_b hb, nI_1]
      have f2 : Fr dPx t (pI t 0 9 (nI (p1 + 1))) := (Fr.refl _ _).pI (by omega)
      have hk2 : KS (pI t 0 9 (nI (p1 + 1))) := hkt.fr f2
      have ht1 : TrH (pI t 0 9 (nI (p1 + 1))) i g1 (0 + (p1 - p)) := ht.nd (f2.nd hkt (fun i k hi q => by omega))
      rw [if_pos ht1.1.1]
      refine TpP (hx' d (pI t 0 9 (nI (p1 + 1))) (by unfold nd_ at hd ⊢; omega) hk2 (r1.set (by omega)) ((gI_pI_k (by omega)).trans e11')) (fun o2 t2 h2 => ?_)
      obtain ⟨F2, c2, z2, r2, h2⟩ := h2
      have c2 : gC t2 ≤ gC t + (p2 - (p1 + 1)) := c2
      have z2 : gZ t2 ≤ gZ t + 5 * (p2 - (p1 + 1)) := z2
      exact hQ i o2 t2 hb ((F.trans f2.fa).trans F2) (hk2.fa F2) (by omega) (by omega) r2 (ht1.nd (ndPx F2 hk2)) h2
    have h92 : ∀ d t (o : Option Nat), X_parseso_92 (fun s => X_px u d 1 s 0) (X_px u d 0) u (X_parseso_20 (fun s => X_px u d 1 s 0) (X_px u d 0) u (w + 1)) t (nI 0) o = X_parseso_20b (fun s => X_px u d 1 s 0) (X_px u d 0) u (X_parseso_20 (fun s => X_px u d 1 s 0) (X_px u d 0) u w) t (nI 0) o 0 := fun d t o => by
      unfold X_parseso_92
      rw [if_pos (by decide), X_parseso_20_s]
    -- the Model behind the act
    have hM2 : ∀ d r s, nd_ e p deep + 3 ≤ d → MRd r f n m p none s → Tp (M_ex u (d + 1) 0 s (nI deep)) (fun v t => Fr dPar s t ∧ ∃ v1 v2, v = opF (f p1) v1 v2 ∧ (gI s 45 19 = nI 1 → v1 = g1 (gI s 55)) ∧ ((∃ g, D2 = some g ∧ MRd r f n m p2 none t ∧ (gI s 45 19 = nI 1 → v2 = g (gI s 55))) ∨ (D2 = none ∧ ∃ p3, MRd r f n m p3 (some p2) t))) := by
      intro d r s hd hr
      refine hM d r s hd hr _ (fun v1 t h => ?_)
      obtain ⟨F, h1⟩ := h
      rcases h1 with ⟨g, hg, r1, hv⟩ | ⟨hg, _⟩
      rotate_left
      · cases hg
      cases hg
      have hcn : p1 < n ∧ p1 < m := by omega
      have e55 : gI (pI t 45 13 (nI (p1 + 1))) 55 = gI s 55 := funext fun k => (gI_pI_i (by omega)).trans (F.I (by omega))
      have e19 : gI (pI t 45 13 (nI (p1 + 1))) 45 19 = gI s 45 19 := (gI_pI_k (by omega)).trans (F.I (by omega))
      have f1 : Fr dPar s (pI t 45 13 (nI (p1 + 1))) := F.pI (by omega)
      have hop := hm' d r (pI t 45 13 (nI (p1 + 1))) (by unfold nd_ at hd ⊢; omega) (r1.adv (by omega) (by omega))
      rcases cb with cb | cb | cb
      · rw [M_passes_y (ch := 60) (x := 60) r1 rfl (by omega), if_pos ⟨hcn.1, hcn.2, cb⟩, b2_some, if_neg (by decide), cb]
        refine TpP hop (fun v2 t2 h2 => ?_)
        obtain ⟨F2, h2⟩ := h2
        rw [e55, e19] at h2
        rw [op_60]
        exact Tp_some ⟨f1.trans F2, v1, v2, rfl, hv, h2⟩
      · rw [M_passes_y (ch := 60) (x := 60) r1 rfl (by omega), if_neg (fun h => by omega), b2_some, if_pos rfl, M_passes_y (ch := 62) (x := 62) r1 rfl (by omega), if_pos ⟨hcn.1, hcn.2, cb⟩, b2_some, if_neg (by decide), cb]
        refine TpP hop (fun v2 t2 h2 => ?_)
        obtain ⟨F2, h2⟩ := h2
        rw [e55, e19] at h2
        rw [op_62]
        exact Tp_some ⟨f1.trans F2, v1, v2, rfl, hv, h2⟩
      · rw [M_passes_y (ch := 60) (x := 60) r1 rfl (by omega), if_neg (fun h => by omega), b2_some, if_pos rfl, M_passes_y (ch := 62) (x := 62) r1 rfl (by omega), if_neg (fun h => by omega), b2_some, if_pos rfl, M_passes_y (ch := 61) (x := 61) r1 rfl (by omega), if_pos ⟨hcn.1, hcn.2, cb⟩, b2_some, if_neg (by decide), cb]
        refine TpP hop (fun v2 t2 h2 => ?_)
        obtain ⟨F2, h2⟩ := h2
        rw [e55, e19] at h2
        rw [op_61]
        exact Tp_some ⟨f1.trans F2, v1, v2, rfl, hv, h2⟩
    cases D2 with
    | none =>
      refine ⟨p2, none, GD_none (by omega) gd4, fun d s hd hk r e11 => ?_, fun d r s hd hr => ?_⟩
      · obtain ⟨d, rfl, hd2⟩ := hd1 d hd
        refine hX2 d s hd2 hk r e11 _ (fun i o t hb F hkt c1 z1 r1 _ h1 => ?_)
        rcases h1 with ⟨g, j, hg, _⟩ | ⟨_, ho⟩
        · cases hg
        · rw [ho, ox_none, h92]
          unfold X_parseso_20b
          rw [ox_none]
          exact Tp_some ⟨F, by omega, by omega, r1, Or.inr ⟨rfl, rfl⟩⟩
      · obtain ⟨d, rfl, hd2⟩ := hd1 d hd
        refine Tp_mono (hM2 d r s hd2 hr) (fun v t h => ?_)
        obtain ⟨F, v1, v2, _, _, h1⟩ := h
        rcases h1 with ⟨g, hg, _⟩ | ⟨_, h1⟩
        · cases hg
        · exact ⟨F, Or.inr ⟨rfl, h1⟩⟩
    | some g2 =>
      have g2r := (gd'.2.2 g2 rfl).2
      refine ⟨p2, some (fun a => opF (f p1) (g1 a) (g2 a)), GD_some (by omega) gd4 (fun a b hab => by show opF (f p1) (g1 a) (g2 a) = opF (f p1) (g1 b) (g2 b); rw [g1r a b hab, g2r a b hab]), fun d s hd hk r e11 => ?_, fun d r s hd hr => ?_⟩
      · obtain ⟨d, rfl, hd2⟩ := hd1 d hd
        refine hX2 d s hd2 hk r e11 _ (fun i o t hb F hkt c1 z1 r1 ht1 h1 => ?_)
        rcases h1 with ⟨g, j, hg, ho, hj, e11'⟩ | ⟨hg, _⟩
        · cases hg
          have hN := hkt.1
          rw [ho, ox_some, bd_some, if_pos ht1.1.1, bd_some, if_pos hj.1.1, lt_e]
          refine TtP (N8_ok (s := aw t (6 + 5) 5 5) (b := f p1) (by omega) gK_awN (Nat.lt_succ_self _) hN (Nat.lt_succ_of_lt ht1.1.1) (Nat.lt_succ_of_lt hj.1.1)) (fun t3 ⟨f3, hv3, hr2, hr3⟩ => ?_)
          obtain ⟨n1, n2, n3, n4, n5⟩ := node_new f3
          have hn := n1.ndF hkt
          have H : TrH t3 (gN t) (fun a => opF (f p1) (g1 a) (g2 a)) (0 + (p2 - p)) := tr_act hb n4 n5 hv3 hr2 hr3 (ht1.nd hn) (hj.nd hn) (by omega) (by omega)
          rw [h92]
          unfold X_parseso_20b
          rw [ox_some, if_pos rfl]
          exact Tp_some ⟨F.trans n1.f, by omega, by omega, r1.fa n1 hN (fun q => q) (fun q => q) (fun _ q => q), Or.inl ⟨_, _, rfl, rfl, H, (n1.I (by omega) (fun q => q)).trans e11'⟩⟩
        · cases hg
      · obtain ⟨d, rfl, hd2⟩ := hd1 d hd
        refine Tp_mono (hM2 d r s hd2 hr) (fun v t h => ?_)
        obtain ⟨F, v1, v2, hv, hv1, h1⟩ := h
        rcases h1 with ⟨g, hg, r1, hv2⟩ | ⟨hg, _⟩
        · cases hg
          exact ⟨F, Or.inl ⟨_, rfl, r1, fun h => by rw [hv, hv1 h, hv2 h]⟩⟩
        · cases hg
theorem pj_all {f : Nat → Nat} {n m e u deep p : Nat} (hu : 20000 ≤ u) (he : e = min n m) (hpe : p ≤ e) (h : ∀ p', p ≤ p' → p' ≤ e → TJ f n m e u deep p') : PJ f n m e u 0 deep p :=
  pj_0 hu he hpe (fun p1 a1 b1 => pj_1 hu he b1 (fun p2 a2 b2 => pj_2 hu he b2 (fun p3 a3 b3 => pj_3 (h p3 (by omega) b3))))
theorem tj_all {f : Nat → Nat} {n m e u : Nat} (hu : 20000 ≤ u) (he : e = min n m) (N : Nat) : ∀ deep p, deep ≤ 4 → p ≤ e → nd_ e p deep ≤ N → TJ f n m e u deep p := by
  induction N with
  | zero =>
    intro deep p _ _ h
    unfold nd_ at h
    omega
  | succ N ih =>
    intro deep p hd hp h
    unfold nd_ at h
    by_cases hpe : p < e
    · by_cases c1 : f p = 45
      · exact thing_minus hu he hpe c1 (ih deep (p + 1) hd (by omega) (by unfold nd_; omega))
      · by_cases c2 : 48 ≤ f p ∧ f p ≤ 57
        · exact thing_digit hu he hpe c2
        · by_cases c3 : isLt (f p)
          · exact thing_letter hu he hpe c3
          · by_cases c4 : f p = 40 ∧ deep < 4
            · exact thing_paren hu he hpe c4.1 c4.2 (pj_all hu he (by omega) (fun p' h1 h2 => ih (deep + 1) p' (by omega) h2 (by unfold nd_; omega)))
            · exact thing_none he hp hd (fun _ => ⟨c1, c2, c3, fun q q2 => c4 ⟨q, q2⟩⟩)
    · exact thing_none he hp hd (fun q => absurd q hpe)
theorem parse_all (f : Nat → Nat) {n m e u : Nat} (hu : 20000 ≤ u) (he : e = min n m) : PJ f n m e u 0 0 0 := pj_all hu he (Nat.zero_le _) (fun p' _ h2 => tj_all hu he (nd_ e p' 0) 0 p' (by omega) h2 (Nat.le_refl _))
