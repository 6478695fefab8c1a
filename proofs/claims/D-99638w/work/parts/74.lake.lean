/-! LAW: lake, row (which may throw), sheet -/
set_option maxRecDepth 100000
/-- a call that may throw, and the Model's word of it -/
def BthT (u c : Nat) (s : Sg) (x : Option (Int32 × Sg)) (m : Sg → Option (Int64 × Sg)) : Prop := ∃ k s1 b s2, x = some (k, s1) ∧ m s1 = some (b, s2) ∧ gI s2 45 9 = k ∧ (k = 0 → gJ s2 72 0 = b) ∧ (k = 0 ∨ k = 1) ∧ Inv u (c + 1) s2 ∧ gS s2 = gS s ∧ gC s2 ≤ gC s + 100 ∧ gZ s2 ≤ gZ s + 1000
theorem XI_bump {A : AS} {s : Sg} (h : XI A s) : XI A (bump s) := h
theorem MI_bump {u : Nat} {A : AS} {s : Sg} (h : MI u A s) : MI u A (bump s) := h
/-- it throws -/
theorem both_thr {u c : Nat} {s s1 : Sg} {A : AS} {x : Option (Int32 × Sg)} {m : Sg → Option (Int64 × Sg)} (hX : XI A s) (hM : MI u A s) (hG : GI c A) (hf : Fr dXr s s1) (hr : XRow (aRow A) s1) (hx : x = some (1, bump s1)) (b : Int64) (hm : ∀ t, MI u A t → m t = some (b, pI (pI t 45 9 0) 45 9 1)) : BthT u c s x m := by
  have hM1 : MI u A s1 := hM.fr hf (fun i k h1 h2 => by omega)
  have hX1 : XI (sRow A (aRow A)) s1 := XI_row hX hG hf (fun i k q => q.2) hr
  have hX2 : XI A (bump s1) := XI_bump hX1
  have hM2 : MI u A (bump s1) := MI_bump hM1
  have f : Fr dMr (bump s1) (pI (pI (bump s1) 45 9 0) 45 9 1) := ((Fr.refl _ _).pI (by omega)).pI (by omega)
  refine ⟨1, bump s1, b, _, hx, hm _ hM2, gI_pI_s, fun h => absurd h (by decide), Or.inr rfl, ⟨A, hX2.fr hG f (fun i k h => by omega), MI_row hM2 f (fun i k q => q.2.2) (hM2.2.2.1.mv ((gI_pI_k (by omega)).trans (gI_pI_k (by omega))) (fun k => rfl)), hG.up⟩, ?_, ?_, ?_⟩
  · show gS s1 = gS s
    exact hf.S
  · show gC s1 + 1 ≤ gC s + 100
    rw [hf.C]
    omega
  · show gZ s1 + 6 ≤ gZ s + 1000
    rw [hf.Z]
    omega
/-- it answers -/
theorem both_ans {u c : Nat} {s s1 : Sg} {A : AS} {x : Option (Int32 × Sg)} {m : Sg → Option (Int64 × Sg)} (hX : XI A s) (hM : MI u A s) (hG : GI c A) (b : Int64) (hf : Fr dXr s s1) (hr : XRow (aRow A) s1) (hx : x = some (0, pJ s1 72 0 b)) (hm : ∀ t, MI u A t → Tp (m t) (fun v t' => v = b ∧ Fr dMr t t' ∧ gI t' 45 9 = 0 ∧ MRw (aRow A) t')) : BthT u c s x m := by
  have hM1 : MI u A s1 := hM.fr hf (fun i k h1 h2 => by omega)
  have hX1 : XI (sRow A (aRow A)) s1 := XI_row hX hG hf (fun i k q => q.2) hr
  have f72 : Fr (fun i _ => i = 72) s1 (pJ s1 72 0 b) := (Fr.refl _ _).pJ rfl
  have hX2 : XI A (pJ s1 72 0 b) := hX1.fr (A := A) hG f72 (fun i k h => by omega)
  have hM2 : MI u A (pJ s1 72 0 b) := hM1.fr f72 (fun i k h1 h2 => by omega)
  obtain ⟨v, t, em, ev, f, e9, hr2⟩ := hm _ hM2
  subst ev
  refine ⟨0, _, v, t, hx, em, e9, fun _ => ?_, Or.inl rfl, ⟨A, hX2.fr hG f (fun i k h => by omega), MI_row hM2 f (fun i k q => q.2.2) hr2, hG.up⟩, ?_, ?_, ?_⟩
  · rw [f.J (by omega), gJ_pJ, if_pos ⟨rfl, rfl⟩]
  · rw [f.S]
    show gS s1 = _
    exact hf.S
  · rw [f.C]
    show gC s1 ≤ _
    rw [hf.C]; omega
  · rw [f.Z]
    show gZ s1 ≤ _
    rw [hf.Z]; omega
theorem op_row {u c : Nat} {s : Sg} {A : AS} (hX : XI A s) (hM : MI u A s) (hG : GI c A) (x : Int32) : BthT u c s (L_row s x) (fun t => M_row t x) := by
  obtain ⟨r1, r2, r3⟩ := hX.2.2.1
  rcases in_n x (aRow A).length (by omega) with ⟨i, hi, e⟩ | hno
  · subst e
    refine both_ans hX hM hG ((aRow A).getD i 0) (Fr.refl _ _) hX.2.2.1 ?_ (fun t ht => ?_)
    · unfold L_row X_row
      rw [r1, Xin_0, gd_e, if_pos (in_nyes hi (by omega)), aJ_n (by omega) (by omega), bd_some]
      show (tJ s 72 1 0 (gJ s 44 i)).bind _ = _
      have e : tJ s 72 1 0 (gJ s 44 i) = some (pJ s 72 0 (gJ s 44 i)) := tJ_n (k := 0) (by omega) (by omega)
      rw [e, bd_some, r3 i hi]
    · unfold M_row
      rw [lt_e, gI_pI_k (by omega), ht.2.2.1.1, M_in_eq, gd_e, if_pos (in_nyes hi (by omega)), aJ_n (by omega) (by omega), bd_some]
      refine Tp_some ⟨?_, M_th, gI_pI_s, ht.2.2.1.mv (gI_pI_k (by omega)) (fun k => rfl)⟩
      rw [gJ_pI]
      exact ht.2.2.1.2 i hi
  · refine both_thr hX hM hG (Fr.refl _ _) hX.2.2.1 ?_ 0 (fun t ht => ?_)
    · unfold L_row X_row
      rw [r1, Xin_0, gd_e, if_neg hno]
    · unfold M_row M_lost
      rw [lt_e, gI_pI_k (by omega), ht.2.2.1.1, M_in_eq, gd_e, if_neg hno]
      rfl
theorem op_lake {u c : Nat} {s : Sg} {A : AS} (hu : 20000 ≤ u) (hX : XI A s) (hM : MI u A s) (hG : GI c A) (x y : Int32) : BthT u c s (L_lake s x y) (fun t => b2 (M_lake u t x y) fun v t' => some (v.toInt64, t')) := by
  have h6 := hG.1.1
  have h64 := two6 hG.1.1
  rcases in_n x (gn (aG A)) (by omega) with ⟨i, hi, e⟩ | hno
  rotate_left
  · refine both_thr hX hM hG (Fr.refl _ _) hX.2.2.1 ?_ 0 (fun t ht => ?_)
    · unfold L_lake X_lake
      rw [X_isL hX, gd_e, if_neg hno]
    · unfold M_lake M_lake_23 M_lost
      rw [lt_e, M_isL ht, gd_e, if_neg hno]
      rfl
  subst e
  have M08 : M_in y 0 8 = some (if nI 0 ≤ y ∧ y ≤ nI 8 then 1 else 0) := M_in_eq y (nI 0) (nI 8)
  rcases in_or2 y 0 8 (by omega) (by omega) with ⟨k, hk0, hk, e⟩ | hno
  rotate_left
  · have hne : ∀ j, j ≤ 8 → ¬ y = nI j := fun j hj h => hno (by rw [h]; exact in_yes2 (Nat.zero_le _) hj (by omega))
    refine both_thr hX hM hG (Fr.refl _ _) hX.2.2.1 ?_ 0 (fun t ht => ?_)
    · unfold L_lake X_lake
      rw [X_isL hX, gd_e, if_pos (in_nyes hi (by omega)), if_neg (show ¬ y = 0 from hne 0 (by omega)), if_neg (show ¬ y = 1 from hne 1 (by omega)), if_neg (show ¬ y = 2 from hne 2 (by omega)), if_neg (show ¬ y = 3 from hne 3 (by omega)), if_neg (show ¬ y = 4 from hne 4 (by omega)), if_neg (show ¬ y = 5 from hne 5 (by omega)), if_neg (show ¬ y = 6 from hne 6 (by omega)), if_neg (show ¬ y = 7 from hne 7 (by omega)), if_neg (show ¬ y = 8 from hne 8 (by omega))]
    · unfold M_lake M_lake_23 M_lost
      rw [lt_e, M_isL ht, gd_e, if_pos (in_nyes hi (by omega)), M08, gd_e, if_neg hno]
      rfl
  subst e
  -- what is only read
  have hrd : ∀ v : Int32, X_lake s (nI i) (nI k) = some (some v, s) → (∀ t, MI u A t → M_lake u t (nI i) (nI k) = some (v, pI t 45 9 0)) → BthT u c s (L_lake s (nI i) (nI k)) (fun t => b2 (M_lake u t (nI i) (nI k)) fun v t' => some (v.toInt64, t')) := by
    intro v h1 h2
    refine both_ans hX hM hG v.toInt64 (Fr.refl _ _) hX.2.2.1 ?_ (fun t ht => ?_)
    · unfold L_lake
      rw [h1]
      show (tJ s 72 1 0 v.toInt64).bind _ = _
      have e : tJ s 72 1 0 v.toInt64 = some (pJ s 72 0 v.toInt64) := tJ_n (k := 0) (by omega) (by omega)
      rw [e, bd_some]
    · rw [h2 t ht, b2_some]
      exact Tp_some ⟨rfl, M_th, gI_pI_s, ht.2.2.1.mv (gI_pI_k (by omega)) (fun k => rfl)⟩
  have hE := fun t (ht : MI u A t) => M_env ht M_th
  have pX : ∀ z : Option (Option Int32 × Sg), X_lake s (nI i) (nI k) = z ↔ X_lake s (nI i) (nI k) = z := fun z => Iff.rfl
  obtain ⟨g1, g2, g3⟩ := hX.1.2.1.2 i hi
  obtain ⟨w1, w2, w3, w4, w5, w7, w8, w9⟩ := hX.2.1
  have hc : k = 0 ∨ k = 1 ∨ k = 2 ∨ k = 3 ∨ k = 4 ∨ k = 5 ∨ k = 6 ∨ k = 7 ∨ k = 8 := by omega
  rcases hc with e | e | e | e | e | e | e | e | e <;> subst e
  · refine hrd (nI (gb (aG A) i)) ?_ (fun t ht => ?_)
    · unfold X_lake
      rw [X_isL hX, gd_e, if_pos (in_nyes hi (by omega)), if_pos nI_0, aI_n (by omega) (by omega), bd_some, g1]
    · unfold M_lake
      rw [lt_e, M_isL ht, gd_e, if_pos (in_nyes hi (by omega)), M08, gd_e, if_pos (in_yes2 hk0 hk (by omega)), if_pos nI_0, aI_n (by omega) (by omega), bd_some, ((hE t ht).1.1.1.2 i hi).1]
  · refine hrd (nI (wt (aW A) i)) ?_ (fun t ht => ?_)
    · unfold X_lake
      have w3 : gI s 4 i = _ := w3 i hi
      rw [X_isL hX, gd_e, if_pos (in_nyes hi (by omega)), if_neg (by decide), if_pos (by decide), aI_n (by omega) (by omega), bd_some, w3]
    · unfold M_lake
      rw [lt_e, M_isL ht, gd_e, if_pos (in_nyes hi (by omega)), M08, gd_e, if_pos (in_yes2 hk0 hk (by omega)), if_neg (by decide), if_pos (by decide), ad_18, aI_n (by omega) (by omega), bd_some, (MW_row (hE t ht).2).2.2.2.1 i hi]
  · refine hrd (nI (gl (aG A) i)) ?_ (fun t ht => ?_)
    · unfold X_lake
      rw [X_isL hX, gd_e, if_pos (in_nyes hi (by omega)), if_neg (by decide), if_neg (by decide), if_pos (by decide), aI_n (by omega) (by omega), bd_some, g2]
    · unfold M_lake
      rw [lt_e, M_isL ht, gd_e, if_pos (in_nyes hi (by omega)), M08, gd_e, if_pos (in_yes2 hk0 hk (by omega)), if_neg (by decide), if_neg (by decide), if_pos (by decide), aI_n (by omega) (by omega), bd_some, ((hE t ht).1.1.1.2 i hi).2.1]
  · refine hrd (nI (wk (aW A) i)) ?_ (fun t ht => ?_)
    · unfold X_lake
      have w4 : gI s 5 i = _ := w4 i hi
      rw [X_isL hX, gd_e, if_pos (in_nyes hi (by omega)), if_neg (by decide), if_neg (by decide), if_neg (by decide), if_pos (by decide), aI_n (by omega) (by omega), bd_some, w4]
    · unfold M_lake
      rw [lt_e, M_isL ht, gd_e, if_pos (in_nyes hi (by omega)), M08, gd_e, if_pos (in_yes2 hk0 hk (by omega)), if_neg (by decide), if_neg (by decide), if_neg (by decide), if_pos (by decide), ad_24, aI_n (by omega) (by omega), bd_some, (MW_row (hE t ht).2).2.2.2.2.1 i hi]
  · refine hrd (oI (gd (aG A) i)) ?_ (fun t ht => ?_)
    · unfold X_lake
      rw [X_isL hX, gd_e, if_pos (in_nyes hi (by omega)), if_neg (by decide), if_neg (by decide), if_neg (by decide), if_neg (by decide), if_pos (by decide), aI_n (by omega) (by omega), bd_some, g3]
    · unfold M_lake
      rw [lt_e, M_isL ht, gd_e, if_pos (in_nyes hi (by omega)), M08, gd_e, if_pos (in_yes2 hk0 hk (by omega)), if_neg (by decide), if_neg (by decide), if_neg (by decide), if_neg (by decide), if_pos (by decide), aI_n (by omega) (by omega), bd_some, ((hE t ht).1.1.1.2 i hi).2.2]
  · refine hrd (nI (wl (aW A) i)) ?_ (fun t ht => ?_)
    · unfold X_lake
      have w1 : gI s 2 i = _ := w1 i hi
      rw [X_isL hX, gd_e, if_pos (in_nyes hi (by omega)), if_neg (by decide), if_neg (by decide), if_neg (by decide), if_neg (by decide), if_neg (by decide), if_pos (by decide), aI_n (by omega) (by omega), bd_some, w1]
    · unfold M_lake
      rw [lt_e, M_isL ht, gd_e, if_pos (in_nyes hi (by omega)), M08, gd_e, if_pos (in_yes2 hk0 hk (by omega)), if_neg (by decide), if_neg (by decide), if_neg (by decide), if_neg (by decide), if_neg (by decide), if_pos (by decide), aI_n (by omega) (by omega), bd_some, (MW_row (hE t ht).2).1 i hi]
  · have hbt := bt_lt (wo (aW A)) i
    have ho := hG.2.1.2.1
    refine hrd (nI (bt (wo (aW A)) i)) ?_ (fun t ht => ?_)
    · unfold X_lake
      rw [X_isL hX, gd_e, if_pos (in_nyes hi (by omega)), if_neg (by decide), if_neg (by decide), if_neg (by decide), if_neg (by decide), if_neg (by decide), if_neg (by decide), if_pos (by decide), w5, X_has_n (by omega) (by omega), bd_some]
      by_cases e : bt (wo (aW A)) i = 1
      · rw [e, if_neg (by decide)]
        rfl
      · have e0 : bt (wo (aW A)) i = 0 := by omega
        rw [e0, if_pos nI_0]
        rfl
    · unfold M_lake
      rw [lt_e, M_isL ht, gd_e, if_pos (in_nyes hi (by omega)), M08, gd_e, if_pos (in_yes2 hk0 hk (by omega)), if_neg (by decide), if_neg (by decide), if_neg (by decide), if_neg (by decide), if_neg (by decide), if_neg (by decide), if_pos (by decide), ad_6, aI_n (by omega) (by omega), bd_some, (MW_row (hE t ht).2).2.1 i hi]
  · refine hrd (nI (wh (aW A) i)) ?_ (fun t ht => ?_)
    · unfold X_lake
      have w2 : gI s 3 i = _ := w2 i hi
      rw [X_isL hX, gd_e, if_pos (in_nyes hi (by omega)), if_neg (by decide), if_neg (by decide), if_neg (by decide), if_neg (by decide), if_neg (by decide), if_neg (by decide), if_neg (by decide), if_pos (by decide), aI_n (by omega) (by omega), bd_some, w2]
    · unfold M_lake
      rw [lt_e, M_isL ht, gd_e, if_pos (in_nyes hi (by omega)), M08, gd_e, if_pos (in_yes2 hk0 hk (by omega)), if_neg (by decide), if_neg (by decide), if_neg (by decide), if_neg (by decide), if_neg (by decide), if_neg (by decide), if_neg (by decide), if_pos (by decide), ad_12, aI_n (by omega) (by omega), bd_some, (MW_row (hE t ht).2).2.2.1 i hi]
  · obtain ⟨v, s1, ex, ev, hf⟩ := X_run_ok hG.1 hX.1 hG.2.1 hX.2.1 (by omega) hi
    subst ev
    have hf2 : Fr dXr s s1 := hf.mono (fun i k q => by omega)
    refine both_ans hX hM hG (nI (runN (aG A) (aRu A) (aW A) i)).toInt64 hf2 (hX.2.2.1.mv (hf.I (by omega)) (fun k => hf.J (by omega))) ?_ (fun t ht => ?_)
    · unfold L_lake X_lake
      rw [X_isL hX, gd_e, if_pos (in_nyes hi (by omega)), if_neg (by decide), if_neg (by decide), if_neg (by decide), if_neg (by decide), if_neg (by decide), if_neg (by decide), if_neg (by decide), if_neg (by decide), if_pos (by decide), ex, b2_some]
      show (tJ s1 72 1 0 _).bind _ = _
      have e : tJ s1 72 1 0 (nI (runN (aG A) (aRu A) (aW A) i)).toInt64 = some (pJ s1 72 0 (nI (runN (aG A) (aRu A) (aW A) i)).toInt64) := tJ_n (k := 0) (by omega) (by omega)
      rw [e, bd_some]
    · unfold M_lake
      rw [lt_e, M_isL ht, gd_e, if_pos (in_nyes hi (by omega)), M08, gd_e, if_pos (in_yes2 hk0 hk (by omega)), if_neg (by decide), if_neg (by decide), if_neg (by decide), if_neg (by decide), if_neg (by decide), if_neg (by decide), if_neg (by decide), if_neg (by decide)]
      obtain ⟨v, t1, em, ev, hfm⟩ := M_runOf_ok hu hG.1 (hE t ht).1.1 hG.2.2.2.2.2.2.1 hG.2.1 (hE t ht).2 (by omega) hi
      subst ev
      rw [em, b2_some, b2_some]
      refine Tp_some ⟨rfl, M_th.trans (hfm.mono (fun i k q => by omega)), (hfm.I (by omega)).trans gI_pI_s, ?_⟩
      exact (ht.2.2.1.mv (gI_pI_k (j := 45) (m := 8) (by omega)) (fun k => rfl)).mv (hfm.I (by omega)) (fun k => hfm.J (by omega))
