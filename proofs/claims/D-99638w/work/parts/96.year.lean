/-! LAW: year, an act read -/
set_option maxRecDepth 100000
def sgA (b : Nat) : Prop := b = 110 ∨ b = 112 ∨ b = 115 ∨ b = 99 ∨ b = 116 ∨ b = 103
/-- an act stands at p -/
def okA (f : Nat → Nat) (e p : Nat) : Prop := (p < e ∧ sgA (f p)) ∧ dg f e (p + 1) ∧ (f p = 116 → dg f e (p + 2)) ∧ (f p = 103 → lt4 f e (p + 2))
def nxA (f : Nat → Nat) (p : Nat) : Nat := if f p = 116 ∨ f p = 103 then p + 3 else p + 2
theorem sgA_dec (b : Nat) : sgA b ∨ ¬ sgA b := Classical.em _
/-- where it goes wrong -/
def ftA (f : Nat → Nat) (e p q : Nat) : Prop := (¬ (p < e ∧ sgA (f p)) ∧ q = p) ∨ ((p < e ∧ sgA (f p)) ∧ ¬ dg f e (p + 1) ∧ q = p + 1) ∨ ((p < e ∧ sgA (f p)) ∧ dg f e (p + 1) ∧ q = p + 2 ∧ ((f p = 116 ∧ ¬ dg f e (p + 2)) ∨ (f p = 103 ∧ ¬ lt4 f e (p + 2))))
theorem ftA_le {f : Nat → Nat} {e p q : Nat} (hp : p ≤ e) (h : ftA f e p q) : q ≤ e ∧ p ≤ q := by
  rcases h with ⟨_, h⟩ | ⟨h1, _, h⟩ | ⟨h1, h2, h, _⟩
  · omega
  · omega
  · have := h2.1
    omega
theorem ftA_one {f : Nat → Nat} {e p q q' : Nat} (h : ftA f e p q) (h' : ftA f e p q') : q = q' := by
  rcases h with ⟨a, h⟩ | ⟨a, b, h⟩ | ⟨a, b, h, _⟩
  · rcases h' with ⟨a', h'⟩ | ⟨a', b', h'⟩ | ⟨a', b', h', _⟩
    · omega
    · exact absurd a' a
    · exact absurd a' a
  · rcases h' with ⟨a', h'⟩ | ⟨a', b', h'⟩ | ⟨a', b', h', _⟩
    · exact absurd a a'
    · omega
    · exact absurd b' b
  · rcases h' with ⟨a', h'⟩ | ⟨a', b', h'⟩ | ⟨a', b', h', _⟩
    · exact absurd a a'
    · exact absurd b b'
    · omega
theorem ftA_no {f : Nat → Nat} {e p q : Nat} (h : ftA f e p q) : ¬ okA f e p := fun ⟨a, b, c, d⟩ => by
  rcases h with ⟨a', h⟩ | ⟨a', b', h⟩ | ⟨a', b', h, ⟨c', d'⟩ | ⟨c', d'⟩⟩
  · exact a' a
  · exact b' b
  · exact d' (c c')
  · exact d' (d c')
theorem okA_nx {f : Nat → Nat} {e p : Nat} (h : okA f e p) : p + 2 ≤ nxA f p ∧ nxA f p ≤ e := by
  unfold nxA
  have h2 := h.2.1.1
  by_cases q : f p = 116 ∨ f p = 103
  · rw [if_pos q]
    rcases q with q | q
    · have := (h.2.2.1 q).1
      omega
    · have := (h.2.2.2 q).1
      omega
  · rw [if_neg q]
    omega
abbrev dRA (i k : Nat) : Prop := i = 28 ∨ i = 29 ∨ i = 30 ∨ (i = 0 ∧ (k = 9 ∨ k = 30))
def XAc (f : Nat → Nat) (p k : Nat) (t : Sg) : Prop := gI t 28 k = nI (f p) ∧ gI t 29 k = nI (f (p + 1) - 48) ∧ (f p = 116 → gI t 30 k = nI (f (p + 2) - 48)) ∧ (f p = 103 → gI t 30 k = nI (f (p + 2) - 97))
theorem X_readsAct_ok {f : Nat → Nat} {e p k u : Nat} {s : Sg} (hu : 20000 ≤ u) (h : XRd f e p s) (hk : k < 60) (e30 : gI s 0 30 = nI k) : Tp (X_readsAct u s) (fun v t => Fr dRA s t ∧ (∀ i j, (i = 28 ∨ i = 29 ∨ i = 30) → j < k → gI t i j = gI s i j) ∧ ((okA f e p ∧ v = 1 ∧ XRd f e (nxA f p) t ∧ gI t 0 30 = nI (k + 1) ∧ XAc f p k t) ∨ (v = 0 ∧ ∃ q, ftA f e p q ∧ XRd f e q t))) := by
  have h9 := h
  obtain ⟨e9, e10, ht, h80, hpe⟩ := h9
  unfold X_readsAct
  rw [lt_e, X_among_ok h (by omega), bd_some, e9, e30]
  by_cases q0 : p < e ∧ sgA (f p)
  · have hpb := ht p q0.1
    have hp1 := q0.1
    rw [if_pos q0.1, if_pos (Int32.not_lt.mp (fun hh => (ix_6 _ hpb.2).mp hh q0.2)), aI_n (by omega) (by omega), bd_some, hpb.1, tI_n (by omega) (by omega), bd_some, lt_e, lt_e, gI_pI_i (by omega), e9, nI_1]
    have r1 : XRd f e (p + 1) (pI (pI (pI s 28 k (nI (f p))) 0 9 (nI (p + 1))) 0 30 (gI (pI (pI s 28 k (nI (f p))) 0 9 (nI (p + 1))) 0 30 + 1)) := ((h.mv (s := s) (t := pI s 28 k (nI (f p))) (gI_pI_i (by omega)) (gI_pI_i (by omega)) (fun k => gI_pI_i (by omega))).set (by omega)).mv (gI_pI_k (by omega)) (gI_pI_k (by omega)) (fun k => gI_pI_i (by omega))
    have f1 : Fr dRA s (pI (pI (pI s 28 k (nI (f p))) 0 9 (nI (p + 1))) 0 30 (gI (pI (pI s 28 k (nI (f p))) 0 9 (nI (p + 1))) 0 30 + 1)) := (((Fr.refl _ _).pI (by omega)).pI (by omega)).pI (by omega)
    have e30' : gI (pI (pI (pI s 28 k (nI (f p))) 0 9 (nI (p + 1))) 0 30 (gI (pI (pI s 28 k (nI (f p))) 0 9 (nI (p + 1))) 0 30 + 1)) 0 30 = nI (k + 1) := by
      rw [gI_pI_s, gI_pI_k (by omega), gI_pI_i (by omega), e30, nI_1]
    have e28' : gI (pI (pI (pI s 28 k (nI (f p))) 0 9 (nI (p + 1))) 0 30 (gI (pI (pI s 28 k (nI (f p))) 0 9 (nI (p + 1))) 0 30 + 1)) 28 k = nI (f p) := by
      rw [gI_pI_i (by omega), gI_pI_i (by omega), gI_pI_s]
    have eo' : ∀ i j, (i = 28 ∨ i = 29 ∨ i = 30) → j < k → gI (pI (pI (pI s 28 k (nI (f p))) 0 9 (nI (p + 1))) 0 30 (gI (pI (pI s 28 k (nI (f p))) 0 9 (nI (p + 1))) 0 30 + 1)) i j = gI s i j := by
      intro i j hi hj
      rw [gI_pI_i (by omega), gI_pI_i (by omega), gI_pI_k (by omega)]
    generalize pI (pI (pI s 28 k (nI (f p))) 0 9 (nI (p + 1))) 0 30 (gI (pI (pI s 28 k (nI (f p))) 0 9 (nI (p + 1))) 0 30 + 1) = s1 at r1 f1 e30' e28' eo'
    refine TpP (X_num1 hu r1) (fun v2 s2 ⟨f2, h2⟩ => ?_)
    rw [tI_n (by omega) (by omega), bd_some, aI_n (by omega) (by omega), bd_some, gI_pI_s]
    have f3 : Fr dRA s (pI s2 29 k v2) := (f1.trans (f2.mono (fun i k q => by omega))).pI (by omega)
    have eo3 : ∀ i j, (i = 28 ∨ i = 29 ∨ i = 30) → j < k → gI (pI s2 29 k v2) i j = gI s i j := by
      intro i j hi hj
      rw [gI_pI_k (by omega), f2.I (by omega)]
      exact eo' i j hi hj
    rcases h2 with ⟨q1, hv, r2⟩ | ⟨q1, hv, r2⟩
    · have hq1 := q1.2
      have e30'' : gI (pI s2 29 k v2) 0 30 = nI (k + 1) := by rw [gI_pI_i (by omega), f2.I (by omega)]; exact e30'
      have e28'' : gI (pI s2 29 k v2) 28 k = nI (f p) := by rw [gI_pI_i (by omega), f2.I (by omega)]; exact e28'
      have e29'' : gI (pI s2 29 k v2) 29 k = nI (f (p + 1) - 48) := by rw [gI_pI_s, hv]
      have r3 : XRd f e (p + 2) (pI s2 29 k v2) := r2.mv (gI_pI_i (by omega)) (gI_pI_i (by omega)) (fun k => gI_pI_i (by omega))
      rw [hv] at f3 eo3 e30'' e28'' e29'' r3
      rw [hv, if_neg (nI_pos (by omega))]
      generalize pI s2 29 k (nI (f (p + 1) - 48)) = s3 at f3 eo3 e30'' e28'' e29'' r3
      have h101 : ∀ (s4 : Sg) (w : Int32), Fr dAt s3 s4 → Tp (X_readsAct_126 u s4 (nI k) (nI k) w) (fun v t => Fr dRA s t ∧ (∀ i j, (i = 28 ∨ i = 29 ∨ i = 30) → j < k → gI t i j = gI s i j) ∧ v = (if w < 0 then 0 else 1) ∧ t = pI s4 30 k w) := by
        intro s4 w f4
        unfold X_readsAct_126
        rw [tI_n (by omega) (by omega), bd_some, aI_n (by omega) (by omega), bd_some, gI_pI_s]
        have hA : Fr dRA s (pI s4 30 k w) := (f3.trans (f4.mono (fun i k q => by omega))).pI (by omega)
        have hB : ∀ i j, (i = 28 ∨ i = 29 ∨ i = 30) → j < k → gI (pI s4 30 k w) i j = gI s i j := by
          intro i j hi hj
          rw [gI_pI_k (by omega), f4.I (by omega)]
          exact eo3 i j hi hj
        by_cases hw : w < 0
        · rw [if_pos hw]
          exact Tp_some ⟨hA, hB, by rw [if_pos hw], rfl⟩
        · rw [if_neg hw]
          exact Tp_some ⟨hA, hB, by rw [if_neg hw], rfl⟩
      by_cases q2 : f p = 116
      · rw [if_pos (by rw [q2]; decide)]
        unfold X_readsAct_101
        rw [if_pos (by rw [q2]; decide)]
        refine TpP (X_num1 hu r3) (fun v4 s4 ⟨f4, h4⟩ => Tp_mono (h101 s4 v4 f4) (fun v t ⟨g1, g2, g3, g4⟩ => ⟨g1, g2, ?_⟩))
        rcases h4 with ⟨q4, hv4, r4⟩ | ⟨q4, hv4, r4⟩
        · left
          have := q4.2
          have en : nxA f p = p + 3 := if_pos (Or.inl q2)
          refine ⟨⟨q0, q1, fun _ => q4, fun h => by omega⟩, by rw [g3, hv4, if_neg (nI_pos (by omega))], ?_, ?_, ?_, ?_, fun _ => ?_, fun h => by omega⟩
          · rw [en, g4]
            exact r4.mv (gI_pI_i (by omega)) (gI_pI_i (by omega)) (fun k => gI_pI_i (by omega))
          · rw [g4, gI_pI_i (by omega), f4.I (by omega)]; exact e30''
          · rw [g4, gI_pI_i (by omega), f4.I (by omega)]; exact e28''
          · rw [g4, gI_pI_i (by omega), f4.I (by omega)]; exact e29''
          · rw [g4, gI_pI_s, hv4]
        · right
          refine ⟨by rw [g3, hv4]; rfl, p + 2, Or.inr (Or.inr ⟨q0, q1, rfl, Or.inl ⟨q2, q4⟩⟩), ?_⟩
          rw [g4]
          exact r4.mv (gI_pI_i (by omega)) (gI_pI_i (by omega)) (fun k => gI_pI_i (by omega))
      · rw [if_neg (show ¬ nI (f p) = 116 from fun h => q2 ((nI_eq (b := 116) (by omega) (by omega)).mp h))]
        by_cases q3 : f p = 103
        · rw [if_pos (by rw [q3]; decide)]
          unfold X_readsAct_101
          rw [if_neg (show ¬ nI (f p) = 116 from fun h => q2 ((nI_eq (b := 116) (by omega) (by omega)).mp h))]
          refine TpP (X_takesOf0 r3) (fun v4 s4 ⟨f4, h4⟩ => Tp_mono (h101 s4 v4 f4) (fun v t ⟨g1, g2, g3, g4⟩ => ⟨g1, g2, ?_⟩))
          rcases h4 with ⟨q4, hv4, r4⟩ | ⟨q4, hv4, r4⟩
          · left
            have := q4.2
            have en : nxA f p = p + 3 := if_pos (Or.inr q3)
            refine ⟨⟨q0, q1, fun h => by omega, fun _ => q4⟩, by rw [g3, hv4, if_neg (nI_pos (by omega))], ?_, ?_, ?_, ?_, fun h => by omega, fun _ => ?_⟩
            · rw [en, g4]
              exact r4.mv (gI_pI_i (by omega)) (gI_pI_i (by omega)) (fun k => gI_pI_i (by omega))
            · rw [g4, gI_pI_i (by omega), f4.I (by omega)]; exact e30''
            · rw [g4, gI_pI_i (by omega), f4.I (by omega)]; exact e28''
            · rw [g4, gI_pI_i (by omega), f4.I (by omega)]; exact e29''
            · rw [g4, gI_pI_s, hv4]
          · right
            refine ⟨by rw [g3, hv4]; rfl, p + 2, Or.inr (Or.inr ⟨q0, q1, rfl, Or.inr ⟨q3, q4⟩⟩), ?_⟩
            rw [g4]
            exact r4.mv (gI_pI_i (by omega)) (gI_pI_i (by omega)) (fun k => gI_pI_i (by omega))
        · rw [if_neg (show ¬ nI (f p) = 103 from fun h => q3 ((nI_eq (b := 103) (by omega) (by omega)).mp h))]
          unfold X_readsAct_86
          have en : nxA f p = p + 2 := if_neg (by omega)
          rw [aI_n (by omega) (by omega), bd_some, e29'', if_neg (nI_pos (by omega))]
          exact Tp_some ⟨f3, eo3, Or.inl ⟨⟨q0, q1, fun h => absurd h q2, fun h => absurd h q3⟩, rfl, by rw [en]; exact r3, e30'', e28'', e29'', fun h => absurd h q2, fun h => absurd h q3⟩⟩
    · rw [hv, if_pos (by decide)]
      rw [hv] at f3 eo3
      unfold X_readsAct_86
      rw [aI_n (by omega) (by omega), bd_some, gI_pI_s, if_pos (by decide)]
      exact Tp_some ⟨f3, eo3, Or.inr ⟨rfl, p + 1, Or.inr (Or.inl ⟨q0, q1, rfl⟩), r2.mv (gI_pI_i (by omega)) (gI_pI_i (by omega)) (fun k => gI_pI_i (by omega))⟩⟩
  · have hneg : ¬ (0 : Int32) ≤ (if p < e then ixC 6 (f p) else -1) := by
      by_cases q1 : p < e
      · rw [if_pos q1]
        exact Int32.not_le.mpr ((ix_6 _ (ht p q1).2).mpr (fun h => q0 ⟨q1, h⟩))
      · rw [if_neg q1]
        decide
    rw [if_neg hneg]
    exact Tp_some ⟨Fr.refl _ _, fun _ _ _ _ => rfl, Or.inr ⟨rfl, p, Or.inl ⟨q0, rfl⟩, h⟩⟩
/-! the Model -/
abbrev dRM (i k : Nat) : Prop := i = 61 ∨ (i = 45 ∧ (k = 13 ∨ k = 14))
def MAc (f : Nat → Nat) (p k : Nat) (t : Sg) : Prop := gI t 61 (3 * k) = nI (f p) ∧ gI t 61 (3 * k + 1) = nI (f (p + 1) - 48) ∧ (f p = 116 → gI t 61 (3 * k + 2) = nI (f (p + 2) - 48)) ∧ (f p = 103 → gI t 61 (3 * k + 2) = nI (f (p + 2) - 97))
theorem MRd.p61 {f : Nat → Nat} {n m p k : Nat} {w : Option Nat} {s : Sg} {v : Int32} (h : MRd 50 f n m p w s) : MRd 50 f n m p w (pI s 61 k v) := h.mv rfl (fun k _ _ => gI_pI_i (by omega)) (fun k => gI_pI_i (by omega))
theorem M_readAct_ok {f : Nat → Nat} {n m p k : Nat} {s : Sg} (h : MRd 50 f n m p none s) (hk : k < 60) : Tt (M_readAct s (nI (3 * k))) (fun t => Fr dRM s t ∧ (∀ j, j < 3 * k → gI t 61 j = gI s 61 j) ∧ ((okA f (min n m) p ∧ MRd 50 f n m (nxA f p) none t ∧ MAc f p k t) ∨ (∃ q p', ftA f (min n m) p q ∧ MRd 50 f n m p' (some q) t))) := by
  have h9 := h
  obtain ⟨g0, g1, g2, g3, g4, g5, g6, g7, g8, g9, g10, g11⟩ := h9
  have g62 := g6.2
  have hpm : p < min n m ↔ p < n ∧ p < m := by omega
  by_cases q0 : p < min n m ∧ sgA (f p)
  · have hp := hpm.mp q0.1
    have e50 : M_readAct s (nI (3 * k)) = M_readAct_50 s (nI (3 * k)) (nI (f p)) := by
      unfold M_readAct
      rw [M_here_ok h, if_pos hp, bd_some]
      rcases q0.2 with e | e | e | e | e | e
      · rw [e, if_pos (by decide)]
      · rw [e, if_neg (by decide), if_pos (by decide)]
      · rw [e, if_neg (by decide), if_neg (by decide), if_pos (by decide)]
      · rw [e, if_neg (by decide), if_neg (by decide), if_neg (by decide), if_pos (by decide)]
      · rw [e, if_neg (by decide), if_neg (by decide), if_neg (by decide), if_neg (by decide), if_pos (by decide)]
      · rw [e, if_neg (by decide), if_neg (by decide), if_neg (by decide), if_neg (by decide), if_neg (by decide), if_pos (by decide)]
    rw [e50]
    unfold M_readAct_50
    rw [lt_e, tI_n (by omega) (by omega), bd_some, g3, nI_1]
    have r1 : MRd 50 f n m (p + 1) none (pI (pI s 45 13 (nI (p + 1))) 61 (3 * k) (nI (f p))) := (h.adv (by omega) (by omega)).p61
    have f1 : Fr dRM s (pI (pI s 45 13 (nI (p + 1))) 61 (3 * k) (nI (f p))) := ((Fr.refl _ _).pI (by omega)).pI (by omega)
    have eo1 : ∀ j, j < 3 * k → gI (pI (pI s 45 13 (nI (p + 1))) 61 (3 * k) (nI (f p))) 61 j = gI s 61 j := fun j hj => by rw [gI_pI_k (by omega), gI_pI_i (by omega)]
    have e1 : gI (pI (pI s 45 13 (nI (p + 1))) 61 (3 * k) (nI (f p))) 61 (3 * k) = nI (f p) := gI_pI_s
    generalize pI (pI s 45 13 (nI (p + 1))) 61 (3 * k) (nI (f p)) = s1 at r1 f1 eo1 e1
    rw [M_oneOf_y (x := 48) (y := 10) (a := 48) (b := 10) r1 rfl rfl (by omega) (by omega)]
    have hfpb := (g5 p hp.1).2
    -- what stands behind the first number when it is wrong
    by_cases q1 : p + 1 < n ∧ p + 1 < m ∧ 48 ≤ f (p + 1) ∧ f (p + 1) < 48 + 10
    · have d1 : dg f (min n m) (p + 1) := ⟨by omega, by omega, by omega⟩
      rw [if_pos q1, b2_some, nI_1, tI_n (by omega) (by omega), bd_some]
      have r2 : MRd 50 f n m (p + 2) none (pI (pI s1 45 13 (nI (p + 1 + 1))) 61 (3 * k + 1) (nI (f (p + 1) - 48))) := (r1.adv (by omega) (by omega)).p61
      have f2 : Fr dRM s (pI (pI s1 45 13 (nI (p + 1 + 1))) 61 (3 * k + 1) (nI (f (p + 1) - 48))) := (f1.pI (by omega)).pI (by omega)
      have eo2 : ∀ j, j < 3 * k → gI (pI (pI s1 45 13 (nI (p + 1 + 1))) 61 (3 * k + 1) (nI (f (p + 1) - 48))) 61 j = gI s 61 j := fun j hj => by rw [gI_pI_k (by omega), gI_pI_i (by omega)]; exact eo1 j hj
      have e2 : gI (pI (pI s1 45 13 (nI (p + 1 + 1))) 61 (3 * k + 1) (nI (f (p + 1) - 48))) 61 (3 * k) = nI (f p) := by rw [gI_pI_k (by omega), gI_pI_i (by omega)]; exact e1
      have e2' : gI (pI (pI s1 45 13 (nI (p + 1 + 1))) 61 (3 * k + 1) (nI (f (p + 1) - 48))) 61 (3 * k + 1) = nI (f (p + 1) - 48) := gI_pI_s
      generalize pI (pI s1 45 13 (nI (p + 1 + 1))) 61 (3 * k + 1) (nI (f (p + 1) - 48)) = s2 at r2 f2 eo2 e2 e2'
      by_cases q2 : f p = 116
      · rw [if_pos (by rw [q2]; decide), M_oneOf_y (x := 48) (y := 10) (a := 48) (b := 10) r2 rfl rfl (by omega) (by omega)]
        have en : nxA f p = p + 3 := if_pos (Or.inl q2)
        have h105 : ∀ t, M_readAct_105 t (nI (3 * k)) (nI (f p)) = some t := fun t => by
          unfold M_readAct_105
          rw [if_neg (show ¬ nI (f p) = 103 from fun h => by have := (nI_eq (b := 103) (by omega) (by omega)).mp h; omega)]
        by_cases q3 : p + 2 < n ∧ p + 2 < m ∧ 48 ≤ f (p + 2) ∧ f (p + 2) < 48 + 10
        · rw [if_pos q3, b2_some, show nI (3 * k) + 2 = nI (3 * k + 2) from nI_add _ 2, tI_n (by omega) (by omega), bd_some, h105]
          refine Tt_some ⟨(f2.pI (by omega)).pI (by omega), fun j hj => ?_, Or.inl ⟨⟨q0, d1, fun _ => ⟨by omega, by omega, by omega⟩, fun h => by omega⟩, ?_, ?_, ?_, fun _ => gI_pI_s, fun h => by omega⟩⟩
          · rw [gI_pI_k (by omega), gI_pI_i (by omega)]; exact eo2 j hj
          · rw [en]; exact (r2.adv (by omega) (by omega)).p61
          · rw [gI_pI_k (by omega), gI_pI_i (by omega)]; exact e2
          · rw [gI_pI_k (by omega), gI_pI_i (by omega)]; exact e2'
        · rw [if_neg q3, b2_some, show nI (3 * k) + 2 = nI (3 * k + 2) from nI_add _ 2, tI_n (by omega) (by omega), bd_some, h105]
          refine Tt_some ⟨(f2.pI (by omega)).pI (by omega), fun j hj => ?_, Or.inr ⟨p + 2, p + 2, Or.inr (Or.inr ⟨q0, d1, rfl, Or.inl ⟨q2, fun h => q3 ⟨by have := h.1; omega, by have := h.1; omega, h.2.1, by have := h.2.2; omega⟩⟩⟩), (r2.flt (by omega)).p61⟩⟩
          rw [gI_pI_k (by omega), gI_pI_i (by omega)]; exact eo2 j hj
      · rw [if_neg (show ¬ nI (f p) = 116 from fun h => q2 ((nI_eq (b := 116) (by omega) (by omega)).mp h))]
        unfold M_readAct_105
        by_cases q4 : f p = 103
        · have en : nxA f p = p + 3 := if_pos (Or.inr q4)
          rw [if_pos (by rw [q4]; decide), M_oneOf_y (x := 97) (y := 4) (a := 97) (b := 4) r2 rfl rfl (by omega) (by omega)]
          by_cases q3 : p + 2 < n ∧ p + 2 < m ∧ 97 ≤ f (p + 2) ∧ f (p + 2) < 97 + 4
          · rw [if_pos q3, b2_some, show nI (3 * k) + 2 = nI (3 * k + 2) from nI_add _ 2, tI_n (by omega) (by omega), bd_some]
            refine Tt_some ⟨(f2.pI (by omega)).pI (by omega), fun j hj => ?_, Or.inl ⟨⟨q0, d1, fun h => by omega, fun _ => ⟨by omega, by omega, by omega⟩⟩, ?_, ?_, ?_, fun h => by omega, fun _ => gI_pI_s⟩⟩
            · rw [gI_pI_k (by omega), gI_pI_i (by omega)]; exact eo2 j hj
            · rw [en]; exact (r2.adv (by omega) (by omega)).p61
            · rw [gI_pI_k (by omega), gI_pI_i (by omega)]; exact e2
            · rw [gI_pI_k (by omega), gI_pI_i (by omega)]; exact e2'
          · rw [if_neg q3, b2_some, show nI (3 * k) + 2 = nI (3 * k + 2) from nI_add _ 2, tI_n (by omega) (by omega), bd_some]
            refine Tt_some ⟨(f2.pI (by omega)).pI (by omega), fun j hj => ?_, Or.inr ⟨p + 2, p + 2, Or.inr (Or.inr ⟨q0, d1, rfl, Or.inr ⟨q4, fun h => q3 ⟨by have := h.1; omega, by have := h.1; omega, h.2.1, by have := h.2.2; omega⟩⟩⟩), (r2.flt (by omega)).p61⟩⟩
            rw [gI_pI_k (by omega), gI_pI_i (by omega)]; exact eo2 j hj
        · have en : nxA f p = p + 2 := if_neg (by omega)
          rw [if_neg (show ¬ nI (f p) = 103 from fun h => q4 ((nI_eq (b := 103) (by omega) (by omega)).mp h))]
          exact Tt_some ⟨f2, eo2, Or.inl ⟨⟨q0, d1, fun h => absurd h q2, fun h => absurd h q4⟩, by rw [en]; exact r2, e2, e2', fun h => absurd h q2, fun h => absurd h q4⟩⟩
    · have d1 : ¬ dg f (min n m) (p + 1) := fun h => q1 ⟨by have := h.1; omega, by have := h.1; omega, h.2.1, by have := h.2.2; omega⟩
      rw [if_neg q1, b2_some, nI_1, tI_n (by omega) (by omega), bd_some]
      have r2 : MRd 50 f n m (p + 1) (some (p + 1)) (pI (pI s1 45 14 (nI (p + 1))) 61 (3 * k + 1) 0) := (r1.flt (by omega)).p61
      have f2 : Fr dRM s (pI (pI s1 45 14 (nI (p + 1))) 61 (3 * k + 1) 0) := (f1.pI (by omega)).pI (by omega)
      have eo2 : ∀ j, j < 3 * k → gI (pI (pI s1 45 14 (nI (p + 1))) 61 (3 * k + 1) 0) 61 j = gI s 61 j := fun j hj => by rw [gI_pI_k (by omega), gI_pI_i (by omega)]; exact eo1 j hj
      generalize pI (pI s1 45 14 (nI (p + 1))) 61 (3 * k + 1) 0 = s2 at r2 f2 eo2
      have hft : ftA f (min n m) p (p + 1) := Or.inr (Or.inl ⟨q0, d1, rfl⟩)
      have h105 : ∀ t, MRd 50 f n m (p + 1) (some (p + 1)) t → Fr dRM s t → (∀ j, j < 3 * k → gI t 61 j = gI s 61 j) → Tt (M_readAct_105 t (nI (3 * k)) (nI (f p))) (fun t => Fr dRM s t ∧ (∀ j, j < 3 * k → gI t 61 j = gI s 61 j) ∧ ((okA f (min n m) p ∧ MRd 50 f n m (nxA f p) none t ∧ MAc f p k t) ∨ (∃ q p', ftA f (min n m) p q ∧ MRd 50 f n m p' (some q) t))) := by
        intro t rt ft et
        unfold M_readAct_105
        split
        · rw [M_oneOf_n rt, b2_some, show nI (3 * k) + 2 = nI (3 * k + 2) from nI_add _ 2, tI_n (by omega) (by omega), bd_some]
          exact Tt_some ⟨ft.pI (by omega), fun j hj => by rw [gI_pI_k (by omega)]; exact et j hj, Or.inr ⟨_, _, hft, rt.p61⟩⟩
        · exact Tt_some ⟨ft, et, Or.inr ⟨_, _, hft, rt⟩⟩
      split
      · rw [M_oneOf_n r2, b2_some, show nI (3 * k) + 2 = nI (3 * k + 2) from nI_add _ 2, tI_n (by omega) (by omega), bd_some]
        exact h105 _ r2.p61 (f2.pI (by omega)) (fun j hj => by rw [gI_pI_k (by omega)]; exact eo2 j hj)
      · exact h105 _ r2 f2 eo2
  · have e50 : M_readAct s (nI (3 * k)) = some (pI s 45 14 (nI p)) := by
      unfold M_readAct M_fault
      rw [M_here_ok h, bd_some, g3, M_fine_y h, bd_some, if_neg (by decide : ¬ (1 : Int32) = 0), lt_e, bd_some]
      by_cases q1 : p < n ∧ p < m
      · have hpb := (g5 p q1.1).2
        have hs : ¬ sgA (f p) := fun h => q0 ⟨hpm.mpr q1, h⟩
        have hne : ∀ b, b < 256 → f p ≠ b → ¬ nI (f p) = nI b := fun b hb hne h => hne ((nI_eq (by omega) (by omega)).mp h)
        rw [if_pos q1, if_neg (show ¬ nI (f p) = 110 from hne 110 (by omega) (fun h => hs (Or.inl h))), if_neg (show ¬ nI (f p) = 112 from hne 112 (by omega) (fun h => hs (Or.inr (Or.inl h)))), if_neg (show ¬ nI (f p) = 115 from hne 115 (by omega) (fun h => hs (Or.inr (Or.inr (Or.inl h))))), if_neg (show ¬ nI (f p) = 99 from hne 99 (by omega) (fun h => hs (Or.inr (Or.inr (Or.inr (Or.inl h)))))), if_neg (show ¬ nI (f p) = 116 from hne 116 (by omega) (fun h => hs (Or.inr (Or.inr (Or.inr (Or.inr (Or.inl h))))))), if_neg (show ¬ nI (f p) = 103 from hne 103 (by omega) (fun h => hs (Or.inr (Or.inr (Or.inr (Or.inr (Or.inr h)))))))]
      · rw [if_neg q1, if_neg (by decide), if_neg (by decide), if_neg (by decide), if_neg (by decide), if_neg (by decide), if_neg (by decide)]
    rw [e50]
    exact Tt_some ⟨(Fr.refl _ _).pI (by omega), fun j _ => gI_pI_i (by omega), Or.inr ⟨p, p, Or.inl ⟨q0, rfl⟩, h.flt (by omega)⟩⟩
