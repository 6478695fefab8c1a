/-! LAW: Waters made, what can be undone -/
set_option maxRecDepth 100000
theorem gI_aw {s : Sg} {kd n z j m : Nat} (h : j < gN s) : gI (aw s kd n z) j m = gI s j m := by
  show va_up s.1 (gN s) (fun _ => 0) j m = _
  rw [va_up_ne _ _ (by omega)]
  rfl
theorem gJ_aw {s : Sg} {kd n z j m : Nat} (h : j < gN s) : gJ (aw s kd n z) j m = gJ s j m := by
  show va_up s.2.1 (gN s) (fun _ => 0) j m = _
  rw [va_up_ne _ _ (by omega)]
  rfl
theorem gR_aw {s : Sg} {kd n z j m : Nat} (h : j < gN s) : gR (aw s kd n z) j m = gR s j m := by
  show va_up s.2.2.1 (gN s) (fun _ => none) j m = _
  rw [va_up_ne _ _ (by omega)]
  rfl
theorem gK_aw {s : Sg} {kd n z j : Nat} (h : j < gN s) : gK (aw s kd n z) j = gK s j := by
  show va_up s.2.2.2.1 (gN s) (kd, n) j = _
  rw [va_up_ne _ _ (by omega)]
  rfl
theorem gK_awN {s : Sg} {kd n z : Nat} : gK (aw s kd n z) (gN s) = (kd, n) := by
  show va_up s.2.2.2.1 (gN s) (kd, n) (gN s) = _
  rw [va_up_self]
/-- what a store keeps when one is made out of it -/
def Kp (s t : Sg) (D : Nat → Nat → Prop) : Prop := (∀ i k, i < gN s → gI t i k = gI s i k) ∧ (∀ i k, i < gN s → gJ t i k = gJ s i k) ∧ (∀ i k, i < gN s → ¬ D i k → gR t i k = gR s i k) ∧ (∀ i, i < gN s → gK t i = gK s i) ∧ gS t = gS s
theorem st_arr {s : Sg} {N j : Nat} (hN : N < gN s) : Kp s (pR (aw s 0 6 6) N j (some (gN s))) (fun i k => i = N ∧ k = j) ∧ gR (pR (aw s 0 6 6) N j (some (gN s))) N j = some (gN s) ∧ gK (pR (aw s 0 6 6) N j (some (gN s))) (gN s) = (0, 6) ∧ gN (pR (aw s 0 6 6) N j (some (gN s))) = gN s + 1 ∧ gC (pR (aw s 0 6 6) N j (some (gN s))) = gC s + 1 ∧ gZ (pR (aw s 0 6 6) N j (some (gN s))) = gZ s + 6 :=
  ⟨⟨fun i k h => gI_aw (kd := 0) (n := 6) (z := 6) h, fun i k h => gJ_aw (kd := 0) (n := 6) (z := 6) h, fun i k h d => by rw [gR_pR, if_neg d]; exact gR_aw h, fun i h => gK_aw (kd := 0) (n := 6) (z := 6) h, rfl⟩, by rw [gR_pR, if_pos ⟨rfl, rfl⟩], gK_awN, rfl, rfl, rfl⟩
theorem W_new {s : Sg} : Tt (W_init (aw s (1 + 5) 8 8) (gN s)) (fun t => Fa (fun _ _ => False) s t ∧ gN t = gN s + 5 ∧ DWb t (gN s) ∧ gC t = gC s + 5 ∧ gZ t = gZ s + 32) := by
  have b0 : Kp s (aw s (1 + 5) 8 8) (fun _ _ => False) := ⟨fun i k h => gI_aw h, fun i k h => gJ_aw h, fun i k h _ => gR_aw h, fun i h => gK_aw h, rfl⟩
  have k0 : gK (aw s (1 + 5) 8 8) (gN s) = (6, 8) := gK_awN
  have n0 : gN (aw s (1 + 5) 8 8) = gN s + 1 := rfl
  have c0 : gC (aw s (1 + 5) 8 8) = gC s + 1 := rfl
  have z0 : gZ (aw s (1 + 5) 8 8) = gZ s + 8 := rfl
  generalize aw s (1 + 5) 8 8 = s1 at b0 k0 n0 c0 z0
  obtain ⟨a1, r1, k1, n1, c1, z1⟩ := st_arr (s := s1) (N := gN s) (j := 0) (by omega)
  unfold W_init
  refine Tt_if ⟨k0, by omega⟩ ?_
  rw [lt_e]
  refine Tt_if ⟨(gK_aw (by omega)).trans k0, by show gN s < gN s1 + 1; omega⟩ ?_
  rw [lt_e]
  have K1 := (a1.2.2.2.1 (gN s) (by omega)).trans k0
  generalize pR (aw s1 0 6 6) (gN s) 0 (some (gN s1)) = s2 at a1 r1 k1 n1 c1 z1 K1 ⊢
  obtain ⟨a2, r2, k2, n2, c2, z2⟩ := st_arr (s := s2) (N := gN s) (j := 1) (by omega)
  refine Tt_if ⟨K1, by omega⟩ ?_
  rw [lt_e]
  refine Tt_if ⟨(gK_aw (by omega)).trans K1, by show gN s < gN s2 + 1; omega⟩ ?_
  rw [lt_e]
  have K2 := (a2.2.2.2.1 (gN s) (by omega)).trans K1
  generalize pR (aw s2 0 6 6) (gN s) 1 (some (gN s2)) = s3 at a2 r2 k2 n2 c2 z2 K2 ⊢
  obtain ⟨a3, r3, k3, n3, c3, z3⟩ := st_arr (s := s3) (N := gN s) (j := 2) (by omega)
  refine Tt_if ⟨K2, by omega⟩ ?_
  rw [lt_e]
  refine Tt_if ⟨(gK_aw (by omega)).trans K2, by show gN s < gN s3 + 1; omega⟩ ?_
  rw [lt_e]
  have K3 := (a3.2.2.2.1 (gN s) (by omega)).trans K2
  generalize pR (aw s3 0 6 6) (gN s) 2 (some (gN s3)) = s4 at a3 r3 k3 n3 c3 z3 K3 ⊢
  obtain ⟨a4, r4, k4, n4, c4, z4⟩ := st_arr (s := s4) (N := gN s) (j := 3) (by omega)
  refine Tt_if ⟨K3, by omega⟩ ?_
  rw [lt_e]
  refine Tt_if ⟨(gK_aw (by omega)).trans K3, by show gN s < gN s4 + 1; omega⟩ ?_
  rw [lt_e]
  have K4 := (a4.2.2.2.1 (gN s) (by omega)).trans K3
  generalize pR (aw s4 0 6 6) (gN s) 3 (some (gN s4)) = s5 at a4 r4 k4 n4 c4 z4 K4 ⊢
  have hne : ∀ {x : Nat}, x < gN s → x ≠ gN s := fun h => by omega
  refine Tt_some ⟨⟨fun i k h d => ?_, fun i k h d => ?_, fun i k h d => ?_, fun i h => ?_, by omega, ?_⟩, by omega, ⟨K4, by omega, fun j hj => ?_⟩, by omega, by omega⟩
  · rw [a4.1 i k (by omega), a3.1 i k (by omega), a2.1 i k (by omega), a1.1 i k (by omega), b0.1 i k h]
  · rw [a4.2.1 i k (by omega), a3.2.1 i k (by omega), a2.2.1 i k (by omega), a1.2.1 i k (by omega), b0.2.1 i k h]
  · rw [a4.2.2.1 i k (by omega) (by omega), a3.2.2.1 i k (by omega) (by omega), a2.2.2.1 i k (by omega) (by omega), a1.2.2.1 i k (by omega) (by omega), b0.2.2.1 i k h d]
  · rw [a4.2.2.2.1 i (by omega), a3.2.2.2.1 i (by omega), a2.2.2.2.1 i (by omega), a1.2.2.2.1 i (by omega), b0.2.2.2.1 i h]
  · rw [a4.2.2.2.2, a3.2.2.2.2, a2.2.2.2.2, a1.2.2.2.2, b0.2.2.2.2]
  · have hj4 : j = 0 ∨ j = 1 ∨ j = 2 ∨ j = 3 := by omega
    rcases hj4 with e | e | e | e <;> subst e
    · refine ⟨?_, ?_⟩
      · rw [a4.2.2.1 _ _ (by omega) (by omega), a3.2.2.1 _ _ (by omega) (by omega), a2.2.2.1 _ _ (by omega) (by omega), r1]
        congr 1
      · have e : gN s + 1 + 0 = gN s1 := by omega
        rw [e, a4.2.2.2.1 _ (by omega), a3.2.2.2.1 _ (by omega), a2.2.2.2.1 _ (by omega), k1]
    · refine ⟨?_, ?_⟩
      · rw [a4.2.2.1 _ _ (by omega) (by omega), a3.2.2.1 _ _ (by omega) (by omega), r2]
        congr 1
        omega
      · have e : gN s + 1 + 1 = gN s2 := by omega
        rw [e, a4.2.2.2.1 _ (by omega), a3.2.2.2.1 _ (by omega), k2]
    · refine ⟨?_, ?_⟩
      · rw [a4.2.2.1 _ _ (by omega) (by omega), r3]
        congr 1
        omega
      · have e : gN s + 1 + 2 = gN s3 := by omega
        rw [e, a4.2.2.2.1 _ (by omega), k3]
    · refine ⟨?_, ?_⟩
      · rw [r4]
        congr 1
        omega
      · have e : gN s + 1 + 3 = gN s4 := by omega
        rw [e, k4]
/-! ### the newest is put by -/
theorem SL.mv2 {s t : Sg} (h : SL s) (e1 : ∀ k, gR t 20 k = gR s 20 k) (e2 : ∀ k, gR t 42 k = gR s 42 k) (e3 : ∀ p c j, p < 14 → slt s p = some c → j < 4 → gR t c j = gR s c j) (e4 : ∀ i, i < gN s → gK t i = gK s i) (e5 : gN s ≤ gN t) : SL t := by
  have es : ∀ p, slt t p = slt s p := fun p => by unfold slt; rw [e1, e2]
  refine ⟨fun p b hp e => ?_, fun p q b c hp hq hpq eb ec => h.2 p q b c hp hq hpq (by rw [← es]; exact eb) (by rw [← es]; exact ec)⟩
  have eb : slt s p = some b := by rw [← es]; exact e
  obtain ⟨hb, k1, k2, k3⟩ := h.1 p b hp eb
  exact ⟨hb, by rw [e4 b (by omega)]; exact k1, by omega, fun j hj => ⟨by rw [e3 p b j hp eb hj]; exact (k3 j hj).1, by rw [e4 _ (by omega)]; exact (k3 j hj).2⟩⟩
/-- what the undo rows stand on -/
def UB (n : Nat) (U : List Wt) (s : Sg) : Prop := KS s ∧ SL s ∧ XUn n U s ∧ U.length ≤ 12
abbrev dU (i k : Nat) : Prop := i = 20 ∨ (i = 0 ∧ k = 24) ∨ 73 ≤ i
/-- behind it -/
def UA (n : Nat) (U : List Wt) (s t : Sg) : Prop := Fa dU s t ∧ KS t ∧ NdS s t ∧ SL t ∧ XUn n U t ∧ (∀ i, i < 2 → gR t 42 i = gR s 42 i) ∧ (∀ i b, i < 2 → gR s 42 i = some b → ∀ j k, b ≤ j → j ≤ b + 4 → gI t j k = gI s j k) ∧ gC t ≤ gC s + 5 ∧ gZ t ≤ gZ s + 32
theorem KS.fa {D : Nat → Nat → Prop} {s t : Sg} (h : KS s) (f : Fa D s t) : KS t := ⟨Nat.le_trans h.1 f.N, fun i hi => (f.K (by have := h.1; omega)).trans (h.2 i hi)⟩
/-- no node is a Water or its row -/
theorem SL.nd {s : Sg} (h : SL s) {p b i : Nat} (hp : p < 14) (e : slt s p = some b) (h1 : 8 ≤ (gK s i).1) (h2 : b ≤ i) (h3 : i ≤ b + 4) : False := by
  obtain ⟨_, k1, _, k3⟩ := h.1 p b hp e
  by_cases q : i = b
  · subst q
    rw [k1] at h1
    exact absurd h1 (by decide)
  · have := (k3 (i - b - 1) (by omega)).2
    rw [show b + 1 + (i - b - 1) = i by omega] at this
    rw [this] at h1
    exact absurd h1 (by decide)
theorem X_pb90 {u n k b w : Nat} {U : List Wt} {W : Wt} {s : Sg} (hn : n ≤ 6) (hU : UB n U s) (hk : U.length = k) (hk12 : k < 12) (hb : gR s 20 k = some b) (hw : Wst w) (hdw : DWb s w) (hW : XW n s w W) : Tt (X_putsBy_90 u w s) (fun t => UA n (U ++ [W]) s t ∧ gC t = gC s ∧ gZ t = gZ s) := by
  obtain ⟨hks, hsl, ⟨hu1, hu2⟩, _⟩ := hU
  obtain ⟨h73, hdb⟩ := hsl.b20 hk12 hb
  have hk20 : slt s k = some b := by rw [slt_20 hk12]; exact hb
  unfold X_putsBy_90
  rw [hu1, hk, aR_n (by omega) (by omega), bd_some, hb, bd_some]
  refine Tt_if ⟨hdb.1, by have := hdb.2.1; omega⟩ ?_
  refine TtT (W_becomes_ok hdb hdw (by omega)) (fun t ht => ?_)
  obtain ⟨f, hx⟩ := ht
  have e24 : gI t 0 24 = nI k := (f.I (by omega)).trans (hu1.trans (by rw [hk]))
  rw [lt_e, e24, nI_1]
  have f2 : Fr (fun i m => dWa b i m ∨ (i = 0 ∧ m = 24)) s (pI t 0 24 (nI (k + 1))) := (f.mono (fun i k q => Or.inl q)).pI (Or.inr ⟨rfl, rfl⟩)
  have hN := hdb.2.1
  have hs := hks.1
  refine Tt_some ⟨⟨f2.fa.mono (fun i m q => by rcases q with q | q <;> omega), hks.fr f2, ⟨by rw [f2.N]; exact Nat.le_refl _, fun i hi h1 h2 => ⟨by rw [f2.K], fun m => f2.I (fun q => ?_), fun m => f2.R (fun q => ?_)⟩⟩, hsl.mv2 (fun m => f2.R (by omega)) (fun m => f2.R (by omega)) (fun p c j hp hc hj => f2.R (fun q => ?_)) (fun i _ => by rw [f2.K]) (by rw [f2.N]; exact Nat.le_refl _), ⟨?_, ?_⟩, fun i hi => f2.R (by omega), fun i c hi hc j m h1 h2 => f2.I (fun q => ?_), by rw [f2.C]; omega, by rw [f2.Z]; omega⟩, f2.C, f2.Z⟩
  · have := hks.node h1 h2
    rcases q with q | q
    · exact hsl.nd (by omega) hk20 h1 (by omega) (by omega)
    · omega
  · have := hks.node h1 h2
    rcases q with q | q
    · exact hsl.nd (by omega) hk20 h1 (by omega) (by omega)
    · omega
  · obtain ⟨h73c, _⟩ := hsl.1 p c hp hc
    by_cases e : p = k
    · subst e
      rw [hk20] at hc
      cases hc
      rcases q with q | q <;> omega
    · have hdis := hsl.2 k p b c (by omega) hp (fun q => e q.symm) hk20 hc
      rcases q with q | q <;> omega
  · rw [gI_pI_s, List.length_append, hk]
    rfl
  · intro j hj
    rw [List.length_append] at hj
    have hj : j < U.length + 1 := hj
    by_cases e : j = k
    · subst e
      refine ⟨b, (f2.R (by omega)).trans hb, ?_⟩
      have : (U ++ [W])[j] = W := by
        rw [List.getElem_append_right (by omega)]
        simp
      rw [this]
      exact (hx n W hn hW).mv (fun i m h1 h2 => gI_pI_i (by omega))
    · obtain ⟨bj, hbj, hwj⟩ := hu2 j (by omega)
      refine ⟨bj, (f2.R (by omega)).trans hbj, ?_⟩
      have : (U ++ [W])[j] = U[j] := List.getElem_append_left (by omega)
      rw [this]
      have hdis := hsl.2 k j b bj (by omega) (by omega) (fun q => e q.symm) hk20 (by rw [slt_20 (by omega)]; exact hbj)
      obtain ⟨h73j, _⟩ := hsl.b20 (k := j) (by omega) hbj
      exact hwj.mv (fun i m h1 h2 => f2.I (fun q => by rcases q with q | q <;> omega))
  · have hdis := hsl.2 k (12 + i) b c (by omega) (by omega) (by omega) hk20 (by rw [slt_42]; exact hc)
    obtain ⟨h73c, _⟩ := hsl.b42 hi hc
    rcases q with q | q <;> omega
theorem X_pb62 {u n k w : Nat} {U : List Wt} {W : Wt} {s : Sg} (hn : n ≤ 6) (hU : UB n U s) (hk : U.length = k) (hk12 : k < 12) (hw : Wst w) (hdw : DWb s w) (hW : XW n s w W) : Tt (X_putsBy_62 u w s) (fun t => UA n (U ++ [W]) s t) := by
  have hU0 := hU
  obtain ⟨hks, hsl, ⟨hu1, hu2⟩, _⟩ := hU
  have hs := hks.1
  unfold X_putsBy_62
  rw [hu1, hk, aR_n (by omega) (by omega), bd_some]
  cases hb : gR s 20 k with
  | some b =>
    rw [ox_some]
    exact Tt_mono (X_pb90 hn hU0 hk hk12 hb hw hdw hW) (fun t h => h.1)
  | none =>
    rw [ox_none, lt_e]
    refine Tt_u (Tt_if (show stR.length ≤ gN s from hs) (Tt_u (Tt_if (show gN s < gN s + 1 by omega) ?_)))
    refine TtT W_new (fun t1 h1 => ?_)
    obtain ⟨fa, nN, dN, cC, zZ⟩ := h1
    refine Tt_u (Tt_if ⟨dN.1, by omega⟩ ?_)
    rw [tR_n (by omega) (by omega), bd_some]
    -- the store with the new Water hung up
    have fa2 : Fa (fun i m => i = 20 ∧ m = k) s (pR t1 20 k (some (gN s))) := ⟨fun i m h _ => fa.I h (fun q => q), fun i m h _ => fa.J h (fun q => q), fun i m h d => by rw [gR_pR, if_neg d]; exact fa.R h (fun q => q), fun i h => fa.K h, fa.N, fa.S⟩
    have hR20 : gR (pR t1 20 k (some (gN s))) 20 k = some (gN s) := by rw [gR_pR, if_pos ⟨rfl, rfl⟩]
    have hn2 : gN (pR t1 20 k (some (gN s))) = gN s + 5 := nN
    have c2 : gC (pR t1 20 k (some (gN s))) = gC s + 5 := cC
    have z2 : gZ (pR t1 20 k (some (gN s))) = gZ s + 32 := zZ
    have dN2 : DWb (pR t1 20 k (some (gN s))) (gN s) := ⟨dN.1, dN.2.1, fun j hj => ⟨by rw [gR_pR, if_neg (by omega)]; exact (dN.2.2 j hj).1, (dN.2.2 j hj).2⟩⟩
    generalize pR t1 20 k (some (gN s)) = t2 at fa2 hR20 hn2 c2 z2 dN2 ⊢
    have hks2 : KS t2 := hks.fa fa2
    have hnd2 : NdS s t2 := fa2.nd hks (fun i m hi => by omega)
    have hslt : ∀ p, p < 14 → p ≠ k → slt t2 p = slt s p := fun p hp e => by
      unfold slt
      by_cases q : p < 12
      · rw [if_pos q, if_pos q]
        exact fa2.R (by omega) (by omega)
      · rw [if_neg q, if_neg q]
        exact fa2.R (by omega) (by omega)
    have hsltk : slt t2 k = some (gN s) := by rw [slt_20 hk12]; exact hR20
    have hsl2 : SL t2 := by
      refine ⟨fun p b hp e => ?_, fun p q b c hp hq hpq eb ec => ?_⟩
      · by_cases ep : p = k
        · subst ep
          rw [hsltk] at e
          cases e
          exact ⟨hs, dN2⟩
        · rw [hslt p hp ep] at e
          obtain ⟨hb73, k1, k2, k3⟩ := hsl.1 p b hp e
          exact ⟨hb73, (fa2.K (by omega)).trans k1, by omega, fun j hj => ⟨(fa2.R (by omega) (by omega)).trans (k3 j hj).1, (fa2.K (by omega)).trans (k3 j hj).2⟩⟩
      · by_cases ep : p = k
        · subst ep
          rw [hsltk] at eb
          cases eb
          rw [hslt q hq (fun q => hpq q.symm)] at ec
          obtain ⟨_, _, k2, _⟩ := hsl.1 q c hq ec
          omega
        · rw [hslt p hp ep] at eb
          by_cases eq : q = k
          · subst eq
            rw [hsltk] at ec
            cases ec
            obtain ⟨_, _, k2, _⟩ := hsl.1 p b hp eb
            omega
          · rw [hslt q hq eq] at ec
            exact hsl.2 p q b c hp hq hpq eb ec
    have hxu2 : XUn n U t2 := ⟨(fa2.I (by omega) (by omega)).trans hu1, fun j hj => by
      obtain ⟨bj, hbj, hwj⟩ := hu2 j hj
      obtain ⟨h73j, _, hNj, _⟩ := hsl.b20 (k := j) (by omega) hbj
      exact ⟨bj, (fa2.R (by omega) (by omega)).trans hbj, hwj.mv (fun i m h1 h2 => fa2.I (by omega) (by omega))⟩⟩
    have hdw2 : DWb t2 w := ⟨(fa2.K (by omega)).trans hdw.1, by have := hdw.2.1; omega, fun j hj => ⟨(fa2.R (by omega) (by omega)).trans (hdw.2.2 j hj).1, (fa2.K (by omega)).trans (hdw.2.2 j hj).2⟩⟩
    have hW2 : XW n t2 w W := hW.mv (fun i m h1 h2 => fa2.I (by omega) (by omega))
    refine Tt_mono (X_pb90 (u := u) hn ⟨hks2, hsl2, hxu2, by omega⟩ hk hk12 hR20 hw hdw2 hW2) (fun r hr => ?_)
    obtain ⟨⟨g1, g2, g3, g4, g5, g6, g7, g8, g9⟩, eC, eZ⟩ := hr
    refine ⟨(fa2.mono (fun i m q => by omega)).trans g1, g2, hnd2.trans g3, g4, g5, fun i hi => (g6 i hi).trans (fa2.R (by omega) (by omega)), fun i c hi hc j m h1 h2 => ?_, ?_, ?_⟩
    · obtain ⟨h73c, _, hNc, _⟩ := hsl.b42 hi hc
      exact (g7 i c hi ((fa2.R (by omega) (by omega)).trans hc) j m h1 h2).trans (fa2.I (by omega) (by omega))
    · omega
    · omega
def pushU (U : List Wt) (W : Wt) : List Wt := (if U.length = 12 then U.tail else U) ++ [W]
theorem pushU_len {U : List Wt} {W : Wt} (h : U.length ≤ 12) : (pushU U W).length ≤ 12 := by
  unfold pushU
  rw [List.length_append]
  show _ + 1 ≤ 12
  by_cases e : U.length = 12
  · rw [if_pos e, List.length_tail]
    omega
  · rw [if_neg e]
    omega
def rtP (p : Nat) : Nat := if p < 11 then p + 1 else if p = 11 then 0 else p
theorem rtP_ok : ∀ p, p < 14 → rtP p < 14 ∧ ∀ q, q < 14 → p ≠ q → rtP p ≠ rtP q := by decide
theorem X_putsBy_ok {u n w : Nat} {U : List Wt} {W : Wt} {s : Sg} (hu : 20000 ≤ u) (hn : n ≤ 6) (hU : UB n U s) (hw : Wst w) (hdw : DWb s w) (hW : XW n s w W) : Tt (X_putsBy u s w) (fun t => UA n (pushU U W) s t) := by
  have hU0 := hU
  obtain ⟨hks, hsl, ⟨hu1, hu2⟩, hl12⟩ := hU
  have hs := hks.1
  unfold X_putsBy pushU
  rw [if_pos hw, hu1]
  by_cases e12 : U.length = 12
  rotate_left
  · rw [if_neg (show ¬ nI U.length = 12 from fun h => e12 ((nI_eq (b := 12) (by omega) (by omega)).mp h)), if_neg e12]
    exact X_pb62 hn hU0 rfl (by omega) hw hdw hW
  rw [if_pos (by rw [e12]; rfl), if_pos e12]
  have hwat : ∀ k, k < 12 → ∃ b, gR s 20 k = some b ∧ gK s b = (6, 8) ∧ b < gN s := fun k hk => by
    obtain ⟨b, hb, _⟩ := hu2 k (by omega)
    obtain ⟨_, k1, k2, _⟩ := hsl.b20 hk hb
    exact ⟨b, hb, k1, by omega⟩
  have hwq : ∀ t, gK t = gK s → gN t = gN s → ∀ k, k < 12 → wq t (gR s 20 k) := fun t e1 e2 k hk => by
    obtain ⟨b, hb, h1, h2⟩ := hwat k hk
    refine Or.inr ?_
    rw [hb, e1, e2]
    exact ⟨h1, h2⟩
  have e0 : aR s 20 12 0 = some (gR s 20 0) := aR_n (k := 0) (by omega) (by omega)
  rw [e0, bd_some]
  refine loop_i (W := fun f j t => Tt (X_putsBy_18 u w f t (gR s 20 0) (nI (j + 1))) _)
    (I := fun j t => Fr (fun i _ => i = 20) s t ∧ ∀ k, k < 12 → gR t 20 k = if k < j then gR s 20 (k + 1) else gR s 20 k) 11 ?_ ?_ u 0 s (by omega) (by omega) ⟨Fr.refl _ _, fun k _ => by rw [if_neg (by omega)]⟩
  · intro f t ⟨f1, hr⟩
    rw [X_putsBy_18_s]
    unfold X_putsBy_18b
    have t11 : ∀ v, tR t 20 12 11 v = some (pR t 20 11 v) := fun v => tR_n (k := 11) (by omega) (by omega)
    rw [if_pos (by decide)]
    refine Tt_u (Tt_if (hwq t f1.K f1.N 0 (by omega)) ?_)
    have e24 : gI (pR t 20 11 (gR s 20 0)) 0 24 = nI 12 := (f1.I (by omega)).trans (hu1.trans (by rw [e12]))
    rw [t11, bd_some, lt_e, e24, nI_lit1, pk_sub (by omega)]
    have f2 : Fr (fun i k => i = 20 ∨ (i = 0 ∧ k = 24)) s (pI (pR t 20 11 (gR s 20 0)) 0 24 (nI (12 - 1))) := ((f1.mono (fun i k q => Or.inl q)).pR (Or.inl rfl)).pI (Or.inr ⟨rfl, rfl⟩)
    have hr2 : ∀ k, k < 12 → gR (pI (pR t 20 11 (gR s 20 0)) 0 24 (nI (12 - 1))) 20 k = if k < 11 then gR s 20 (k + 1) else gR s 20 0 := fun k hk => by
      rw [gR_pI, gR_pR]
      by_cases e : k = 11
      · rw [if_pos ⟨rfl, e⟩, if_neg (by omega)]
      · rw [if_neg (fun q => e q.2), hr k hk, if_pos (by omega), if_pos (by omega)]
    have e24b : gI (pI (pR t 20 11 (gR s 20 0)) 0 24 (nI (12 - 1))) 0 24 = nI 11 := gI_pI_s
    generalize pI (pR t 20 11 (gR s 20 0)) 0 24 (nI (12 - 1)) = t3 at f2 hr2 e24b ⊢
    have hsg : ∀ p, p < 14 → slt t3 p = slt s (rtP p) := fun p hp => by
      unfold slt rtP
      by_cases q : p < 11
      · rw [if_pos (by omega), if_pos q, if_pos (by omega), hr2 p (by omega), if_pos q]
      · by_cases q2 : p = 11
        · rw [if_pos (by omega), if_neg q, if_pos q2, if_pos (by omega), hr2 p (by omega), if_neg q]
        · rw [if_neg (by omega), if_neg q, if_neg q2, if_neg (by omega)]
          exact f2.R (by omega)
    have hsl3 : SL t3 := by
      refine ⟨fun p b hp e => ?_, fun p q b c hp hq hpq eb ec => ?_⟩
      · rw [hsg p hp] at e
        obtain ⟨h73, k1, k2, k3⟩ := hsl.1 (rtP p) b (rtP_ok p hp).1 e
        exact ⟨h73, by rw [f2.K]; exact k1, by rw [f2.N]; exact k2, fun j hj => ⟨(f2.R (by omega)).trans (k3 j hj).1, by rw [f2.K]; exact (k3 j hj).2⟩⟩
      · rw [hsg p hp] at eb
        rw [hsg q hq] at ec
        exact hsl.2 _ _ b c (rtP_ok p hp).1 (rtP_ok q hq).1 ((rtP_ok p hp).2 q hq hpq) eb ec
    have hxu3 : XUn n U.tail t3 := ⟨by rw [e24b, List.length_tail, e12], fun k hk => by
      rw [List.length_tail] at hk
      obtain ⟨b, hb, hwk⟩ := hu2 (k + 1) (by omega)
      obtain ⟨h73, _⟩ := hsl.b20 (by omega) hb
      refine ⟨b, by rw [hr2 k (by omega), if_pos (by omega)]; exact hb, ?_⟩
      rw [List.getElem_tail]
      exact hwk.mv (fun i m h1 h2 => f2.I (by omega))⟩
    have hdw3 : DWb t3 w := ⟨by rw [f2.K]; exact hdw.1, by rw [f2.N]; exact hdw.2.1, fun j hj => ⟨(f2.R (by omega)).trans (hdw.2.2 j hj).1, by rw [f2.K]; exact (hdw.2.2 j hj).2⟩⟩
    have hW3 : XW n t3 w W := hW.mv (fun i m h1 h2 => f2.I (by omega))
    refine Tt_mono (X_pb62 (u := u) hn ⟨hks.fr f2, hsl3, hxu3, by rw [List.length_tail]; omega⟩ (k := 11) (by rw [List.length_tail, e12]) (by omega) hw hdw3 hW3) (fun r hr => ?_)
    obtain ⟨g1, g2, g3, g4, g5, g6, g7, g8, g9⟩ := hr
    have hnd : NdS s t3 := f2.nd hks (fun i m hi => by omega)
    refine ⟨(f2.fa.mono (fun i m q => by omega)).trans g1, g2, hnd.trans g3, g4, g5, fun i hi => (g6 i hi).trans (f2.R (by omega)), fun i c hi hc j m h1 h2 => ?_, by rw [f2.C] at g8; exact g8, by rw [f2.Z] at g9; exact g9⟩
    obtain ⟨h73c, _⟩ := hsl.b42 hi hc
    exact (g7 i c hi ((f2.R (by omega)).trans hc) j m h1 h2).trans (f2.I (by omega))
  · intro f j t hj ⟨f1, hr⟩ ih
    rw [X_putsBy_18_s]
    unfold X_putsBy_18b
    have ej := hr (j + 1) (by omega)
    rw [if_neg (by omega)] at ej
    rw [show (12 : Int32) = nI 12 from rfl, if_neg (nI_ge (by omega) (by omega)), aR_n (by omega) (by omega), bd_some, ej]
    refine Tt_u (Tt_if (hwq t f1.K f1.N (j + 1) (by omega)) ?_)
    rw [nI_pred, tR_n (by omega) (by omega), bd_some, nI_1]
    refine ih _ ⟨f1.pR rfl, fun k hk => ?_⟩
    rw [gR_pR]
    by_cases e : k = j
    · subst e
      rw [if_pos ⟨rfl, rfl⟩, if_pos (by omega)]
    · rw [if_neg (fun q => e q.2), hr k hk]
      by_cases q : k < j
      · rw [if_pos q, if_pos (by omega)]
      · rw [if_neg q, if_neg (by omega)]
/-! ### the Model's -/
theorem MW.off {n : Nat} {s t : Sg} {a o a' o' : Nat} {W : Wt} (hn : n ≤ 6) (h : ∀ x, x < 33 → gI t a' (o' + x) = gI s a (o + x)) (hW : MW n s a o W) : MW n t a' o' W := by
  obtain ⟨h1, h2, h3, h4, h5, h7, h8, h9⟩ := hW
  refine ⟨fun k hk => ?_, fun k hk => ?_, fun k hk => ?_, fun k hk => ?_, fun k hk => ?_, ?_, ?_, ?_⟩
  · rw [h k (by omega)]; exact h1 k hk
  · rw [Nat.add_assoc, h (6 + k) (by omega), ← Nat.add_assoc]; exact h2 k hk
  · rw [Nat.add_assoc, h (12 + k) (by omega), ← Nat.add_assoc]; exact h3 k hk
  · rw [Nat.add_assoc, h (18 + k) (by omega), ← Nat.add_assoc]; exact h4 k hk
  · rw [Nat.add_assoc, h (24 + k) (by omega), ← Nat.add_assoc]; exact h5 k hk
  · rw [h 30 (by omega)]; exact h7
  · rw [h 31 (by omega)]; exact h8
  · rw [h 32 (by omega)]; exact h9
abbrev dMu (i k : Nat) : Prop := i = 56 ∨ (i = 45 ∧ k = 22)
theorem M_rm49 {u n k a : Nat} {U : List Wt} {W : Wt} {s : Sg} (hu : 20000 ≤ u) (hn : n ≤ 6) (hU : MUn n U s) (hk : U.length = k) (hk12 : k < 12) (ha : a = 46 ∨ a = 57) (hW : MW n s a 0 W) : Tt (M_remember_49 u a s) (fun t => Fr dMu s t ∧ MUn n (U ++ [W]) t) := by
  obtain ⟨hu1, hu2⟩ := hU
  have hA : Ai a ∧ sln a = 33 := by rcases ha with e | e <;> subst e <;> exact ⟨by decide, rfl⟩
  unfold M_remember_49
  rw [hu1, hk, mu_33]
  refine TtT (M_lay_ok hu hA.1 (by decide) hA.2 (show 33 * k + 33 ≤ 396 by omega) (by decide) (by omega)) (fun t ht => ?_)
  obtain ⟨f, hx⟩ := ht
  have e22 : gI t 45 22 = nI k := (f.I (by omega)).trans (hu1.trans (by rw [hk]))
  rw [lt_e, e22, nI_1]
  refine Tt_some ⟨(f.mono (fun i m q => by omega)).pI (by omega), ?_, ?_⟩
  · rw [gI_pI_s, List.length_append, hk]
    rfl
  · intro j hj
    rw [List.length_append] at hj
    have hj : j < U.length + 1 := hj
    by_cases e : j = k
    · subst e
      have : (U ++ [W])[j] = W := by
        rw [List.getElem_append_right (by omega)]
        simp
      rw [this]
      exact (lay_MW hn hx hW).mv (fun m => gI_pI_i (by decide))
    · have : (U ++ [W])[j] = U[j] := List.getElem_append_left (by omega)
      rw [this]
      refine MW.off hn (fun x hx => ?_) (hu2 j (by omega))
      rw [gI_pI_i (by decide)]
      exact f.I (by omega)
theorem M_remember_ok {u n a : Nat} {U : List Wt} {W : Wt} {s : Sg} (hu : 20000 ≤ u) (hn : n ≤ 6) (hU : MUn n U s) (hl : U.length ≤ 12) (ha : a = 46 ∨ a = 57) (hW : MW n s a 0 W) : Tt (M_remember u s a) (fun t => Fr dMu s t ∧ MUn n (pushU U W) t) := by
  have hU0 := hU
  obtain ⟨hu1, hu2⟩ := hU
  have hA : Ai a := by rcases ha with e | e <;> subst e <;> decide
  unfold M_remember pushU
  rw [if_pos hA, hu1]
  by_cases e12 : U.length = 12
  rotate_left
  · rw [if_neg (show ¬ nI U.length = 12 from fun h => e12 ((nI_eq (b := 12) (by omega) (by omega)).mp h)), if_neg e12]
    exact M_rm49 hu hn hU0 rfl (by omega) ha hW
  rw [if_pos (show nI U.length = 12 by rw [e12]; rfl), if_pos e12]
  refine loop_i (W := fun f j t => Tt (M_remember_11 u a f t (nI j)) _)
    (I := fun j t => Fr (fun i _ => i = 56) s t ∧ ∀ k, k < 396 → gI t 56 k = if k < j then gI s 56 (k + 33) else gI s 56 k) 363 ?_ ?_ u 0 s (by omega) (by omega) ⟨Fr.refl _ _, fun k _ => by rw [if_neg (by omega)]⟩
  · intro f t ⟨f1, hr⟩
    rw [M_remember_11_s]
    unfold M_remember_11b
    have e22 : gI t 45 22 = nI 12 := (f1.I (by omega)).trans (hu1.trans (by rw [e12]))
    rw [if_pos (by decide), lt_e, e22, nI_lit1, pk_sub (by omega)]
    have f2 : Fr dMu s (pI t 45 22 (nI (12 - 1))) := (f1.mono (fun i k q => Or.inl q)).pI (by omega)
    have hxu : MUn n U.tail (pI t 45 22 (nI (12 - 1))) := ⟨by rw [gI_pI_s, List.length_tail, e12], fun k hk => by
      rw [List.length_tail] at hk
      rw [List.getElem_tail]
      refine MW.off hn (fun x hx => ?_) (hu2 (k + 1) (by omega))
      rw [gI_pI_i (by decide), hr _ (by omega), if_pos (by omega)]
      congr 1
      omega⟩
    refine Tt_mono (M_rm49 hu hn hxu (k := 11) (by rw [List.length_tail, e12]) (by omega) ha (hW.mv (fun m => (gI_pI_i (by omega)).trans (f1.I (by omega))))) (fun r hr => ⟨f2.trans hr.1, hr.2⟩)
  · intro f j t hj ⟨f1, hr⟩ ih
    rw [M_remember_11_s]
    unfold M_remember_11b
    have ej := hr (j + 33) (by omega)
    rw [if_neg (by omega)] at ej
    rw [show (363 : Int32) = nI 363 from rfl, if_neg (nI_ge hj (by omega)), show (33 : Int32) = nI 33 from rfl, nI_add, aI_n (by omega) (by omega), bd_some, ej, tI_n (by omega) (by omega), bd_some, nI_1]
    refine ih _ ⟨f1.pI rfl, fun k hk => ?_⟩
    by_cases e : k = j
    · subst e
      rw [gI_pI_s, if_pos (by omega)]
    · rw [gI_pI_k e, hr k hk]
      by_cases q : k < j
      · rw [if_pos q, if_pos (by omega)]
      · rw [if_neg q, if_neg (by omega)]
