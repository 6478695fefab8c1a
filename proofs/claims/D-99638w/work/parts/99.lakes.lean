/-! LAW: lakes, a lake read by the class -/
set_option maxRecDepth 100000
/-! ### frames where cells are made -/
theorem XEn.fa {D : Nat → Nat → Prop} {g : Geo} {ru : Ru} {s t : Sg} (h : XEn g ru s) (f : Fa D s t) (hd : OffX D) : XEn g ru t := by
  obtain ⟨k1, g1, r1, w1⟩ := h
  have hs := k1.1
  exact ⟨k1.fa f, ⟨(f.I (by omega) hd.2.1).trans g1.1, fun k hk => ⟨(f.I (by omega) (hd.1 k).1).trans (g1.2 k hk).1, (f.I (by omega) (hd.1 k).2.1).trans (g1.2 k hk).2.1, (f.I (by omega) (hd.1 k).2.2).trans (g1.2 k hk).2.2⟩⟩, r1.nd (f.nd k1 hd.2.2.2.1) (f.R (by omega) hd.2.2.1), fun w hw j hj => (f.R (by omega) (hd.2.2.2.2 w hw j hj)).trans (w1 w hw j hj)⟩
theorem XI_trA {A : AS} {s t : Sg} {c : Nat} {r : List Int64} (h : XI A s) (hG : GI c A) (f : Fa dXd s t) (hr : XRow r t) (h0 : gI t 0 8 = nI 0) : XI (sTr A r) t := by
  obtain ⟨h1, h2, h3, h4, h5, h6, h7, h8⟩ := h
  have hs := h1.1.1
  exact ⟨h1.fa f ⟨fun k => ⟨by omega, by omega, by omega⟩, by omega, by omega, fun i k hi => by omega, fun w hw j hj => by omega⟩, h2.mv (fun i k q1 q2 => f.I (by omega) (by omega)), hr, h4.mv hG.2.2.1.1 h8 (f.I (by omega) (by omega)) (fun k => f.R (by omega) (by omega)) (fun i k q hn => f.I hn (by omega)), h5.mv h8 (f.I (by omega) (by omega)) (fun k => f.I (by omega) (by omega)) (fun k => f.R (by omega) (by omega)) (fun i k q hn => f.I hn (by omega)), h6.mv (f.I (by omega) (by omega)) (fun i k q1 q2 => f.I (by omega) (by omega)), XTx_0 h0, h8.mv (fun k => f.R (by omega) (by omega)) (fun k => f.R (by omega) (by omega)) (fun b k q hn => f.R hn (by omega)) (fun i hi => f.K hi) f.N⟩
theorem both_txtA {u c : Nat} {s : Sg} {A : AS} {x : Option (Int32 × Sg)} {m : Sg → Option (Int32 × Sg)} (a : Int32) (r : List Int64) (hX : XI A s) (hM : MI u A s) (hG : GI c A) (hx : Tp x (fun v t => v = a ∧ Fa dXd s t ∧ XRow r t ∧ gI t 0 8 = nI 0 ∧ gC t ≤ gC s + 100 ∧ gZ t ≤ gZ s + 1000)) (hm : ∀ t, MI u A t → Tp (m t) (fun v t' => v = a ∧ Fr dMd t t' ∧ MRw r t' ∧ gI t' 45 6 = nI 0)) : Bth u c s x m :=
  both_gen (A := A) a (sTr A r) (Tp_mono hx (fun v t h => ⟨h.1, XI_trA hX hG h.2.1 h.2.2.1 h.2.2.2.1, hM.fa hX.1.1.1 h.2.1 (fun i k h1 h2 => by omega), h.2.1.S, h.2.2.2.2.1, h.2.2.2.2.2⟩)) (fun t hXt ht => Tp_mono (hm t ht) (fun v t' h => ⟨h.1, gm hXt (GI_tr r hG) h.2.1 (fun i k h => by omega) (MI_tr ht h.2.1 h.2.2.1 h.2.2.2)⟩)) (GI_tr r hG)
theorem Fa.pI {D : Nat → Nat → Prop} {s t : Sg} {i k : Nat} {v : Int32} (h : Fa D s t) (hd : D i k) : Fa D s (pI t i k v) := h.trans ((Fr.refl D t).pI hd).fa
/-! ### the first signs of 0123456789 -/
theorem ixL_congr {F G : Nat → Int32} {x : Int32} (n : Nat) : ∀ k, (∀ j, k ≤ j → j < k + n → F j = G j) → ixL F x n k = ixL G x n k := by
  induction n with
  | zero => intro k _; rfl
  | succ n ih =>
    intro k h
    show (if F k = x then nI k else ixL F x n (k + 1)) = (if G k = x then nI k else ixL G x n (k + 1))
    rw [h k (Nat.le_refl _) (by omega), ih (k + 1) (fun j h1 h2 => h j (by omega) (by omega))]
theorem ixB_dig : ∀ m, m < 7 → ∀ b, b < 256 → ixB m (fun j => nI (48 + j)) (nI b) = if 48 ≤ b ∧ b < 48 + m then nI (b - 48) else -1 := by decide +kernel
theorem dig_b : ∀ j, j < 10 → (stByt.getD 1 []).getD j 0 = nI (48 + j) := by decide
/-- a String of the first m figures -/
def CdN (c m : Nat) (t : Sg) : Prop := okS t c ∧ ∀ b, b < 256 → ixB (sLen t c) (sByt t c) (nI b) = if 48 ≤ b ∧ b < 48 + m then nI (b - 48) else -1
theorem S_sub_ok {s : Sg} {n : Nat} (hn0 : 0 < n) (hn : n < 7) (hs : 73 ≤ gN s) : Tp (S_sub s n) (fun c t => CdN c n t ∧ Fa (fun _ _ => False) s t ∧ gC t ≤ gC s + 2 ∧ gZ t ≤ gZ s + 10) := by
  unfold S_sub
  rw [if_neg (nI_ne0 hn0 (by omega)), lt_e, if_pos (show gN s < gN (aw s (7 + 5) 4 4) from Nat.lt_succ_self _)]
  unfold S_corb
  have hN1 : gN (aw s (7 + 5) 4 4) = gN s + 1 := rfl
  have hN2 : gN (aw (aw s (7 + 5) 4 4) 2 n n) = gN s + 2 := rfl
  rw [lt_e, if_pos ⟨gK_awN, by rw [hN1, hN2]; omega⟩, lt_e, b2_some, hN1]
  unfold S_init
  have hK0 : gK (cI (aw (aw s (7 + 5) 4 4) 2 n n) (gN s + 1) (va_cpy (fun j => (stByt.getD 1 []).getD j 0) (gI (aw (aw s (7 + 5) 4 4) 2 n n) (gN s + 1)) 0 0 n)) (gN s) = (12, 4) := by
    rw [gK_cI, gK_aw (by rw [hN1]; omega), gK_awN]
  have hK1 : gK (cI (aw (aw s (7 + 5) 4 4) 2 n n) (gN s + 1) (va_cpy (fun j => (stByt.getD 1 []).getD j 0) (gI (aw (aw s (7 + 5) 4 4) 2 n n) (gN s + 1)) 0 0 n)) (gN s + 1) = (2, n) := by
    rw [gK_cI, ← hN1, gK_awN]
  have hlen : stR.length ≤ gN s := Nat.le_trans (show stR.length ≤ 73 by decide) hs
  rw [if_pos ⟨⟨hK0, by rw [gN_cI, hN2]; omega⟩, by rw [gN_cI, hN2]; omega, hlen⟩, lt_e, if_pos ⟨hK0, by rw [gN_pR, gN_cI, hN2]; omega⟩, lt_e, bd_some]
  refine Tp_some ⟨?_, ⟨fun i k hi _ => ?_, fun i k hi _ => ?_, fun i k hi _ => ?_, fun i hi => ?_, ?_, rfl⟩, ?_, ?_⟩
  · have e8 : 8 + gN s - 8 = gN s := Nat.add_sub_cancel_left ..
    have eR : gR (pI (pR (cI (aw (aw s (7 + 5) 4 4) 2 n n) (gN s + 1) (va_cpy (fun j => (stByt.getD 1 []).getD j 0) (gI (aw (aw s (7 + 5) 4 4) 2 n n) (gN s + 1)) 0 0 n)) (gN s) 0 (some (gN s + 1))) (gN s) 1 0) (gN s) 0 = some (gN s + 1) := by
      rw [gR_pI, gR_pR, if_pos ⟨rfl, rfl⟩]
    have eo : okS (pI (pR (cI (aw (aw s (7 + 5) 4 4) 2 n n) (gN s + 1) (va_cpy (fun j => (stByt.getD 1 []).getD j 0) (gI (aw (aw s (7 + 5) 4 4) 2 n n) (gN s + 1)) 0 0 n)) (gN s) 0 (some (gN s + 1))) (gN s) 1 0) (8 + gN s) := by
      right
      rw [e8, eR]
      refine ⟨⟨hK0, ?_⟩, gI_pI_s, rfl, ?_, ?_, ?_⟩
      · rw [gN_pI, gN_pR, gN_cI, hN2]; omega
      · exact congrArg Prod.fst hK1
      · show gN s + 1 < _
        rw [gN_pI, gN_pR, gN_cI, hN2]; omega
      · exact Nat.lt_of_le_of_lt (Nat.le_of_eq (congrArg Prod.snd hK1)) (show n < 2147483648 by omega)
    refine ⟨eo, fun b hb => ?_⟩
    have hl : sLen (pI (pR (cI (aw (aw s (7 + 5) 4 4) 2 n n) (gN s + 1) (va_cpy (fun j => (stByt.getD 1 []).getD j 0) (gI (aw (aw s (7 + 5) 4 4) 2 n n) (gN s + 1)) 0 0 n)) (gN s) 0 (some (gN s + 1))) (gN s) 1 0) (8 + gN s) = n := by
      unfold sLen
      rw [if_neg (by omega), e8, eR]
      exact congrArg Prod.snd hK1
    have hb2 : ∀ j, j < n → sByt (pI (pR (cI (aw (aw s (7 + 5) 4 4) 2 n n) (gN s + 1) (va_cpy (fun j => (stByt.getD 1 []).getD j 0) (gI (aw (aw s (7 + 5) 4 4) 2 n n) (gN s + 1)) 0 0 n)) (gN s) 0 (some (gN s + 1))) (gN s) 1 0) (8 + gN s) j = nI (48 + j) := by
      intro j hj
      unfold sByt
      rw [if_neg (by omega), e8, eR]
      show gI _ (gN s + 1) j = _
      rw [gI_pI_i (by omega), gI_pR, gI_cI_s, pk_cpy_in (by omega) (by omega), Nat.zero_add, Nat.sub_zero]
      exact dig_b j (by omega)
    rw [hl, ← ixB_dig n hn b hb]
    unfold ixB
    rw [ixL_congr n 0 (fun j _ h2 => hb2 j (by omega))]
  · rw [gI_pI_i (by omega), gI_pR, gI_cI_n (by omega), gI_aw (by rw [hN1]; omega), gI_aw hi]
  · rw [gJ_pI, gJ_pR, gJ_cI, gJ_aw (by rw [hN1]; omega), gJ_aw hi]
  · rw [gR_pI, gR_pR, if_neg (by omega), gR_cI, gR_aw (by rw [hN1]; omega), gR_aw hi]
  · rw [gK_pI, gK_pR, gK_cI, gK_aw (by rw [hN1]; omega), gK_aw hi]
  · rw [gN_pI, gN_pR, gN_cI, hN2]; omega
  · show gC s + 1 + 1 ≤ gC s + 2
    omega
  · show gZ s + 4 + n ≤ gZ s + 10
    omega
theorem S_subX_ok {s : Sg} {m : Nat} (hm : m < 7) (hs : 73 ≤ gN s) : Tp (S_subX s (nI m)) (fun c t => CdN c m t ∧ Fa (fun _ _ => False) s t ∧ gC t ≤ gC s + 2 ∧ gZ t ≤ gZ s + 10) := by
  unfold S_subX
  rw [if_pos ⟨nI_pos' (by omega), by rw [show (10 : Int32) = nI 10 from rfl]; exact nI_lt (by omega) (by omega)⟩, nI_clamp (by omega)]
  by_cases h0 : m = 0
  · subst h0
    unfold S_sub
    rw [if_pos nI_0]
    refine Tp_some ⟨⟨Or.inl (by omega), fun b hb => ?_⟩, Fa.refl _ _, by omega, by omega⟩
    rw [if_neg (by omega)]
    have e := ixB_dig 0 (by omega) b hb
    rw [if_neg (by omega)] at e
    exact e
  · exact S_sub_ok (by omega) hm hs
theorem X_takesOfN {f : Nat → Nat} {e p c m : Nat} {s : Sg} (h : XRd f e p s) (hc : CdN c m s) (hm : m < 7) : Tp (X_takesOf s c) (fun v t => Fr dAt s t ∧ ((p < e ∧ 48 ≤ f p ∧ f p < 48 + m ∧ v = nI (f p - 48) ∧ XRd f e (p + 1) t) ∨ (¬ (p < e ∧ 48 ≤ f p ∧ f p < 48 + m) ∧ v = -1 ∧ XRd f e p t))) := by
  have h9 := h
  obtain ⟨e9, e10, ht, h80, hpe⟩ := h9
  have hno : ¬ (p < e ∧ 48 ≤ f p ∧ f p < 48 + m) → X_among s c = some (-1) := by
    intro q
    unfold X_among X_among_39
    rw [e9, e10]
    by_cases q1 : p < e
    · have hp := ht p q1
      rw [if_neg (nI_ge q1 (by omega)), aI_n (by omega) (by omega), bd_some, hp.1]
      by_cases q2 : nI (f p) ≤ 0
      · rw [if_pos q2]
      · rw [if_neg q2, bd_some, bd_some, if_pos hc.1, hc.2 _ hp.2, if_neg (fun h => q ⟨q1, h⟩)]
    · rw [if_pos (nI_le (by omega) (by omega))]
  unfold X_takesOf X_takesOf_20
  by_cases q : p < e ∧ 48 ≤ f p ∧ f p < 48 + m
  · have hp := ht p q.1
    have q1 := q.1
    have q2 := q.2
    have ey : X_among s c = some (nI (f p - 48)) := by
      unfold X_among X_among_39
      rw [e9, e10, if_neg (nI_ge q.1 (by omega)), aI_n (by omega) (by omega), bd_some, hp.1, if_neg (nI_nle (by omega) (by omega)), bd_some, bd_some, if_pos hc.1, hc.2 _ hp.2, if_pos q.2]
    rw [ey, bd_some, if_neg (nI_pos (by omega)), lt_e, e9, nI_1]
    exact Tp_some ⟨(Fr.refl _ _).pI ⟨rfl, rfl⟩, Or.inl ⟨q.1, q.2.1, q.2.2, rfl, h.set (by omega)⟩⟩
  · rw [hno q, bd_some, if_pos (by decide), lt_e, e9, Int32.add_zero]
    exact Tp_some ⟨(Fr.refl _ _).pI ⟨rfl, rfl⟩, Or.inr ⟨q, rfl, h.set hpe⟩⟩
/-! ### the checks of a lake, one after the other: the fault's place is p and the number of the check -/
def ckL (f : Nat → Nat) (e m p : Nat) : Nat → Prop
  | 0 => m ≠ 6 ∧ dg f e p
  | 1 => dg f e (p + 1) ∧ ¬ (f p = 48 ∧ f (p + 1) = 48)
  | 2 => dg f e (p + 2)
  | 3 => dg f e (p + 3)
  | 4 => lt4 f e (p + 4)
  | _ => p + 5 < e ∧ (f (p + 5) = 45 ∨ (48 ≤ f (p + 5) ∧ f (p + 5) < 48 + m))
/-- what the lake at p is told to be -/
def lkB (f : Nat → Nat) (p : Nat) : Nat := 10 * (f p - 48) + (f (p + 1) - 48)
def lkD (f : Nat → Nat) (p : Nat) : Option Nat := if f (p + 5) = 45 then none else some (f (p + 5) - 48)
abbrev dRL (i k : Nat) : Prop := (15 ≤ i ∧ i ≤ 19) ∨ (i = 0 ∧ (k = 9 ∨ k = 17))
def XLk (f : Nat → Nat) (p j : Nat) (t : Sg) : Prop := gI t 15 j = nI (lkB f p) ∧ gI t 16 j = nI (f (p + 2) - 48) ∧ gI t 17 j = nI (f (p + 3) - 48) ∧ gI t 18 j = nI (f (p + 4) - 97) ∧ gI t 19 j = oI (lkD f p)
theorem X_readsBrim_ok {f : Nat → Nat} {e p u : Nat} {s : Sg} (hu : 20000 ≤ u) (h : XRd f e p s) : Tp (X_readsBrim u s) (fun v t => Fr dAt s t ∧ ((dg f e p ∧ dg f e (p + 1) ∧ ¬ (f p = 48 ∧ f (p + 1) = 48) ∧ v = nI (lkB f p) ∧ XRd f e (p + 2) t) ∨ (dg f e p ∧ ¬ (dg f e (p + 1) ∧ ¬ (f p = 48 ∧ f (p + 1) = 48)) ∧ v = -1 ∧ XRd f e (p + 1) t) ∨ (¬ dg f e p ∧ v = -1 ∧ XRd f e p t))) := by
  unfold X_readsBrim
  refine TpP (X_num1 hu h) (fun v1 s1 ⟨f1, h1⟩ => ?_)
  rcases h1 with ⟨q1, hv1, r1⟩ | ⟨q1, hv1, r1⟩
  · have hq1 := q1.2
    have hp1 := q1.1
    rw [hv1, if_pos (nI_pos' (by omega))]
    refine TpP (X_num1 hu r1) (fun v2 s2 ⟨f2, h2⟩ => ?_)
    unfold X_readsBrim_19
    rcases h2 with ⟨q2, hv2, r2⟩ | ⟨q2, hv2, r2⟩
    · have hq2 := q2.2
      have hp2 := q2.1
      rw [hv2, if_pos (nI_pos' (by omega)), nI_add]
      unfold X_readsBrim_42
      rw [nI_add, r2.1]
      by_cases q3 : f p = 48 ∧ f (p + 1) = 48
      · have e0 : nI (f p - 48 + (f (p + 1) - 48)) = 0 := by rw [q3.1, q3.2]; rfl
        rw [if_pos e0, lt_e, nI_lit1, pk_sub (by omega), if_pos e0]
        exact Tp_some ⟨(f1.trans f2).pI ⟨rfl, rfl⟩, Or.inr (Or.inl ⟨q1, fun h => h.2 q3, rfl, r2.set (by omega)⟩)⟩
      · have e0 : ¬ nI (f p - 48 + (f (p + 1) - 48)) = 0 := nI_ne0 (by omega) (by omega)
        rw [if_neg e0, lt_e, Int32.sub_zero, if_neg e0, show (10 : Int32) = nI 10 from rfl, pk_mul, nI_add]
        exact Tp_some ⟨(f1.trans f2).pI ⟨rfl, rfl⟩, Or.inl ⟨q1, q2, q3, rfl, r2.set r2.2.2.2.2⟩⟩
    · rw [hv2, if_neg (by decide)]
      exact Tp_some ⟨f1.trans f2, Or.inr (Or.inl ⟨q1, fun h => q2 h.1, rfl, r2⟩)⟩
  · unfold X_readsBrim_19
    rw [hv1, if_neg (by decide), if_neg (by decide)]
    exact Tp_some ⟨f1, Or.inr (Or.inr ⟨q1, rfl, r1⟩)⟩
theorem XRd.p {f : Nat → Nat} {e p i k : Nat} {s : Sg} {v : Int32} (h : XRd f e p s) (h0 : i ≠ 0) (h14 : i ≠ 14) : XRd f e p (pI s i k v) := h.mv (gI_pI_i (by omega)) (gI_pI_i (by omega)) (fun k => gI_pI_i (by omega))
theorem X_readsLake_ok {f : Nat → Nat} {e p u nl j i : Nat} {s : Sg} (hu : 20000 ≤ u) (hs : 73 ≤ gN s) (h : XRd f e p s) (e5 : gI s 0 5 = nI nl) (e17 : gI s 0 17 = nI j) (hm : nl + j ≤ 6) (hi : i ≤ 6) (hc : ∀ k, k < i → ckL f e (nl + j) p k) (hend : i = 6 ∨ ¬ ckL f e (nl + j) p i) : Tp (X_readsLake u s) (fun v t => Fa dRL s t ∧ gC t ≤ gC s + 2 ∧ gZ t ≤ gZ s + 10 ∧ (∀ a k, 15 ≤ a → a ≤ 19 → k < j → gI t a k = gI s a k) ∧ ((i = 6 ∧ v = 1 ∧ XRd f e (p + 6) t ∧ gI t 0 17 = nI (j + 1) ∧ XLk f p j t) ∨ (i < 6 ∧ v = 0 ∧ XRd f e (p + i) t))) := by
  have hck : ∀ k, k < 6 → (k < i → ckL f e (nl + j) p k) ∧ (¬ ckL f e (nl + j) p k → i ≤ k) := fun k hk => ⟨hc k, fun hn => by
    by_cases q : k < i
    · exact absurd (hc k q) hn
    · omega⟩
  unfold X_readsLake
  rw [lt_e, e5, e17, nI_add]
  by_cases h6 : nl + j = 6
  · rw [if_pos (by rw [h6]; rfl)]
    have hi0 : i = 0 := by have := (hck 0 (by omega)).2 (fun h => h.1 h6); omega
    subst hi0
    exact Tp_some ⟨Fa.refl _ _, by omega, by omega, fun _ _ _ _ _ => rfl, Or.inr ⟨by omega, rfl, h⟩⟩
  · rw [if_neg (show ¬ nI (nl + j) = 6 from fun q => h6 ((nI_eq (b := 6) (by omega) (by omega)).mp q))]
    refine TpP (X_readsBrim_ok hu h) (fun v1 s1 ⟨f1, h1⟩ => ?_)
    have g1 : Fa dRL s s1 := (f1.mono (fun i k q => by omega)).fa
    have c1 : gC s1 = gC s := f1.C
    have z1 : gZ s1 = gZ s := f1.Z
    have o1 : ∀ a k, 15 ≤ a → a ≤ 19 → k < j → gI s1 a k = gI s a k := fun a k h1 h2 _ => f1.I (by omega)
    have x5 : gI s1 0 5 = nI nl := (f1.I (by omega)).trans e5
    have x17 : gI s1 0 17 = nI j := (f1.I (by omega)).trans e17
    rw [tI_n (by omega) (by omega), bd_some, aI_n (by omega) (by omega), bd_some, gI_pI_s]
    have hbad : ∀ (t : Sg) (a : Nat) (v : Int32), 15 ≤ a → a ≤ 19 → Fa dRL s t → gC t ≤ gC s + 2 → gZ t ≤ gZ s + 10 → (∀ a k, 15 ≤ a → a ≤ 19 → k < j → gI t a k = gI s a k) → i < 6 → XRd f e (p + i) t → Tp (some ((0 : Int32), pI t a j v)) (fun v t => Fa dRL s t ∧ gC t ≤ gC s + 2 ∧ gZ t ≤ gZ s + 10 ∧ (∀ a k, 15 ≤ a → a ≤ 19 → k < j → gI t a k = gI s a k) ∧ ((i = 6 ∧ v = 1 ∧ XRd f e (p + 6) t ∧ gI t 0 17 = nI (j + 1) ∧ XLk f p j t) ∨ (i < 6 ∧ v = 0 ∧ XRd f e (p + i) t))) := fun t a v ha1 ha2 gf gc gz go hi6 hr => Tp_some ⟨gf.pI (by omega), gc, gz, fun b k hb1 hb2 hk => (gI_pI_k (by omega)).trans (go b k hb1 hb2 hk), Or.inr ⟨hi6, rfl, hr.p (by omega) (by omega)⟩⟩
    rcases h1 with ⟨d0, d1, d01, hv1, r1⟩ | ⟨d0, d1, hv1, r1⟩ | ⟨d0, hv1, r1⟩
    · have hd0 := d0.2
      have hd1 := d1.2
      have hi2 : 2 ≤ i := by
        rcases hend with hh | hh
        · omega
        · by_cases q0 : i = 0
          · subst q0; exact absurd ⟨h6, d0⟩ hh
          · by_cases q1 : i = 1
            · subst q1; exact absurd ⟨d1, d01⟩ hh
            · omega
      have hlb : lkB f p < 100 := by unfold lkB; omega
      have x15 : gI (pI s1 15 j v1) 15 j = nI (lkB f p) := by rw [gI_pI_s, hv1]
      rw [hv1, if_pos (nI_pos' (by omega))]
      have r2 : XRd f e (p + 2) (pI s1 15 j (nI (lkB f p))) := r1.p (by omega) (by omega)
      have g2 : Fa dRL s (pI s1 15 j (nI (lkB f p))) := g1.pI (by omega)
      have o2 : ∀ a k, 15 ≤ a → a ≤ 19 → k < j → gI (pI s1 15 j (nI (lkB f p))) a k = gI s a k := fun a k h1 h2 h3 => (gI_pI_k (by omega)).trans (o1 a k h1 h2 h3)
      have y5 : gI (pI s1 15 j (nI (lkB f p))) 0 5 = nI nl := (gI_pI_i (by omega)).trans x5
      have y17 : gI (pI s1 15 j (nI (lkB f p))) 0 17 = nI j := (gI_pI_i (by omega)).trans x17
      have c2 : gC (pI s1 15 j (nI (lkB f p))) = gC s := c1
      have z2 : gZ (pI s1 15 j (nI (lkB f p))) = gZ s := z1
      rw [hv1] at x15
      generalize pI s1 15 j (nI (lkB f p)) = s2 at r2 g2 o2 y5 y17 c2 z2 x15
      refine TpP (X_num1 hu r2) (fun v3 s3 ⟨f3, h3⟩ => ?_)
      have g3 : Fa dRL s s3 := g2.trans (f3.mono (fun i k q => by omega)).fa
      have o3 : ∀ a k, 15 ≤ a → a ≤ 19 → gI s3 a k = gI s2 a k := fun a k h1 h2 => f3.I (by omega)
      rw [tI_n (by omega) (by omega), bd_some, aI_n (by omega) (by omega), bd_some, gI_pI_s]
      rcases h3 with ⟨d2, hv3, r3⟩ | ⟨d2, hv3, r3⟩
      rotate_left
      · have hi : i = 2 := by have := (hck 2 (by omega)).2 d2; omega
        subst hi
        rw [hv3, if_neg (by decide)]
        exact hbad s3 16 (-1) (by omega) (by omega) g3 (by rw [f3.C]; omega) (by rw [f3.Z]; omega) (fun a k h1 h2 h3 => (o3 a k h1 h2).trans (o2 a k h1 h2 h3)) (by omega) r3
      have hd2 := d2.2
      have hi3 : 3 ≤ i := by
        by_cases q : i = 2
        · subst q; exact absurd d2 (hend.resolve_left (by omega))
        · omega
      rw [hv3, if_pos (nI_pos' (by omega))]
      have r4 : XRd f e (p + 3) (pI s3 16 j (nI (f (p + 2) - 48))) := r3.p (by omega) (by omega)
      have g4 : Fa dRL s (pI s3 16 j (nI (f (p + 2) - 48))) := g3.pI (by omega)
      have o4 : ∀ a k, 15 ≤ a → a ≤ 19 → k < j → gI (pI s3 16 j (nI (f (p + 2) - 48))) a k = gI s a k := fun a k h1 h2 h3 => (gI_pI_k (by omega)).trans ((o3 a k h1 h2).trans (o2 a k h1 h2 h3))
      have w5 : gI (pI s3 16 j (nI (f (p + 2) - 48))) 0 5 = nI nl := (gI_pI_i (by omega)).trans ((f3.I (by omega)).trans y5)
      have w17 : gI (pI s3 16 j (nI (f (p + 2) - 48))) 0 17 = nI j := (gI_pI_i (by omega)).trans ((f3.I (by omega)).trans y17)
      have c4 : gC (pI s3 16 j (nI (f (p + 2) - 48))) = gC s := f3.C.trans c2
      have z4 : gZ (pI s3 16 j (nI (f (p + 2) - 48))) = gZ s := f3.Z.trans z2
      have w15 : gI (pI s3 16 j (nI (f (p + 2) - 48))) 15 j = nI (lkB f p) := (gI_pI_i (by omega)).trans ((o3 _ _ (by omega) (by omega)).trans x15)
      have w16 : gI (pI s3 16 j (nI (f (p + 2) - 48))) 16 j = nI (f (p + 2) - 48) := gI_pI_s
      generalize pI s3 16 j (nI (f (p + 2) - 48)) = s4 at r4 g4 o4 w5 w17 c4 z4 w15 w16
      refine TpP (X_num1 hu r4) (fun v5 s5 ⟨f5, h5⟩ => ?_)
      have g5 : Fa dRL s s5 := g4.trans (f5.mono (fun i k q => by omega)).fa
      have o5 : ∀ a k, 15 ≤ a → a ≤ 19 → gI s5 a k = gI s4 a k := fun a k h1 h2 => f5.I (by omega)
      rw [tI_n (by omega) (by omega), bd_some, aI_n (by omega) (by omega), bd_some, gI_pI_s]
      rcases h5 with ⟨d3, hv5, r5⟩ | ⟨d3, hv5, r5⟩
      rotate_left
      · have hi : i = 3 := by have := (hck 3 (by omega)).2 d3; omega
        subst hi
        rw [hv5, if_neg (by decide)]
        exact hbad s5 17 (-1) (by omega) (by omega) g5 (by rw [f5.C]; omega) (by rw [f5.Z]; omega) (fun a k h1 h2 h3 => (o5 a k h1 h2).trans (o4 a k h1 h2 h3)) (by omega) r5
      have hd3 := d3.2
      have hi4 : 4 ≤ i := by
        by_cases q : i = 3
        · subst q; exact absurd d3 (hend.resolve_left (by omega))
        · omega
      rw [hv5, if_pos (nI_pos' (by omega))]
      have r6 : XRd f e (p + 4) (pI s5 17 j (nI (f (p + 3) - 48))) := r5.p (by omega) (by omega)
      have g6 : Fa dRL s (pI s5 17 j (nI (f (p + 3) - 48))) := g5.pI (by omega)
      have o6 : ∀ a k, 15 ≤ a → a ≤ 19 → k < j → gI (pI s5 17 j (nI (f (p + 3) - 48))) a k = gI s a k := fun a k h1 h2 h3 => (gI_pI_k (by omega)).trans ((o5 a k h1 h2).trans (o4 a k h1 h2 h3))
      have u5 : gI (pI s5 17 j (nI (f (p + 3) - 48))) 0 5 = nI nl := (gI_pI_i (by omega)).trans ((f5.I (by omega)).trans w5)
      have u17 : gI (pI s5 17 j (nI (f (p + 3) - 48))) 0 17 = nI j := (gI_pI_i (by omega)).trans ((f5.I (by omega)).trans w17)
      have c6 : gC (pI s5 17 j (nI (f (p + 3) - 48))) = gC s := f5.C.trans c4
      have z6 : gZ (pI s5 17 j (nI (f (p + 3) - 48))) = gZ s := f5.Z.trans z4
      have u15 : gI (pI s5 17 j (nI (f (p + 3) - 48))) 15 j = nI (lkB f p) := (gI_pI_i (by omega)).trans ((o5 _ _ (by omega) (by omega)).trans w15)
      have u16 : gI (pI s5 17 j (nI (f (p + 3) - 48))) 16 j = nI (f (p + 2) - 48) := (gI_pI_i (by omega)).trans ((o5 _ _ (by omega) (by omega)).trans w16)
      have u17' : gI (pI s5 17 j (nI (f (p + 3) - 48))) 17 j = nI (f (p + 3) - 48) := gI_pI_s
      generalize pI s5 17 j (nI (f (p + 3) - 48)) = s6 at r6 g6 o6 u5 u17 c6 z6 u15 u16 u17'
      refine TpP (X_takesOf0 r6) (fun v7 s7 ⟨f7, h7⟩ => ?_)
      have g7 : Fa dRL s s7 := g6.trans (f7.mono (fun i k q => by omega)).fa
      have o7 : ∀ a k, 15 ≤ a → a ≤ 19 → gI s7 a k = gI s6 a k := fun a k h1 h2 => f7.I (by omega)
      rw [tI_n (by omega) (by omega), bd_some, aI_n (by omega) (by omega), bd_some, gI_pI_s]
      rcases h7 with ⟨d4, hv7, r7⟩ | ⟨d4, hv7, r7⟩
      rotate_left
      · have hi : i = 4 := by have := (hck 4 (by omega)).2 d4; omega
        subst hi
        rw [hv7, if_neg (by decide)]
        exact hbad s7 18 (-1) (by omega) (by omega) g7 (by rw [f7.C]; omega) (by rw [f7.Z]; omega) (fun a k h1 h2 h3 => (o7 a k h1 h2).trans (o6 a k h1 h2 h3)) (by omega) r7
      have hd4 := d4.2
      have hi5 : 5 ≤ i := by
        by_cases q : i = 4
        · subst q; exact absurd d4 (hend.resolve_left (by omega))
        · omega
      rw [hv7, if_pos (nI_pos' (by omega))]
      have r8 : XRd f e (p + 5) (pI s7 18 j (nI (f (p + 4) - 97))) := r7.p (by omega) (by omega)
      have g8 : Fa dRL s (pI s7 18 j (nI (f (p + 4) - 97))) := g7.pI (by omega)
      have o8 : ∀ a k, 15 ≤ a → a ≤ 19 → k < j → gI (pI s7 18 j (nI (f (p + 4) - 97))) a k = gI s a k := fun a k h1 h2 h3 => (gI_pI_k (by omega)).trans ((o7 a k h1 h2).trans (o6 a k h1 h2 h3))
      have t5 : gI (pI s7 18 j (nI (f (p + 4) - 97))) 0 5 = nI nl := (gI_pI_i (by omega)).trans ((f7.I (by omega)).trans u5)
      have t17 : gI (pI s7 18 j (nI (f (p + 4) - 97))) 0 17 = nI j := (gI_pI_i (by omega)).trans ((f7.I (by omega)).trans u17)
      have c8 : gC (pI s7 18 j (nI (f (p + 4) - 97))) = gC s := f7.C.trans c6
      have z8 : gZ (pI s7 18 j (nI (f (p + 4) - 97))) = gZ s := f7.Z.trans z6
      have t15 : gI (pI s7 18 j (nI (f (p + 4) - 97))) 15 j = nI (lkB f p) := (gI_pI_i (by omega)).trans ((o7 _ _ (by omega) (by omega)).trans u15)
      have t16 : gI (pI s7 18 j (nI (f (p + 4) - 97))) 16 j = nI (f (p + 2) - 48) := (gI_pI_i (by omega)).trans ((o7 _ _ (by omega) (by omega)).trans u16)
      have t17' : gI (pI s7 18 j (nI (f (p + 4) - 97))) 17 j = nI (f (p + 3) - 48) := (gI_pI_i (by omega)).trans ((o7 _ _ (by omega) (by omega)).trans u17')
      have t18 : gI (pI s7 18 j (nI (f (p + 4) - 97))) 18 j = nI (f (p + 4) - 97) := gI_pI_s
      generalize pI s7 18 j (nI (f (p + 4) - 97)) = s8 at r8 g8 o8 t5 t17 c8 z8 t15 t16 t17' t18
      refine TpP (X_takes_ok (ch := 45) r8 rfl (by omega)) (fun v9 s9 ⟨f9, h9⟩ => ?_)
      have g9 : Fa dRL s s9 := g8.trans (f9.mono (fun i k q => by omega)).fa
      -- the end: a lake stands there
      have hgood : ∀ (t : Sg) (x2 v : Int32), Fa dAt s8 t → gC t ≤ gC s + 2 → gZ t ≤ gZ s + 10 → i = 6 → XRd f e (p + 6) t → v = oI (lkD f p) → (x2 = 0 → 0 ≤ v) → Tp (X_readsLake_142 u t (nI j) x2 (nI j) v) (fun v t => Fa dRL s t ∧ gC t ≤ gC s + 2 ∧ gZ t ≤ gZ s + 10 ∧ (∀ a k, 15 ≤ a → a ≤ 19 → k < j → gI t a k = gI s a k) ∧ ((i = 6 ∧ v = 1 ∧ XRd f e (p + 6) t ∧ gI t 0 17 = nI (j + 1) ∧ XLk f p j t) ∨ (i < 6 ∧ v = 0 ∧ XRd f e (p + i) t))) := by
        intro t x2 v ft gc gz hi6 rt hv hx
        have hN : 73 ≤ gN s8 := Nat.le_trans hs g8.N
        have hfin : Tp (X_readsLake_158 u (pI t 19 j v)) (fun v t => Fa dRL s t ∧ gC t ≤ gC s + 2 ∧ gZ t ≤ gZ s + 10 ∧ (∀ a k, 15 ≤ a → a ≤ 19 → k < j → gI t a k = gI s a k) ∧ ((i = 6 ∧ v = 1 ∧ XRd f e (p + 6) t ∧ gI t 0 17 = nI (j + 1) ∧ XLk f p j t) ∨ (i < 6 ∧ v = 0 ∧ XRd f e (p + i) t))) := by
          unfold X_readsLake_158
          rw [lt_e]
          have ek : ∀ a k, 15 ≤ a → a ≤ 18 → gI (pI (pI t 19 j v) 0 17 (gI (pI t 19 j v) 0 17 + 1)) a k = gI s8 a k := fun a k h1 h2 => by
            rw [gI_pI_i (by omega), gI_pI_i (by omega), ft.I (by omega) (by omega)]
          refine Tp_some ⟨((g8.trans (ft.mono (fun i k q => by omega))).pI (by omega)).pI (by omega), gc, gz, fun a k h1 h2 h3 => ?_, Or.inl ⟨hi6, rfl, (rt.p (by omega) (by omega)).mv (gI_pI_k (by omega)) (gI_pI_k (by omega)) (fun k => gI_pI_i (by omega)), ?_, (ek _ _ (by omega) (by omega)).trans t15, (ek _ _ (by omega) (by omega)).trans t16, (ek _ _ (by omega) (by omega)).trans t17', (ek _ _ (by omega) (by omega)).trans t18, ?_⟩⟩
          · rw [gI_pI_i (by omega), gI_pI_k (by omega), ft.I (by omega) (by omega)]
            exact o8 a k h1 h2 h3
          · rw [gI_pI_s, gI_pI_i (by omega), ft.I (by omega) (by omega), t17, nI_1]
          · rw [gI_pI_i (by omega), gI_pI_s, hv]
        unfold X_readsLake_142
        rw [tI_n (by omega) (by omega), bd_some]
        by_cases hx2 : x2 = 0
        · rw [if_pos hx2, aI_n (by omega) (by omega), bd_some, gI_pI_s, if_pos (hx hx2)]
          exact hfin
        · rw [if_neg hx2]
          exact hfin
      rcases h9 with ⟨p5, q5, hv9, r9⟩ | ⟨q5, hv9, r9⟩
      · have hi6 : i = 6 := by
          rcases hend with hh | hh
          · exact hh
          · have : i = 5 ∨ i = 6 := by omega
            rcases this with hh5 | hh6
            · subst hh5; exact absurd ⟨p5, Or.inl q5⟩ hh
            · exact hh6
        rw [hv9, if_neg (by decide)]
        refine hgood s9 1 (-1) f9.fa (by rw [f9.C]; omega) (by rw [f9.Z]; omega) hi6 r9 ?_ (fun h => absurd h (by decide))
        unfold lkD
        rw [if_pos q5]
        rfl
      · rw [hv9, if_pos rfl, show gI s9 0 5 = nI nl from (f9.I (by omega)).trans t5, nI_add]
        refine TpP (S_subX_ok (m := nl + j) (by omega) (Nat.le_trans hs g9.N)) (fun cd s10 ⟨hcd, f10, hC, hZ⟩ => ?_)
        have hN9 : 73 ≤ gN s9 := Nat.le_trans hs g9.N
        have r10 : XRd f e (p + 5) s10 := r9.mv (f10.I (by omega) (fun h => h)) (f10.I (by omega) (fun h => h)) (fun k => f10.I (by omega) (fun h => h))
        refine TpP (X_takesOfN r10 hcd (by omega)) (fun v11 s11 ⟨f11, h11⟩ => ?_)
        have f8 : Fa dAt s8 s11 := (f9.fa.trans (f10.mono (fun i k q => q.elim))).trans f11.fa
        rw [f9.C, c8] at hC
        rw [f9.Z, z8] at hZ
        rcases h11 with ⟨p5, a5, b5, hv11, r11⟩ | ⟨hn5, hv11, r11⟩
        · have hne : f (p + 5) ≠ 45 := by omega
          have hi6 : i = 6 := by
            rcases hend with hh | hh
            · exact hh
            · have : i = 5 ∨ i = 6 := by omega
              rcases this with hh5 | hh6
              · subst hh5; exact absurd ⟨p5, Or.inr ⟨a5, b5⟩⟩ hh
              · exact hh6
          refine hgood s11 0 v11 f8 (by rw [f11.C]; omega) (by rw [f11.Z]; omega) hi6 r11 ?_ (fun _ => by rw [hv11]; exact nI_pos' (by omega))
          rw [hv11]
          unfold lkD
          rw [if_neg hne]
          rfl
        · have hi : i = 5 := by
            have := (hck 5 (by omega)).2 (fun h => by
              rcases h.2 with h2 | h2
              · exact q5 ⟨h.1, h2⟩
              · exact hn5 ⟨h.1, h2⟩)
            omega
          subst hi
          unfold X_readsLake_142
          have hN8 : 73 ≤ gN s8 := Nat.le_trans hs g8.N
          rw [tI_n (by omega) (by omega), bd_some, if_pos rfl, aI_n (by omega) (by omega), bd_some, gI_pI_s, hv11, if_neg (by decide)]
          exact hbad s11 19 (-1) (by omega) (by omega) (g8.trans (f8.mono (fun i k q => by omega))) (by rw [f11.C]; omega) (by rw [f11.Z]; omega) (fun a k h1 h2 h3 => (f8.I (by omega) (by omega)).trans (o8 a k h1 h2 h3)) (by omega) r11
    · have hi : i = 1 := by
        have h1 := (hck 1 (by omega)).2 d1
        by_cases q0 : i = 0
        · subst q0; exact absurd ⟨h6, d0⟩ (hend.resolve_left (by omega))
        · omega
      subst hi
      rw [hv1, if_neg (by decide)]
      exact hbad s1 15 (-1) (by omega) (by omega) g1 (by omega) (by omega) o1 (by omega) r1
    · have hi : i = 0 := by have := (hck 0 (by omega)).2 (fun h => d0 h.2); omega
      subst hi
      rw [hv1, if_neg (by decide)]
      exact hbad s1 15 (-1) (by omega) (by omega) g1 (by omega) (by omega) o1 (by omega) r1
