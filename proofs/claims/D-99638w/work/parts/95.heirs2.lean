/-! LAW: heirs, the Model's table; heirs -/
set_option maxRecDepth 100000
theorem X_envT {A : AS} {s t : Sg} (hX : XI A s) (f : Fr dXd s t) : XEn (aG A) (aRu A) t ∧ XW (gn (aG A)) t 1 (aW A) := ⟨hX.1.fr f ⟨fun k => ⟨by omega, by omega, by omega⟩, by omega, by omega, fun i k hi => by omega, fun w hw j hj => by omega⟩, hX.2.1.mv (fun i k h1 h2 => f.I (by omega))⟩
theorem M_envT {u : Nat} {A : AS} {s t : Sg} (hM : MI u A s) (f : Fr dMd s t) : MB u (aG A) (aRu A) t ∧ MW (gn (aG A)) t 46 0 (aW A) := ⟨hM.1.fr f ⟨fun k => ⟨by omega, by omega, by omega, by omega, by omega⟩, by omega, by omega, by omega⟩ (by omega) (by omega), hM.2.1.mv (fun k => f.I (by omega))⟩
theorem orH : ∀ h, h < 7 → ∀ d, d < 64 → h * 64 ||| d = h * 64 + d := by decide +kernel
theorem ix66 {h d : Nat} (hh : h < 7) (hd : d < 64) : (nI h <<< ((6 : Int32) &&& 31)) ||| nI d = nI (h * 64 + d) := by
  have e := nI_shl (n := h) (k := 6) (by omega) (by omega)
  rw [show ((6 : Int32) &&& 31) = (nI 6 &&& 31) from rfl, e, show (2 : Nat) ^ 6 = 64 from rfl, nI_or (by omega) (by omega), orH h hh d hd]
theorem ix66b {h d i : Nat} (hh : h < 7) (hd : d < 64) (hi : i < 6) : ((nI h <<< ((6 : Int32) &&& 31)) ||| nI d) ||| ((1 : Int32) <<< (nI i &&& 31)) = nI (h * 64 + (d ||| 2 ^ i)) := by
  have h64 : d ||| 2 ^ i < 64 := or_64 (m := 6) hd hi
  have hi2 : 2 ^ i < 64 := p2_64 hi
  rw [ix66 hh hd, nI_shl1 (by omega), nI_or (by omega) (by omega), ← orH h hh d hd, Nat.or_assoc, orH h hh _ h64]
theorem M_canHave_ok {m : Nat} {W : Wt} {hh : Nat → Nat} {s : Sg} {h i had : Nat} (hm : m ≤ 6) (hi : i < m) (hd : had < 64) (hh6 : h < 6) (hk4 : wk W i < 4) (hh4 : hh h < 4) (eK : gI s 46 (24 + i) = nI (wk W i)) (eh : gI s 52 h = nI (hh h)) : M_canHave s (nI h) (nI i) (nI had) = some (if cnH W hh h had i = true then 1 else 0) := by
  unfold M_canHave M_canHave_30
  rw [M_has_n (by omega) (by omega), bd_some, ad_24, aI_n (by omega) (by omega), bd_some, aI_n (by omega) (by omega), bd_some, eK, eh]
  unfold cnH
  by_cases eb : bt had i = 0
  · rw [eb, if_pos nI_0]
    by_cases ek : wk W i = hh h
    · rw [if_pos (by rw [ek]), if_neg (by rw [ek]; simp)]
    · rw [if_neg (fun h => ek ((nI_eq (by omega) (by omega)).mp h)), decide_eq_true ek]
      rfl
  · have e1 : bt had i = 1 := by have := bt_lt had i; omega
    rw [e1, if_neg (by decide), if_neg (by simp)]
/-- what stays while the table is filled and gone through -/
def HS (A : AS) (hh : Nat → Nat) (n : Nat) (t s : Sg) : Prop := Fr dMd t s ∧ (∀ k, k < n → gI s 52 k = nI (hh k)) ∧ gI s 45 6 = nI 0
theorem HS.p66 {A : AS} {hh : Nat → Nat} {n k : Nat} {t s : Sg} {v : Int32} (h : HS A hh n t s) : HS A hh n t (pI s 66 k v) := ⟨h.1.pI (by omega), fun j hj => (gI_pI_i (by omega)).trans (h.2.1 j hj), (gI_pI_i (by omega)).trans h.2.2⟩
/-- the table from row n - R on -/
def HT (m : Nat) (W : Wt) (hh : Nat → Nat) (n R : Nat) (s : Sg) : Prop := ∀ h had, n - R ≤ h → h ≤ n → had < 2 ^ m → gI s 66 (h * 64 + had) = nI (hB m W hh n (n - h) had)
def hRow (A : AS) (hh : Nat → Nat) (n : Nat) (k : Nat) : List Int64 := rwN (fun i => (hP (gn (aG A)) (aW A) hh n n 0 i).toInt64) k
/-- the way through the table -/
theorem M_heirs_w {u c : Nat} {A : AS} {t s : Sg} {hh : Nat → Nat} {n : Nat} (hu : 20000 ≤ u) (ht : MI u A t) (hG : GI c A) (hn1 : 1 ≤ n) (hn6 : n ≤ 6) (hh4 : ∀ k, k < n → hh k < 4) (hS : HS A hh n t s) (hT : HT (gn (aG A)) (aW A) hh n n s) : Tp (M_heirs_222 u u (pI s 45 8 0) (nI n) 0 0) (fun v t' => v = nI (hB (gn (aG A)) (aW A) hh n n 0) ∧ Fr dMd t t' ∧ MRw (hRow A hh n n) t' ∧ gI t' 45 6 = nI 0) := by
  have h6 := hG.1.1
  have hl : ∀ i, i < gn (aG A) → wl (aW A) i ≤ 99 := fun i hi => Nat.le_trans (hG.2.1.1 i hi).1 (hG.1.2 i hi).2.1
  have hk4 : ∀ i, i < gn (aG A) → wk (aW A) i < 4 := fun i hi => by have := (hG.2.1.1 i hi).2.2.2; omega
  have h26 := two6 h6
  refine loop_i (W := fun w h (q : Sg × Nat) => Tp (M_heirs_222 u w q.1 (nI n) (nI q.2) (nI h)) _)
    (I := fun h q => HS A hh n t q.1 ∧ HT (gn (aG A)) (aW A) hh n n q.1 ∧ MRw (hRow A hh n h) q.1 ∧ q.2 < 2 ^ gn (aG A) ∧ ∀ h', h ≤ h' → h' < n → hP (gn (aG A)) (aW A) hh n n 0 h' = hP (gn (aG A)) (aW A) hh n (n - h) q.2 h') n ?_ ?_ u 0 (pI s 45 8 0, 0) (by omega) (by omega) ⟨⟨hS.1.pI (by omega), fun k hk => (gI_pI_i (by omega)).trans (hS.2.1 k hk), (gI_pI_k (by omega)).trans hS.2.2⟩, fun h had a b d => (gI_pI_i (by omega)).trans (hT h had a b d), MRw_0, Nat.two_pow_pos _, fun h' _ _ => rfl⟩
  · intro w ⟨s1, had⟩ ⟨g1, g2, g3, g4, g5⟩
    show Tp (M_heirs_222 u (w + 1) s1 (nI n) (nI had) (nI n)) _
    rw [M_heirs_222_s]
    unfold M_heirs_222b
    rw [if_pos (nI_le (Nat.le_refl _) (by omega)), nI_lit0, aI_n (by omega) (by omega), bd_some]
    have e := g2 0 0 (by omega) (by omega) (Nat.two_pow_pos _)
    exact Tp_some ⟨e, g1.1, g3, g1.2.2⟩
  · intro w h ⟨s1, had⟩ hh' ⟨g1, g2, g3, g4, g5⟩ ih
    have g1 : HS A hh n t s1 := g1
    have g2 : HT (gn (aG A)) (aW A) hh n n s1 := g2
    have g3 : MRw (hRow A hh n h) s1 := g3
    have g4 : had < 2 ^ gn (aG A) := g4
    have g5 : ∀ h', h ≤ h' → h' < n → hP (gn (aG A)) (aW A) hh n n 0 h' = hP (gn (aG A)) (aW A) hh n (n - h) had h' := g5
    obtain ⟨r, hr⟩ : ∃ r, n - h = r + 1 := ⟨n - h - 1, by omega⟩
    have hr2 : n - (h + 1) = r := by omega
    have hr3 : n - (r + 1) = h := by omega
    have e1 : gI s1 66 (h * 64 + had) = nI (hB (gn (aG A)) (aW A) hh n (r + 1) had) := by rw [g2 h had (by omega) (by omega) g4, hr]
    have e2 : ∀ had', had' < 2 ^ gn (aG A) → gI s1 66 ((h + 1) * 64 + had') = nI (hB (gn (aG A)) (aW A) hh n r had') := fun had' q => by rw [g2 (h + 1) had' (by omega) (by omega) q, hr2]
    have b1 := hB_le (n := n) (hh := hh) hl (r + 1) had
    have b2 := hB_le (n := n) (hh := hh) hl r had
    have hMW := (M_envT ht g1.1).2
    have hlen : (hRow A hh n h).length = h := rwN_len _ _
    have htell : ∀ (v : Int32) (had2 : Nat), v = hP (gn (aG A)) (aW A) hh n n 0 h → had2 < 2 ^ gn (aG A) → (∀ h', h + 1 ≤ h' → h' < n → hP (gn (aG A)) (aW A) hh n n 0 h' = hP (gn (aG A)) (aW A) hh n r had2 h') → Tp (M_heirs_319 u (M_heirs_222 u w) s1 (nI n) (nI had2) (nI h) v) (fun v t' => v = nI (hB (gn (aG A)) (aW A) hh n n 0) ∧ Fr dMd t t' ∧ MRw (hRow A hh n n) t' ∧ gI t' 45 6 = nI 0) := by
      intro v had2 hv hd2 hp2
      unfold M_heirs_319
      refine TtP (M_tell_ok v.toInt64 g3 (by omega)) (fun t2 ⟨p1, p2⟩ => ?_)
      rw [nI_1]
      have hmv : ∀ i k, i ≠ 45 → gI t2 i k = gI s1 i k ∨ i = 51 := fun i k hi => by
        by_cases e : i = 51
        · exact Or.inr e
        · exact Or.inl (p2.I (by omega))
      refine ih (t2, had2) ⟨⟨g1.1.trans (p2.mono (fun i k q => by omega)), fun k hk => (p2.I (by omega)).trans (g1.2.1 k hk), (p2.I (by omega)).trans g1.2.2⟩, fun h' had' a b d => (p2.I (by omega)).trans (g2 h' had' a b d), ?_, hd2, fun h' a b => by rw [hr2]; exact hp2 h' a b⟩
      show MRw (hRow A hh n (h + 1)) t2
      unfold hRow
      rw [rwN_s, ← hv]
      exact p1
    have hp := g5 h (Nat.le_refl _) hh'
    rw [hr, hP_s, if_pos hr3.symm] at hp
    have hpn : ∀ h', h + 1 ≤ h' → h' < n → hP (gn (aG A)) (aW A) hh n n 0 h' = hP (gn (aG A)) (aW A) hh n r (hN had (hf (gn (aG A)) (aW A) hh n r had (gn (aG A))).2) h' := fun h' a b => by
      rw [g5 h' (by omega) b, hr, hP_s, if_neg (by omega)]
    have hfo := hF_ok (cnH (aW A) hh (n - (r + 1)) had) (fun i => wl (aW A) i + hB (gn (aG A)) (aW A) hh n r (had ||| 2 ^ i)) (hB (gn (aG A)) (aW A) hh n r had) (gn (aG A))
    rw [hr3] at hfo
    have hdef : hf (gn (aG A)) (aW A) hh n r had (gn (aG A)) = hF (cnH (aW A) hh h had) (fun i => wl (aW A) i + hB (gn (aG A)) (aW A) hh n r (had ||| 2 ^ i)) (hB (gn (aG A)) (aW A) hh n r had) (gn (aG A)) := by
      unfold hf
      rw [hr3]
    have hbs := hB_s (gn (aG A)) (aW A) hh n r had
    rw [hdef] at hp hpn hbs
    rw [← hbs] at hfo
    show Tp (M_heirs_222 u (w + 1) s1 (nI n) (nI had) (nI h)) _
    rw [M_heirs_222_s]
    unfold M_heirs_222b
    rw [if_neg (nI_ge hh' (by omega)), nI_1, ix66 (by omega) (by omega), ix66 (by omega) (by omega), aI_n (by omega) (by omega), bd_some, aI_n (by omega) (by omega), bd_some, e1, e2 had g4]
    rcases hfo.2.2 with ⟨c1, c2⟩ | ⟨i, c1, c2, c3, c4, c5, c6⟩
    · rw [if_pos (by rw [c2])]
      rw [c1] at hp hpn
      exact htell (-1) had hp.symm g4 hpn
    · rw [if_neg (fun q => by have := (nI_eq (by omega) (by omega)).mp q; omega)]
      rw [c1] at hp hpn
      refine loop_i (W := fun w2 j (_ : Unit) => Tp (M_heirs_264 u (M_heirs_222 u w) w2 s1 (nI n) (nI had) (nI h) (nI (hB (gn (aG A)) (aW A) hh n (r + 1) had)) (nI j)) _)
        (I := fun j _ => True) i ?_ ?_ u 0 () (by omega) (by omega) trivial
      · intro w2 _ _
        have hl1 := hl i c2
        have hb1 := hB_le (n := n) (hh := hh) hl r (had ||| 2 ^ i)
        have c4 : wl (aW A) i + hB (gn (aG A)) (aW A) hh n r (had ||| 2 ^ i) = hB (gn (aG A)) (aW A) hh n (r + 1) had := c4
        have ho := or_64 g4 c2
        rw [M_heirs_264_s]
        unfold M_heirs_264b
        rw [M_canHave_ok (hh := hh) h6 c2 (by omega) (by omega) (hk4 i c2) (hh4 h hh') (by have := hMW.2.2.2.2.1 i c2; rwa [Nat.zero_add] at this) (g1.2.1 h hh'), if_pos c3, bd_some, if_neg (by decide), aI_n (by omega) (by omega), bd_some, nI_1, ix66b (by omega) (by omega) (by omega), aI_n (by omega) (by omega), bd_some, e2 _ ho, show gI s1 46 i = nI (wl (aW A) i) from by have := hMW.1 i c2; rwa [Nat.zero_add] at this, nI_add, if_pos (by rw [c4]), lt_e, nI_shl1 (by omega), nI_or (by omega) (by have := p2_64 (j := i) (by omega); omega)]
        exact htell (nI i) (had ||| 2 ^ i) hp.symm ho hpn
      · intro w2 j _ hj _ ih2
        have ih2 := ih2 () trivial
        have hl1 := hl j (by omega)
        have hb1 := hB_le (n := n) (hh := hh) hl r (had ||| 2 ^ j)
        have ho := or_64 g4 (show j < gn (aG A) by omega)
        rw [M_heirs_264_s]
        unfold M_heirs_264b
        rw [M_canHave_ok (hh := hh) h6 (by omega) (by omega) (by omega) (hk4 j (by omega)) (hh4 h hh') (by have := hMW.2.2.2.2.1 j (by omega); rwa [Nat.zero_add] at this) (g1.2.1 h hh'), nI_1]
        by_cases q : cnH (aW A) hh h had j = true
        · have c6 : wl (aW A) j + hB (gn (aG A)) (aW A) hh n r (had ||| 2 ^ j) < hB (gn (aG A)) (aW A) hh n (r + 1) had := c6 j hj q
          rw [if_pos q, bd_some, if_neg (by decide), aI_n (by omega) (by omega), bd_some, nI_1, ix66b (by omega) (by omega) (by omega), aI_n (by omega) (by omega), bd_some, e2 _ ho, show gI s1 46 j = nI (wl (aW A) j) from by have := hMW.1 j (by omega); rwa [Nat.zero_add] at this, nI_add, if_neg (fun q2 => by have := (nI_eq (by omega) (by omega)).mp q2; omega)]
          exact ih2
        · rw [if_neg q, bd_some, if_pos rfl]
          exact ih2
/-- the table is filled -/
theorem M_heirs_f {u c : Nat} {A : AS} {t s : Sg} {hh : Nat → Nat} {n : Nat} (hu : 20000 ≤ u) (ht : MI u A t) (hG : GI c A) (hn1 : 1 ≤ n) (hn6 : n ≤ 6) (hh4 : ∀ k, k < n → hh k < 4) (hS : HS A hh n t s) : Tp (M_heirs_67 u u s (nI n) 0) (fun v t' => v = nI (hB (gn (aG A)) (aW A) hh n n 0) ∧ Fr dMd t t' ∧ MRw (hRow A hh n n) t' ∧ gI t' 45 6 = nI 0) := by
  have h6 := hG.1.1
  have hl : ∀ i, i < gn (aG A) → wl (aW A) i ≤ 99 := fun i hi => Nat.le_trans (hG.2.1.1 i hi).1 (hG.1.2 i hi).2.1
  have hk4 : ∀ i, i < gn (aG A) → wk (aW A) i < 4 := fun i hi => by have := (hG.2.1.1 i hi).2.2.2; omega
  have h26 := two6 h6
  have h2p := Nat.two_pow_pos (gn (aG A))
  have hall : ∀ s1, HS A hh n t s1 → M_all s1 = some (nI (2 ^ gn (aG A) - 1)) := fun s1 g => M_all_ok hG.1 (M_envT ht g.1).1.1.1
  refine loop_i (W := fun w d s => Tp (M_heirs_67 u w s (nI n) (nI d)) _)
    (I := fun d s => HS A hh n t s ∧ ∀ had, had < d → gI s 66 (n * 64 + had) = nI 0) (2 ^ gn (aG A)) ?_ ?_ u 0 s (by omega) (by omega) ⟨hS, fun had h => absurd h (Nat.not_lt_zero _)⟩
  · intro w s1 ⟨g1, g2⟩
    rw [M_heirs_67_s]
    unfold M_heirs_67b
    rw [hall s1 g1, bd_some, if_pos (nI_lt (by omega) (by omega)), lt_e]
    refine loop_i (W := fun w j s => Tp (M_heirs_97 u w s (nI n) (nI (n - j) - 1)) _)
      (I := fun j s => HS A hh n t s ∧ HT (gn (aG A)) (aW A) hh n j s) n ?_ ?_ u 0 s1 (by omega) (by omega) ⟨g1, fun h had a b d => by
        have e : h = n := by omega
        subst e
        rw [Nat.sub_self]
        exact g2 had d⟩
    · intro w s2 ⟨p1, p2⟩
      rw [M_heirs_97_s]
      unfold M_heirs_97b
      rw [Nat.sub_self, if_pos (by decide), lt_e]
      exact M_heirs_w hu ht hG hn1 hn6 hh4 p1 p2
    · intro w j s2 hj ⟨p1, p2⟩ ih
      have e0 : nI (n - j) - 1 = nI (n - (j + 1)) := by rw [nI_lit1, pk_sub (by omega)]; congr 1
      have ej : n - (n - (j + 1)) = j + 1 := by omega
      have ej2 : n - (j + 1) + 1 = n - j := by omega
      have ej3 : n - (n - j) = j := by omega
      rw [M_heirs_97_s]
      unfold M_heirs_97b
      rw [e0, if_neg (nI_pos (by omega))]
      refine loop_i (W := fun w2 d s => Tp (M_heirs_103 u (M_heirs_97 u w) w2 s (nI n) (nI (n - (j + 1))) (nI d)) _)
        (I := fun d s => HS A hh n t s ∧ HT (gn (aG A)) (aW A) hh n j s ∧ ∀ had, had < d → gI s 66 ((n - (j + 1)) * 64 + had) = nI (hB (gn (aG A)) (aW A) hh n (j + 1) had)) (2 ^ gn (aG A)) ?_ ?_ u 0 s2 (by omega) (by omega) ⟨p1, p2, fun had h => absurd h (Nat.not_lt_zero _)⟩
      · intro w2 s3 ⟨q1, q2, q3⟩
        rw [M_heirs_103_s]
        unfold M_heirs_103b
        rw [hall s3 q1, bd_some, if_pos (nI_lt (by omega) (by omega)), show nI (n - (j + 1)) + (-1) = nI (n - (j + 1)) - 1 from (Int32.sub_eq_add_neg _ _).symm]
        refine ih s3 ⟨q1, fun h had a b d => ?_⟩
        by_cases e : h = n - (j + 1)
        · subst e
          rw [ej]
          exact q3 had d
        · exact q2 h had (by omega) b d
      · intro w2 had s3 hd ⟨q1, q2, q3⟩ ih2
        have hMW := (M_envT ht q1.1).2
        have hMG := (M_envT ht q1.1).1.1.1
        rw [M_heirs_103_s]
        unfold M_heirs_103b
        rw [hall s3 q1, bd_some, if_neg (nI_nlt (by omega) (by omega)), nI_1, ej2, ix66 (by omega) (by omega), aI_n (by omega) (by omega), bd_some, q2 (n - j) had (by omega) (by omega) hd, ej3]
        have hh6 : n - (j + 1) < 6 := by omega
        refine loop_i (W := fun w3 i (_ : Unit) => Tp (M_heirs_129 u (M_heirs_97 u w) (M_heirs_103 u (M_heirs_97 u w) w2) w3 s3 (nI n) (nI (n - (j + 1))) (nI had) (nI (hf (gn (aG A)) (aW A) hh n j had i).1) (nI i)) _)
          (I := fun i _ => True) (gn (aG A)) ?_ ?_ u 0 () (by omega) (by omega) trivial
        · intro w3 _ _
          rw [M_heirs_129_s]
          unfold M_heirs_129b
          rw [hMG.1, if_pos (nI_le (Nat.le_refl _) (by omega)), ix66 (by omega) (by omega), tI_n (by omega) (by omega), bd_some, nI_1]
          refine ih2 _ ⟨q1.p66, fun h had' a b d => ?_, fun had' d => ?_⟩
          · rw [gI_pI_k (by omega)]
            exact q2 h had' a b d
          · by_cases e : had' = had
            · rw [e, gI_pI_s, hB_s]
            · rw [gI_pI_k (by omega)]
              exact q3 had' (by omega)
        · intro w3 i _ hi _ ih3
          have ih3 := ih3 () trivial
          have hl1 := hl i hi
          have hb1 := hB_le (n := n) (hh := hh) hl j (had ||| 2 ^ i)
          have hv := hf_le (n := n) (hh := hh) hl j had i (by omega)
          have ho := or_64 hd hi
          have hsj := hf_s (gn (aG A)) (aW A) hh n j had i
          rw [hsj] at ih3
          rw [M_heirs_129_s]
          unfold M_heirs_129b
          rw [hMG.1, if_neg (nI_ge hi (by omega)), M_canHave_ok (hh := hh) h6 hi (by omega) hh6 (hk4 i hi) (hh4 _ (by omega)) (by have := hMW.2.2.2.2.1 i hi; rwa [Nat.zero_add] at this) (q1.2.1 _ (by omega)), bd_some, nI_1]
          by_cases q : cnH (aW A) hh (n - (j + 1)) had i = true
          · rw [if_pos q, if_neg (by decide), aI_n (by omega) (by omega), bd_some, nI_1, ej2, ix66b (by omega) (by omega) (by omega), aI_n (by omega) (by omega), bd_some, q2 (n - j) _ (by omega) (by omega) ho, ej3, show gI s3 46 i = nI (wl (aW A) i) from by have := hMW.1 i hi; rwa [Nat.zero_add] at this, nI_add, lt_e, nI_mx (by omega) (by omega)]
            by_cases q4 : (hf (gn (aG A)) (aW A) hh n j had i).1 < wl (aW A) i + hB (gn (aG A)) (aW A) hh n j (had ||| 2 ^ i)
            · rw [if_pos ⟨q, q4⟩] at ih3
              rw [Nat.max_eq_right (by omega)]
              exact ih3
            · rw [if_neg (fun h => q4 h.2)] at ih3
              rw [Nat.max_eq_left (by omega)]
              exact ih3
          · rw [if_neg q, if_pos rfl]
            rw [if_neg (fun h => q h.1)] at ih3
            exact ih3
  · intro w d s1 hd ⟨g1, g2⟩ ih
    rw [M_heirs_67_s]
    unfold M_heirs_67b
    rw [hall s1 g1, bd_some, if_neg (nI_nlt (by omega) (by omega)), ix66 (by omega) (by omega), tI_n (by omega) (by omega), bd_some, nI_1]
    refine ih _ ⟨g1.p66, fun had h => ?_⟩
    by_cases e : had = d
    · rw [e, gI_pI_s, nI_0]
    · rw [gI_pI_k (by omega)]
      exact g2 had (by omega)
theorem op_heirs {u c : Nat} {s : Sg} {A : AS} (hu : 20000 ≤ u) (hX : XI A s) (hM : MI u A s) (hG : GI c A) : Bth u c s (X_heirs u s) (fun t => M_heirs u t) := by
  have h6 := hG.1.1
  have h80 := hG.2.2.2.2.2.1.1
  have hl : ∀ i, i < gn (aG A) → wl (aW A) i ≤ 99 := fun i hi => Nat.le_trans (hG.2.1.1 i hi).1 (hG.1.2 i hi).2.1
  have hk4 : ∀ i, i < gn (aG A) → wk (aW A) i < 4 := fun i hi => by have := (hG.2.1.1 i hi).2.2.2; omega
  have h26 := two6 h6
  obtain ⟨n, f, hnf⟩ : ∃ n f, aT A = (n, f) := ⟨_, _, rfl⟩
  have hn80 : n ≤ 80 := by rw [hnf] at h80; exact h80
  obtain ⟨q, hq6, hPP, hend⟩ := first_out (fun j => lt4 f n j) 6
  have hqn : q ≤ n := by
    by_cases e : q = 0
    · omega
    · have := (hPP (q - 1) (by omega)).1
      omega
  have hh4 : ∀ k, k < q → f k - 97 < 4 := fun k hk => by have := (hPP k hk).2; omega
  have hend2 : q = 6 ∨ ¬ lt4 f n q := hend
  have hP2 : ∀ j, j < q → lt4 f n j := hPP
  -- the class: its letters
  have hXg : ∀ (Q : Int32 → Sg → Prop), (∀ t, Fr dXd s t → gI t 0 8 = nI 0 → XRow (aRow A) t → gI t 0 9 = nI q → gI t 0 10 = nI n → (∀ k, k < q → gI t 37 k = nI (f k - 97)) → Tp (X_heirs_42 u t (nI q)) Q) → Tp (X_heirs u s) Q := by
    intro Q hQ
    unfold X_heirs
    refine TpP (X_begins_ok (m := 80) hX hG (by omega) rfl) (fun v t1 ⟨e1, f1, r1, g8, g11⟩ => ?_)
    rw [hnf, show min (n, f).1 80 = n from Nat.min_eq_left hn80] at r1
    have hrow : XRow (aRow A) t1 := hX.2.2.1.mv (f1.I (by omega)) (fun k => f1.J (by omega))
    refine loop_i (W := fun w j t => Tp (X_heirs_9 u w t (nI j)) Q)
      (I := fun j t => Fr dXd s t ∧ XRd f n j t ∧ gI t 0 8 = nI 0 ∧ XRow (aRow A) t ∧ ∀ k, k < j → gI t 37 k = nI (f k - 97)) q ?_ ?_ u 0 t1 (by omega) (by omega) ⟨f1.mono (fun i k h => by omega), r1, g8, hrow, fun k hk => absurd hk (Nat.not_lt_zero _)⟩
    · intro w t ⟨f2, r2, i8, w2, l2⟩
      rw [X_heirs_9_s]
      unfold X_heirs_9b
      by_cases e : q = 6
      · rw [if_pos (by rw [e]; decide)]
        exact hQ t f2 i8 w2 r2.1 r2.2.1 l2
      · rw [if_neg (by rw [show (6 : Int32) = nI 6 from rfl]; exact nI_ge (by omega) (by omega)), X_among0_n r2 (hend2.resolve_left e), bd_some, if_pos (by decide)]
        exact hQ t f2 i8 w2 r2.1 r2.2.1 l2
    · intro w j t hj ⟨f2, r2, i8, w2, l2⟩ ih
      have hlt := hP2 j hj
      rw [X_heirs_9_s]
      unfold X_heirs_9b
      rw [if_neg (by rw [show (6 : Int32) = nI 6 from rfl]; exact nI_ge (by omega) (by omega)), X_among0_y r2 hlt, bd_some, if_neg (nI_pos (by have := hh4 j hj; omega)), nI_1]
      refine TpP (X_takesOf0 r2) (fun v t2 ⟨f3, h3⟩ => ?_)
      rcases h3 with ⟨_, hv, r3⟩ | ⟨hno, _⟩
      · rw [tI_n (by omega) (by omega), bd_some, hv]
        refine ih _ ⟨(f2.trans (f3.mono (fun i k h => by omega))).pI (by omega), r3.mv (gI_pI_i (by omega)) (gI_pI_i (by omega)) (fun k => gI_pI_i (by omega)), ?_, ?_, fun k hk => ?_⟩
        · rw [gI_pI_i (by omega), f3.I (by omega)]; exact i8
        · exact w2.mv ((gI_pI_i (by omega)).trans (f3.I (by omega))) (fun k => f3.J (by omega))
        · by_cases e : k = j
          · rw [e, gI_pI_s]
          · rw [gI_pI_k e, f3.I (by omega)]
            exact l2 k (by omega)
      · exact absurd hlt hno
  -- the Model: its letters
  have hMg : ∀ (t : Sg) (Q : Int32 → Sg → Prop), MI u A t → (∀ t' w, Fr dMd t t' → gI t' 45 6 = nI 0 → MRw (aRow A) t' → MRd 50 f n 6 q w t' → ((w = none ∧ ¬ (q = 0 ∨ (q < n ∧ q < 6))) ∨ (w = some q ∧ (q = 0 ∨ (q < n ∧ q < 6)))) → (∀ k, k < q → gI t' 52 k = nI (f k - 97)) → ∀ j, (w = none → j = q) → Tp (M_heirs_51 u t' (nI j)) Q) → Tp (M_heirs u t) Q := by
    intro t Q ht hQ
    have hth := MI_th ht
    unfold M_heirs
    rw [lt_e]
    refine TtP (M_beginText_ok (m := 6) hth.2.2.2.2.2.2.1 hG (by omega) rfl) (fun t1 ⟨f1, r1, g6⟩ => ?_)
    rw [hnf] at r1
    have hrow : MRw (aRow A) t1 := ht.2.2.1.mv ((f1.I (by omega)).trans (gI_pI_k (by omega))) (fun k => f1.J (by omega))
    refine loop_i (W := fun w j t' => Tp (M_heirs_13 u w t' (nI j)) Q)
      (I := fun j t' => Fr dMd t t' ∧ gI t' 45 6 = nI 0 ∧ MRw (aRow A) t' ∧ (∀ k, k < j → k < q → gI t' 52 k = nI (f k - 97)) ∧ ((j ≤ q ∧ MRd 50 f n 6 j none t') ∨ (j = q + 1 ∧ MRd 50 f n 6 q (some q) t' ∧ (q = 0 ∨ (q < n ∧ q < 6))))) (q + 1) ?_ ?_ u 0 t1 (by omega) (by omega) ⟨((Fr.refl _ _).pI (by omega)).trans (f1.mono (fun i k h => by omega)), g6, hrow, fun k hk => absurd hk (Nat.not_lt_zero _), Or.inl ⟨Nat.zero_le _, r1⟩⟩
    · intro w t2 ⟨f2, i6, w2, l2, r2⟩
      rcases r2 with ⟨h, _⟩ | ⟨_, r2, hb⟩
      · omega
      · rw [M_heirs_13_s]
        unfold M_heirs_13b
        rw [M_fine_n r2, bd_some, if_pos rfl]
        exact hQ t2 (some q) f2 i6 w2 r2 (Or.inr ⟨rfl, hb⟩) (fun k hk => l2 k (by omega) hk) (q + 1) (fun h => by cases h)
    · intro w j t2 hj ⟨f2, i6, w2, l2, r2⟩ ih
      rcases r2 with ⟨hjq, r2⟩ | ⟨h, _⟩
      · rw [M_heirs_13_s]
        unfold M_heirs_13b
        rw [M_fine_y r2, bd_some, if_neg (by decide)]
        by_cases ejq : j = q
        · subst ejq
          have hbad : (j = 0 ∨ (j < n ∧ j < 6)) → Tp (M_heirs_32 u (M_heirs_13 u w) t2 (nI j)) Q := by
            intro hb
            have hno : ¬ lt4 f n j := hend2.resolve_left (by omega)
            unfold M_heirs_32
            rw [M_oneOf_y (x := 97) (y := 4) (a := 97) (b := 4) r2 rfl rfl (by omega) (by omega), if_neg (fun h => hno ⟨h.1, h.2.2.1, by have := h.2.2.2; omega⟩), b2_some, tI_n (by omega) (by omega), bd_some, nI_1]
            refine ih _ ⟨(f2.pI (by omega)).pI (by omega), ?_, ?_, fun k hk hk2 => ?_, Or.inr ⟨rfl, (r2.flt (by omega)).mv rfl (fun k _ _ => gI_pI_i (by omega)) (fun k => gI_pI_i (by omega)), hb⟩⟩
            · rw [gI_pI_i (by omega), gI_pI_k (by omega)]; exact i6
            · exact w2.mv ((gI_pI_i (by omega)).trans (gI_pI_k (by omega))) (fun k => rfl)
            · rw [gI_pI_k (by omega), gI_pI_i (by omega)]
              exact l2 k hk2 hk2
          by_cases e0 : j = 0
          · rw [if_pos (by rw [e0]; exact nI_0)]
            exact hbad (Or.inl e0)
          · rw [if_neg (nI_ne0 (by omega) (by omega)), M_here_ok r2, bd_some]
            by_cases e1 : j < n ∧ j < 6
            · rw [if_pos e1, if_neg (m1_lt (by have := (r2.2.2.2.2.2.1 j e1.1).2; omega))]
              exact hbad (Or.inr e1)
            · rw [if_neg e1, if_pos rfl]
              exact hQ t2 none f2 i6 w2 r2 (Or.inl ⟨rfl, by omega⟩) (fun k hk => l2 k hk hk) j (fun _ => rfl)
        · have hlt := hP2 j (by omega)
          have hlt1 := hlt.1
          have hlt2 := hlt.2
          have hgo : Tp (M_heirs_32 u (M_heirs_13 u w) t2 (nI j)) Q := by
            unfold M_heirs_32
            rw [M_oneOf_y (x := 97) (y := 4) (a := 97) (b := 4) r2 rfl rfl (by omega) (by omega), if_pos ⟨hlt1, by omega, hlt2.1, by omega⟩, b2_some, tI_n (by omega) (by omega), bd_some, nI_1]
            refine ih _ ⟨(f2.pI (by omega)).pI (by omega), ?_, ?_, fun k hk hk2 => ?_, Or.inl ⟨by omega, (r2.adv (by omega) (by omega)).mv rfl (fun k _ _ => gI_pI_i (by omega)) (fun k => gI_pI_i (by omega))⟩⟩
            · rw [gI_pI_i (by omega), gI_pI_k (by omega)]; exact i6
            · exact w2.mv ((gI_pI_i (by omega)).trans (gI_pI_k (by omega))) (fun k => rfl)
            · by_cases e : k = j
              · rw [e, gI_pI_s]
              · rw [gI_pI_k e, gI_pI_i (by omega)]
                exact l2 k (by omega) hk2
          by_cases e0 : j = 0
          · rw [if_pos (by rw [e0]; exact nI_0)]
            exact hgo
          · rw [if_neg (nI_ne0 (by omega) (by omega)), M_here_ok r2, bd_some, if_pos (show j < n ∧ j < 6 from ⟨hlt1, by omega⟩), if_neg (m1_lt (by omega))]
            exact hgo
      · omega
  by_cases hA : q = 0 ∨ q < n
  · refine both_txt (-1 - nI q) (aRow A) hX hM hG (hXg _ (fun t f1 i8 w1 e9 e10 _ => ?_)) (fun t ht => hMg t _ ht (fun t' w f1 i6 w1 r hw _ j _ => ?_))
    · unfold X_heirs_42 X_heirs_57
      by_cases e0 : q = 0
      · rw [if_pos (by rw [e0]; exact nI_0), e9]
        exact Tp_some ⟨rfl, f1, w1, i8⟩
      · rw [if_neg (nI_ne0 (by omega) (by omega)), e10, e9, if_neg (nI_ge (by omega) (by omega))]
        exact Tp_some ⟨rfl, f1, w1, i8⟩
    · unfold M_heirs_51
      rcases hw with ⟨rfl, hb⟩ | ⟨rfl, hb⟩
      · rw [M_wasRight_y r, if_neg (by omega), b2_some, if_pos rfl, gI_pI_s]
        exact Tp_some ⟨rfl, f1.pI (by omega), w1.mv (gI_pI_k (by omega)) (fun k => rfl), (gI_pI_k (by omega)).trans i6⟩
      · rw [M_wasRight_n r, b2_some, if_pos rfl, r.2.2.2.2.1]
        exact Tp_some ⟨rfl, f1, w1, i6⟩
  · have hq0 : 0 < q := by omega
    have hqn2 : q = n := by omega
    subst hqn2
    refine both_txt (nI (hB (gn (aG A)) (aW A) (fun k => f k - 97) q q 0)) (hRow A (fun k => f k - 97) q q) hX hM hG (hXg _ (fun t f1 i8 w1 e9 e10 l1 => ?_)) (fun t ht => hMg t _ ht (fun t' w f1 i6 w1 r hw l1 j hj => ?_))
    · obtain ⟨hE, hW⟩ := X_envT hX f1
      unfold X_heirs_42
      rw [if_neg (nI_ne0 (by omega) (by omega)), e10, e9, if_pos (nI_le (Nat.le_refl _) (by omega)), lt_e]
      unfold X_givesFrom
      refine TtP (X_gf_ok (W := aW A) (hh := fun k => f k - 97) (s0 := pI t 0 41 (-1)) hu h6 hq6 hl hk4 hh4 ((gI_pI_k (by omega)).trans hE.2.1.1) (fun i hi => (gI_pI_i (by omega)).trans (hW.1 i hi)) (fun i hi => (gI_pI_i (by omega)).trans (hW.2.2.2.1 i hi)) (fun k hk => (gI_pI_i (by omega)).trans (l1 k hk)) q 100 0 0 0 0 (pI t 0 41 (-1)) (by omega) (by omega) (by omega) (by omega) (by omega) (Fr.refl _ _) gI_pI_s) (fun t1 ⟨p1, p2, p3⟩ => ?_)
      have hb0 := hB_le (n := q) (hh := fun k => f k - 97) hl q 0
      have f2 : Fr dXd s t1 := (f1.pI (by omega)).trans (p1.mono (fun i k h => by omega))
      rw [Nat.max_eq_right (by omega), Nat.zero_add, nI_lit1, pk_sub (by omega), Nat.add_sub_cancel] at p2
      rw [lt_e]
      refine loop_i (W := fun w k t => Tp (X_heirs_84 u w t (nI q) (nI k)) _)
        (I := fun k t => Fr dXd s t ∧ gI t 0 8 = nI 0 ∧ XRow (hRow A (fun k => f k - 97) q k) t ∧ gI t 0 41 = nI (hB (gn (aG A)) (aW A) (fun k => f k - 97) q q 0) ∧ ∀ i, i < q → gI t 39 i = hP (gn (aG A)) (aW A) (fun k => f k - 97) q q 0 i) q ?_ ?_ u 0 (pI t1 0 48 0) (by omega) (by omega) ⟨f2.pI (by omega), ?_, XRow_0, (gI_pI_k (by omega)).trans p2, fun i hi => ?_⟩
      · intro w t2 ⟨f3, i3, w3, b3, l3⟩
        rw [X_heirs_84_s]
        unfold X_heirs_84b
        rw [if_pos (nI_le (Nat.le_refl _) (by omega)), b3]
        exact Tp_some ⟨rfl, f3, w3, i3⟩
      · intro w k t2 hk ⟨f3, i3, w3, b3, l3⟩ ih
        have hlen : (hRow A (fun k => f k - 97) q k).length = k := rwN_len _ _
        rw [X_heirs_84_s]
        unfold X_heirs_84b
        rw [if_neg (nI_ge hk (by omega)), aI_n (by omega) (by omega), bd_some, l3 k hk, nI_1]
        refine TtP (X_tells_ok _ w3 (by omega)) (fun t3 ⟨p4, p5⟩ => ?_)
        refine ih t3 ⟨f3.trans (p5.mono (fun i k h => by omega)), (p5.I (by omega)).trans i3, ?_, (p5.I (by omega)).trans b3, fun i hi => (p5.I (by omega)).trans (l3 i hi)⟩
        unfold hRow
        rw [rwN_s]
        exact p4
      · rw [gI_pI_k (by omega), p1.I (by omega), gI_pI_k (by omega)]
        exact i8
      · rw [gI_pI_i (by omega), p3 i hi, if_pos (by omega), if_neg (by omega)]
    · rcases hw with ⟨rfl, hb⟩ | ⟨rfl, hb⟩
      · rw [hj rfl]
        unfold M_heirs_51
        rw [M_wasRight_y r, if_pos (Nat.le_refl _), b2_some, if_neg (by decide)]
        exact M_heirs_f hu ht hG (by omega) hq6 hh4 ⟨f1, l1, i6⟩
      · omega
