/-! LAW: leaks, the Model's; the operation -/
set_option maxRecDepth 100000
def alB (p : Nat → Bool) : Nat → Bool
  | 0 => true
  | n + 1 => alB p n && p n
theorem alB_s (p : Nat → Bool) (n : Nat) : alB p (n + 1) = (alB p n && p n) := rfl
theorem alB_and (p q : Nat → Bool) (n : Nat) : alB (fun k => p k && q k) n = (alB p n && alB q n) := by
  induction n with
  | zero => rfl
  | succ n ih =>
    rw [alB_s, alB_s, alB_s, ih]
    cases alB p n <;> cases alB q n <;> cases p n <;> cases q n <;> rfl
theorem alB_congr {p q : Nat → Bool} {n : Nat} (h : ∀ k, k < n → p k = q k) : alB p n = alB q n := by
  induction n with
  | zero => rfl
  | succ n ih => rw [alB_s, alB_s, ih (fun k hk => h k (by omega)), h n (by omega)]
theorem alB_true {p : Nat → Bool} {n : Nat} (h : ∀ k, k < n → p k = true) : alB p n = true := by
  induction n with
  | zero => rfl
  | succ n ih => rw [alB_s, ih (fun k hk => h k (by omega)), h n (by omega)]; rfl
def rgO (f : Nat → Wt) (rg : List (Nat × Nat × Nat)) (k : Nat) : Bool := decide (wl (f (rg.getD k (0, 0, 0)).2.1) (rg.getD k (0, 0, 0)).1 = (rg.getD k (0, 0, 0)).2.2)
def rgD (rg : List (Nat × Nat × Nat)) (k : Nat) : Nat := (rg.getD k (0, 0, 0)).2.1
theorem ftF_al (f : Nat → Wt) (rg : List (Nat × Nat × Nat)) (n : Nat) : ftF f rg n = alB (rgO f rg) n := by
  induction n with
  | zero => rfl
  | succ n ih => rw [ftF_s, alB_s, ih]; rfl
def rgA (f : Nat → Wt) (rg : List (Nat × Nat × Nat)) (d : Nat) : Bool := alB (fun k => decide (d ≤ rgD rg k) || rgO f rg k) rg.length
theorem rgA_s (f : Nat → Wt) (rg : List (Nat × Nat × Nat)) (d : Nat) : rgA f rg (d + 1) = (rgA f rg d && alB (fun k => decide (rgD rg k ≠ d) || rgO f rg k) rg.length) := by
  unfold rgA
  rw [← alB_and]
  refine alB_congr (fun k _ => ?_)
  cases rgO f rg k with
  | true => simp
  | false =>
    rw [Bool.or_false, Bool.or_false, Bool.or_false]
    by_cases e1 : d + 1 ≤ rgD rg k
    · rw [decide_eq_true e1, decide_eq_true (show d ≤ rgD rg k by omega), decide_eq_true (show rgD rg k ≠ d by omega)]; rfl
    · rw [decide_eq_false e1]
      by_cases e2 : d ≤ rgD rg k
      · rw [decide_eq_false (show ¬ rgD rg k ≠ d by omega), Bool.and_false]
      · rw [decide_eq_false e2, Bool.false_and]
abbrev dLM (i k : Nat) : Prop := (dSM i k ∧ i ≠ 65) ∨ (i = 45 ∧ (k = 27 ∨ k = 28))
theorem M_isRight_ok {u c mo : Nat} {lk : Int32} {s t : Sg} {A : AS} (hu : 20000 ≤ u) (hM : MI u A s) (hG : GI c A) (hmo : mo ≤ 9) (f : Fr (fun i k => dMr i k ∨ (i = 45 ∧ (k = 27 ∨ k = 28))) s t) : Tp (M_isRight u t lk (nI mo)) (fun v t' => v = bI (alB (rgO (fun d => lkW (aG A) (aRu A) lk mo d (aW A)) (aRg A)) (aRg A).length) ∧ Fr dLM t t' ∧ gI t' 45 27 = -1 ∧ gI t' 45 28 = nI mo) := by
  have h6 := hG.1.1
  have hrl := hG.2.2.2.2.1.1
  have hrg := hG.2.2.2.2.1.2
  have hfin : rgA (fun d => lkW (aG A) (aRu A) lk mo d (aW A)) (aRg A) 21 = alB (rgO (fun d => lkW (aG A) (aRu A) lk mo d (aW A)) (aRg A)) (aRg A).length := alB_congr (fun k hk => by
    have hgd : (aRg A).getD k (0, 0, 0) = (aRg A)[k] := by rw [List.getD_eq_getElem?_getD, List.getElem?_eq_getElem hk]; rfl
    have := (hrg _ (List.getElem_mem hk)).2.1
    rw [decide_eq_false (show ¬ 21 ≤ rgD (aRg A) k by unfold rgD; rw [hgd]; omega), Bool.false_or])
  have hE : ∀ t', Fr (fun i k => dMr i k ∨ (i = 45 ∧ (k = 27 ∨ k = 28))) s t' → ME u (aG A) (aRu A) t' ∧ MW (gn (aG A)) t' 46 0 (aW A) := fun t' f' => ⟨hM.1.1.fr f' ⟨fun k => ⟨by omega, by omega, by omega, by omega, by omega⟩, by omega, by omega, by omega⟩, hM.2.1.mv (fun k => f'.I (by omega))⟩
  unfold M_isRight
  rw [lt_e, lt_e]
  have f2 : Fr dLM t (pI (pI t 45 27 lk) 45 28 (nI mo)) := ((Fr.refl _ _).pI (by omega)).pI (by omega)
  have e27 : gI (pI (pI t 45 27 lk) 45 28 (nI mo)) 45 27 = lk := (gI_pI_k (by decide)).trans gI_pI_s
  have e28 : gI (pI (pI t 45 27 lk) 45 28 (nI mo)) 45 28 = nI mo := gI_pI_s
  generalize pI (pI t 45 27 lk) 45 28 (nI mo) = t2 at f2 e27 e28 ⊢
  have g2 : Fr (fun i k => dMr i k ∨ (i = 45 ∧ (k = 27 ∨ k = 28))) s t2 := f.trans (f2.mono (fun i k q => by omega))
  refine TtP (M_lay_ok (o := 0) hu (by decide) (by decide) rfl (by decide) (by decide) (by decide)) (fun t3 h3 => ?_)
  obtain ⟨f3, hx3⟩ := h3
  have hW3 : MW (gn (aG A)) t3 58 0 (aW A) := lay_MW h6 hx3 (hE t2 g2).2
  refine loop_i (W := fun w d t' => Tp (M_isRight_27 u w t' (bI (rgA (fun d => lkW (aG A) (aRu A) lk mo d (aW A)) (aRg A) d)) (nI d)) _)
    (I := fun d t' => Fr dLM t t' ∧ MW (gn (aG A)) t' 58 0 (lkW (aG A) (aRu A) lk mo d (aW A)) ∧ gI t' 45 27 = lk ∧ gI t' 45 28 = nI mo) 21 ?_ ?_ u 0 t3 (by omega) (by omega) ⟨f2.trans (f3.mono (fun i k q => by omega)), hW3, (f3.I (by omega)).trans e27, (f3.I (by omega)).trans e28⟩ |> fun h => by
      have e0 : rgA (fun d => lkW (aG A) (aRu A) lk mo d (aW A)) (aRg A) 0 = true := alB_true (fun k _ => by rw [decide_eq_true (Nat.zero_le _), Bool.true_or])
      rw [e0] at h
      exact h
  · intro w t4 ⟨f4, hW4, q27, q28⟩
    rw [M_isRight_27_s]
    unfold M_isRight_27b
    rw [if_pos (by decide), lt_e, hfin]
    refine ⟨_, _, ?_, rfl, f4.pI (by omega), gI_pI_s, (gI_pI_k (by decide)).trans q28⟩
    cases alB (rgO (fun d => lkW (aG A) (aRu A) lk mo d (aW A)) (aRg A)) (aRg A).length <;> rfl
  · intro w d t4 hd ⟨f4, hW4, q27, q28⟩ ih
    rw [rgA_s] at ih
    have hg4 := lkW_good (ru := aRu A) (lk := lk) (mo := mo) hG.2.1 d
    have g4 : Fr (fun i k => dMr i k ∨ (i = 45 ∧ (k = 27 ∨ k = 28))) s t4 := f.trans (f4.mono (fun i k q => by omega))
    rw [M_isRight_27_s]
    unfold M_isRight_27b
    rw [show (20 : Int32) = nI 20 from rfl, if_neg (nI_nlt (by omega) (by omega))]
    generalize rgA (fun d => lkW (aG A) (aRu A) lk mo d (aW A)) (aRg A) d = b0 at ih ⊢
    have key := loop_i (W := fun w2 k (_ : Unit) => Tp (M_isRight_37 u (M_isRight_27 u w) w2 t4 (bI (b0 && alB (fun k => decide (rgD (aRg A) k ≠ d) || rgO (fun d => lkW (aG A) (aRu A) lk mo d (aW A)) (aRg A) k) k)) (nI d) (nI k)) (fun v t' => v = bI (alB (rgO (fun d => lkW (aG A) (aRu A) lk mo d (aW A)) (aRg A)) (aRg A).length) ∧ Fr dLM t t' ∧ gI t' 45 27 = -1 ∧ gI t' 45 28 = nI mo))
      (I := fun k _ => True) (aRg A).length ?_ ?_ u 0 () (by omega) (by omega) trivial
    · have e0 : (b0 && alB (fun k => decide (rgD (aRg A) k ≠ d) || rgO (fun d => lkW (aG A) (aRu A) lk mo d (aW A)) (aRg A) k) 0) = b0 := by cases b0 <;> rfl
      rw [e0] at key
      exact key
    · intro w2 _ _
      have e33 : gI t4 45 33 = nI (aRg A).length := (g4.I (by omega)).trans hM.2.2.2.2.2.1.1
      rw [M_isRight_37_s]
      unfold M_isRight_37b
      rw [e33, if_pos (nI_le (Nat.le_refl _) (by omega)), nI_1]
      refine TtP (M_goDay_ok hu hG.1 (hE t4 g4).1 hG.2.2.2.2.2.2.1 hg4 hW4 (by omega) q27 q28 hmo) (fun t5 h5 => ?_)
      exact ih t5 ⟨f4.trans (h5.1.mono (fun i k q => by omega)), h5.2, (h5.1.I (by omega)).trans q27, (h5.1.I (by omega)).trans q28⟩
    · intro w2 k _ hk _ ih2
      have ih2 := ih2 () trivial
      rw [alB_s] at ih2
      have e33 : gI t4 45 33 = nI (aRg A).length := (g4.I (by omega)).trans hM.2.2.2.2.2.1.1
      obtain ⟨r1, r2, r3⟩ := hM.2.2.2.2.2.1.2 k hk
      obtain ⟨b1, b2', b3⟩ := hrg _ (List.getElem_mem hk)
      have hgd : (aRg A).getD k (0, 0, 0) = (aRg A)[k] := by rw [List.getD_eq_getElem?_getD, List.getElem?_eq_getElem hk]; rfl
      have hDk : rgD (aRg A) k = (aRg A)[k].2.1 := by unfold rgD; rw [hgd]
      have q1 : gI t4 62 k = _ := (g4.I (by omega)).trans r1
      have q2 : gI t4 63 k = _ := (g4.I (by omega)).trans r2
      have q3 : gI t4 64 k = _ := (g4.I (by omega)).trans r3
      rw [M_isRight_37_s]
      unfold M_isRight_37b M_isRight_88
      rw [e33, if_neg (nI_ge hk (by omega)), nI_1]
      cases hb : (b0 && alB (fun k => decide (rgD (aRg A) k ≠ d) || rgO (fun d => lkW (aG A) (aRu A) lk mo d (aW A)) (aRg A) k) k) with
      | false =>
        rw [← Bool.and_assoc, hb, Bool.false_and] at ih2
        rw [if_pos (show bI false = 0 from rfl)]
        exact ih2
      | true =>
        rw [← Bool.and_assoc, hb, Bool.true_and, hDk] at ih2
        rw [if_neg (by decide), aI_n (by omega) (by omega), bd_some, q2]
        by_cases e : (aRg A)[k].2.1 = d
        · have hlv := lev99 hG.1 hg4 b1
          rw [decide_eq_false (fun h => h e), Bool.false_or] at ih2
          unfold rgO at ih2
          rw [hgd, e] at ih2
          rw [if_pos (by rw [e]), aI_n (by omega) (by omega), bd_some, q1, aI_n (by omega) (by omega), bd_some, (MW_row hW4).1 _ b1, aI_n (by omega) (by omega), bd_some, q3]
          by_cases e2 : wl (lkW (aG A) (aRu A) lk mo d (aW A)) (aRg A)[k].1 = (aRg A)[k].2.2
          · rw [decide_eq_true e2] at ih2
            rw [if_pos (by rw [e2])]
            exact ih2
          · rw [decide_eq_false e2] at ih2
            rw [if_neg (fun h => e2 ((nI_eq (by omega) (by omega)).mp h))]
            exact ih2
        · rw [decide_eq_true e, Bool.true_or] at ih2
          rw [if_neg (fun h => e ((nI_eq (by omega) (by omega)).mp h))]
          exact ih2
