/-! LAW: duck, the class's step -/
set_option maxRecDepth 100000
theorem cpJ6 (s : Sg) (a b : Nat) : cpJ s a 6 0 b 6 0 6 = some (cJ s b (va_cpy (gJ s a) (gJ s b) 0 0 6)) := if_pos (by decide)
theorem cpyJ6 {f g : Nat → Int64} {k : Nat} (h : k < 6) : va_cpy f g 0 0 6 k = f k := by
  rw [pk_cpy_in (by omega) (by omega), Nat.zero_add, Nat.sub_zero]
theorem bsN_s (g : Geo) (k j : Nat) : bsN g k (j + 1) = bsN g k j + (if bsd g k j then 1 else 0) := rfl
theorem bsN_le (g : Geo) (k j : Nat) : bsN g k j ≤ j := by
  have : bsN g k j ≤ j * 1 := sm_le (fun k _ => by split <;> omega)
  omega
theorem bsN_pos {g : Geo} {k j n : Nat} (h : bsd g k j = true) (hj : j < n) : bsN g k n ≠ 0 := by
  induction n with
  | zero => omega
  | succ n ih =>
    rw [bsN_s]
    by_cases e : j = n
    · subst e; rw [h, if_pos rfl]; omega
    · have := ih (by omega); omega
theorem X_duckGoes_ok {u : Nat} {g : Geo} {t : Sg} {f : Nat → Int64} (hu : 20000 ≤ u) (h6 : gn g ≤ 6) (hg : XG g t) (hf : ∀ k, k < gn g → gJ t 40 k = f k) : Tt (X_duckGoes u t) (fun t' => Fr (fun i _ => i = 40 ∨ i = 41) t t' ∧ ∀ k, k < gn g → gJ t' 40 k = dkS g f (gn g) k) := by
  have hG : ∀ t', Fr (fun i _ => i = 41) t t' → XG g t' ∧ ∀ k, k < gn g → gJ t' 40 k = f k := fun t' f' => ⟨⟨(f'.I (by omega)).trans hg.1, fun k hk => ⟨(f'.I (by omega)).trans (hg.2 k hk).1, (f'.I (by omega)).trans (hg.2 k hk).2.1, (f'.I (by omega)).trans (hg.2 k hk).2.2⟩⟩, fun k hk => (f'.J (by omega)).trans (hf k hk)⟩
  unfold X_duckGoes
  refine loop_i (W := fun w x t' => Tt (X_duckGoes_2 u w t' (nI x)) _)
    (I := fun x t' => Fr (fun i _ => i = 41) t t' ∧ ∀ y, y < x → gJ t' 41 y = 0) (gn g) ?_ ?_ u 0 t (by omega) (by omega) ⟨Fr.refl _ _, fun y hy => absurd hy (Nat.not_lt_zero _)⟩
  · intro w t1 ⟨f1, h1⟩
    rw [X_duckGoes_2_s]
    unfold X_duckGoes_2b
    rw [(hG t1 f1).1.1, if_pos (nI_le (Nat.le_refl _) (by omega))]
    refine loop_i (W := fun w k t' => Tt (X_duckGoes_25 u w t' (nI k)) _)
      (I := fun k t' => Fr (fun i _ => i = 41) t t' ∧ ∀ y, y < gn g → gJ t' 41 y = dkS g f k y) (gn g) ?_ ?_ u 0 t1 (by omega) (by omega) ⟨f1, h1⟩
    · intro w t2 ⟨f2, h2⟩
      rw [X_duckGoes_25_s]
      unfold X_duckGoes_25b
      rw [(hG t2 f2).1.1, if_pos (nI_le (Nat.le_refl _) (by omega)), cpJ6, bd_some]
      refine Tt_some ⟨(f2.mono (fun i k q => Or.inr q)).cJ (fun k => Or.inl rfl), fun k hk => ?_⟩
      rw [gJ_cJ, if_pos rfl, cpyJ6 (by omega)]
      exact h2 k hk
    · intro w k t2 hk ⟨f2, h2⟩ ih
      have hds : dkS g f (k + 1) = dkK g f k (dkS g f k) := by unfold dkS; rw [fo_s]
      rw [hds] at ih
      unfold dkK at ih
      rw [X_duckGoes_25_s]
      unfold X_duckGoes_25b
      rw [(hG t2 f2).1.1, if_neg (nI_ge hk (by omega))]
      have hgo : ∀ (h0 : Nat → Int64) (t3 : Sg), Fr (fun i _ => i = 41) t t3 → (∀ y, y < gn g → gJ t3 41 y = h0 y) → (∀ t4, Fr (fun i _ => i = 41) t t4 ∧ (∀ y, y < gn g → gJ t4 41 y = dkJ g f k h0 (gn g) y) → Tt (X_duckGoes_25 u w t4 (nI (k + 1))) (fun t' => Fr (fun i _ => i = 40 ∨ i = 41) t t' ∧ ∀ k, k < gn g → gJ t' 40 k = dkS g f (gn g) k)) → Tt (X_duckGoes_93 u (X_duckGoes_25 u w) u t3 (nI k) (nI (bsN g k (gn g))) (nI 0)) (fun t' => Fr (fun i _ => i = 40 ∨ i = 41) t t' ∧ ∀ k, k < gn g → gJ t' 40 k = dkS g f (gn g) k) := by
        intro h0 t3 f3 h3 ih3
        have hbl := bsN_le g k (gn g)
        refine loop_i (W := fun w2 j t' => Tt (X_duckGoes_93 u (X_duckGoes_25 u w) w2 t' (nI k) (nI (bsN g k (gn g))) (nI j)) _)
          (I := fun j t' => Fr (fun i _ => i = 41) t t' ∧ ∀ y, y < gn g → gJ t' 41 y = dkJ g f k h0 j y) (gn g) ?_ ?_ u 0 t3 (by omega) (by omega) ⟨f3, h3⟩
        · intro w2 t4 h4
          rw [X_duckGoes_93_s]
          unfold X_duckGoes_93b
          rw [(hG t4 h4.1).1.1, if_pos (nI_le (Nat.le_refl _) (by omega)), nI_1]
          exact ih3 t4 h4
        · intro w2 j t4 hj ⟨f4, h4⟩ ih4
          have hdj : dkJ g f k h0 (j + 1) = if bsd g k j then upL (dkJ g f k h0 j) j (dkJ g f k h0 j j + ((60 / nI (bsN g k (gn g))) : Int32).toInt64 * f k) else dkJ g f k h0 j := by unfold dkJ; rw [fo_s]
          rw [hdj] at ih4
          rw [X_duckGoes_93_s]
          unfold X_duckGoes_93b
          rw [(hG t4 f4).1.1, if_neg (nI_ge hj (by omega)), X_bsd h6 (hG t4 f4).1 hk hj, bd_some, nI_1]
          cases hb : bsd g k j with
          | false =>
            rw [hb] at ih4
            simp only [Bool.false_eq_true, if_false] at ih4
            rw [if_pos (show bI false = 0 from rfl)]
            exact ih4 t4 ⟨f4, h4⟩
          | true =>
            rw [hb, if_pos rfl] at ih4
            have hp := bsN_pos hb hj
            rw [if_neg (by decide), aJ_n (by omega) (by omega), bd_some, if_neg (nI_ne0 (by omega) (by omega)), aJ_n (by omega) (by omega), bd_some, tJ_n (by omega) (by omega), bd_some, h4 j hj, (hG t4 f4).2 k hk]
            refine ih4 _ ⟨f4.pJ rfl, fun y hy => ?_⟩
            rw [gJ_pJ]
            unfold upL
            by_cases e : y = j
            · rw [if_pos ⟨rfl, e⟩, if_pos e]
            · rw [if_neg (fun q => e q.2), if_neg e]
              exact h4 y hy
      refine loop_i (W := fun w2 j (_ : Unit) => Tt (X_duckGoes_37 u (X_duckGoes_25 u w) w2 t2 (nI k) (nI (bsN g k j)) (nI j)) _)
        (I := fun j _ => True) (gn g) ?_ ?_ u 0 () (by omega) (by omega) trivial
      · intro w2 _ _
        have hbl := bsN_le g k (gn g)
        rw [X_duckGoes_37_s]
        unfold X_duckGoes_37b
        rw [(hG t2 f2).1.1, if_pos (nI_le (Nat.le_refl _) (by omega))]
        by_cases e : bsN g k (gn g) = 0
        · rw [if_pos e] at ih
          rw [if_pos (by rw [e]; exact nI_0), aJ_n (by omega) (by omega), bd_some, aJ_n (by omega) (by omega), bd_some, tJ_n (by omega) (by omega), bd_some, h2 k hk, (hG t2 f2).2 k hk]
          refine hgo _ _ (f2.pJ rfl) (fun y hy => ?_) ih
          rw [gJ_pJ]
          unfold upL
          by_cases e : y = k
          · rw [if_pos ⟨rfl, e⟩, if_pos e]
          · rw [if_neg (fun q => e q.2), if_neg e]
            exact h2 y hy
        · rw [if_neg e] at ih
          rw [if_neg (nI_ne0 (by omega) (by omega))]
          exact hgo _ _ f2 h2 ih
      · intro w2 j _ hj _ ih2
        have ih2 := ih2 () trivial
        rw [bsN_s] at ih2
        rw [X_duckGoes_37_s]
        unfold X_duckGoes_37b
        rw [(hG t2 f2).1.1, if_neg (nI_ge hj (by omega)), X_bsd h6 (hG t2 f2).1 hk hj, bd_some]
        simp only [lt_e, nI_1]
        cases hb : bsd g k j with
        | false =>
          rw [hb] at ih2
          simp only [Bool.false_eq_true, if_false] at ih2
          rw [if_pos (show bI false = 0 from rfl), Int32.add_zero]
          exact ih2
        | true =>
          rw [hb, if_pos rfl] at ih2
          rw [if_neg (by decide)]
          exact ih2
  · intro w x t1 hx ⟨f1, h1⟩ ih
    rw [X_duckGoes_2_s]
    unfold X_duckGoes_2b
    rw [(hG t1 f1).1.1, if_neg (nI_ge hx (by omega)), tJ_n (by omega) (by omega), bd_some, nI_1]
    refine ih _ ⟨f1.pJ rfl, fun y hy => ?_⟩
    rw [gJ_pJ]
    by_cases e : y = x
    · rw [if_pos ⟨rfl, e⟩]
    · rw [if_neg (fun q => e q.2)]
      exact h1 y (by omega)
