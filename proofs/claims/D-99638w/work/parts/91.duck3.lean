/-! LAW: duck, the Model's step -/
set_option maxRecDepth 100000
theorem M_goDuck_ok {u : Nat} {g : Geo} {t : Sg} {f : Nat → Int64} (hu : 20000 ≤ u) (h6 : gn g ≤ 6) (hg : MG g t) (hf : ∀ k, k < gn g → gJ t 67 k = f k) : Tt (M_goDuck u t) (fun t' => Fr (fun i _ => i = 67 ∨ i = 68) t t' ∧ ∀ k, k < gn g → gJ t' 67 k = dkS g f (gn g) k) := by
  have hG : ∀ t', Fr (fun i _ => i = 68) t t' → MG g t' ∧ ∀ k, k < gn g → gJ t' 67 k = f k := fun t' f' => ⟨⟨(f'.I (by omega)).trans hg.1, fun k hk => ⟨(f'.I (by omega)).trans (hg.2 k hk).1, (f'.I (by omega)).trans (hg.2 k hk).2.1, (f'.I (by omega)).trans (hg.2 k hk).2.2⟩⟩, fun k hk => (f'.J (by omega)).trans (hf k hk)⟩
  unfold M_goDuck
  refine loop_i (W := fun w x t' => Tt (M_goDuck_2 u w t' (nI x)) _)
    (I := fun x t' => Fr (fun i _ => i = 68) t t' ∧ ∀ y, y < x → gJ t' 68 y = 0) (gn g) ?_ ?_ u 0 t (by omega) (by omega) ⟨Fr.refl _ _, fun y hy => absurd hy (Nat.not_lt_zero _)⟩
  · intro w t1 ⟨f1, h1⟩
    rw [M_goDuck_2_s]
    unfold M_goDuck_2b
    rw [(hG t1 f1).1.1, if_pos (nI_le (Nat.le_refl _) (by omega))]
    refine loop_i (W := fun w k t' => Tt (M_goDuck_25 u w t' (nI k)) _)
      (I := fun k t' => Fr (fun i _ => i = 68) t t' ∧ ∀ y, y < gn g → gJ t' 68 y = dkS g f k y) (gn g) ?_ ?_ u 0 t1 (by omega) (by omega) ⟨f1, h1⟩
    · intro w t2 ⟨f2, h2⟩
      rw [M_goDuck_25_s]
      unfold M_goDuck_25b
      rw [(hG t2 f2).1.1, if_pos (nI_le (Nat.le_refl _) (by omega))]
      refine loop_i (W := fun w x t' => Tt (M_goDuck_145 u w t' (nI x)) _)
        (I := fun x t' => Fr (fun i _ => i = 67 ∨ i = 68) t t' ∧ gI t' 45 1 = nI (gn g) ∧ (∀ y, y < gn g → gJ t' 68 y = dkS g f (gn g) y) ∧ ∀ y, y < x → gJ t' 67 y = dkS g f (gn g) y) (gn g) ?_ ?_ u 0 t2 (by omega) (by omega) ⟨f2.mono (fun i k q => Or.inr q), (hG t2 f2).1.1, h2, fun y hy => absurd hy (Nat.not_lt_zero _)⟩
      · intro w t3 ⟨f3, e3, h3, h4⟩
        rw [M_goDuck_145_s]
        unfold M_goDuck_145b
        rw [e3, if_pos (nI_le (Nat.le_refl _) (by omega))]
        exact Tt_some ⟨f3, h4⟩
      · intro w x t3 hx ⟨f3, e3, h3, h4⟩ ih
        rw [M_goDuck_145_s]
        unfold M_goDuck_145b
        rw [e3, if_neg (nI_ge hx (by omega)), aJ_n (by omega) (by omega), bd_some, tJ_n (by omega) (by omega), bd_some, nI_1]
        refine ih _ ⟨f3.pJ (Or.inl rfl), e3, fun y hy => ?_, fun y hy => ?_⟩
        · rw [gJ_pJ, if_neg (fun q => by omega)]
          exact h3 y hy
        · rw [gJ_pJ]
          by_cases e : y = x
          · rw [if_pos ⟨rfl, e⟩, e]
            exact h3 x hx
          · rw [if_neg (fun q => e q.2)]
            exact h4 y (by omega)
    · intro w k t2 hk ⟨f2, h2⟩ ih
      have hds : dkS g f (k + 1) = dkK g f k (dkS g f k) := by unfold dkS; rw [fo_s]
      rw [hds] at ih
      unfold dkK at ih
      rw [M_goDuck_25_s]
      unfold M_goDuck_25b
      rw [(hG t2 f2).1.1, if_neg (nI_ge hk (by omega))]
      have hgo : ∀ (h0 : Nat → Int64) (t3 : Sg), Fr (fun i _ => i = 68) t t3 → (∀ y, y < gn g → gJ t3 68 y = h0 y) → (∀ t4, Fr (fun i _ => i = 68) t t4 ∧ (∀ y, y < gn g → gJ t4 68 y = dkJ g f k h0 (gn g) y) → Tt (M_goDuck_25 u w t4 (nI (k + 1))) (fun t' => Fr (fun i _ => i = 67 ∨ i = 68) t t' ∧ ∀ k, k < gn g → gJ t' 67 k = dkS g f (gn g) k)) → Tt (M_goDuck_93 u (M_goDuck_25 u w) u t3 (nI k) (nI (bsN g k (gn g))) (nI 0)) (fun t' => Fr (fun i _ => i = 67 ∨ i = 68) t t' ∧ ∀ k, k < gn g → gJ t' 67 k = dkS g f (gn g) k) := by
        intro h0 t3 f3 h3 ih3
        have hbl := bsN_le g k (gn g)
        refine loop_i (W := fun w2 j t' => Tt (M_goDuck_93 u (M_goDuck_25 u w) w2 t' (nI k) (nI (bsN g k (gn g))) (nI j)) _)
          (I := fun j t' => Fr (fun i _ => i = 68) t t' ∧ ∀ y, y < gn g → gJ t' 68 y = dkJ g f k h0 j y) (gn g) ?_ ?_ u 0 t3 (by omega) (by omega) ⟨f3, h3⟩
        · intro w2 t4 h4
          rw [M_goDuck_93_s]
          unfold M_goDuck_93b
          rw [(hG t4 h4.1).1.1, if_pos (nI_le (Nat.le_refl _) (by omega)), nI_1]
          exact ih3 t4 h4
        · intro w2 j t4 hj ⟨f4, h4⟩ ih4
          have hdj : dkJ g f k h0 (j + 1) = if bsd g k j then upL (dkJ g f k h0 j) j (dkJ g f k h0 j j + ((60 / nI (bsN g k (gn g))) : Int32).toInt64 * f k) else dkJ g f k h0 j := by unfold dkJ; rw [fo_s]
          rw [hdj] at ih4
          rw [M_goDuck_93_s]
          unfold M_goDuck_93b
          rw [(hG t4 f4).1.1, if_neg (nI_ge hj (by omega)), M_bsd h6 (hG t4 f4).1 hk hj, bd_some, nI_1]
          cases hb : bsd g k j with
          | false =>
            rw [hb] at ih4
            simp only [Bool.false_eq_true, if_false] at ih4
            rw [if_pos (show bI false = 0 from rfl)]
            exact ih4 t4 ⟨f4, h4⟩
          | true =>
            rw [hb, if_pos rfl] at ih4
            have hp := bsN_pos hb hj
            rw [if_neg (by decide), aJ_n (by omega) (by omega), bd_some, aJ_n (by omega) (by omega), bd_some, if_neg (nI_ne0 (by omega) (by omega)), tJ_n (by omega) (by omega), bd_some, h4 j hj, (hG t4 f4).2 k hk, Int64.mul_comm (f k)]
            refine ih4 _ ⟨f4.pJ rfl, fun y hy => ?_⟩
            rw [gJ_pJ]
            unfold upL
            by_cases e : y = j
            · rw [if_pos ⟨rfl, e⟩, if_pos e]
            · rw [if_neg (fun q => e q.2), if_neg e]
              exact h4 y hy
      refine loop_i (W := fun w2 j (_ : Unit) => Tt (M_goDuck_37 u (M_goDuck_25 u w) w2 t2 (nI k) (nI (bsN g k j)) (nI j)) _)
        (I := fun j _ => True) (gn g) ?_ ?_ u 0 () (by omega) (by omega) trivial
      · intro w2 _ _
        have hbl := bsN_le g k (gn g)
        rw [M_goDuck_37_s]
        unfold M_goDuck_37b
        rw [(hG t2 f2).1.1, if_pos (nI_le (Nat.le_refl _) (by omega))]
        by_cases e : bsN g k (gn g) = 0
        · rw [if_pos e] at ih
          rw [if_pos (by rw [e]; exact nI_0), aJ_n (by omega) (by omega), bd_some, aJ_n (by omega) (by omega), bd_some, tJ_n (by omega) (by omega), bd_some, h2 k hk, (hG t2 f2).2 k hk, Int64.mul_comm (f k)]
          refine hgo _ _ (f2.pJ rfl) (fun y hy => ?_) ih
          rw [gJ_pJ]
          unfold upL
          by_cases e : y = k
          · rw [if_pos ⟨rfl, e⟩, if_pos e]
          · rw [if_neg (fun q => e q.2), if_neg e]
            exact h2 y hy
        · rw [if_neg e] at ih
          rw [if_neg (nI_ne0 (by omega) (by omega))]
          exact hgo _ _ f2 h2 ih
      · intro w2 j _ hj _ ih2
        have ih2 := ih2 () trivial
        rw [bsN_s] at ih2
        rw [M_goDuck_37_s]
        unfold M_goDuck_37b
        rw [(hG t2 f2).1.1, if_neg (nI_ge hj (by omega)), M_bsd h6 (hG t2 f2).1 hk hj, bd_some]
        simp only [lt_e, nI_1]
        cases hb : bsd g k j with
        | false =>
          rw [hb] at ih2
          simp only [Bool.false_eq_true, if_false] at ih2
          rw [if_pos (show bI false = 0 from rfl), Int32.add_zero]
          exact ih2
        | true =>
          rw [hb, if_pos rfl] at ih2
          rw [if_neg (by decide)]
          exact ih2
  · intro w x t1 hx ⟨f1, h1⟩ ih
    rw [M_goDuck_2_s]
    unfold M_goDuck_2b
    rw [(hG t1 f1).1.1, if_neg (nI_ge hx (by omega)), tJ_n (by omega) (by omega), bd_some, nI_1]
    refine ih _ ⟨f1.pJ rfl, fun y hy => ?_⟩
    rw [gJ_pJ]
    by_cases e : y = x
    · rw [if_pos ⟨rfl, e⟩]
    · rw [if_neg (fun q => e q.2)]
      exact h1 y (by omega)
