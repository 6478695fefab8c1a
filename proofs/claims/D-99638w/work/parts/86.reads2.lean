/-! LAW: reads (the class, the whole) -/
set_option maxRecDepth 100000
def rdF (A : AS) (q : Nat) : Nat := moR A (q / 21) (q % 21) (gn (aG A) * 9)
def rdL (A : AS) (N : Nat) : Option (Nat × Nat) := lsF (rdF A) N
def rdA (A : AS) : Int32 := if ctJ A (gn (aG A) * 9) = 0 then -2 else oF (rdL A (21 * gn (aG A)))
def rdR (A : AS) : List Int64 := if ctJ A (gn (aG A) * 9) = 0 then aRow A else [(crL (rdL A (21 * gn (aG A)))).toInt64]
theorem rdF_le (A : AS) (q : Nat) : rdF A q ≤ gn (aG A) * 9 := moR_le A _ _ _
/-- one step of the least -/
theorem rd_step {A : AS} {c N : Nat} (hG : GI c A) (hN : N < 126) :
    (oF (rdL A (N + 1)) = if crL (rdL A N) ≤ nI (rdF A N) then oF (rdL A N) else nI N) ∧ crL (rdL A (N + 1)) = mi (crL (rdL A N)) (nI (rdF A N)) ∧ (nI (rdF A N) < crL (rdL A N) ↔ ¬ crL (rdL A N) ≤ nI (rdF A N)) := by
  have h6 := hG.1.1
  have hf := rdF_le A N
  unfold rdL
  cases hc : lsF (rdF A) N with
  | none =>
    rw [lsF_n hc, show crL none = nI 1000000 from rfl, if_neg (nI_ge (by omega) (by omega)), nI_mi (by omega) (by omega), Nat.min_eq_right (by omega)]
    exact ⟨rfl, rfl, fun _ => nI_ge (by omega) (by omega), fun _ => nI_lt (by omega) (by omega)⟩
  | some q =>
    have hq2 : q.2 ≤ gn (aG A) * 9 := by rw [(lsF_lt _ _ q hc).2]; exact rdF_le A _
    rw [lsF_i hc, show crL (some q) = nI q.2 from rfl, nI_mi (by omega) (by omega)]
    by_cases e : rdF A N < q.2
    · rw [if_pos e, if_neg (nI_ge e (by omega)), Nat.min_eq_right (by omega)]
      exact ⟨rfl, rfl, fun _ => nI_ge e (by omega), fun _ => nI_lt e (by omega)⟩
    · rw [if_neg e, if_pos (nI_le (by omega) (by omega)), Nat.min_eq_left (by omega)]
      exact ⟨rfl, rfl, fun h => absurd h (nI_nlt (by omega) (by omega)), fun h => absurd (nI_le (by omega) (by omega)) h⟩
theorem X_reads_ok {u c : Nat} {s : Sg} {A : AS} (hu : 20000 ≤ u) (hX : XI A s) (hG : GI c A) : Tp (X_reads u s) (fun v t => v = rdA A ∧ Fr dXr s t ∧ XRow (rdR A) t) := by
  have h6 := hG.1.1
  have hct : ctJ A (gn (aG A) * 9) ≤ gn (aG A) * 9 := ctJ_le _ _
  unfold X_reads
  refine TpP (X_leaksAll hu hX hG) (fun v t1 h1 => ?_)
  obtain ⟨hv, f1, hall⟩ := h1
  subst hv
  unfold rdA rdR
  by_cases e0 : ctJ A (gn (aG A) * 9) = 0
  · rw [if_pos e0, if_pos e0, e0, if_pos nI_0]
    exact Tp_some ⟨rfl, f1.mono (fun i k => dSX_Xr), hX.2.2.1.mv (f1.I (by omega)) (fun k => f1.J (by omega))⟩
  · rw [if_neg e0, if_neg e0, if_neg (nI_ne0 (by omega) (by omega))]
    refine loop_i (W := fun w k t' => Tp (X_reads_18 u w t' (oF (rdL A (21 * k))) (crL (rdL A (21 * k))) (nI k)) _)
      (I := fun k t' => Fr dSX s t' ∧ ∀ j, j < gn (aG A) * 9 → (∀ k d, k < gn (aG A) → d < 21 → gI t' 35 ((j * 6 + k) * 21 + d) = nI (lvJ A j k d)) ∧ gI t' 34 j = bI (ftJ A j)) (gn (aG A)) ?_ ?_ u 0 t1 (by omega) (by omega) ⟨f1, hall⟩
    · intro w t2 ⟨f2, h2⟩
      have hF : Fr dXr s t2 := f2.mono (fun i k => dSX_Xr)
      rw [X_reads_18_s]
      unfold X_reads_18b
      rw [(X_env hX hF).1.2.1.1, if_pos (nI_le (Nat.le_refl _) (by omega)), lt_e]
      exact TtP (X_tell' _ (hF.pI (by omega)) XRow_0 (Nat.le_of_ble_eq_true rfl)) (fun t3 h3 => Tp_some ⟨rfl, h3.1, h3.2.1⟩)
    · intro w k t2 hk ⟨f2, h2⟩ ih
      rw [X_reads_18_s]
      unfold X_reads_18b
      rw [(X_env hX (f2.mono (fun i k => dSX_Xr))).1.2.1.1, if_neg (nI_ge hk (by omega))]
      refine loop_i (W := fun w' d t' => Tp (X_reads_29 u (X_reads_18 u w) w' t' (oF (rdL A (21 * k + d))) (crL (rdL A (21 * k + d))) (nI k) (nI d)) _)
        (I := fun d t' => Fr dSX s t' ∧ ∀ j, j < gn (aG A) * 9 → (∀ k d, k < gn (aG A) → d < 21 → gI t' 35 ((j * 6 + k) * 21 + d) = nI (lvJ A j k d)) ∧ gI t' 34 j = bI (ftJ A j)) 21 ?_ ?_ u 0 t2 (by omega) (by omega) ⟨f2, h2⟩
      · intro w' t3 h3
        rw [X_reads_29_s]
        unfold X_reads_29b
        rw [if_pos (by decide), nI_1]
        exact ih t3 h3
      · intro w' d t3 hd ⟨f3, h3⟩ ih'
        have hst := rd_step (N := 21 * k + d) hG (by omega)
        have hrd : rdF A (21 * k + d) = moR A k d (gn (aG A) * 9) := by
          unfold rdF
          rw [show (21 * k + d) / 21 = k by omega, show (21 * k + d) % 21 = d by omega]
        rw [X_reads_29_s]
        unfold X_reads_29b X_reads_62
        rw [show (20 : Int32) = nI 20 from rfl, if_neg (nI_nlt (by omega) (by omega))]
        refine TpP (X_alike_ok hu hX hG f3 hk hd h3) (fun v t4 h4 => ?_)
        obtain ⟨hv, f4⟩ := h4
        have ih4 := ih' t4 ⟨f3.trans (f4.mono (fun i k q => by omega)), fun j hj => ⟨fun k d hk hd => (f4.I (by omega)).trans ((h3 j hj).1 k d hk hd), (f4.I (by omega)).trans (h3 j hj).2⟩⟩
        rw [show 21 * k + (d + 1) = 21 * k + d + 1 from rfl, hst.1, hst.2.1] at ih4
        subst hv
        rw [← hrd]
        simp only [lt_e]
        rw [show (21 : Int32) = nI 21 from rfl, pk_mul, nI_add, nI_1]
        by_cases e : crL (rdL A (21 * k + d)) ≤ nI (rdF A (21 * k + d))
        · rw [if_pos e] at ih4 ⊢
          exact ih4
        · rw [if_neg e] at ih4 ⊢
          exact ih4
