/-! LAW: duck, the common divisor: both common methods are one function, it ends within 100 calls and is not 0 -/
set_option maxRecDepth 100000
theorem cm_same (d : Nat) : M_cm d = X_cm d := rfl
theorem rem_e (a b : Int64) : (a - a / b * b).toInt = a.toInt.tmod b.toInt := by
  rw [← Int64.toInt_mod, Int64.toInt_sub, Int64.toInt_mul, Int64.toInt_div, Int.bmod_mul_bmod, Int.sub_bmod_bmod]
  have : a.toInt - a.toInt.tdiv b.toInt * b.toInt = (a % b).toInt := by
    rw [Int64.toInt_mod, Int.tmod_def, Int.mul_comm]
  rw [this]
  generalize a % b = c
  simp
def fbP : Nat → Nat × Nat
  | 0 => (0, 1)
  | n + 1 => ((fbP n).2, (fbP n).1 + (fbP n).2)
theorem l0 (b : Int64) : b.toInt = 0 ↔ b = 0 := by
  rw [← Int64.toInt_inj]
  rfl
theorem lg0 (b : Int64) : lg_cmp b 0 = 0 ↔ b = 0 := by
  unfold lg_cmp
  by_cases h : b = 0
  · subst h; simp
  · simp [h]
    split <;> simp
theorem X_cm_s (d : Nat) (a b : Int64) : X_cm (d + 1) a b = X_commono (X_cm d) a b := rfl
theorem cm_step {d : Nat} {a b : Int64} (hb : b ≠ 0) : X_cm (d + 1) a b = X_cm d b (a - a / b * b) := by
  rw [X_cm_s]
  unfold X_commono
  rw [if_neg (fun h => hb ((lg0 b).mp h)), if_neg hb]
  cases X_cm d b (a - a / b * b) <;> rfl
theorem cm_ok (d : Nat) : (∀ a b : Int64, b.toInt.natAbs < (fbP d).1 → (a ≠ 0 ∨ b ≠ 0) → ∃ g, X_cm d a b = some g ∧ g ≠ 0) ∧ (∀ a b : Int64, b.toInt.natAbs < (fbP d).2 → (a ≠ 0 ∨ b ≠ 0) → ∃ g, X_cm (d + 1) a b = some g ∧ g ≠ 0) := by
  induction d with
  | zero =>
    refine ⟨fun a b h _ => absurd h (Nat.not_lt_zero _), fun a b h h0 => ?_⟩
    have hb : b = 0 := (l0 b).mp (by have : b.toInt.natAbs < 1 := h; omega)
    rw [X_cm_s]
    unfold X_commono
    rw [if_pos ((lg0 b).mpr hb)]
    exact ⟨a, rfl, h0.resolve_right (fun h => h hb)⟩
  | succ d ih =>
    refine ⟨ih.2, fun a b h h0 => ?_⟩
    have h' : b.toInt.natAbs < (fbP d).1 + (fbP d).2 := h
    by_cases hb : b = 0
    · rw [X_cm_s]
      unfold X_commono
      rw [if_pos ((lg0 b).mpr hb)]
      exact ⟨a, rfl, h0.resolve_right (fun h => h hb)⟩
    · rw [cm_step hb]
      have hr := rem_e a b
      generalize a - a / b * b = r at hr ⊢
      by_cases h1 : r.toInt.natAbs < (fbP d).2
      · exact ih.2 b r h1 (Or.inl hb)
      · by_cases hz : r = 0
        · rw [X_cm_s]
          unfold X_commono
          rw [if_pos ((lg0 r).mpr hz)]
          exact ⟨b, rfl, hb⟩
        · rw [cm_step hz]
          refine ih.1 r _ ?_ (Or.inl hz)
          have hr2 := rem_e b r
          rw [hr2, Int.natAbs_tmod]
          have hlt : r.toInt.natAbs < b.toInt.natAbs := by
            rw [hr, Int.natAbs_tmod]
            exact Nat.mod_lt _ (Nat.pos_of_ne_zero (fun h => hb ((l0 b).mp (Int.natAbs_eq_zero.mp h))))
          have hm := Nat.div_add_mod b.toInt.natAbs r.toInt.natAbs
          have hq : 1 ≤ b.toInt.natAbs / r.toInt.natAbs := (Nat.one_le_div_iff (Nat.pos_of_ne_zero (fun h => hz ((l0 r).mp (Int.natAbs_eq_zero.mp h))))).mpr (by omega)
          have := Nat.mul_le_mul_left r.toInt.natAbs hq
          omega
theorem common_ok (a b : Int64) (hb : b ≠ 0) : ∃ g, X_common a b = some g ∧ M_common a b = some g ∧ g ≠ 0 := by
  have h1 := Int64.toInt_lt b
  have h2 := Int64.le_toInt b
  have h3 : (fbP 99).2 = 354224848179261915075 := rfl
  obtain ⟨g, hg, h0⟩ := (cm_ok 99).2 a b (by rw [h3]; omega) (Or.inr hb)
  exact ⟨g, hg, hg, h0⟩
