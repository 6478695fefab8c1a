/-! LAW: leaks of the Model; the operation -/
set_option maxRecDepth 100000
abbrev dEM (i k : Nat) : Prop := dMr i k ∨ (i = 45 ∧ (k = 27 ∨ k = 28))
theorem MI_lk {u mo : Nat} {A : AS} {s t : Sg} {r : List Int64} (h : MI u A s) (f : Fr dEM s t) (e27 : gI t 45 27 = -1) (hmo : mo ≤ 9) (e28 : gI t 45 28 = nI mo) (hr : MRw r t) : MI u (sRow A r) t := by
  obtain ⟨h1, h2, h3, h4, h5, h6, h7, h8⟩ := h
  exact ⟨⟨h1.1.fr f ⟨fun k => ⟨by omega, by omega, by omega, by omega, by omega⟩, by omega, by omega, by omega⟩, e27, mo, hmo, e28⟩, (h2.mv (fun k => f.I (by omega))), hr, (h4.mv (f.I (by omega)) (fun k => f.I (by omega))), (h5.mv (f.I (by omega)) (fun i k q1 q2 => f.I (by omega))), (h6.mv (f.I (by omega)) (fun i k q1 q2 => f.I (by omega))), (h7.mv (f.I (by omega)) (fun k => f.I (by omega))), (⟨(f.R (by omega)).trans h8.1, (f.R (by omega)).trans h8.2⟩)⟩
theorem both_lk {u c : Nat} {s : Sg} {A : AS} {x : Option (Int32 × Sg)} {m : Sg → Option (Int32 × Sg)} (a : Int32) (r : List Int64) (hX : XI A s) (hM : MI u A s) (hG : GI c A) (hx : Tp x (fun v t => v = a ∧ Fr dXr s t ∧ XRow r t)) (hm : ∀ t, MI u A t → Tp (m t) (fun v t' => v = a ∧ Fr dEM t t' ∧ gI t' 45 27 = -1 ∧ (∃ mo, mo ≤ 9 ∧ gI t' 45 28 = nI mo) ∧ MRw r t')) : Bth u c s x m := by
  refine both_gen (A := A) a (sRow A r) (Tp_mono hx (fun v t h => ⟨h.1, gx (c := c) hM h.2.1 (fun i k a b => by omega) (XI_row hX hG h.2.1 (fun i k q => q.2) h.2.2)⟩)) (fun t hXt ht => Tp_mono (hm t ht) (fun v t' h => ?_)) hG.up
  obtain ⟨hv, f, e27, ⟨mo, hmo, e28⟩, hr⟩ := h
  exact ⟨hv, gm hXt (c := c) hG f (fun i k h => by omega) (MI_lk ht f e27 hmo e28 hr)⟩
theorem ft54 (A : AS) : alB (rgO (fun d => lkW (aG A) (aRu A) (-1) 0 d (aW A)) (aRg A)) (aRg A).length = ftJ A 54 := by
  unfold ftJ
  have e : lkJ (aG A) (aRu A) (aW A) 54 = fun d => lkW (aG A) (aRu A) (-1) 0 d (aW A) := funext fun d => lkW_none _ _ _ _
  rw [e]
theorem ftIJ (A : AS) {i m : Nat} (hm : m < 9) : alB (rgO (fun d => lkW (aG A) (aRu A) (nI i) (m + 1) d (aW A)) (aRg A)) (aRg A).length = ftJ A (9 * i + m) := by
  unfold ftJ
  have e : lkJ (aG A) (aRu A) (aW A) (9 * i + m) = fun d => lkW (aG A) (aRu A) (nI i) (m + 1) d (aW A) := funext fun d => by
    unfold lkJ
    rw [show (9 * i + m) / 9 = i by omega, show 1 + (9 * i + m) % 9 = m + 1 by omega]
  rw [e]
theorem op_leaks {u c : Nat} {s : Sg} {A : AS} (hu : 20000 ≤ u) (hX : XI A s) (hM : MI u A s) (hG : GI c A) : Bth u c s (X_leaks u s) (fun t => M_leaks u t) := by
  have h6 := hG.1.1
  refine both_lk (nI (ctJ A (gn (aG A) * 9))) (b54 A :: rrJ (fs (ftJ A) (gn (aG A) * 9) 0)) hX hM hG (X_leaks_ok hu hX hG) (fun t ht => ?_)
  unfold M_leaks
  rw [lt_e, lt_e]
  have f0 : Fr dEM t (pI (pI t 45 9 0) 45 8 0) := ((Fr.refl _ _).pI (by omega)).pI (by omega)
  refine TpP (M_isRight_ok (mo := 0) (lk := -1) hu ht hG (by omega) f0) (fun v t1 h1 => ?_)
  obtain ⟨hv, f1, e27, e28⟩ := h1
  rw [ft54] at hv
  have F1 : Fr dEM t t1 := f0.trans (f1.mono (fun i k q => by omega))
  have hr1 : MRw [] t1 := MRw_0.mv (f1.I (by omega)) (fun k => f1.J (by omega))
  have hgo : Tp (M_leaks_27 u t1 0 (b54 A)) (fun v t' => v = nI (ctJ A (gn (aG A) * 9)) ∧ Fr dEM t t' ∧ gI t' 45 27 = -1 ∧ (∃ mo, mo ≤ 9 ∧ gI t' 45 28 = nI mo) ∧ MRw (b54 A :: rrJ (fs (ftJ A) (gn (aG A) * 9) 0)) t') := by
    unfold M_leaks_27
    refine TtP (M_tell_ok _ hr1 (Nat.le_of_ble_eq_true rfl)) (fun t2 h2 => ?_)
    obtain ⟨hr2, f2⟩ := h2
    refine loop_i (W := fun w i t' => Tp (M_leaks_32 u w t' (nI (ctJ A (9 * i))) (nI i)) _)
      (I := fun i t' => Fr dEM t t' ∧ gI t' 45 27 = -1 ∧ (∃ mo, mo ≤ 9 ∧ gI t' 45 28 = nI mo) ∧ MRw (b54 A :: rrJ (fs (ftJ A) (9 * i) 0)) t') (gn (aG A)) ?_ ?_ u 0 t2 (by omega) (by omega) ⟨F1.trans (f2.mono (fun i k q => by omega)), (f2.I (by omega)).trans e27, ⟨0, by omega, (f2.I (by omega)).trans e28⟩, hr2⟩
    · intro w t3 ⟨f3, q27, q28, hr3⟩
      have e1 : gI t3 45 1 = nI (gn (aG A)) := (f3.I (by omega)).trans ht.1.1.1.1
      rw [Nat.mul_comm 9] at hr3
      rw [M_leaks_32_s]
      unfold M_leaks_32b
      rw [e1, if_pos (nI_le (Nat.le_refl _) (by omega)), Nat.mul_comm 9]
      exact Tp_some ⟨rfl, f3, q27, q28, hr3⟩
    · intro w i t3 hi ⟨f3, q27, q28, hr3⟩ ih
      have e1 : gI t3 45 1 = nI (gn (aG A)) := (f3.I (by omega)).trans ht.1.1.1.1
      rw [M_leaks_32_s]
      unfold M_leaks_32b
      rw [e1, if_neg (nI_ge hi (by omega))]
      refine loop_i (W := fun w2 m t' => Tp (M_leaks_42 u (M_leaks_32 u w) w2 t' (nI (ctJ A (9 * i + m))) (nI i) (nI (m + 1))) _)
        (I := fun m t' => Fr dEM t t' ∧ gI t' 45 27 = -1 ∧ (∃ mo, mo ≤ 9 ∧ gI t' 45 28 = nI mo) ∧ MRw (b54 A :: rrJ (fs (ftJ A) (9 * i + m) 0)) t') 9 ?_ ?_ u 0 t3 (by omega) (by omega) ⟨f3, q27, q28, hr3⟩
      · intro w2 t4 h4
        rw [M_leaks_42_s]
        unfold M_leaks_42b
        rw [if_pos (by decide), nI_1]
        exact ih t4 h4
      · intro w2 m t4 hm ⟨f4, p27, p28, hr4⟩ ih2
        have hcl := ctJ_le A (9 * i + m)
        have hcf := ctJ_fs A (9 * i + m)
        rw [show 9 * i + (m + 1) = (9 * i + m) + 1 by omega, ctJ_s, fs_snoc] at ih2
        rw [M_leaks_42_s]
        unfold M_leaks_42b M_leaks_76
        rw [show (9 : Int32) = nI 9 from rfl, if_neg (nI_nlt (by omega) (by omega))]
        refine TpP (M_isRight_ok (mo := m + 1) (lk := nI i) hu ht hG (by omega) f4) (fun v t5 h5 => ?_)
        obtain ⟨hv5, f5, r27, r28⟩ := h5
        rw [ftIJ A hm] at hv5
        subst hv5
        have F5 : Fr dEM t t5 := f4.trans (f5.mono (fun i k q => by omega))
        have hr5 : MRw (b54 A :: rrJ (fs (ftJ A) (9 * i + m) 0)) t5 := hr4.mv (f5.I (by omega)) (fun k => f5.J (by omega))
        rw [nI_1]
        cases hp : ftJ A (9 * i + m) with
        | false =>
          rw [hp] at ih2
          simp only [Bool.false_eq_true, if_false] at ih2
          rw [if_pos (show bI false = 0 from rfl)]
          refine ih2 t5 ⟨F5, r27, ⟨m + 1, by omega, r28⟩, ?_⟩
          cases hq : fs (ftJ A) (9 * i + m) 0 with
          | none => rw [hq] at hr5; exact hr5
          | some q => rw [hq] at hr5; exact hr5
        | true =>
          rw [hp] at ih2
          simp only [if_true] at ih2
          rw [if_neg (by decide), nI_1]
          cases hq : fs (ftJ A) (9 * i + m) 0 with
          | none =>
            rw [hq] at ih2 hr5
            have h0 := hcf.mpr hq
            rw [if_pos (by rw [h0]; exact nI_0)]
            refine TtP (M_tell_ok _ hr5 (Nat.le_of_ble_eq_true rfl)) (fun t6 h6' => TtP (M_tell_ok _ h6'.1 (Nat.le_of_ble_eq_true rfl)) (fun t7 h7 => ih2 t7 ⟨(F5.trans (h6'.2.mono (fun i k q => by omega))).trans (h7.2.mono (fun i k q => by omega)), (h7.2.I (by omega)).trans ((h6'.2.I (by omega)).trans r27), ⟨m + 1, by omega, (h7.2.I (by omega)).trans ((h6'.2.I (by omega)).trans r28)⟩, ?_⟩))
            have hr7 := h7.1
            rw [show rrJ (some (9 * i + m)) = [(nI i).toInt64, (nI (m + 1)).toInt64] by show [_, _] = _; rw [show (9 * i + m) / 9 = i by omega, show 1 + (9 * i + m) % 9 = m + 1 by omega]]
            exact hr7
          | some q =>
            rw [hq] at ih2 hr5
            have h0 : ctJ A (9 * i + m) ≠ 0 := fun h => by rw [hcf.mp h] at hq; cases hq
            rw [if_neg (nI_ne0 (by omega) (by omega))]
            exact ih2 t5 ⟨F5, r27, ⟨m + 1, by omega, r28⟩, hr5⟩
  unfold b54 at hgo
  unfold b54
  subst hv
  cases hp : ftJ A 54 with
  | false =>
    rw [hp] at hgo
    rw [if_pos (show bI false = 0 from rfl)]
    exact hgo
  | true =>
    rw [hp] at hgo
    rw [if_neg (by decide)]
    exact hgo
