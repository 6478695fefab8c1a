/-! LAW: reads (the Model), the operation -/
set_option maxRecDepth 100000
abbrev dLN (i k : Nat) : Prop := dSM i k ∨ (i = 45 ∧ (k = 27 ∨ k = 28))
theorem rd_step2 {A : AS} {c N : Nat} (hG : GI c A) (hN : N < 126) :
    if nI (rdF A N) < crL (rdL A N) then oF (rdL A (N + 1)) = nI N ∧ crL (rdL A (N + 1)) = nI (rdF A N) else oF (rdL A (N + 1)) = oF (rdL A N) ∧ crL (rdL A (N + 1)) = crL (rdL A N) := by
  have h6 := hG.1.1
  have hf := rdF_le A N
  unfold rdL
  cases hc : lsF (rdF A) N with
  | none =>
    rw [lsF_n hc, show crL none = nI 1000000 from rfl, if_pos (nI_lt (by omega) (by omega))]
    exact ⟨rfl, rfl⟩
  | some q =>
    have hq2 : q.2 ≤ gn (aG A) * 9 := by rw [(lsF_lt _ _ q hc).2]; exact rdF_le A _
    rw [lsF_i hc, show crL (some q) = nI q.2 from rfl]
    by_cases e : rdF A N < q.2
    · rw [if_pos e, if_pos (nI_lt e (by omega))]
      exact ⟨rfl, rfl⟩
    · rw [if_neg e, if_neg (nI_nlt (by omega) (by omega))]
      exact ⟨rfl, rfl⟩
/-- the table of counts: how many leaks cell (k, e) has seen -/
def TB (A : AS) (f : Nat → Nat → Nat) (t : Sg) : Prop := ∀ k e v, k < gn (aG A) → e < 21 → v < 100 → gI t 65 ((21 * k + e) * 100 + v) = nI (cnR A k e (f k e) v)
theorem TB.mv {A : AS} {f : Nat → Nat → Nat} {t t' : Sg} (h : TB A f t) (e : ∀ x, gI t' 65 x = gI t 65 x) : TB A f t' := fun k d v hk hd hv => (e _).trans (h k d v hk hd hv)
theorem TB.cg {A : AS} {f g : Nat → Nat → Nat} {t : Sg} (h : TB A f t) (e : ∀ k d, k < gn (aG A) → d < 21 → f k d = g k d) : TB A g t := fun k d v hk hd hv => by rw [← e k d hk hd]; exact h k d v hk hd hv
theorem TB.at {A : AS} {f : Nat → Nat → Nat} {t : Sg} {k e v n : Nat} (h : TB A f t) (hk : k < gn (aG A)) (he : e < 21) (hv : v < 100) (hn : f k e = n) : gI t 65 ((21 * k + e) * 100 + v) = nI (cnR A k e n v) := by
  rw [← hn]
  exact h k e v hk he hv
theorem cell_e (k d : Nat) : M_cellOf (nI k) (nI d) = some (nI ((21 * k + d) * 100)) := by
  unfold M_cellOf
  rw [show (21 : Int32) = nI 21 from rfl, show (100 : Int32) = nI 100 from rfl, pk_mul, nI_add, pk_mul]
theorem lvIJ (A : AS) {i m : Nat} (hm : m < 9) (k d : Nat) : lvJ A (9 * i + m) k d = wl (lkW (aG A) (aRu A) (nI i) (m + 1) d (aW A)) k := by
  unfold lvJ lkJ
  rw [show (9 * i + m) / 9 = i by omega, show 1 + (9 * i + m) % 9 = m + 1 by omega]
/-- the last part: the maxima -/
theorem M_reads_end {u c : Nat} {t t1 : Sg} {A : AS} (hu : 20000 ≤ u) (hM : MI u A t) (hG : GI c A) (f : Fr dLN t t1) (hT : TB A (fun _ _ => gn (aG A) * 9) t1) (e27 : gI t1 45 27 = -1) (e28 : ∃ mo, mo ≤ 9 ∧ gI t1 45 28 = nI mo) :
    Tp (M_reads_182 u u t1 (-1) 1000000 0) (fun v t' => v = oF (rdL A (21 * gn (aG A))) ∧ Fr dEM t t' ∧ gI t' 45 27 = -1 ∧ (∃ mo, mo ≤ 9 ∧ gI t' 45 28 = nI mo) ∧ MRw [(crL (rdL A (21 * gn (aG A)))).toInt64] t') := by
  have h6 := hG.1.1
  have e1 : gI t1 45 1 = nI (gn (aG A)) := (f.I (by omega)).trans hM.1.1.1.1
  refine loop_i (W := fun w k (_ : Unit) => Tp (M_reads_182 u w t1 (oF (rdL A (21 * k))) (crL (rdL A (21 * k))) (nI k)) _)
    (I := fun k _ => True) (gn (aG A)) ?_ ?_ u 0 () (by omega) (by omega) trivial
  · intro w _ _
    rw [M_reads_182_s]
    unfold M_reads_182b
    rw [e1, if_pos (nI_le (Nat.le_refl _) (by omega)), lt_e]
    refine TtP (M_tell_ok _ MRw_0 (Nat.le_of_ble_eq_true rfl)) (fun t2 h2 => Tp_some ⟨rfl, ((f.mono (fun i k q => by omega)).pI (by omega)).trans (h2.2.mono (fun i k q => by omega)), (h2.2.I (by omega)).trans ((gI_pI_k (by decide)).trans e27), ?_, h2.1⟩)
    obtain ⟨mo, hmo, e28⟩ := e28
    exact ⟨mo, hmo, (h2.2.I (by omega)).trans ((gI_pI_k (by decide)).trans e28)⟩
  · intro w k _ hk _ ih
    have ih := ih () trivial
    rw [M_reads_182_s]
    unfold M_reads_182b
    rw [e1, if_neg (nI_ge hk (by omega))]
    refine loop_i (W := fun w' d (_ : Unit) => Tp (M_reads_194 u (M_reads_182 u w) w' t1 (oF (rdL A (21 * k + d))) (crL (rdL A (21 * k + d))) (nI k) (nI d)) _)
      (I := fun d _ => True) 21 ?_ ?_ u 0 () (by omega) (by omega) trivial
    · intro w' _ _
      rw [M_reads_194_s]
      unfold M_reads_194b
      rw [if_pos (by decide), nI_1]
      exact ih
    · intro w' d _ hd _ ih'
      have ih' := ih' () trivial
      have hst := rd_step2 (N := 21 * k + d) hG (by omega)
      have hrd : rdF A (21 * k + d) = mxV (cnR A k d (gn (aG A) * 9)) 100 := by
        unfold rdF
        rw [show (21 * k + d) / 21 = k by omega, show (21 * k + d) % 21 = d by omega]
        rfl
      rw [M_reads_194_s]
      unfold M_reads_194b
      rw [show (20 : Int32) = nI 20 from rfl, if_neg (nI_nlt (by omega) (by omega))]
      refine loop_i (W := fun w2 v (_ : Unit) => Tp (M_reads_207 u (M_reads_182 u w) (M_reads_194 u (M_reads_182 u w) w') w2 t1 (oF (rdL A (21 * k + d))) (crL (rdL A (21 * k + d))) (nI k) (nI d) (nI (mxV (cnR A k d (gn (aG A) * 9)) v)) (nI v)) _)
        (I := fun v _ => True) 100 ?_ ?_ u 0 () (by omega) (by omega) trivial
      · intro w2 _ _
        rw [M_reads_207_s]
        unfold M_reads_207b
        rw [if_pos (by decide), ← hrd, lt_e, show (21 : Int32) = nI 21 from rfl, pk_mul, nI_add, nI_1]
        rw [show 21 * k + (d + 1) = 21 * k + d + 1 from rfl] at ih'
        by_cases e : nI (rdF A (21 * k + d)) < crL (rdL A (21 * k + d))
        · rw [if_pos e] at hst ⊢
          rw [hst.1, hst.2] at ih'
          exact ih'
        · rw [if_neg e] at hst ⊢
          rw [hst.1, hst.2] at ih'
          exact ih'
      · intro w2 v _ hv _ ih2
        have ih2 := ih2 () trivial
        have hc1 := cnR_le A k d (gn (aG A) * 9) v
        have hc2 : mxV (cnR A k d (gn (aG A) * 9)) v ≤ gn (aG A) * 9 := mxV_le (fun v _ => cnR_le A k d _ v)
        rw [mxV_s] at ih2
        rw [M_reads_207_s]
        unfold M_reads_207b
        rw [show (99 : Int32) = nI 99 from rfl, if_neg (nI_nlt (by omega) (by omega)), cell_e, bd_some, nI_add, aI_n (by omega) (by omega), bd_some, show gI t1 65 ((21 * k + d) * 100 + v) = nI (cnR A k d (gn (aG A) * 9) v) from hT k d v hk hd hv, lt_e, nI_mx (by omega) (by omega), nI_1]
        exact ih2
theorem ctJ_ne (A : AS) (n : Nat) : (if ftJ A n then (1 : Int32) else bI (decide (ctJ A n ≠ 0))) = bI (decide (ctJ A (n + 1) ≠ 0)) := by
  rw [ctJ_s]
  cases ftJ A n with
  | true => rw [if_pos rfl, if_pos rfl, decide_eq_true (by omega)]; rfl
  | false => rw [if_neg (by decide), if_neg (by decide)]; rfl
theorem op_reads {u c : Nat} {s : Sg} {A : AS} (hu : 20000 ≤ u) (hX : XI A s) (hM : MI u A s) (hG : GI c A) : Bth u c s (X_reads u s) (fun t => M_reads u t) := by
  have h6 := hG.1.1
  refine both_lk (rdA A) (rdR A) hX hM hG (X_reads_ok hu hX hG) (fun t ht => ?_)
  have hE : ∀ t', Fr dLN t t' → ME u (aG A) (aRu A) t' ∧ MW (gn (aG A)) t' 46 0 (aW A) := fun t' f' => ⟨ht.1.1.fr f' ⟨fun k => ⟨by omega, by omega, by omega, by omega, by omega⟩, by omega, by omega, by omega⟩, ht.2.1.mv (fun k => f'.I (by omega))⟩
  unfold M_reads
  rw [lt_e]
  have f0 : Fr dLN t (pI t 45 9 0) := (Fr.refl _ _).pI (by omega)
  have r27 : gI (pI t 45 9 0) 45 27 = -1 := (gI_pI_k (by decide)).trans ht.1.2.1
  have r28 : ∃ mo, mo ≤ 9 ∧ gI (pI t 45 9 0) 45 28 = nI mo := by
    obtain ⟨mo, hmo, e⟩ := ht.1.2.2
    exact ⟨mo, hmo, (gI_pI_k (by decide)).trans e⟩
  refine loop_i (W := fun w x t' => Tp (M_reads_7 u w t' (nI x)) _)
    (I := fun x t' => Fr dLN t t' ∧ gI t' 45 27 = -1 ∧ (∃ mo, mo ≤ 9 ∧ gI t' 45 28 = nI mo) ∧ ∀ y, y < x → gI t' 65 y = nI 0) 12600 ?_ ?_ u 0 _ (by omega) (by omega) ⟨f0, r27, r28, fun y hy => absurd hy (Nat.not_lt_zero _)⟩
  · intro w t1 ⟨f1, p27, p28, hz⟩
    rw [M_reads_7_s]
    unfold M_reads_7b
    rw [if_pos (show (12600 : Int32) ≤ nI 12600 from by decide)]
    have hT0 : TB A (fun _ _ => 9 * 0) t1 := fun k d v hk hd hv => (hz _ (by omega)).trans rfl
    refine loop_i (W := fun w i t' => Tp (M_reads_31 u w t' (bI (decide (ctJ A (9 * i) ≠ 0))) (nI i)) _)
      (I := fun i t' => Fr dLN t t' ∧ gI t' 45 27 = -1 ∧ (∃ mo, mo ≤ 9 ∧ gI t' 45 28 = nI mo) ∧ TB A (fun _ _ => 9 * i) t') (gn (aG A)) ?_ ?_ u 0 t1 (by omega) (by omega) ⟨f1, p27, p28, hT0⟩
    · intro w t2 ⟨f2, q27, q28, hT⟩
      have e1 : gI t2 45 1 = nI (gn (aG A)) := (f2.I (by omega)).trans ht.1.1.1.1
      rw [Nat.mul_comm 9] at hT
      rw [M_reads_31_s]
      unfold M_reads_31b rdA rdR
      rw [e1, if_pos (nI_le (Nat.le_refl _) (by omega)), Nat.mul_comm 9]
      by_cases e0 : ctJ A (gn (aG A) * 9) = 0
      · rw [if_pos e0, if_pos e0, decide_eq_false (fun h => h e0), if_pos (show bI false = 0 from rfl)]
        exact Tp_some ⟨rfl, f2.mono (fun i k q => by omega), q27, q28, ht.2.2.1.mv (f2.I (by omega)) (fun k => f2.J (by omega))⟩
      · rw [if_neg e0, if_neg e0, decide_eq_true e0, if_neg (by decide)]
        exact M_reads_end hu ht hG f2 hT q27 q28
    · intro w i t2 hi ⟨f2, q27, q28, hT⟩ ih
      have e1 : gI t2 45 1 = nI (gn (aG A)) := (f2.I (by omega)).trans ht.1.1.1.1
      rw [M_reads_31_s]
      unfold M_reads_31b
      rw [e1, if_neg (nI_ge hi (by omega))]
      refine loop_i (W := fun w2 m t' => Tp (M_reads_41 u (M_reads_31 u w) w2 t' (bI (decide (ctJ A (9 * i + m) ≠ 0))) (nI i) (nI (m + 1))) _)
        (I := fun m t' => Fr dLN t t' ∧ gI t' 45 27 = -1 ∧ (∃ mo, mo ≤ 9 ∧ gI t' 45 28 = nI mo) ∧ TB A (fun _ _ => 9 * i + m) t') 9 ?_ ?_ u 0 t2 (by omega) (by omega) ⟨f2, q27, q28, hT⟩
      · intro w2 t3 h3
        rw [M_reads_41_s]
        unfold M_reads_41b
        rw [if_pos (by decide), nI_1]
        exact ih t3 h3
      · intro w2 m t3 hm ⟨f3, p27, p28, hT3⟩ ih2
        rw [show 9 * i + (m + 1) = (9 * i + m) + 1 by omega, ← ctJ_ne] at ih2
        rw [M_reads_41_s]
        unfold M_reads_41b
        rw [show (9 : Int32) = nI 9 from rfl, if_neg (nI_nlt (by omega) (by omega))]
        refine TpP (M_isRight_ok (mo := m + 1) (lk := nI i) hu ht hG (by omega) (f3.mono (fun i k q => by omega))) (fun v t4 h4 => ?_)
        obtain ⟨hv4, f4, s27, s28⟩ := h4
        rw [ftIJ A hm] at hv4
        subst hv4
        have F4 : Fr dLN t t4 := f3.trans (f4.mono (fun i k q => by omega))
        have hT4 : TB A (fun _ _ => 9 * i + m) t4 := hT3.mv (fun x => f4.I (by omega))
        rw [nI_1]
        cases hp : ftJ A (9 * i + m) with
        | false =>
          rw [hp] at ih2
          simp only [Bool.false_eq_true, if_false] at ih2
          rw [if_pos (show bI false = 0 from rfl)]
          refine ih2 t4 ⟨F4, s27, ⟨m + 1, by omega, s28⟩, fun k d v hk hd hv => ?_⟩
          show _ = nI (cnR A k d (9 * i + m + 1) v)
          rw [cnR_s, hp, Bool.false_and, if_neg (by decide)]
          exact hT4 k d v hk hd hv
        | true =>
          rw [hp, if_pos rfl] at ih2
          rw [if_neg (by decide), lt_e, lt_e]
          have f5 : Fr dLN t (pI (pI t4 45 27 (nI i)) 45 28 (nI (m + 1))) := (F4.pI (by omega)).pI (by omega)
          have e27 : gI (pI (pI t4 45 27 (nI i)) 45 28 (nI (m + 1))) 45 27 = nI i := (gI_pI_k (by decide)).trans gI_pI_s
          have e28 : gI (pI (pI t4 45 27 (nI i)) 45 28 (nI (m + 1))) 45 28 = nI (m + 1) := gI_pI_s
          have hT5 : TB A (fun _ _ => 9 * i + m) (pI (pI t4 45 27 (nI i)) 45 28 (nI (m + 1))) := hT4.mv (fun x => (gI_pI_i (by decide)).trans (gI_pI_i (by decide)))
          generalize pI (pI t4 45 27 (nI i)) 45 28 (nI (m + 1)) = t5 at f5 e27 e28 hT5 ⊢
          refine TtP (M_lay_ok (o := 0) hu (by decide) (by decide) rfl (by decide) (by decide) (by decide)) (fun t6 h6' => ?_)
          obtain ⟨f6, hx6⟩ := h6'
          have hW6 : MW (gn (aG A)) t6 58 0 (aW A) := lay_MW h6 hx6 (hE t5 f5).2
          refine loop_i (W := fun w3 d t' => Tp (M_reads_86 u (M_reads_31 u w) (M_reads_41 u (M_reads_31 u w) w2) w3 t' 1 (nI i) (nI (m + 1)) (nI d)) _)
            (I := fun d t' => Fr dLN t t' ∧ gI t' 45 27 = nI i ∧ gI t' 45 28 = nI (m + 1) ∧ MW (gn (aG A)) t' 58 0 (lkW (aG A) (aRu A) (nI i) (m + 1) d (aW A)) ∧ TB A (fun _ e => if e < d then 9 * i + m + 1 else 9 * i + m) t') 21 ?_ ?_ u 0 t6 (by omega) (by omega)
            ⟨f5.trans (f6.mono (fun i k q => by omega)), (f6.I (by omega)).trans e27, (f6.I (by omega)).trans e28, hW6, (hT5.mv (fun x => f6.I (by omega))).cg (fun k d _ _ => (if_neg (Nat.not_lt_zero _)).symm)⟩
          · intro w3 t7 ⟨f7, a27, a28, hW7, hT7⟩
            rw [M_reads_86_s]
            unfold M_reads_86b
            rw [if_pos (by decide), lt_e, nI_1]
            exact ih2 _ ⟨f7.pI (by omega), gI_pI_s, ⟨m + 1, by omega, (gI_pI_k (by decide)).trans a28⟩, (hT7.mv (fun x => gI_pI_i (by decide))).cg (fun k d _ hd => if_pos hd)⟩
          · intro w3 d t7 hd ⟨f7, a27, a28, hW7, hT7⟩ ih3
            have hg7 := lkW_good (ru := aRu A) (lk := nI i) (mo := m + 1) hG.2.1 d
            rw [M_reads_86_s]
            unfold M_reads_86b
            rw [show (20 : Int32) = nI 20 from rfl, if_neg (nI_nlt (by omega) (by omega))]
            refine loop_i (W := fun w4 o t' => Tp (M_reads_96 u (M_reads_31 u w) (M_reads_41 u (M_reads_31 u w) w2) (M_reads_86 u (M_reads_31 u w) (M_reads_41 u (M_reads_31 u w) w2) w3) w4 t' 1 (nI i) (nI (m + 1)) (nI d) (nI o)) _)
              (I := fun o t' => Fr dLN t t' ∧ gI t' 45 27 = nI i ∧ gI t' 45 28 = nI (m + 1) ∧ MW (gn (aG A)) t' 58 0 (lkW (aG A) (aRu A) (nI i) (m + 1) d (aW A)) ∧ TB A (fun k e => if e < d ∨ (e = d ∧ k < o) then 9 * i + m + 1 else 9 * i + m) t') (gn (aG A)) ?_ ?_ u 0 t7 (by omega) (by omega)
              ⟨f7, a27, a28, hW7, hT7.cg (fun k e _ _ => by
                by_cases q : e < d
                · rw [if_pos q, if_pos (Or.inl q)]
                · rw [if_neg q, if_neg (by omega)])⟩
            · intro w4 t8 ⟨f8, b27, b28, hW8, hT8⟩
              have e1 : gI t8 45 1 = nI (gn (aG A)) := (f8.I (by omega)).trans ht.1.1.1.1
              rw [M_reads_96_s]
              unfold M_reads_96b
              rw [e1, if_pos (nI_le (Nat.le_refl _) (by omega)), nI_1]
              refine TtP (M_goDay_ok hu hG.1 (hE t8 f8).1 hG.2.2.2.2.2.2.1 hg7 hW8 (by omega) b27 b28 (by omega)) (fun t9 h9 => ?_)
              refine ih3 t9 ⟨f8.trans (h9.1.mono (fun i k q => by omega)), (h9.1.I (by omega)).trans b27, (h9.1.I (by omega)).trans b28, h9.2, (hT8.mv (fun x => h9.1.I (by omega))).cg (fun k e hk _ => ?_)⟩
              by_cases q : e < d + 1
              · rw [if_pos q, if_pos (by omega)]
              · rw [if_neg q, if_neg (by omega)]
            · intro w4 o t8 ho ⟨f8, b27, b28, hW8, hT8⟩ ih4
              have e1 : gI t8 45 1 = nI (gn (aG A)) := (f8.I (by omega)).trans ht.1.1.1.1
              have hl := lvJ_le hG (j := 9 * i + m) (d := d) ho
              have hlv : gI t8 58 o = nI (lvJ A (9 * i + m) o d) := by rw [lvIJ A hm]; exact (MW_row hW8).1 _ ho
              have hc : gI t8 65 ((21 * o + d) * 100 + lvJ A (9 * i + m) o d) = nI (cnR A o d (9 * i + m) (lvJ A (9 * i + m) o d)) := hT8.at ho hd (by omega) (if_neg (by omega))
              have hcl := cnR_le A o d (9 * i + m) (lvJ A (9 * i + m) o d)
              rw [M_reads_96_s]
              unfold M_reads_96b
              rw [e1, if_neg (nI_ge ho (by omega)), cell_e, bd_some, aI_n (by omega) (by omega), bd_some, hlv, nI_add, aI_n (by omega) (by omega), bd_some, hc, nI_1, tI_n (by omega) (by omega), bd_some, nI_1]
              refine ih4 _ ⟨f8.pI (by omega), (gI_pI_i (by decide)).trans b27, (gI_pI_i (by decide)).trans b28, hW8.mv (fun k => gI_pI_i (by decide)), fun k e v hk he hv => ?_⟩
              show _ = nI (cnR A k e (if e < d ∨ (e = d ∧ k < o + 1) then 9 * i + m + 1 else 9 * i + m) v)
              by_cases q : k = o ∧ e = d
              · obtain ⟨rfl, rfl⟩ := q
                rw [if_pos (show e < e ∨ (e = e ∧ k < k + 1) by omega), cnR_s, hp, Bool.true_and]
                by_cases qv : lvJ A (9 * i + m) k e = v
                · subst qv
                  rw [gI_pI_s, decide_eq_true rfl, if_pos rfl]
                · rw [gI_pI_k (by omega), decide_eq_false qv, if_neg (by decide), hT8.at hk he hv (if_neg (by omega))]
                  rfl
              · rw [gI_pI_k (by omega)]
                by_cases q2 : e < d ∨ (e = d ∧ k < o)
                · rw [hT8.at hk he hv (if_pos q2), if_pos (by omega)]
                · rw [hT8.at hk he hv (if_neg q2), if_neg (by omega)]
  · intro w x t1 hx ⟨f1, p27, p28, hz⟩ ih
    rw [M_reads_7_s]
    unfold M_reads_7b
    rw [show (12600 : Int32) = nI 12600 from rfl, if_neg (nI_ge hx (by omega)), tI_n (by omega) (by omega), bd_some, nI_1]
    refine ih _ ⟨f1.pI (by omega), (gI_pI_i (by decide)).trans p27, ?_, fun y hy => ?_⟩
    · obtain ⟨mo, hmo, e⟩ := p28
      exact ⟨mo, hmo, (gI_pI_i (by decide)).trans e⟩
    · by_cases e : y = x
      · subst e
        exact gI_pI_s
      · exact (gI_pI_k e).trans (hz y (by omega))
