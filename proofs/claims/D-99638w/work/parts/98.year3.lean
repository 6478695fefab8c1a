/-! LAW: year -/
set_option maxRecDepth 100000
theorem m1_sub (x : Int32) : (-1 : Int32) - x = 0 - (x + 1) := by
  rw [Int32.sub_eq_add_neg, Int32.sub_eq_add_neg, Int32.neg_add, Int32.zero_add, Int32.sub_eq_add_neg, Int32.add_comm]
theorem m1_neg {z : Nat} (hz : z < 2 ^ 29) : ¬ (0 : Int32) ≤ -1 - nI z := by
  rw [m1_sub, nI_1]
  exact Int32.not_le.mpr (pk_sneg (a := 0) (b := z + 1) (by omega) (by omega))
theorem ftA_ex {f : Nat → Nat} {e p : Nat} (h : ¬ okA f e p) : ∃ z, ftA f e p z := by
  by_cases a : p < e ∧ sgA (f p)
  · by_cases b : dg f e (p + 1)
    · by_cases c1 : f p = 116 ∧ ¬ dg f e (p + 2)
      · exact ⟨_, Or.inr (Or.inr ⟨a, b, rfl, Or.inl c1⟩)⟩
      · by_cases c2 : f p = 103 ∧ ¬ lt4 f e (p + 2)
        · exact ⟨_, Or.inr (Or.inr ⟨a, b, rfl, Or.inr c2⟩)⟩
        · exact absurd ⟨a, b, fun q => Classical.byContradiction (fun q2 => c1 ⟨q, q2⟩), fun q => Classical.byContradiction (fun q2 => c2 ⟨q, q2⟩)⟩ h
    · exact ⟨_, Or.inr (Or.inl ⟨a, b, rfl⟩)⟩
  · exact ⟨_, Or.inl ⟨a, rfl⟩⟩
/-- where the acts stand -/
def pA (f : Nat → Nat) (k : Nat) : Nat := fo (fun _ p => nxA f p) k 0
theorem pA_s (f : Nat → Nat) (k : Nat) : pA f (k + 1) = nxA f (pA f k) := rfl
def bA (f : Nat → Nat) (p : Nat) : Nat := if f p = 116 then f (p + 2) - 48 else f (p + 2) - 97
/-- the lakes behind so many acts -/
def yW (g : Geo) (ru : Ru) (f : Nat → Nat) (W : Wt) (k : Nat) : Wt := fo (fun j W => (yA g ru (f (pA f j)) (f (pA f j + 1) - 48) (bA f (pA f j)) W).getD W) k W
theorem yW_s (g : Geo) (ru : Ru) (f : Nat → Nat) (W : Wt) (k : Nat) : yW g ru f W (k + 1) = (yA g ru (f (pA f k)) (f (pA f k + 1) - 48) (bA f (pA f k)) (yW g ru f W k)).getD (yW g ru f W k) := rfl
theorem okA_bd {f : Nat → Nat} {e p : Nat} (h : okA f e p) : sgA (f p) ∧ f (p + 1) - 48 ≤ 9 ∧ (f p = 116 → bA f p ≤ 9) ∧ (f p = 103 → bA f p ≤ 3) := by
  refine ⟨h.1.2, by have := h.2.1.2; omega, fun q => ?_, fun q => ?_⟩
  · have := (h.2.2.1 q).2
    unfold bA
    rw [if_pos q]
    omega
  · have := (h.2.2.2 q).2
    unfold bA
    rw [if_neg (by omega)]
    omega
theorem yW_good {g : Geo} {ru : Ru} {f : Nat → Nat} {W : Wt} {q e : Nat} (hW : GoodW g W) (h : ∀ j, j < q → okA f e (pA f j)) (k : Nat) (hk : k ≤ q) : GoodW g (yW g ru f W k) := by
  induction k with
  | zero => exact hW
  | succ k ih =>
    have ih := ih (by omega)
    obtain ⟨h1, h2, h3, h4⟩ := okA_bd (h k (by omega))
    rw [yW_s]
    cases hy : yA g ru (f (pA f k)) (f (pA f k + 1) - 48) (bA f (pA f k)) (yW g ru f W k) with
    | none => exact ih
    | some W' => exact yA_good h1 ih h3 h4 hy
abbrev dXy (i k : Nat) : Prop := dXd i k ∨ dXn i k
abbrev dMy (i k : Nat) : Prop := dMd i k ∨ i = 46
/-- the acts read: they stand before e; so many are done -/
def YR (f : Nat → Nat) (e q : Nat) : Prop := (∀ j, j < q → okA f e (pA f j)) ∧ (∀ k, k ≤ q → 2 * k ≤ pA f k ∧ pA f k ≤ e) ∧ q ≤ 30 ∧ ¬ okA f e (pA f q)
def YD (A : AS) (f : Nat → Nat) (q d : Nat) : Prop := d ≤ q ∧ (∀ k, k < d → yA (aG A) (aRu A) (f (pA f k)) (f (pA f k + 1) - 48) (bA f (pA f k)) (yW (aG A) (aRu A) f (aW A) k) = some (yW (aG A) (aRu A) f (aW A) (k + 1))) ∧ (d = q ∨ yA (aG A) (aRu A) (f (pA f d)) (f (pA f d + 1) - 48) (bA f (pA f d)) (yW (aG A) (aRu A) f (aW A) d) = none)
theorem GI_yk {c : Nat} {A : AS} {f : Nat → Nat} {e q k : Nat} (hG : GI c A) (hP : ∀ j, j < q → okA f e (pA f j)) (hk : k ≤ q) : GI (c + 1) (sN (sTr A (aRow A)) (yW (aG A) (aRu A) f (aW A) k) (aRow A)) := by
  have hG1 : GI (c + 1) (sTr A (aRow A)) := GI_tr _ hG
  exact ⟨hG.1, yW_good hG.2.1 hP k hk, hG1.2.2.1, hG1.2.2.2.1, hG1.2.2.2.2.1, hG1.2.2.2.2.2.1, hG1.2.2.2.2.2.2.1, hG1.2.2.2.2.2.2.2⟩
/-- the class reads -/
theorem year_Xg {u c : Nat} {s : Sg} {A : AS} {n e q z : Nat} {f : Nat → Nat} (hu : 20000 ≤ u) (hX : XI A s) (hG : GI c A) (hnf : aT A = (n, f)) (hn80 : n ≤ 80) (he : e = min n 60) (hY : YR f e q) (hz : ftA f e (pA f q) z) : ∀ (Q : Int32 → Sg → Prop), (∀ t g, Fr dXd s t → gI t 0 8 = nI 0 → XRow (aRow A) t → ((g = 1 ∧ XRd f e (pA f q) t ∧ pA f q = e) ∨ (g = 0 ∧ XRd f e z t ∧ pA f q < e)) → gI t 0 30 = nI q ∨ g = 0 → (∀ k, k < q → XAc f (pA f k) k t) → Tp (X_year_37 u t (nI n) g) Q) → Tp (X_year u s) Q := by
  obtain ⟨hP, hpl, hq30, hno⟩ := hY
  have hpq := (hpl q (Nat.le_refl _)).2
  intro Q hQ
  unfold X_year
  refine TpP (X_begins_ok (m := 60) hX hG (by omega) rfl) (fun v t1 ⟨e1, f1, r1, g8, g11⟩ => ?_)
  rw [hnf, show min (n, f).1 60 = e from he.symm] at r1
  rw [hnf] at e1
  rw [e1, lt_e]
  have hrow : XRow (aRow A) (pI t1 0 30 0) := hX.2.2.1.mv ((gI_pI_k (by omega)).trans (f1.I (by omega))) (fun k => f1.J (by omega))
  refine loop_i (W := fun w k t => Tp (X_year_14 u w t (nI n) (if k = q + 1 then 0 else 1)) Q)
    (I := fun k t => Fr dXd s t ∧ gI t 0 8 = nI 0 ∧ XRow (aRow A) t ∧ (∀ j, j < k → j < q → XAc f (pA f j) j t) ∧ ((k ≤ q ∧ XRd f e (pA f k) t ∧ gI t 0 30 = nI k) ∨ (k = q + 1 ∧ XRd f e z t ∧ pA f q < e))) (q + 1) ?_ ?_ u 0 (pI t1 0 30 0) (by omega) (by omega) ⟨(f1.mono (fun i k h => by omega)).pI (by omega), (gI_pI_k (by omega)).trans g8, hrow, fun j hj => absurd hj (Nat.not_lt_zero _), Or.inl ⟨Nat.zero_le _, r1.mv (gI_pI_k (by omega)) (gI_pI_k (by omega)) (fun k => gI_pI_i (by omega)), gI_pI_s⟩⟩
  · intro w t ⟨f2, i8, w2, l2, h2⟩
    rcases h2 with ⟨h, _⟩ | ⟨_, r2, h2⟩
    · omega
    · rw [if_pos rfl, X_year_14_s]
      unfold X_year_14b
      rw [if_pos rfl]
      exact hQ t 0 f2 i8 w2 (Or.inr ⟨rfl, r2, h2⟩) (Or.inr rfl) (fun k hk => l2 k (by omega) hk)
  · intro w k t hk ⟨f2, i8, w2, l2, h2⟩ ih
    rcases h2 with ⟨hkq, r2, e30⟩ | ⟨h, _⟩
    · rw [if_neg (by omega), X_year_14_s]
      unfold X_year_14b
      rw [if_neg (by decide), r2.1, r2.2.1]
      by_cases hpe : pA f k < e
      · rw [if_neg (nI_ge hpe (by omega))]
        refine TpP (X_readsAct_ok hu r2 (by omega) e30) (fun v t2 ⟨f3, o3, h3⟩ => ?_)
        have f4 : Fr dXd s t2 := f2.trans (f3.mono (fun i k h => by omega))
        have i84 : gI t2 0 8 = nI 0 := (f3.I (by omega)).trans i8
        have w4 : XRow (aRow A) t2 := w2.mv (f3.I (by omega)) (fun k => f3.J (by omega))
        have l4 : ∀ j, j < k → j < q → XAc f (pA f j) j t2 := fun j hj hj2 => by
          obtain ⟨a1, a2, a3, a4⟩ := l2 j hj hj2
          exact ⟨(o3 28 j (by omega) hj).trans a1, (o3 29 j (by omega) hj).trans a2, fun h => (o3 30 j (by omega) hj).trans (a3 h), fun h => (o3 30 j (by omega) hj).trans (a4 h)⟩
        rcases h3 with ⟨ho, hv, r3, e3, c3⟩ | ⟨hv, z', hz', r3⟩
        · have hkq2 : k < q := by
            by_cases hh : k = q
            · subst hh; exact absurd ho hno
            · omega
          rw [hv]
          have := ih t2 ⟨f4, i84, w4, fun j hj hj2 => by
            by_cases hh : j = k
            · subst hh; exact c3
            · exact l4 j (by omega) hj2, Or.inl ⟨by omega, by rw [pA_s]; exact r3, e3⟩⟩
          rw [if_neg (by omega)] at this
          exact this
        · have hkq2 : k = q := by
            by_cases hh : k = q
            · exact hh
            · exact absurd (hP k (by omega)) (ftA_no hz')
          subst hkq2
          have hzz := ftA_one hz' hz
          subst hzz
          rw [hv]
          have := ih t2 ⟨f4, i84, w4, fun j hj hj2 => l4 j hj2 hj2, Or.inr ⟨rfl, r3, hpe⟩⟩
          rw [if_pos rfl] at this
          exact this
      · have hkq2 : k = q := by
          by_cases hh : k = q
          · exact hh
          · exact absurd (hP k (by omega)).1.1 hpe
        subst hkq2
        rw [if_pos (nI_le (by omega) (by omega))]
        exact hQ t 1 f2 i8 w2 (Or.inl ⟨rfl, r2, by omega⟩) (Or.inl e30) (fun j hj => l2 j hj hj)
    · omega
/-- the Model reads -/
theorem year_Mg {u c : Nat} {A : AS} {n e q z : Nat} {f : Nat → Nat} (hu : 20000 ≤ u) (hG : GI c A) (hnf : aT A = (n, f)) (hn80 : n ≤ 80) (he : e = min n 60) (hY : YR f e q) (hz : ftA f e (pA f q) z) : ∀ (t : Sg) (Q : Int32 → Sg → Prop), MI u A t → (∀ t' w p, Fr dMd t t' → gI t' 45 6 = nI 0 → MRw (aRow A) t' → MRd 50 f n 60 p w t' → ((w = none ∧ pA f q = e ∧ n ≤ e ∧ p = e) ∨ (w = some z ∧ ¬ (pA f q = e ∧ n ≤ e))) → (∀ k, k < q → MAc f (pA f k) k t') → ∀ j, (w = none → j = q) → Tp (M_year_44 u t' (nI j)) Q) → Tp (M_year u t) Q := by
  obtain ⟨hP, hpl, hq30, hno⟩ := hY
  have hpq := (hpl q (Nat.le_refl _)).2
  intro t Q ht hQ
  have hth := MI_th ht
  unfold M_year
  rw [lt_e]
  refine TtP (M_beginText_ok (m := 60) hth.2.2.2.2.2.2.1 hG (by omega) rfl) (fun t1 ⟨f1, r1, g6⟩ => ?_)
  rw [hnf] at r1
  have hrow : MRw (aRow A) t1 := ht.2.2.1.mv ((f1.I (by omega)).trans (gI_pI_k (by omega))) (fun k => f1.J (by omega))
  refine loop_i (W := fun w k t' => Tp (M_year_13 u w t' (nI k)) Q)
    (I := fun k t' => Fr dMd t t' ∧ gI t' 45 6 = nI 0 ∧ MRw (aRow A) t' ∧ (∀ j, j < k → j < q → MAc f (pA f j) j t') ∧ ((k ≤ q ∧ MRd 50 f n 60 (pA f k) none t') ∨ (k = q + 1 ∧ (∃ p, MRd 50 f n 60 p (some z) t') ∧ ¬ (pA f q = e ∧ n ≤ e)))) (q + 1) ?_ ?_ u 0 t1 (by omega) (by omega) ⟨((Fr.refl _ _).pI (by omega)).trans (f1.mono (fun i k h => by omega)), g6, hrow, fun k hk => absurd hk (Nat.not_lt_zero _), Or.inl ⟨Nat.zero_le _, r1⟩⟩
  · intro w t2 ⟨f2, i6, w2, l2, r2⟩
    rcases r2 with ⟨h, _⟩ | ⟨_, ⟨p, r2⟩, hb⟩
    · omega
    · rw [M_year_13_s]
      unfold M_year_13b
      rw [M_fine_n r2, bd_some, if_pos rfl]
      exact hQ t2 (some z) p f2 i6 w2 r2 (Or.inr ⟨rfl, hb⟩) (fun k hk => l2 k (by omega) hk) (q + 1) (fun h => by cases h)
  · intro w k t2 hk ⟨f2, i6, w2, l2, r2⟩ ih
    rcases r2 with ⟨hkq, r2⟩ | ⟨h, _⟩
    · have hpk := hpl k hkq
      rw [M_year_13_s]
      unfold M_year_13b
      rw [M_fine_y r2, bd_some, if_neg (by decide), r2.2.1, r2.2.2.2.1]
      by_cases hpn : pA f k < n
      · rw [if_neg (nI_ge hpn (by omega)), show (3 : Int32) * nI k = nI (3 * k) from pk_mul 3 k, nI_1]
        refine TtP (M_readAct_ok r2 (by omega)) (fun t3 ⟨f3, o3, h3⟩ => ?_)
        have f4 : Fr dMd t t3 := f2.trans (f3.mono (fun i k h => by omega))
        have i64 : gI t3 45 6 = nI 0 := (f3.I (by omega)).trans i6
        have w4 : MRw (aRow A) t3 := w2.mv (f3.I (by omega)) (fun k => f3.J (by omega))
        have l4 : ∀ j, j < k → j < q → MAc f (pA f j) j t3 := fun j hj hj2 => by
          obtain ⟨a1, a2, a3, a4⟩ := l2 j hj hj2
          exact ⟨(o3 _ (by omega)).trans a1, (o3 _ (by omega)).trans a2, fun h => (o3 _ (by omega)).trans (a3 h), fun h => (o3 _ (by omega)).trans (a4 h)⟩
        rw [← he] at h3
        rcases h3 with ⟨ho, r3, c3⟩ | ⟨z', p', hz', r3⟩
        · have hkq2 : k < q := by
            by_cases hh : k = q
            · subst hh; exact absurd ho hno
            · omega
          exact ih t3 ⟨f4, i64, w4, fun j hj hj2 => by
            by_cases hh : j = k
            · subst hh; exact c3
            · exact l4 j (by omega) hj2, Or.inl ⟨by omega, by rw [pA_s]; exact r3⟩⟩
        · have hkq2 : k = q := by
            by_cases hh : k = q
            · exact hh
            · exact absurd (hP k (by omega)) (ftA_no hz')
          subst hkq2
          have hzz := ftA_one hz' hz
          subst hzz
          exact ih t3 ⟨f4, i64, w4, fun j hj hj2 => l4 j hj2 hj2, Or.inr ⟨rfl, ⟨p', r3⟩, by omega⟩⟩
      · have hkq2 : k = q := by
          by_cases hh : k = q
          · exact hh
          · have := (hP k (by omega)).1.1
            omega
        subst hkq2
        rw [if_pos (nI_le (by omega) (by omega))]
        exact hQ t2 none (pA f k) f2 i6 w2 r2 (Or.inl ⟨rfl, by omega, by omega, by omega⟩) (fun j hj => l2 j hj hj) k (fun _ => rfl)
    · omega
/-- the row, told last -/
theorem year_X101 {u c q d : Nat} (hu : 20000 ≤ u) (hq30 : q ≤ 30) (hdq : d ≤ q) : ∀ (A2 : AS) (t : Sg), XI A2 t → GI c A2 → gI t 0 30 = nI q → Tp (X_year_101 u t (nI d)) (fun v t' => v = nI d ∧ Fr dXr t t' ∧ XI (sN A2 (aW A2) [if d < q then 1 else 0, (nI (sm (wl (aW A2)) (gn (aG A2)))).toInt64]) t') := by
  intro A2 t hX2 hG2 e30
  have hgo : ∀ v : Int64, v = (if d < q then 1 else 0) → Tp (X_year_121 u (pI t 0 48 0) (nI d) v) (fun v t' => v = nI d ∧ Fr dXr t t' ∧ XI (sN A2 (aW A2) [if d < q then 1 else 0, (nI (sm (wl (aW A2)) (gn (aG A2)))).toInt64]) t') := by
    intro v hv
    unfold X_year_121
    have f0 : Fr dXr t (pI t 0 48 0) := (Fr.refl _ _).pI (by omega)
    refine TtP (X_tell' v f0 XRow_0 (Nat.le_of_ble_eq_true rfl)) (fun t1 ⟨f1, r1, e1⟩ => ?_)
    obtain ⟨hE, hW⟩ := X_env hX2 f1
    rw [X_water_ok hu hG2.1 hE.2.1 (by omega) hW, bd_some]
    refine TtP (X_tell' _ f1 r1 (Nat.le_of_ble_eq_true rfl)) (fun t2 ⟨f2, r2, e2⟩ => ?_)
    refine Tp_some ⟨rfl, f2, XI_now hX2 hG2 (f2.mono (fun i k q => Or.inl q)) ?_ (X_env hX2 f2).2⟩
    rw [← hv]
    exact r2
  unfold X_year_101
  rw [lt_e, gI_pI_k (by omega), e30]
  by_cases q1 : q ≤ d
  · rw [if_pos (nI_le q1 (by omega))]
    exact hgo 0 (by rw [if_neg (by omega)])
  · rw [if_neg (nI_ge (by omega) (by omega))]
    exact hgo 1 (by rw [if_pos (by omega)])
theorem year_M130 {u c q d : Nat} (hu : 20000 ≤ u) (hq30 : q ≤ 30) (hdq : d ≤ q) : ∀ (A2 : AS) (t : Sg), MI u A2 t → GI c A2 → Tp (M_year_130 u t (nI q) (nI d)) (fun v t' => v = nI d ∧ Fr dMr t t' ∧ MI u (sN A2 (aW A2) [if d < q then 1 else 0, (nI (sm (wl (aW A2)) (gn (aG A2)))).toInt64]) t') := by
  intro A2 t hM2 hG2
  have hgo : ∀ v : Int64, v = (if d < q then 1 else 0) → Tp (M_year_146 u (pI t 45 8 0) (nI d) v) (fun v t' => v = nI d ∧ Fr dMr t t' ∧ MI u (sN A2 (aW A2) [if d < q then 1 else 0, (nI (sm (wl (aW A2)) (gn (aG A2)))).toInt64]) t') := by
    intro v hv
    unfold M_year_146
    have f0 : Fr dMr t (pI t 45 8 0) := (Fr.refl _ _).pI (by omega)
    refine TtP (M_tell' v f0 MRw_0 (Nat.le_of_ble_eq_true rfl)) (fun t1 ⟨f1, r1, e1⟩ => ?_)
    obtain ⟨hE, hW⟩ := M_env hM2 f1
    rw [M_water_ok hu hG2.1 hE.1.1 (by omega) hW, bd_some]
    refine TtP (M_tell' _ f1 r1 (Nat.le_of_ble_eq_true rfl)) (fun t2 ⟨f2, r2, e2⟩ => ?_)
    refine Tp_some ⟨rfl, f2, MI_now hM2 (f2.mono (fun i k q => Or.inl q)) ?_ (M_env hM2 f2).2⟩
    rw [← hv]
    exact r2
  unfold M_year_130
  rw [lt_e]
  by_cases q1 : q ≤ d
  · rw [if_pos (nI_le q1 (by omega))]
    exact hgo 0 (by rw [if_neg (by omega)])
  · rw [if_neg (nI_ge (by omega) (by omega))]
    exact hgo 1 (by rw [if_pos (by omega)])
/-- the acts of the class -/
theorem year_X64 {u c : Nat} {A : AS} {e q d : Nat} {f : Nat → Nat} (hu : 20000 ≤ u) (hG : GI c A) (hY : YR f e q) (hD : YD A f q d) : ∀ (t : Sg) (Q : Int32 → Sg → Prop), XI (sTr A (aRow A)) t → XW (gn (aG A)) t 21 (aW A) → gI t 0 30 = nI q → (∀ k, k < q → XAc f (pA f k) k t) → (∀ t', Fr dXn t t' → XI (sN (sTr A (aRow A)) (yW (aG A) (aRu A) f (aW A) d) (aRow A)) t' → XW (gn (aG A)) t' 21 (aW A) → gI t' 0 30 = nI q → Tp (X_year_88 u t' (nI d)) Q) → Tp (X_year_64 u u t 0) Q := by
  obtain ⟨hP, hpl, hq30, hno⟩ := hY
  obtain ⟨hdq, hstep, hstop⟩ := hD
  have hGc : ∀ k, k ≤ q → GI (c + 1) (sN (sTr A (aRow A)) (yW (aG A) (aRu A) f (aW A) k) (aRow A)) := fun k hk => GI_yk hG hP hk
  intro t Q hXt hW21 e30 hac hQ
  refine loop_i (W := fun w k t' => Tp (X_year_64 u w t' (nI k)) Q)
    (I := fun k t' => Fr dXn t t' ∧ XI (sN (sTr A (aRow A)) (yW (aG A) (aRu A) f (aW A) k) (aRow A)) t' ∧ XW (gn (aG A)) t' 21 (aW A) ∧ gI t' 0 30 = nI q ∧ ∀ j, j < q → XAc f (pA f j) j t') d ?_ ?_ u 0 t (by omega) (by omega) ⟨Fr.refl _ _, hXt, hW21, e30, hac⟩
  · intro w t' ⟨f2, x2, w2, e2, l2⟩
    rw [X_year_64_s]
    unfold X_year_64b
    rw [e2]
    by_cases hd : d = q
    · rw [if_pos (by rw [hd]; exact nI_le (Nat.le_refl _) (by omega))]
      exact hQ t' f2 x2 w2 e2
    · have hnone := hstop.resolve_left hd
      obtain ⟨a1, a2, a3, a4⟩ := l2 d (by omega)
      obtain ⟨b1, b2, b3, b4⟩ := okA_bd (hP d (by omega))
      rw [if_neg (nI_ge (by omega) (by omega))]
      refine TpP (X_does_ok (b := bA f (pA f d)) hu x2 (hGc d (by omega)) (by omega) a1 a2 (fun h => by
        unfold bA
        rcases h with h | h
        · rw [if_pos h]; exact a3 h
        · rw [if_neg (by omega)]; exact a4 h) b1 b2 b3 b4) (fun v t3 ⟨f3, h3⟩ => ?_)
      have f3n : Fr dXn t' t3 := f3.mono (fun i k q => by omega)
      rcases h3 with ⟨_, hv, hW3⟩ | ⟨W', hy, _⟩
      · rw [hv, if_pos rfl]
        exact hQ t3 (f2.trans f3n) (XI_now (A := sN (sTr A (aRow A)) (yW (aG A) (aRu A) f (aW A) d) (aRow A)) x2 (hGc d (by omega)) f3n (x2.2.2.1.mv (f3.I (by omega)) (fun k => f3.J (by omega))) hW3) (w2.mv (fun i k p1 p2 => f3.I (by omega))) ((f3.I (by omega)).trans e2)
      · have hy : yA (aG A) (aRu A) (f (pA f d)) (f (pA f d + 1) - 48) (bA f (pA f d)) (yW (aG A) (aRu A) f (aW A) d) = some W' := hy
        rw [hnone] at hy
        cases hy
  · intro w k t' hk ⟨f2, x2, w2, e2, l2⟩ ih
    rw [X_year_64_s]
    unfold X_year_64b
    rw [e2]
    obtain ⟨a1, a2, a3, a4⟩ := l2 k (by omega)
    obtain ⟨b1, b2, b3, b4⟩ := okA_bd (hP k (by omega))
    rw [if_neg (nI_ge (by omega) (by omega))]
    refine TpP (X_does_ok (b := bA f (pA f k)) hu x2 (hGc k (by omega)) (by omega) a1 a2 (fun h => by
      unfold bA
      rcases h with h | h
      · rw [if_pos h]; exact a3 h
      · rw [if_neg (by omega)]; exact a4 h) b1 b2 b3 b4) (fun v t3 ⟨f3, h3⟩ => ?_)
    have f3n : Fr dXn t' t3 := f3.mono (fun i k q => by omega)
    rcases h3 with ⟨hy, _⟩ | ⟨W', hy, hv, hW3⟩
    · have hy : yA (aG A) (aRu A) (f (pA f k)) (f (pA f k + 1) - 48) (bA f (pA f k)) (yW (aG A) (aRu A) f (aW A) k) = none := hy
      rw [hstep k hk] at hy
      cases hy
    · have hy : yA (aG A) (aRu A) (f (pA f k)) (f (pA f k + 1) - 48) (bA f (pA f k)) (yW (aG A) (aRu A) f (aW A) k) = some W' := hy
      rw [hstep k hk] at hy
      cases hy
      rw [hv, if_neg (by decide), nI_1]
      refine ih t3 ⟨f2.trans f3n, XI_now (A := sN (sTr A (aRow A)) (yW (aG A) (aRu A) f (aW A) k) (aRow A)) x2 (hGc k (by omega)) f3n (x2.2.2.1.mv (f3.I (by omega)) (fun k => f3.J (by omega))) hW3, w2.mv (fun i k p1 p2 => f3.I (by omega)), (f3.I (by omega)).trans e2, fun j hj => ?_⟩
      obtain ⟨c1, c2, c3, c4⟩ := l2 j hj
      exact ⟨(f3.I (by omega)).trans c1, (f3.I (by omega)).trans c2, fun h => (f3.I (by omega)).trans (c3 h), fun h => (f3.I (by omega)).trans (c4 h)⟩
/-- the acts of the Model -/
theorem year_M72 {u c : Nat} {A : AS} {e q d : Nat} {f : Nat → Nat} (hu : 20000 ≤ u) (hG : GI c A) (hY : YR f e q) (hD : YD A f q d) : ∀ (t : Sg) (Q : Int32 → Sg → Prop), MI u (sTr A (aRow A)) t → MW (gn (aG A)) t 57 0 (aW A) → (∀ k, k < q → MAc f (pA f k) k t) → (∀ t', Fr dMn t t' → MI u (sN (sTr A (aRow A)) (yW (aG A) (aRu A) f (aW A) d) (aRow A)) t' → MW (gn (aG A)) t' 57 0 (aW A) → Tp (M_year_118 u t' (nI q) (nI d)) Q) → Tp (M_year_72 u u t (nI q) 0) Q := by
  obtain ⟨hP, hpl, hq30, hno⟩ := hY
  obtain ⟨hdq, hstep, hstop⟩ := hD
  have hGc : ∀ k, k ≤ q → GI (c + 1) (sN (sTr A (aRow A)) (yW (aG A) (aRu A) f (aW A) k) (aRow A)) := fun k hk => GI_yk hG hP hk
  intro t Q hMt hW57 hac hQ
  refine loop_i (W := fun w k t' => Tp (M_year_72 u w t' (nI q) (nI k)) Q)
    (I := fun k t' => Fr dMn t t' ∧ MI u (sN (sTr A (aRow A)) (yW (aG A) (aRu A) f (aW A) k) (aRow A)) t' ∧ MW (gn (aG A)) t' 57 0 (aW A) ∧ ∀ j, j < q → MAc f (pA f j) j t') d ?_ ?_ u 0 t (by omega) (by omega) ⟨Fr.refl _ _, hMt, hW57, hac⟩
  · intro w t' ⟨f2, x2, w2, l2⟩
    rw [M_year_72_s]
    unfold M_year_72b
    by_cases hd : d = q
    · rw [if_pos (by rw [hd]; exact nI_le (Nat.le_refl _) (by omega))]
      exact hQ t' f2 x2 w2
    · have hnone := hstop.resolve_left hd
      obtain ⟨a1, a2, a3, a4⟩ := l2 d (by omega)
      obtain ⟨b1, b2, b3, b4⟩ := okA_bd (hP d (by omega))
      rw [if_neg (nI_ge (by omega) (by omega)), show (3 : Int32) * nI d = nI (3 * d) from pk_mul 3 d, nI_1, show nI (3 * d) + 2 = nI (3 * d + 2) from nI_add _ 2, aI_n (by omega) (by omega), bd_some, aI_n (by omega) (by omega), bd_some, aI_n (by omega) (by omega), bd_some, a1, a2]
      refine TpP (M_act_ok (b := bA f (pA f d)) hu x2 (hGc d (by omega)) (fun h => by
        unfold bA
        rcases h with h | h
        · rw [if_pos h]; exact a3 h
        · rw [if_neg (by omega)]; exact a4 h) b1 b2 b3 b4) (fun v t3 ⟨f3, h3⟩ => ?_)
      have f3n : Fr dMn t' t3 := f3.mono (fun i k q => by omega)
      rcases h3 with ⟨_, hv, hW3⟩ | ⟨W', hy, _⟩
      · rw [hv, if_pos rfl]
        exact hQ t3 (f2.trans f3n) (MI_now (A := sN (sTr A (aRow A)) (yW (aG A) (aRu A) f (aW A) d) (aRow A)) x2 f3n (x2.2.2.1.mv (f3.I (by omega)) (fun k => f3.J (by omega))) hW3) (w2.mv (fun k => f3.I (by omega)))
      · have hy : yA (aG A) (aRu A) (f (pA f d)) (f (pA f d + 1) - 48) (bA f (pA f d)) (yW (aG A) (aRu A) f (aW A) d) = some W' := hy
        rw [hnone] at hy
        cases hy
  · intro w k t' hk ⟨f2, x2, w2, l2⟩ ih
    rw [M_year_72_s]
    unfold M_year_72b
    obtain ⟨a1, a2, a3, a4⟩ := l2 k (by omega)
    obtain ⟨b1, b2, b3, b4⟩ := okA_bd (hP k (by omega))
    rw [if_neg (nI_ge (by omega) (by omega)), show (3 : Int32) * nI k = nI (3 * k) from pk_mul 3 k, nI_1, nI_1, show nI (3 * k) + 2 = nI (3 * k + 2) from nI_add _ 2, aI_n (by omega) (by omega), bd_some, aI_n (by omega) (by omega), bd_some, aI_n (by omega) (by omega), bd_some, a1, a2]
    refine TpP (M_act_ok (b := bA f (pA f k)) hu x2 (hGc k (by omega)) (fun h => by
      unfold bA
      rcases h with h | h
      · rw [if_pos h]; exact a3 h
      · rw [if_neg (by omega)]; exact a4 h) b1 b2 b3 b4) (fun v t3 ⟨f3, h3⟩ => ?_)
    have f3n : Fr dMn t' t3 := f3.mono (fun i k q => by omega)
    rcases h3 with ⟨hy, _⟩ | ⟨W', hy, hv, hW3⟩
    · have hy : yA (aG A) (aRu A) (f (pA f k)) (f (pA f k + 1) - 48) (bA f (pA f k)) (yW (aG A) (aRu A) f (aW A) k) = none := hy
      rw [hstep k hk] at hy
      cases hy
    · have hy : yA (aG A) (aRu A) (f (pA f k)) (f (pA f k + 1) - 48) (bA f (pA f k)) (yW (aG A) (aRu A) f (aW A) k) = some W' := hy
      rw [hstep k hk] at hy
      cases hy
      rw [hv, if_neg (by decide)]
      refine ih t3 ⟨f2.trans f3n, MI_now (A := sN (sTr A (aRow A)) (yW (aG A) (aRu A) f (aW A) k) (aRow A)) x2 f3n (x2.2.2.1.mv (f3.I (by omega)) (fun k => f3.J (by omega))) hW3, w2.mv (fun k => f3.I (by omega)), fun j hj => ?_⟩
      obtain ⟨c1, c2, c3, c4⟩ := l2 j hj
      exact ⟨(f3.I (by omega)).trans c1, (f3.I (by omega)).trans c2, fun h => (f3.I (by omega)).trans (c3 h), fun h => (f3.I (by omega)).trans (c4 h)⟩
