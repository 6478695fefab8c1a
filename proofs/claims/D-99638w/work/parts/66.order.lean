/-! LAW: order -/
set_option maxRecDepth 100000
def anB (a b : Nat) : Nat := a ^^^ (a &&& b)
theorem anB_e : ∀ a, a < 64 → ∀ b, b < 64 → nI a &&& (nI b ^^^ (-1)) = nI (anB a b) ∧ anB a b < 64 := by decide +kernel
theorem anB_bt (a b k : Nat) : bt (anB a b) k = if bt a k = 1 ∧ bt b k = 0 then 1 else 0 := by
  unfold anB
  have h1 := bt_lt a k
  have h2 := bt_lt b k
  have h3 := bt_and a b k
  rw [bt_xor]
  by_cases ha : bt a k = 1 <;> by_cases hb : bt b k = 1
  · rw [if_pos ⟨ha, hb⟩] at h3
    rw [if_pos h3, if_neg (by omega)]; omega
  · rw [if_neg (fun q => hb q.2)] at h3
    rw [if_neg (by omega), if_pos (by omega)]; omega
  · rw [if_neg (fun q => ha q.1)] at h3
    rw [if_neg (by omega), if_neg (by omega)]; omega
  · rw [if_neg (fun q => ha q.1)] at h3
    rw [if_neg (by omega), if_neg (by omega)]; omega
theorem pop_or : ∀ a, a < 64 → ∀ j, j < 6 → bt a j = 0 → pop (a ||| 2 ^ j) = pop a + 1 := by decide +kernel
theorem or64 : ∀ a, a < 64 → ∀ j, j < 6 → a ||| 2 ^ j < 64 := by decide +kernel
/-- the ones that are new: set and row, lake by lake -/
def odI (mo : Nat) : Nat → Nat × List Int64 → Nat × List Int64
  | 0, q => q
  | j + 1, q => if bt mo j = 1 then ((odI mo j q).1 ||| 2 ^ j, (odI mo j q).2 ++ [(nI j).toInt64]) else odI mo j q
theorem odI_s (mo j : Nat) (q : Nat × List Int64) : odI mo (j + 1) q = if bt mo j = 1 then ((odI mo j q).1 ||| 2 ^ j, (odI mo j q).2 ++ [(nI j).toInt64]) else odI mo j q := rfl
theorem odI_bt (mo : Nat) (q : Nat × List Int64) (j k : Nat) : bt (odI mo j q).1 k = if k < j ∧ bt mo k = 1 then 1 else bt q.1 k := by
  induction j with
  | zero => rw [if_neg (by omega)]; rfl
  | succ j ih =>
    rw [odI_s]
    by_cases e : bt mo j = 1
    · rw [if_pos e]
      dsimp only
      rw [bt_or_pow]
      by_cases q2 : k = j
      · subst q2
        rw [upN_s, if_pos ⟨by omega, e⟩]
      · rw [upN_n q2, ih]
        by_cases q3 : k < j ∧ bt mo k = 1
        · rw [if_pos q3, if_pos ⟨by omega, q3.2⟩]
        · rw [if_neg q3, if_neg (by omega)]
    · rw [if_neg e, ih]
      by_cases q3 : k < j ∧ bt mo k = 1
      · rw [if_pos q3, if_pos ⟨by omega, q3.2⟩]
      · have : ¬ (k < j + 1 ∧ bt mo k = 1) := fun q => by
          by_cases q4 : k = j
          · subst q4
            exact e q.2
          · exact q3 ⟨by omega, q.2⟩
        rw [if_neg q3, if_neg this]
theorem odI_ok {mo : Nat} {q : Nat × List Int64} {j : Nat} (hj : j ≤ 6) (h : q.1 < 64) (hr : q.2.length = pop q.1) (hd : ∀ k, bt mo k = 1 → bt q.1 k = 0) : (odI mo j q).1 < 64 ∧ (odI mo j q).2.length = pop (odI mo j q).1 := by
  induction j with
  | zero => exact ⟨h, hr⟩
  | succ j ih =>
    have ih := ih (by omega)
    rw [odI_s]
    by_cases e : bt mo j = 1
    · rw [if_pos e]
      dsimp only
      have hb : bt (odI mo j q).1 j = 0 := by rw [odI_bt, if_neg (by omega)]; exact hd j e
      refine ⟨or64 _ ih.1 j (by omega), ?_⟩
      rw [pop_or _ ih.1 j (by omega) hb, List.length_append, ih.2]
      rfl
    · rw [if_neg e]
      exact ih
def odM (W : Wt) (n b : Nat) : Nat := anB (mkB (fun k => decide (wl W k = 0)) n) b
def odS (g : Geo) (ru : Ru) (W : Wt) : Nat → Nat × List Int64
  | 0 => (0, [])
  | d + 1 => odI (odM (dyN g ru d W) (gn g) (odS g ru W d).1) (gn g) (odS g ru W d)
theorem odS_s (g : Geo) (ru : Ru) (W : Wt) (d : Nat) : odS g ru W (d + 1) = odI (odM (dyN g ru d W) (gn g) (odS g ru W d).1) (gn g) (odS g ru W d) := rfl
theorem odM_d (W : Wt) (n b k : Nat) (h : bt (odM W n b) k = 1) : bt b k = 0 := by
  unfold odM at h
  rw [anB_bt] at h
  split at h
  · rename_i q
    exact q.2
  · cases h
theorem odS_ok {g : Geo} (ru : Ru) (W : Wt) (h6 : gn g ≤ 6) (d : Nat) : (odS g ru W d).1 < 64 ∧ (odS g ru W d).2.length = pop (odS g ru W d).1 := by
  induction d with
  | zero => exact ⟨by show 0 < 64; decide, by show 0 = pop 0; decide⟩
  | succ d ih =>
    rw [odS_s]
    exact odI_ok h6 ih.1 ih.2 (odM_d _ _ _)
theorem op_order {u c : Nat} {s : Sg} {A : AS} (hu : 20000 ≤ u) (hX : XI A s) (hM : MI u A s) (hG : GI c A) (x : Int32) : Bth u c s (X_order u s x) (fun t => M_order u t x) := by
  have h6 := hG.1.1
  have h64 := two6 hG.1.1
  rcases in_or2 x 0 99 (by omega) (by omega) with ⟨m, hm0, hm, e⟩ | hno
  rotate_left
  · refine both_no (-1) hX hM hG ?_ (fun t ht => ?_)
    · unfold X_order
      rw [Xin_0_99, gd_e, if_neg hno]
    · unfold M_order
      rw [lt_e, Min_0_99, gd_e, if_neg hno] <;> rfl
  subst e
  refine both_row (nI (odS (aG A) (aRu A) (aW A) (m + 1)).2.length) (odS (aG A) (aRu A) (aW A) (m + 1)).2 hX hM hG ?_ (fun t ht => ?_)
  · unfold X_order
    rw [Xin_0_99, gd_e, if_pos (in_yes2 hm0 hm (by omega))]
    refine TtP (X_try' hX hG (Fr.refl _ _)) (fun t1 h1 => ?_)
    rw [lt_e]
    refine loop_i (W := fun f d t' => Tp (X_order_34 u f t' (nI m) (nI (odS (aG A) (aRu A) (aW A) d).1) (nI d)) _)
      (I := fun d t' => Fr dXr s t' ∧ XW (gn (aG A)) t' 6 (dyN (aG A) (aRu A) d (aW A)) ∧ XRow (odS (aG A) (aRu A) (aW A) d).2 t') (m + 1) ?_ ?_ u 0 _ (by omega) (by omega) ⟨h1.1.pI (by omega), h1.2.1.r0 (by omega), XRow_0⟩
    · intro f t' ⟨hF, hW, hr⟩
      rw [X_order_34_s]
      unfold X_order_34b
      rw [if_pos (nI_lt (by omega) (by omega)), hr.1]
      exact Tp_some ⟨rfl, hF, hr⟩
    · intro f d t' hd ⟨hF, hW, hr⟩ ih
      have hok := odS_ok (g := aG A) (aRu A) (aW A) h6 d
      have hg := dyN_good (ru := aRu A) hG.2.1 d
      have hmk := mkB_lt (fun k => decide (wl (dyN (aG A) (aRu A) d (aW A)) k = 0)) (gn (aG A))
      have han := anB_e (mkB (fun k => decide (wl (dyN (aG A) (aRu A) d (aW A)) k = 0)) (gn (aG A))) (by omega) (odS (aG A) (aRu A) (aW A) d).1 hok.1
      rw [X_order_34_s]
      unfold X_order_34b
      rw [if_neg (nI_nlt (by omega) (by omega)), X_dryOnes_ok hu hG.1 hg (X_env hX hF).1.2.1 (by omega) hW, bd_some, lt_e, han.1]
      have hmo : anB (mkB (fun k => decide (wl (dyN (aG A) (aRu A) d (aW A)) k = 0)) (gn (aG A))) (odS (aG A) (aRu A) (aW A) d).1 = odM (dyN (aG A) (aRu A) d (aW A)) (gn (aG A)) (odS (aG A) (aRu A) (aW A) d).1 := rfl
      rw [hmo] at han ⊢
      have hdd := odM_d (dyN (aG A) (aRu A) d (aW A)) (gn (aG A)) (odS (aG A) (aRu A) (aW A) d).1
      have hss := odS_s (aG A) (aRu A) (aW A) d
      have hmlt : odM (dyN (aG A) (aRu A) d (aW A)) (gn (aG A)) (odS (aG A) (aRu A) (aW A) d).1 < 2 ^ gn (aG A) := Nat.xor_lt_two_pow hmk (Nat.lt_of_le_of_lt Nat.and_le_left hmk)
      generalize odM (dyN (aG A) (aRu A) d (aW A)) (gn (aG A)) (odS (aG A) (aRu A) (aW A) d).1 = mo at han hdd hss hmlt ⊢
      refine loop_i (W := fun f2 j t' => Tp (X_order_56 u (X_order_34 u f) f2 t' (nI m) (nI (odS (aG A) (aRu A) (aW A) d).1) (nI d) (nI mo) (nI j)) _)
        (I := fun j t' => Fr dXr s t' ∧ XW (gn (aG A)) t' 6 (dyN (aG A) (aRu A) d (aW A)) ∧ XRow (odI mo j (odS (aG A) (aRu A) (aW A) d)).2 t') (gn (aG A)) ?_ ?_ u 0 _ (by omega) (by omega) ⟨hF, hW, hr⟩
      · intro f2 t2 ⟨hF2, hW2, hr2⟩
        rw [X_order_56_s]
        unfold X_order_56b
        rw [(X_env hX hF2).1.2.1.1, if_pos (nI_le (Nat.le_refl _) (by omega)), lt_e, nI_or (by omega) (by omega), nI_1]
        have e : (odS (aG A) (aRu A) (aW A) d).1 ||| mo = (odS (aG A) (aRu A) (aW A) (d + 1)).1 := by
          rw [hss]
          refine bt_ext (fun k => ?_)
          rw [odI_bt, bt_or]
          have hb := bt_lt (odS (aG A) (aRu A) (aW A) d).1 k
          by_cases q : bt mo k = 1
          · have hk : k < gn (aG A) := by
              by_cases q2 : k < gn (aG A)
              · exact q2
              · have := bt_big hmlt (show gn (aG A) ≤ k by omega)
                omega
            rw [if_pos (Or.inr q), if_pos ⟨hk, q⟩]
          · rw [if_neg (show ¬ (k < gn (aG A) ∧ bt mo k = 1) by omega)]
            by_cases q2 : bt (odS (aG A) (aRu A) (aW A) d).1 k = 1
            · rw [if_pos (Or.inl q2), q2]
            · rw [if_neg (by omega)]
              omega
        rw [e]
        refine TtP (X_tday hu hX hG hF2 hW2 hg) (fun t3 h3 => ih t3 ⟨h3.1, h3.2.1, ?_⟩)
        rw [hss]
        exact hr2.mv (h3.2.2.I (by omega)) (fun k => h3.2.2.J (by omega))
      · intro f2 j t2 hj ⟨hF2, hW2, hr2⟩ ih2
        have hbt := bt_lt mo j
        have hok2 := odI_ok (mo := mo) (j := j) (by omega) hok.1 hok.2 hdd
        have hpl := pop_le (odI mo j (odS (aG A) (aRu A) (aW A) d)).1
        rw [X_order_56_s]
        unfold X_order_56b
        rw [(X_env hX hF2).1.2.1.1, if_neg (nI_ge hj (by omega)), X_has_n (by omega) (by omega), bd_some, nI_1]
        rw [odI_s] at ih2
        by_cases e : bt mo j = 1
        · rw [if_pos e] at ih2
          rw [e, if_neg (by decide)]
          refine TtP (X_tell' _ hF2 hr2 (by omega)) (fun t3 h3 => ih2 t3 ⟨h3.1, hW2.g (by omega) h3.2.2, h3.2.1⟩)
        · rw [if_neg e] at ih2
          have e0 : bt mo j = 0 := by omega
          rw [e0, if_pos nI_0]
          exact ih2 t2 ⟨hF2, hW2, hr2⟩
  · unfold M_order
    rw [lt_e, Min_0_99, gd_e, if_pos (in_yes2 hm0 hm (by omega))]
    refine TtP (M_try' hu ht hG M_th) (fun t1 h1 => ?_)
    rw [lt_e]
    refine loop_i (W := fun f d t' => Tp (M_order_38 u f t' (nI m) (nI (odS (aG A) (aRu A) (aW A) d).1) (nI d)) _)
      (I := fun d t' => Fr dMr t t' ∧ MW (gn (aG A)) t' 58 0 (dyN (aG A) (aRu A) d (aW A)) ∧ MRw (odS (aG A) (aRu A) (aW A) d).2 t') (m + 1) ?_ ?_ u 0 _ (by omega) (by omega) ⟨h1.1.pI (by omega), h1.2.1.r0 (by omega), MRw_0⟩
    · intro f t' ⟨hF, hW, hr⟩
      rw [M_order_38_s]
      unfold M_order_38b
      rw [if_pos (nI_lt (by omega) (by omega)), hr.1]
      exact Tp_some ⟨rfl, hF, hr⟩
    · intro f d t' hd ⟨hF, hW, hr⟩ ih
      have hok := odS_ok (g := aG A) (aRu A) (aW A) h6 d
      have hg := dyN_good (ru := aRu A) hG.2.1 d
      rw [M_order_38_s]
      unfold M_order_38b
      rw [if_neg (nI_nlt (by omega) (by omega))]
      have hdd := odM_d (dyN (aG A) (aRu A) d (aW A)) (gn (aG A)) (odS (aG A) (aRu A) (aW A) d).1
      have hss := odS_s (aG A) (aRu A) (aW A) d
      have hmb : ∀ k, k < gn (aG A) → bt (odM (dyN (aG A) (aRu A) d (aW A)) (gn (aG A)) (odS (aG A) (aRu A) (aW A) d).1) k = if wl (dyN (aG A) (aRu A) d (aW A)) k = 0 ∧ bt (odS (aG A) (aRu A) (aW A) d).1 k = 0 then 1 else 0 := fun k hk => by
        unfold odM
        rw [anB_bt, mkB_bt _ _ _ hk]
        by_cases q : wl (dyN (aG A) (aRu A) d (aW A)) k = 0
        · rw [decide_eq_true q]
          simp only [if_true, true_and, q]
        · rw [decide_eq_false q]
          simp only [Bool.false_eq_true, if_false, q, false_and]
          rfl
      generalize odM (dyN (aG A) (aRu A) d (aW A)) (gn (aG A)) (odS (aG A) (aRu A) (aW A) d).1 = mo at hdd hss hmb
      refine loop_i (W := fun f2 j t' => Tp (M_order_46 u (M_order_38 u f) f2 t' (nI m) (nI (odI mo j (odS (aG A) (aRu A) (aW A) d)).1) (nI d) (nI j)) _)
        (I := fun j t' => Fr dMr t t' ∧ MW (gn (aG A)) t' 58 0 (dyN (aG A) (aRu A) d (aW A)) ∧ MRw (odI mo j (odS (aG A) (aRu A) (aW A) d)).2 t') (gn (aG A)) ?_ ?_ u 0 _ (by omega) (by omega) ⟨hF, hW, hr⟩
      · intro f2 t2 ⟨hF2, hW2, hr2⟩
        rw [M_order_46_s]
        unfold M_order_46b
        rw [(M_env ht hF2).1.1.1.1, if_pos (nI_le (Nat.le_refl _) (by omega)), nI_1, ← hss]
        refine TtP (M_tday hu ht hG hF2 hW2 hg) (fun t3 h3 => ih t3 ⟨h3.1, h3.2.1, ?_⟩)
        rw [hss]
        exact hr2.mv (h3.2.2.I (by omega)) (fun k => h3.2.2.J (by omega))
      · intro f2 j t2 hj ⟨hF2, hW2, hr2⟩ ih2
        have hbt := bt_lt (odS (aG A) (aRu A) (aW A) d).1 j
        have hok2 := odI_ok (mo := mo) (j := j) (by omega) hok.1 hok.2 hdd
        have hpl := pop_le (odI mo j (odS (aG A) (aRu A) (aW A) d)).1
        have hl := lev99 hG.1 hg hj
        have hpj : 2 ^ j < 2 ^ gn (aG A) := Nat.pow_lt_pow_right (by omega) hj
        rw [M_order_46_s]
        unfold M_order_46b
        rw [(M_env ht hF2).1.1.1.1, if_neg (nI_ge hj (by omega)), aI_n (by omega) (by omega), bd_some, (MW_row hW2).1 j hj, nI_1]
        rw [odI_s] at ih2
        have hmj := hmb j hj
        by_cases e : wl (dyN (aG A) (aRu A) d (aW A)) j = 0
        · have ebt : bt (odI mo j (odS (aG A) (aRu A) (aW A) d)).1 j = bt (odS (aG A) (aRu A) (aW A) d).1 j := by rw [odI_bt, if_neg (by omega)]
          rw [e, if_neg (by decide), M_has_n (by omega) (by omega), bd_some, ebt]
          by_cases e2 : bt (odS (aG A) (aRu A) (aW A) d).1 j = 0
          · rw [if_pos ⟨e, e2⟩] at hmj
            rw [if_pos hmj] at ih2
            rw [e2, if_pos nI_0, lt_e, nI_shl1 (by omega), nI_or (by omega) (by omega)]
            exact TtP (M_tell' _ hF2 hr2 (by omega)) (fun t3 h3 => ih2 t3 ⟨h3.1, hW2.g (by omega) h3.2.2, h3.2.1⟩)
          · rw [if_neg (fun q => e2 q.2)] at hmj
            rw [if_neg (by omega)] at ih2
            have e1 : bt (odS (aG A) (aRu A) (aW A) d).1 j = 1 := by omega
            rw [e1, if_neg (by decide)]
            exact ih2 t2 ⟨hF2, hW2, hr2⟩
        · rw [if_neg (fun q => e q.1)] at hmj
          rw [if_neg (by omega)] at ih2
          rw [nI_lit0, if_pos (nI_lt (by omega) (by omega))]
          exact ih2 t2 ⟨hF2, hW2, hr2⟩
