/-! LAW: what is asked of the lakes as they are: course, basin, threat, treaty -/
set_option maxRecDepth 100000
/-! ### course: the lakes down from one -/
def crR (g : Geo) : Nat → Option Nat → List Int64
  | 0, _ => []
  | _ + 1, none => []
  | f + 1, some d => (nI d).toInt64 :: crR g f (gd g d)
theorem op_course {u c : Nat} {s : Sg} {A : AS} (hu : 20000 ≤ u) (hX : XI A s) (hM : MI u A s) (hG : GI c A) (x : Int32) : Bth u c s (X_course u s x) (fun t => M_course u t x) := by
  have h6 := hG.1.1
  rcases in_n x (gn (aG A)) (by omega) with ⟨i, hi, e⟩ | hno
  rotate_left
  · refine both_no (-1) hX hM hG ?_ (fun t ht => ?_)
    · unfold X_course
      rw [X_isL hX, gd_e, if_neg hno]
    · unfold M_course
      rw [lt_e, M_isL ht, gd_e, if_neg hno] <;> rfl
  subst e
  refine both_row (nI (crR (aG A) (i + 2) (some i)).length) (crR (aG A) (i + 2) (some i)) hX hM hG ?_ (fun t ht => ?_)
  · unfold X_course
    rw [X_isL hX, gd_e, if_pos (in_nyes hi (by omega)), lt_e]
    -- from a lake on: by the lakes' number
    have key : ∀ (k : Nat) (f : Nat) (o : Option Nat) (r : List Int64) (t : Sg), (∀ d, o = some d → d < k) → k ≤ gn (aG A) → k < f → r.length + k ≤ 16 → Fr dXr s t → XRow r t → Tp (X_course_17 u f t (oI o)) (fun v t' => v = nI (r ++ crR (aG A) (k + 1) o).length ∧ Fr dXr s t' ∧ XRow (r ++ crR (aG A) (k + 1) o) t') := by
      intro k
      induction k with
      | zero =>
        intro f o r t ho hk hf hl hF hr
        cases f with
        | zero => omega
        | succ f =>
          cases o with
          | some d => exact absurd (ho d rfl) (Nat.not_lt_zero _)
          | none =>
            rw [X_course_17_s]
            unfold X_course_17b
            rw [if_pos (by decide), hr.1]
            show Tp _ (fun v t' => v = nI (r ++ []).length ∧ Fr dXr s t' ∧ XRow (r ++ []) t')
            rw [List.append_nil]
            exact Tp_some ⟨rfl, hF, hr⟩
      | succ k ih =>
        intro f o r t ho hk hf hl hF hr
        cases f with
        | zero => omega
        | succ f =>
          cases o with
          | none =>
            rw [X_course_17_s]
            unfold X_course_17b
            rw [if_pos (by decide), hr.1]
            show Tp _ (fun v t' => v = nI (r ++ []).length ∧ Fr dXr s t' ∧ XRow (r ++ []) t')
            rw [List.append_nil]
            exact Tp_some ⟨rfl, hF, hr⟩
          | some d =>
            have hd := ho d rfl
            rw [X_course_17_s]
            unfold X_course_17b
            show Tp (if nI d < 0 then _ else ((X_tells t (nI d).toInt64).bind fun s1 => (aI s1 13 6 (nI d)).bind fun v2 => X_course_17 u f s1 v2)) _
            rw [if_neg (nI_pos (by omega))]
            refine TtP (X_tell' _ hF hr (by omega)) (fun t2 h2 => ?_)
            rw [aI_n (by omega) (by omega), bd_some, ((X_env hX h2.1).1.2.1.2 d (by omega)).2.2]
            have := ih f (gd (aG A) d) (r ++ [(nI d).toInt64]) t2 (fun e he => by have := (hG.1.2 d (by omega)).2.2.2 e he; omega) (by omega) (by omega) (by rw [List.length_append]; show r.length + 1 + k ≤ 16; omega) h2.1 h2.2.1
            rw [List.append_assoc] at this
            exact this
    have := key (i + 1) u (some i) [] (pI s 0 48 0) (fun d hd => by cases hd; omega) (by omega) (by omega) (by show 0 + (i + 1) ≤ 16; omega) ((Fr.refl _ _).pI (by omega)) XRow_0
    rw [List.nil_append] at this
    exact this
  · unfold M_course
    rw [lt_e, M_isL ht, gd_e, if_pos (in_nyes hi (by omega)), lt_e]
    -- from a lake on: by the lakes' number
    have key : ∀ (k : Nat) (f : Nat) (o : Option Nat) (r : List Int64) (t1 : Sg), (∀ d, o = some d → d < k) → k ≤ gn (aG A) → k < f → r.length + k ≤ 16 → Fr dMr t t1 → MRw r t1 → Tp (M_course_22 u f t1 (oI o)) (fun v t' => v = nI (r ++ crR (aG A) (k + 1) o).length ∧ Fr dMr t t' ∧ MRw (r ++ crR (aG A) (k + 1) o) t') := by
      intro k
      induction k with
      | zero =>
        intro f o r t1 ho hk hf hl hF hr
        cases f with
        | zero => omega
        | succ f =>
          cases o with
          | some d => exact absurd (ho d rfl) (Nat.not_lt_zero _)
          | none =>
            rw [M_course_22_s]
            unfold M_course_22b
            rw [if_pos (show oI none = -1 from rfl), hr.1]
            show Tp _ (fun v t' => v = nI (r ++ []).length ∧ Fr dMr t t' ∧ MRw (r ++ []) t')
            rw [List.append_nil]
            exact Tp_some ⟨rfl, hF, hr⟩
      | succ k ih =>
        intro f o r t1 ho hk hf hl hF hr
        cases f with
        | zero => omega
        | succ f =>
          cases o with
          | none =>
            rw [M_course_22_s]
            unfold M_course_22b
            rw [if_pos (show oI none = -1 from rfl), hr.1]
            show Tp _ (fun v t' => v = nI (r ++ []).length ∧ Fr dMr t t' ∧ MRw (r ++ []) t')
            rw [List.append_nil]
            exact Tp_some ⟨rfl, hF, hr⟩
          | some d =>
            have hd := ho d rfl
            rw [M_course_22_s]
            unfold M_course_22b
            show Tp (if nI d = -1 then _ else ((M_tell t1 (nI d).toInt64).bind fun s1 => (aI s1 49 6 (nI d)).bind fun v2 => M_course_22 u f s1 v2)) _
            rw [if_neg (m1_lt (by omega))]
            refine TtP (M_tell' _ hF hr (by omega)) (fun t2 h2 => ?_)
            rw [aI_n (by omega) (by omega), bd_some, ((M_env ht h2.1).1.1.1.2 d (by omega)).2.2]
            have := ih f (gd (aG A) d) (r ++ [(nI d).toInt64]) t2 (fun e he => by have := (hG.1.2 d (by omega)).2.2.2 e he; omega) (by omega) (by omega) (by rw [List.length_append]; show r.length + 1 + k ≤ 16; omega) h2.1 h2.2.1
            rw [List.append_assoc] at this
            exact this
    have := key (i + 1) u (some i) [] (pI (pI t 45 9 0) 45 8 0) (fun d hd => by cases hd; omega) (by omega) (by omega) (by show 0 + (i + 1) ≤ 16; omega) (M_th.pI (by omega)) MRw_0
    rw [List.nil_append] at this
    exact this
/-! ### basin: the lakes that run into one -/
/-- from o on down: is i met? -/
def rcN (g : Geo) (i : Nat) : Nat → Option Nat → Bool
  | 0, _ => false
  | _ + 1, none => false
  | f + 1, some d => if d = i then true else rcN g i f (gd g d)
theorem rcN_up {g : Geo} (hg : GoodG g) (i : Nat) : ∀ (k f : Nat) (o : Option Nat), (∀ d, o = some d → d < k) → k ≤ gn g → k < f → rcN g i f o = rcN g i (k + 1) o := by
  intro k
  induction k with
  | zero =>
    intro f o ho hk hf
    cases f with
    | zero => omega
    | succ f =>
      cases o with
      | none => rfl
      | some d => exact absurd (ho d rfl) (Nat.not_lt_zero _)
  | succ k ih =>
    intro f o ho hk hf
    cases f with
    | zero => omega
    | succ f =>
      cases o with
      | none => rfl
      | some d =>
        have hd := ho d rfl
        show (if d = i then true else rcN g i f (gd g d)) = (if d = i then true else rcN g i (k + 1) (gd g d))
        by_cases e : d = i
        · rw [if_pos e, if_pos e]
        · rw [if_neg e, if_neg e]
          exact ih f (gd g d) (fun q hq => by have := (hg.2 d (by omega)).2.2.2 q hq; omega) (by omega) (by omega)
def inB (g : Geo) (i k : Nat) : Bool := rcN g i 7 (gd g k)
/-- into i at last: at once, or over the next -/
theorem inB_e {g : Geo} (hg : GoodG g) {i k : Nat} (hk : k < gn g) : inB g i k = match gd g k with
    | none => false
    | some d => if d = i then true else inB g i d := by
  unfold inB
  cases h : gd g k with
  | none => rfl
  | some d =>
    have hd := (hg.2 k hk).2.2.2 d h
    show (if d = i then true else rcN g i 6 (gd g d)) = (if d = i then true else rcN g i 7 (gd g d))
    have h6 := hg.1
    have hq : ∀ q, gd g d = some q → q < d := fun q hq => (hg.2 d (by omega)).2.2.2 q hq
    rw [rcN_up hg i d 6 (gd g d) hq (by omega) (by omega), rcN_up hg i d 7 (gd g d) hq (by omega) (by omega)]
theorem inB_lt {g : Geo} (hg : GoodG g) {i : Nat} : ∀ k, k < gn g → inB g i k = true → i < k := by
  intro k
  induction k using Nat.strongRecOn with
  | ind k ih =>
    intro hk h
    rw [inB_e hg hk] at h
    cases hd : gd g k with
    | none => rw [hd] at h; cases h
    | some d =>
      rw [hd] at h
      have hdk := (hg.2 k hk).2.2.2 d hd
      dsimp only at h
      by_cases e : d = i
      · omega
      · rw [if_neg e] at h
        have := ih d hdk (by omega) h
        omega
def toB (g : Geo) (i n : Nat) : Nat := sm (fun k => if gd g k = some i then 1 else 0) n
theorem op_basin {u c : Nat} {s : Sg} {A : AS} (hu : 20000 ≤ u) (hX : XI A s) (hM : MI u A s) (hG : GI c A) (x : Int32) : Bth u c s (X_basin u s x) (fun t => M_basin u t x) := by
  have h6 := hG.1.1
  have h64 := two6 hG.1.1
  rcases in_n x (gn (aG A)) (by omega) with ⟨i, hi, e⟩ | hno
  rotate_left
  · refine both_no (-1) hX hM hG ?_ (fun t ht => ?_)
    · unfold X_basin
      rw [X_isL hX, gd_e, if_neg hno]
    · unfold M_basin
      rw [lt_e, M_isL ht, gd_e, if_neg hno] <;> rfl
  subst e
  have hmk := fun j => mkB_lt (inB (aG A) i) j
  refine both_row (nI (mkB (inB (aG A) i) (gn (aG A)))) [(nI (smB (wl (aW A)) (mkB (inB (aG A) i) (gn (aG A))) (gn (aG A)))).toInt64, (nI (toB (aG A) i (gn (aG A)))).toInt64] hX hM hG ?_ (fun t ht => ?_)
  · have hpi : ∀ k, k < gn (aG A) → k ≠ i → (inB (aG A) i k || decide (k = i)) = inB (aG A) i k := fun k hk e => by rw [decide_eq_false e, Bool.or_false]
    have h0 : mkB (fun k => inB (aG A) i k || decide (k = i)) (i + 1) = 2 ^ i := by
      have hz : ∀ k, k ≤ i → mkB (fun k => inB (aG A) i k || decide (k = i)) k = 0 := by
        intro k
        induction k with
        | zero => intro _; rfl
        | succ k ih =>
          intro hk
          have e : inB (aG A) i k = false := by
            cases h : inB (aG A) i k with
            | false => rfl
            | true => exact absurd (inB_lt hG.1 k (by omega) h) (by omega)
          rw [mkB_s]
          rw [hpi k (by omega) (by omega), e, ih (by omega)]
          rfl
      rw [mkB_s, hz i (Nat.le_refl _)]
      rw [decide_eq_true rfl, Bool.or_true, if_pos rfl, Nat.zero_or]
    have ht0 : toB (aG A) i (i + 1) = 0 := by
      have : toB (aG A) i (i + 1) ≤ (i + 1) * 0 := sm_le (fun k hk => by
        rw [if_neg (fun h => by have := (hG.1.2 k (by omega)).2.2.2 i h; omega)]
        omega)
      omega
    have hmp := fun j => mkB_lt (fun k => inB (aG A) i k || decide (k = i)) j
    unfold X_basin
    rw [X_isL hX, gd_e, if_pos (in_nyes hi (by omega)), lt_e, lt_e, nI_shl1 (by omega), nI_1]
    have key := loop_i (W := fun f j (_ : Unit) => Tp (X_basin_21 u f s (nI i) (nI (mkB (fun k => inB (aG A) i k || decide (k = i)) j)) (nI (toB (aG A) i j)) (nI j)) (fun v t => v = nI (mkB (inB (aG A) i) (gn (aG A))) ∧ Fr dXr s t ∧ XRow [(nI (smB (wl (aW A)) (mkB (inB (aG A) i) (gn (aG A))) (gn (aG A)))).toInt64, (nI (toB (aG A) i (gn (aG A)))).toInt64] t))
      (I := fun j _ => i < j) (gn (aG A)) ?_ ?_ u (i + 1) () (by omega) (by omega) (by omega)
    · rw [h0, ht0] at key
      exact key
    · intro f _ _
      rw [X_basin_21_s]
      unfold X_basin_21b
      have hF0 : Fr dXr s (pI s 0 48 0) := (Fr.refl _ _).pI (by omega)
      have hpi2 : 2 ^ i < 2 ^ gn (aG A) := Nat.pow_lt_pow_right (by omega) hi
      have hmg := hmp (gn (aG A))
      have hmg2 := hmk (gn (aG A))
      have han := (anB_e (mkB (fun k => inB (aG A) i k || decide (k = i)) (gn (aG A))) (by omega) (2 ^ i) (by omega)).1
      have he : anB (mkB (fun k => inB (aG A) i k || decide (k = i)) (gn (aG A))) (2 ^ i) = mkB (inB (aG A) i) (gn (aG A)) := by
        refine bt_ext (fun k => ?_)
        rw [anB_bt, bt_pow]
        by_cases hk : k < gn (aG A)
        · rw [mkB_bt _ _ _ hk, mkB_bt _ _ _ hk]
          by_cases e : i = k
          · have hf : inB (aG A) i k = false := by
              cases h : inB (aG A) i k with
              | false => rfl
              | true => exact absurd (inB_lt hG.1 k hk h) (by omega)
            rw [hf, if_neg (fun q => by rw [if_pos e] at q; exact absurd q.2 (by decide))]
            rfl
          · rw [hpi k hk (fun q => e q.symm), if_neg e]
            cases inB (aG A) i k <;> rfl
        · rw [bt_big hmg (by omega), bt_big hmg2 (by omega), if_neg (fun q => absurd q.1 (by decide))]
      rw [hX.1.2.1.1, if_pos (nI_le (Nat.le_refl _) (by omega)), nI_shl1 (by omega), lt_e, han, he, lt_e, X_sumOf_ok hu hG.1 (X_env hX hF0).1.2.1 (by decide) (by decide) (by decide) (by omega) (X_env hX hF0).2.1, bd_some]
      exact TtP (X_tell' _ hF0 XRow_0 (Nat.le_of_ble_eq_true rfl)) (fun t3 h3 => TtP (X_tell' _ h3.1 h3.2.1 (Nat.le_of_ble_eq_true rfl)) (fun t4 h4 => Tp_some ⟨rfl, h4.1, h4.2.1⟩))
    · intro f j _ hj hij ih
      have ih := ih () (by omega)
      have hmj := hmp j
      have hp5 : 2 ^ j ≤ 2 ^ 5 := Nat.pow_le_pow_right (by omega) (by omega)
      have hs2 : toB (aG A) i (j + 1) = toB (aG A) i j + (if gd (aG A) j = some i then 1 else 0) := rfl
      have hms := mkB_s (fun k => inB (aG A) i k || decide (k = i)) j
      rw [hpi j hj (by omega)] at hms
      have hin := inB_e hG.1 (i := i) hj
      rw [X_basin_21_s]
      unfold X_basin_21b
      rw [hX.1.2.1.1, if_neg (nI_ge hj (by omega)), aI_n (by omega) (by omega), bd_some, (hX.1.2.1.2 j hj).2.2, nI_1]
      cases hd : gd (aG A) j with
      | none =>
        rw [hd] at hin hs2
        dsimp only at hin
        rw [hin] at hms
        rw [if_neg (by intro h; cases h)] at hs2
        simp only [Bool.false_eq_true, if_false] at hms
        rw [hms, hs2] at ih
        rw [if_pos (by decide)]
        exact ih
      | some d =>
        have hdj := (hG.1.2 j hj).2.2.2 d hd
        rw [hd] at hin hs2
        dsimp only at hin
        have hbt : bt (mkB (fun k => inB (aG A) i k || decide (k = i)) j) d = if inB (aG A) i j then 1 else 0 := by
          rw [mkB_bt _ _ _ hdj, hin]
          by_cases e : d = i
          · rw [decide_eq_true e, Bool.or_true, if_pos e]
          · rw [decide_eq_false e, Bool.or_false, if_neg e]
        show Tp (if nI d < 0 then _ else ((some (nI d)).bind fun v7 => (X_has _ v7).bind fun v8 => if v8 = 0 then _ else (lt_ _ fun c9 => (some (nI d)).bind fun v10 => _))) _
        rw [if_neg (nI_pos (by omega)), bd_some, X_has_n (by omega) (by omega), bd_some, hbt]
        cases hb : inB (aG A) i j with
        | false =>
          rw [hb] at hms hin
          simp only [Bool.false_eq_true, if_false] at hms
          have hdi : d ≠ i := fun e => by rw [if_pos e] at hin; cases hin
          rw [if_neg (fun h => hdi (by cases h; rfl))] at hs2
          rw [hms, hs2] at ih
          rw [if_pos (by decide)]
          exact ih
        | true =>
          rw [hb, if_pos rfl] at hms
          rw [hms] at ih
          rw [if_pos rfl, if_neg (by decide), lt_e, nI_shl1 (by omega), nI_or (by omega) (by omega), bd_some]
          unfold X_basin_81
          by_cases e : d = i
          · rw [if_pos (by rw [e])] at hs2
            rw [hs2] at ih
            rw [if_pos (by rw [e]), lt_e, nI_1, nI_1]
            exact ih
          · rw [if_neg (fun h => e (by cases h; rfl))] at hs2
            rw [hs2] at ih
            rw [if_neg (fun h => e ((nI_eq (by omega) (by omega)).mp h)), lt_e, nI_lit0, nI_add, nI_1]
            exact ih
  · unfold M_basin
    rw [lt_e, M_isL ht, gd_e, if_pos (in_nyes hi (by omega))]
    refine loop_i (W := fun f j (_ : Unit) => Tp (M_basin_22 u f (pI t 45 9 0) (nI i) (nI (mkB (inB (aG A) i) j)) (nI (toB (aG A) i j)) (nI j)) _)
      (I := fun j _ => True) (gn (aG A)) ?_ ?_ u 0 () (by omega) (by omega) trivial
    · intro f _ _
      rw [M_basin_22_s]
      unfold M_basin_22b
      have hF0 : Fr dMr t (pI (pI t 45 9 0) 45 8 0) := (Fr.pI M_th (by omega))
      have hmg := hmk (gn (aG A))
      rw [(M_env ht M_th).1.1.1.1, if_pos (nI_le (Nat.le_refl _) (by omega)), lt_e, M_levelOf_ok hu hG.1 hG.2.1 (M_env ht hF0).1.1.1 (by omega) (M_env ht hF0).2 (by omega), bd_some]
      exact TtP (M_tell' _ hF0 MRw_0 (Nat.le_of_ble_eq_true rfl)) (fun t3 h3 => TtP (M_tell' _ h3.1 h3.2.1 (Nat.le_of_ble_eq_true rfl)) (fun t4 h4 => Tp_some ⟨rfl, h4.1, h4.2.1⟩))
    · intro f j _ hj _ ih
      have ih := ih () trivial
      have hmj := hmk j
      have hp5 : 2 ^ j ≤ 2 ^ 5 := Nat.pow_le_pow_right (by omega) (by omega)
      have hs2 : toB (aG A) i (j + 1) = toB (aG A) i j + (if gd (aG A) j = some i then 1 else 0) := rfl
      have hms := mkB_s (inB (aG A) i) j
      rw [M_basin_22_s]
      unfold M_basin_22b
      rw [(M_env ht M_th).1.1.1.1, if_neg (nI_ge hj (by omega)), aI_n (by omega) (by omega), bd_some, ((M_env ht M_th).1.1.1.2 j hj).2.2]
      -- the walk down
      have walk : ∀ (k f2 : Nat) (o : Option Nat), (∀ d, o = some d → d < k) → k ≤ gn (aG A) → k < f2 → rcN (aG A) i (k + 1) o = inB (aG A) i j → Tp (M_basin_54 u (M_basin_22 u f) f2 (pI t 45 9 0) (nI i) (nI (mkB (inB (aG A) i) j)) (nI (toB (aG A) i (j + 1))) (nI j) (oI o)) (fun v t' => v = nI (mkB (inB (aG A) i) (gn (aG A))) ∧ Fr dMr t t' ∧ MRw [(nI (smB (wl (aW A)) (mkB (inB (aG A) i) (gn (aG A))) (gn (aG A)))).toInt64, (nI (toB (aG A) i (gn (aG A)))).toInt64] t') := by
        have hno : inB (aG A) i j = false → Tp (M_basin_78 u (M_basin_22 u f) (pI t 45 9 0) (nI i) (nI (mkB (inB (aG A) i) j)) (nI (toB (aG A) i (j + 1))) (nI j) (-1)) (fun v t' => v = nI (mkB (inB (aG A) i) (gn (aG A))) ∧ Fr dMr t t' ∧ MRw [(nI (smB (wl (aW A)) (mkB (inB (aG A) i) (gn (aG A))) (gn (aG A)))).toInt64, (nI (toB (aG A) i (gn (aG A)))).toInt64] t') := by
          intro hb
          rw [hb] at hms
          simp only [Bool.false_eq_true, if_false] at hms
          rw [hms] at ih
          unfold M_basin_78
          rw [if_neg (fun h => m1_lt (a := i) (by omega) h.symm), lt_e, nI_lit0, nI_or (by omega) (by omega), Nat.or_zero, nI_1]
          exact ih
        intro k
        induction k with
        | zero =>
          intro f2 o ho hk hf2 hr
          cases f2 with
          | zero => omega
          | succ f2 =>
            cases o with
            | some d => exact absurd (ho d rfl) (Nat.not_lt_zero _)
            | none =>
              rw [M_basin_54_s]
              unfold M_basin_54b
              rw [if_pos (show oI none = -1 from rfl)]
              exact hno hr.symm
        | succ k ihk =>
          intro f2 o ho hk hf2 hr
          cases f2 with
          | zero => omega
          | succ f2 =>
            cases o with
            | none =>
              rw [M_basin_54_s]
              unfold M_basin_54b
              rw [if_pos (show oI none = -1 from rfl)]
              exact hno hr.symm
            | some d =>
              have hd := ho d rfl
              rw [M_basin_54_s]
              unfold M_basin_54b
              show Tp (if nI d = -1 then _ else (if nI d = nI i then (M_basin_78 u (M_basin_22 u f) (pI t 45 9 0) (nI i) (nI (mkB (inB (aG A) i) j)) (nI (toB (aG A) i (j + 1))) (nI j) (nI d)) else ((aI (pI t 45 9 0) 49 6 (nI d)).bind _))) _
              have hr : (if d = i then true else rcN (aG A) i (k + 1) (gd (aG A) d)) = inB (aG A) i j := hr
              rw [if_neg (m1_lt (by omega))]
              by_cases e : d = i
              · rw [if_pos e] at hr
                rw [← hr, if_pos rfl] at hms
                rw [hms] at ih
                rw [if_pos (by rw [e])]
                unfold M_basin_78
                rw [if_pos (by rw [e]), lt_e, nI_shl1 (by omega), nI_or (by omega) (by omega), nI_1]
                exact ih
              · rw [if_neg e] at hr
                rw [if_neg (fun h => e ((nI_eq (by omega) (by omega)).mp h)), aI_n (by omega) (by omega), bd_some, ((M_env ht M_th).1.1.1.2 d (by omega)).2.2]
                exact ihk f2 (gd (aG A) d) (fun q hq => by have := (hG.1.2 d (by omega)).2.2.2 q hq; omega) (by omega) (by omega) hr
      have hjd : ∀ d, gd (aG A) j = some d → d < j := fun d hd => (hG.1.2 j hj).2.2.2 d hd
      have hw := walk j u (gd (aG A) j) hjd (by omega) (by omega) (by unfold inB; rw [rcN_up hG.1 i j 7 (gd (aG A) j) hjd (by omega) (by omega)])
      rw [hs2] at hw
      by_cases e : gd (aG A) j = some i
      · rw [if_pos e] at hw
        rw [if_pos (by rw [e]; rfl), lt_e, nI_1]
        exact hw
      · rw [if_neg e] at hw
        rw [if_neg (fun h => by
          cases hd : gd (aG A) j with
          | none => rw [hd] at h; exact m1_lt (a := i) (by omega) h.symm
          | some d =>
            rw [hd] at h e
            have := hjd d hd
            exact e (by rw [(nI_eq (a := d) (b := i) (by omega) (by omega)).mp h])), lt_e, nI_lit0, nI_add]
        exact hw
