/-! LAW: year, an act done -/
set_option maxRecDepth 100000
theorem in_nno {j n : Nat} (h : n ≤ j) (hn : n < 2 ^ 30) (hj : j < 2 ^ 30) : ¬ (0 ≤ nI j ∧ nI j ≤ nI n - 1) := by
  rcases in_n (nI j) n hn with ⟨i, hi, e⟩ | h1
  · have := (nI_eq (by omega) (by omega)).mp e
    omega
  · exact h1
/-- an act: the lakes behind it, or it is refused -/
def yA (g : Geo) (ru : Ru) (q a b : Nat) (W : Wt) : Option Wt :=
  if q = 99 then (if a < gn g ∧ wh W a ≠ 0 then some (wH' W a 0) else none)
  else if q = 103 then (if a < gn g ∧ wk W a ≠ b then some (wK' W a b) else none)
  else if q = 112 then (if a < gn g ∧ bt (wo W) a = 0 then some (wO' W (wo W ^^^ 2 ^ a)) else none)
  else if q = 115 then (if a < gn g ∧ bt (wo W) a = 1 then some (wO' W (wo W ^^^ 2 ^ a)) else none)
  else if q = 116 then (if a < gn g ∧ wt W a ≠ b then some (wT' W a b) else none)
  else some (dyN g ru a W)
theorem yA_99 {g : Geo} {ru : Ru} {a b : Nat} {W : Wt} : yA g ru 99 a b W = if a < gn g ∧ wh W a ≠ 0 then some (wH' W a 0) else none := rfl
theorem yA_103 {g : Geo} {ru : Ru} {a b : Nat} {W : Wt} : yA g ru 103 a b W = if a < gn g ∧ wk W a ≠ b then some (wK' W a b) else none := rfl
theorem yA_112 {g : Geo} {ru : Ru} {a b : Nat} {W : Wt} : yA g ru 112 a b W = if a < gn g ∧ bt (wo W) a = 0 then some (wO' W (wo W ^^^ 2 ^ a)) else none := rfl
theorem yA_115 {g : Geo} {ru : Ru} {a b : Nat} {W : Wt} : yA g ru 115 a b W = if a < gn g ∧ bt (wo W) a = 1 then some (wO' W (wo W ^^^ 2 ^ a)) else none := rfl
theorem yA_116 {g : Geo} {ru : Ru} {a b : Nat} {W : Wt} : yA g ru 116 a b W = if a < gn g ∧ wt W a ≠ b then some (wT' W a b) else none := rfl
theorem yA_110 {g : Geo} {ru : Ru} {a b : Nat} {W : Wt} : yA g ru 110 a b W = some (dyN g ru a W) := rfl
theorem yA_good {g : Geo} {ru : Ru} {q a b : Nat} {W W' : Wt} (hq : sgA q) (h : GoodW g W) (hb1 : q = 116 → b ≤ 9) (hb2 : q = 103 → b ≤ 3) (e : yA g ru q a b W = some W') : GoodW g W' := by
  have hout : a < gn g → GoodW g (wO' W (wo W ^^^ 2 ^ a)) := fun ha => h.out (Nat.xor_lt_two_pow h.2.1 (Nat.pow_lt_pow_right (by omega) ha))
  rcases hq with hq | hq | hq | hq | hq | hq
  · subst hq
    rw [yA_110] at e
    cases e
    exact dyN_good h _
  · subst hq
    rw [yA_112] at e
    split at e
    · rename_i hc
      cases e
      exact hout hc.1
    · cases e
  · subst hq
    rw [yA_115] at e
    split at e
    · rename_i hc
      cases e
      exact hout hc.1
    · cases e
  · subst hq
    rw [yA_99] at e
    split at e
    · cases e
      exact h.hair (by omega)
    · cases e
  · subst hq
    rw [yA_116] at e
    split at e
    · cases e
      exact h.tap (hb1 rfl)
    · cases e
  · subst hq
    rw [yA_103] at e
    split at e
    · cases e
      exact h.king (hb2 rfl)
    · cases e
abbrev dDo (i k : Nat) : Prop := (i = 1 ∧ 4 ≤ k ∧ k ≤ 7) ∨ (2 ≤ i ∧ i ≤ 5) ∨ i = 26 ∨ i = 27 ∨ (i = 0 ∧ (k = 18 ∨ k = 19))
theorem X_does_ok {u c : Nat} {A : AS} {s : Sg} {k q a b : Nat} (hu : 20000 ≤ u) (hX : XI A s) (hG : GI c A) (hk : k < 60) (e28 : gI s 28 k = nI q) (e29 : gI s 29 k = nI a) (e30 : q = 116 ∨ q = 103 → gI s 30 k = nI b) (hq : sgA q) (ha : a ≤ 9) (hb1 : q = 116 → b ≤ 9) (hb2 : q = 103 → b ≤ 3) : Tp (X_does u s (nI k)) (fun v t => Fr dDo s t ∧ ((yA (aG A) (aRu A) q a b (aW A) = none ∧ v = 0 ∧ XW (gn (aG A)) t 1 (aW A)) ∨ ∃ W', yA (aG A) (aRu A) q a b (aW A) = some W' ∧ v = 1 ∧ XW (gn (aG A)) t 1 W')) := by
  have h6 := hG.1.1
  have h64 := two6 hG.1.1
  have ho := hG.2.1.2.1
  unfold X_does
  rw [aI_n (by omega) (by omega), bd_some, aI_n (by omega) (by omega), bd_some, e28, e29]
  -- plugs, both ways
  have htouch : ∀ g, g < 2 → ∀ (y : Option Wt), y = (if a < gn (aG A) ∧ bt (wo (aW A)) a = 1 - g then some (wO' (aW A) (wo (aW A) ^^^ 2 ^ a)) else none) → Tp (b2 (X_touches s 1 (nI a) (nI g)) fun v8 s9 => if v8 < 0 then (some ((0 : Int32), s9)) else (some (1, s9))) (fun v t => Fr dDo s t ∧ ((y = none ∧ v = 0 ∧ XW (gn (aG A)) t 1 (aW A)) ∨ ∃ W', y = some W' ∧ v = 1 ∧ XW (gn (aG A)) t 1 W')) := by
    intro g hg y hy
    have hbt := bt_lt (wo (aW A)) a
    by_cases q1 : a < gn (aG A)
    · by_cases q2 : bt (wo (aW A)) a = g
      · have e : X_touches s 1 (nI a) (nI g) = some (-2, s) := by
          unfold X_touches
          rw [if_pos (by omega), X_isL hX, gd_e, if_pos (in_nyes q1 (by omega)), hX.2.1.2.2.2.2.1, X_has_n (by omega) (by omega), bd_some, if_pos (by rw [q2])]
        rw [e, b2_some, if_pos (by decide)]
        exact Tp_some ⟨Fr.refl _ _, Or.inl ⟨by rw [hy, if_neg (fun h => by have := h.2; omega)], rfl, hX.2.1⟩⟩
      · refine TpP (X_touch_ok hX hG q1 hg q2) (fun v t ⟨h1, h2, h3⟩ => ?_)
        rw [h1, if_neg (pop_ge _)]
        exact Tp_some ⟨h2.mono (fun i k q => by have q : (i = 1 ∧ k = 4) ∨ (2 ≤ i ∧ i ≤ 5) := q; omega), Or.inr ⟨_, by rw [hy, if_pos ⟨q1, by omega⟩], rfl, h3⟩⟩
    · have e : X_touches s 1 (nI a) (nI g) = some (-1, s) := by
        unfold X_touches
        rw [if_pos (by omega), X_isL hX, gd_e, if_neg (in_nno (by omega) (by omega) (by omega))]
      rw [e, b2_some, if_pos (by decide)]
      exact Tp_some ⟨Fr.refl _ _, Or.inl ⟨by rw [hy, if_neg (fun h => q1 h.1)], rfl, hX.2.1⟩⟩
  rcases hq with hq | hq | hq | hq | hq | hq
  · subst hq
    rw [if_neg (by decide), if_neg (by decide), if_neg (by decide), if_neg (by decide), if_neg (by decide), yA_110]
    refine TtP (X_daysGo_ok hu hG.1 hX.1 hG.2.1 hX.2.1 (by omega) (by omega)) (fun t h => ?_)
    exact Tp_some ⟨h.1.mono (fun i k q => by omega), Or.inr ⟨_, rfl, rfl, h.2⟩⟩
  · subst hq
    rw [if_neg (by decide), if_neg (by decide), if_pos (by decide)]
    exact htouch 1 (by omega) _ yA_112
  · subst hq
    rw [if_neg (by decide), if_neg (by decide), if_neg (by decide), if_pos (by decide)]
    exact htouch 0 (by omega) _ yA_115
  · subst hq
    rw [if_pos (by decide), yA_99]
    unfold X_combsOne
    rw [if_pos (by omega), X_isL hX, gd_e]
    by_cases q1 : a < gn (aG A)
    · have hlim := (hG.2.1.1 a q1).2.1
      have e3 : gI s 3 a = nI (wh (aW A) a) := hX.2.1.2.1 a q1
      have hW : XW (gn (aG A)) (pI s 3 a 0) 1 (wH' (aW A) a 0) := XW.setH (i := a) (v := 0) hX.2.1
      have hf : Fr dDo s (pI s 3 a 0) := (Fr.refl _ _).pI (by omega)
      rw [if_pos (in_nyes q1 (by omega)), aI_n (by omega) (by omega), bd_some, e3, tI_n (by omega) (by omega), bd_some]
      by_cases q2 : wh (aW A) a = 0
      · rw [if_pos (by rw [q2]; exact nI_0), b2_some, if_pos (by decide), if_neg (fun h => h.2 q2)]
        rw [show wH' (aW A) a 0 = aW A by unfold wH'; rw [← q2, show upN (aW A).2.1 a (wh (aW A) a) = (aW A).2.1 from upN_same _ _]] at hW
        exact Tp_some ⟨hf, Or.inl ⟨rfl, rfl, hW⟩⟩
      · rw [if_neg (nI_ne0 (by omega) (by omega)), b2_some, if_neg (nI_pos (by omega)), if_pos ⟨q1, q2⟩]
        exact Tp_some ⟨hf, Or.inr ⟨_, rfl, rfl, hW⟩⟩
    · rw [if_neg (in_nno (by omega) (by omega) (by omega)), b2_some, if_pos (by decide), if_neg (fun h => q1 h.1)]
      exact Tp_some ⟨Fr.refl _ _, Or.inl ⟨rfl, rfl, hX.2.1⟩⟩
  · subst hq
    have hb := hb1 rfl
    rw [if_neg (by decide), if_neg (by decide), if_neg (by decide), if_neg (by decide), if_pos (by decide), yA_116, aI_n (by omega) (by omega), bd_some, e30 (Or.inl rfl)]
    unfold X_tapsOne
    rw [if_pos (by omega), X_isL hX, gd_e]
    by_cases q1 : a < gn (aG A)
    · have hlim := (hG.2.1.1 a q1).2.2.1
      have e3 : gI s 4 a = nI (wt (aW A) a) := hX.2.1.2.2.1 a q1
      have hW : XW (gn (aG A)) (pI s 4 a (nI b)) 1 (wT' (aW A) a b) := XW.setT (i := a) (v := b) hX.2.1
      have hf : Fr dDo s (pI s 4 a (nI b)) := (Fr.refl _ _).pI (by omega)
      rw [if_pos (in_nyes q1 (by omega)), Xin_0_9, gd_e, if_pos (in_yes2 (Nat.zero_le _) hb (by omega)), aI_n (by omega) (by omega), bd_some, e3, tI_n (by omega) (by omega), bd_some]
      by_cases q2 : wt (aW A) a = b
      · rw [if_pos (by rw [q2]), b2_some, if_pos (by decide), if_neg (fun h => h.2 q2)]
        rw [show wT' (aW A) a b = aW A by unfold wT'; rw [← q2, show upN (aW A).2.2.1 a (wt (aW A) a) = (aW A).2.2.1 from upN_same _ _]] at hW
        exact Tp_some ⟨hf, Or.inl ⟨rfl, rfl, hW⟩⟩
      · rw [if_neg (fun h => q2 ((nI_eq (by omega) (by omega)).mp h)), b2_some, ad_10, if_neg (nI_pos (by omega)), if_pos ⟨q1, q2⟩]
        exact Tp_some ⟨hf, Or.inr ⟨_, rfl, rfl, hW⟩⟩
    · rw [if_neg (in_nno (by omega) (by omega) (by omega)), b2_some, if_pos (by decide), if_neg (fun h => q1 h.1)]
      exact Tp_some ⟨Fr.refl _ _, Or.inl ⟨rfl, rfl, hX.2.1⟩⟩
  · subst hq
    have hb := hb2 rfl
    rw [if_neg (by decide), if_pos (by decide), yA_103, aI_n (by omega) (by omega), bd_some, e30 (Or.inr rfl)]
    unfold X_givesOne
    rw [if_pos (by omega), X_isL hX, gd_e]
    by_cases q1 : a < gn (aG A)
    · have hlim := (hG.2.1.1 a q1).2.2.2
      have e3 : gI s 5 a = nI (wk (aW A) a) := hX.2.1.2.2.2.1 a q1
      have hW : XW (gn (aG A)) (pI s 5 a (nI b)) 1 (wK' (aW A) a b) := XW.setK (i := a) (v := b) hX.2.1
      have hf : Fr dDo s (pI s 5 a (nI b)) := (Fr.refl _ _).pI (by omega)
      rw [if_pos (in_nyes q1 (by omega)), Xin_0_3, gd_e, if_pos (in_yes2 (Nat.zero_le _) hb (by omega)), aI_n (by omega) (by omega), bd_some, e3, tI_n (by omega) (by omega), bd_some]
      by_cases q2 : wk (aW A) a = b
      · rw [if_pos (by rw [q2]), b2_some, if_pos (by decide), if_neg (fun h => h.2 q2)]
        rw [show wK' (aW A) a b = aW A by unfold wK'; rw [← q2, show upN (aW A).2.2.2.1 a (wk (aW A) a) = (aW A).2.2.2.1 from upN_same _ _]] at hW
        exact Tp_some ⟨hf, Or.inl ⟨rfl, rfl, hW⟩⟩
      · rw [if_neg (fun h => q2 ((nI_eq (by omega) (by omega)).mp h)), b2_some, ad_10, if_neg (nI_pos (by omega)), if_pos ⟨q1, q2⟩]
        exact Tp_some ⟨hf, Or.inr ⟨_, rfl, rfl, hW⟩⟩
    · rw [if_neg (in_nno (by omega) (by omega) (by omega)), b2_some, if_pos (by decide), if_neg (fun h => q1 h.1)]
      exact Tp_some ⟨Fr.refl _ _, Or.inl ⟨rfl, rfl, hX.2.1⟩⟩
/-! the Model -/
abbrev dDoM (i k : Nat) : Prop := i = 46 ∨ i = 59 ∨ i = 60 ∨ i = 55 ∨ (i = 45 ∧ (k = 10 ∨ k = 11 ∨ k = 12 ∨ k = 13 ∨ k = 14 ∨ k = 19))
theorem M_act_ok {u c : Nat} {A : AS} {t : Sg} {q a b : Nat} {x : Int32} (hu : 20000 ≤ u) (ht : MI u A t) (hG : GI c A) (ex : q = 116 ∨ q = 103 → x = nI b) (hq : sgA q) (ha : a ≤ 9) (hb1 : q = 116 → b ≤ 9) (hb2 : q = 103 → b ≤ 3) : Tp (M_act u t (nI q) (nI a) x) (fun v t' => Fr dDoM t t' ∧ ((yA (aG A) (aRu A) q a b (aW A) = none ∧ v = 0 ∧ MW (gn (aG A)) t' 46 0 (aW A)) ∨ ∃ W', yA (aG A) (aRu A) q a b (aW A) = some W' ∧ v = 1 ∧ MW (gn (aG A)) t' 46 0 W')) := by
  have h6 := hG.1.1
  have h64 := two6 hG.1.1
  have ho := hG.2.1.2.1
  have hMG : MG (aG A) t := ht.1.1.1
  have hR := MW_row ht.2.1
  unfold M_act
  have hplug : ∀ g, g < 2 → ∀ (y : Option Wt) (q1 : Int32), (q1 = 112 ↔ g = 1) → y = (if a < gn (aG A) ∧ bt (wo (aW A)) a = 1 - g then some (wO' (aW A) (wo (aW A) ^^^ 2 ^ a)) else none) → Tp (M_act_68 u t q1 (nI a) (nI a) (nI g)) (fun v t' => Fr dDoM t t' ∧ ((y = none ∧ v = 0 ∧ MW (gn (aG A)) t' 46 0 (aW A)) ∨ ∃ W', y = some W' ∧ v = 1 ∧ MW (gn (aG A)) t' 46 0 W')) := by
    intro g hg y q1 hq1 hy
    have hbt := bt_lt (wo (aW A)) a
    unfold M_act_68 M_refusesPlug
    rw [M_isLake_ok hMG, gd_e]
    by_cases c1 : a < gn (aG A)
    · rw [if_pos (in_nyes c1 (by omega)), ad_6, aI_n (by omega) (by omega), bd_some, hR.2.1 a c1]
      by_cases c2 : bt (wo (aW A)) a = g
      · rw [if_pos (by rw [c2]), bd_some, if_neg (by decide)]
        exact Tp_some ⟨Fr.refl _ _, Or.inl ⟨by rw [hy, if_neg (fun h => by have := h.2; omega)], rfl, ht.2.1⟩⟩
      · have hW2 : MW (gn (aG A)) (pI t 46 (6 + a) (nI g)) 46 0 (wO' (aW A) (wo (aW A) ^^^ 2 ^ a)) := MW.setO h6 c1 ht.2.1 (fun k hk => by
          rw [bt_xor_pow]
          by_cases q : k = a
          · subst q
            rw [upN_s, upN_s]
            omega
          · rw [upN_n q, upN_n q])
        have h95 : M_act_95 u t (nI (6 + a)) (nI g) = some (1, pI t 46 (6 + a) (nI g)) := by
          unfold M_act_95
          rw [tI_n (by omega) (by omega), bd_some]
        rw [if_neg (fun h => c2 ((nI_eq (by omega) (by omega)).mp h)), bd_some, if_pos (by decide)]
        refine Tp_mono (Q := fun v t' => v = 1 ∧ t' = pI t 46 (6 + a) (nI g)) ?_ (fun v t' h => by
          rw [h.1, h.2]
          exact ⟨(Fr.refl _ _).pI (by omega), Or.inr ⟨_, by rw [hy, if_pos ⟨c1, by omega⟩], rfl, hW2⟩⟩)
        by_cases c3 : g = 1
        · rw [if_pos (hq1.mpr c3)]
          subst c3
          exact ⟨_, _, h95, rfl, rfl⟩
        · have c4 : g = 0 := by omega
          rw [if_neg (fun h => c3 (hq1.mp h))]
          subst c4
          exact ⟨_, _, h95, rfl, rfl⟩
    · rw [if_neg (in_nno (by omega) (by omega) (by omega)), bd_some, if_neg (by decide)]
      exact Tp_some ⟨Fr.refl _ _, Or.inl ⟨by rw [hy, if_neg (fun h => c1 h.1)], rfl, ht.2.1⟩⟩
  rcases hq with hq | hq | hq | hq | hq | hq
  · subst hq
    rw [if_neg (by decide), if_pos (by decide), yA_110]
    refine TtP (M_days_ok hu hG.1 ht.1 hG.2.2.2.2.2.2.1 hG.2.1 ht.2.1 (by omega) (by omega)) (fun t h => ?_)
    exact Tp_some ⟨h.1.mono (fun i k q => by omega), Or.inr ⟨_, rfl, rfl, h.2⟩⟩
  · subst hq
    rw [if_neg (by decide), if_neg (by decide), if_pos (by decide), if_pos (by decide)]
    exact hplug 1 (by omega) _ _ ⟨fun _ => rfl, fun _ => by decide⟩ yA_112
  · subst hq
    rw [if_neg (by decide), if_neg (by decide), if_neg (by decide), if_pos (by decide), if_neg (by decide)]
    exact hplug 0 (by omega) _ _ ⟨fun h => absurd h (by decide), fun h => by omega⟩ yA_115
  · subst hq
    rw [if_pos (by decide), yA_99]
    unfold M_refusesComb
    rw [M_isLake_ok hMG, gd_e]
    by_cases q1 : a < gn (aG A)
    · have hlim := (hG.2.1.1 a q1).2.1
      rw [if_pos (in_nyes q1 (by omega)), ad_12, aI_n (by omega) (by omega), bd_some, hR.2.2.1 a q1]
      by_cases q2 : wh (aW A) a = 0
      · rw [if_pos (by rw [q2]; exact nI_0), bd_some, if_neg (by decide), if_neg (fun h => h.2 q2)]
        exact Tp_some ⟨Fr.refl _ _, Or.inl ⟨rfl, rfl, ht.2.1⟩⟩
      · rw [if_neg (nI_ne0 (by omega) (by omega)), bd_some, if_pos (by decide), tI_n (by omega) (by omega), bd_some, if_pos ⟨q1, q2⟩]
        exact Tp_some ⟨(Fr.refl _ _).pI (by omega), Or.inr ⟨_, rfl, rfl, MW.setH (v := 0) h6 q1 ht.2.1⟩⟩
    · rw [if_neg (in_nno (by omega) (by omega) (by omega)), bd_some, if_neg (by decide), if_neg (fun h => q1 h.1)]
      exact Tp_some ⟨Fr.refl _ _, Or.inl ⟨rfl, rfl, ht.2.1⟩⟩
  · subst hq
    have hb := hb1 rfl
    rw [if_neg (by decide), if_neg (by decide), if_neg (by decide), if_neg (by decide), if_pos (by decide), yA_116, ex (Or.inl rfl)]
    unfold M_act_133 M_refusesCell
    rw [M_isLake_ok hMG, gd_e]
    by_cases q1 : a < gn (aG A)
    · have hlim := (hG.2.1.1 a q1).2.2.1
      rw [if_pos (in_nyes q1 (by omega)), Min_0_9, gd_e, if_pos (in_yes2 (Nat.zero_le _) hb (by omega)), ad_18, aI_n (by omega) (by omega), bd_some, hR.2.2.2.1 a q1]
      by_cases q2 : wt (aW A) a = b
      · rw [if_pos (by rw [q2]), bd_some, if_neg (by decide), if_neg (fun h => h.2 q2)]
        exact Tp_some ⟨Fr.refl _ _, Or.inl ⟨rfl, rfl, ht.2.1⟩⟩
      · rw [if_neg (fun h => q2 ((nI_eq (by omega) (by omega)).mp h)), bd_some, if_pos (by decide), tI_n (by omega) (by omega), bd_some, if_pos ⟨q1, q2⟩]
        exact Tp_some ⟨(Fr.refl _ _).pI (by omega), Or.inr ⟨_, rfl, rfl, MW.setT h6 q1 ht.2.1⟩⟩
    · rw [if_neg (in_nno (by omega) (by omega) (by omega)), bd_some, if_neg (by decide), if_neg (fun h => q1 h.1)]
      exact Tp_some ⟨Fr.refl _ _, Or.inl ⟨rfl, rfl, ht.2.1⟩⟩
  · subst hq
    have hb := hb2 rfl
    rw [if_neg (by decide), if_neg (by decide), if_neg (by decide), if_neg (by decide), if_neg (by decide), yA_103, ex (Or.inr rfl)]
    unfold M_act_133 M_refusesCell
    rw [M_isLake_ok hMG, gd_e]
    by_cases q1 : a < gn (aG A)
    · have hlim := (hG.2.1.1 a q1).2.2.2
      rw [if_pos (in_nyes q1 (by omega)), Min_0_9, gd_e, if_pos (in_yes2 (Nat.zero_le _) (by omega) (by omega)), ad_24, aI_n (by omega) (by omega), bd_some, hR.2.2.2.2.1 a q1]
      by_cases q2 : wk (aW A) a = b
      · rw [if_pos (by rw [q2]), bd_some, if_neg (by decide), if_neg (fun h => h.2 q2)]
        exact Tp_some ⟨Fr.refl _ _, Or.inl ⟨rfl, rfl, ht.2.1⟩⟩
      · rw [if_neg (fun h => q2 ((nI_eq (by omega) (by omega)).mp h)), bd_some, if_pos (by decide), tI_n (by omega) (by omega), bd_some, if_pos ⟨q1, q2⟩]
        exact Tp_some ⟨(Fr.refl _ _).pI (by omega), Or.inr ⟨_, rfl, rfl, MW.setK h6 q1 ht.2.1⟩⟩
    · rw [if_neg (in_nno (by omega) (by omega) (by omega)), bd_some, if_neg (by decide), if_neg (fun h => q1 h.1)]
      exact Tp_some ⟨Fr.refl _ _, Or.inl ⟨rfl, rfl, ht.2.1⟩⟩
