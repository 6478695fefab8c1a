/-! LAW: heirs, the plain law; the class's search -/
set_option maxRecDepth 100000
/-- the best choice among the first j; none is the first choice -/
def hF (cn : Nat → Bool) (vl : Nat → Nat) (v0 : Nat) (j : Nat) : Nat × Option Nat := fo (fun i q => if cn i = true ∧ q.1 < vl i then (vl i, some i) else q) j (v0, none)
theorem hF_s (cn : Nat → Bool) (vl : Nat → Nat) (v0 : Nat) (j : Nat) : hF cn vl v0 (j + 1) = if cn j = true ∧ (hF cn vl v0 j).1 < vl j then (vl j, some j) else hF cn vl v0 j := rfl
theorem hF_ok (cn : Nat → Bool) (vl : Nat → Nat) (v0 : Nat) (j : Nat) : v0 ≤ (hF cn vl v0 j).1 ∧ (∀ i, i < j → cn i = true → vl i ≤ (hF cn vl v0 j).1) ∧ (((hF cn vl v0 j).2 = none ∧ (hF cn vl v0 j).1 = v0) ∨ ∃ i, (hF cn vl v0 j).2 = some i ∧ i < j ∧ cn i = true ∧ vl i = (hF cn vl v0 j).1 ∧ v0 < (hF cn vl v0 j).1 ∧ ∀ i', i' < i → cn i' = true → vl i' < (hF cn vl v0 j).1) := by
  induction j with
  | zero => exact ⟨Nat.le_refl _, fun i hi => absurd hi (Nat.not_lt_zero _), Or.inl ⟨rfl, rfl⟩⟩
  | succ j ih =>
    obtain ⟨a, b, c⟩ := ih
    by_cases q : cn j = true ∧ (hF cn vl v0 j).1 < vl j
    · have e : hF cn vl v0 (j + 1) = (vl j, some j) := by rw [hF_s, if_pos q]
      rw [e]
      refine ⟨?_, fun i hi hc => ?_, Or.inr ⟨j, rfl, by omega, q.1, rfl, ?_, fun i' hi hc => ?_⟩⟩
      · show v0 ≤ vl j
        omega
      · show vl i ≤ vl j
        by_cases e2 : i = j
        · rw [e2]; exact Nat.le_refl _
        · have := b i (by omega) hc
          omega
      · show v0 < vl j
        omega
      · show vl i' < vl j
        have := b i' hi hc
        omega
    · have e : hF cn vl v0 (j + 1) = hF cn vl v0 j := by rw [hF_s, if_neg q]
      rw [e]
      refine ⟨a, fun i hi hc => ?_, ?_⟩
      · by_cases e2 : i = j
        · subst e2
          have : ¬ (hF cn vl v0 i).1 < vl i := fun h => q ⟨hc, h⟩
          omega
        · exact b i (by omega) hc
      · rcases c with c | ⟨i, c1, c2, c3⟩
        · exact Or.inl c
        · exact Or.inr ⟨i, c1, by omega, c3⟩
/-- heir h can have lake i, when so many are had -/
def cnH (W : Wt) (hh : Nat → Nat) (h had i : Nat) : Bool := decide (bt had i = 0) && decide (wk W i ≠ hh h)
/-- the most that the last r heirs can have -/
def hB (m : Nat) (W : Wt) (hh : Nat → Nat) (n : Nat) : Nat → Nat → Nat
  | 0, _ => 0
  | r + 1, had => (hF (cnH W hh (n - (r + 1)) had) (fun i => wl W i + hB m W hh n r (had ||| 2 ^ i)) (hB m W hh n r had) m).1
/-- the choices of the first of them, by the first j lakes -/
def hf (m : Nat) (W : Wt) (hh : Nat → Nat) (n r had j : Nat) : Nat × Option Nat := hF (cnH W hh (n - (r + 1)) had) (fun i => wl W i + hB m W hh n r (had ||| 2 ^ i)) (hB m W hh n r had) j
theorem hB_s (m : Nat) (W : Wt) (hh : Nat → Nat) (n r had : Nat) : hB m W hh n (r + 1) had = (hf m W hh n r had m).1 := rfl
theorem hf_0 (m : Nat) (W : Wt) (hh : Nat → Nat) (n r had : Nat) : hf m W hh n r had 0 = (hB m W hh n r had, none) := rfl
theorem hf_s (m : Nat) (W : Wt) (hh : Nat → Nat) (n r had j : Nat) : hf m W hh n r had (j + 1) = if cnH W hh (n - (r + 1)) had j = true ∧ (hf m W hh n r had j).1 < wl W j + hB m W hh n r (had ||| 2 ^ j) then (wl W j + hB m W hh n r (had ||| 2 ^ j), some j) else hf m W hh n r had j := rfl
def hN (had : Nat) (o : Option Nat) : Nat := match o with
  | none => had
  | some i => had ||| 2 ^ i
def hP (m : Nat) (W : Wt) (hh : Nat → Nat) (n : Nat) : Nat → Nat → Nat → Int32
  | 0, _, _ => 0
  | r + 1, had, h => if h = n - (r + 1) then oI (hf m W hh n r had m).2 else hP m W hh n r (hN had (hf m W hh n r had m).2) h
theorem hP_s (m : Nat) (W : Wt) (hh : Nat → Nat) (n r had h : Nat) : hP m W hh n (r + 1) had h = if h = n - (r + 1) then oI (hf m W hh n r had m).2 else hP m W hh n r (hN had (hf m W hh n r had m).2) h := rfl
theorem hB_le {m n : Nat} {W : Wt} {hh : Nat → Nat} (hl : ∀ i, i < m → wl W i ≤ 99) (r : Nat) : ∀ had, hB m W hh n r had ≤ r * 99 := by
  induction r with
  | zero => intro had; exact Nat.zero_le _
  | succ r ih =>
    intro had
    rw [hB_s]
    have h := hF_ok (cnH W hh (n - (r + 1)) had) (fun i => wl W i + hB m W hh n r (had ||| 2 ^ i)) (hB m W hh n r had) m
    have h0 := ih had
    rcases h.2.2 with ⟨_, e⟩ | ⟨i, _, hi, _, e, _⟩
    · have e : (hf m W hh n r had m).1 = hB m W hh n r had := e
      omega
    · have e : wl W i + hB m W hh n r (had ||| 2 ^ i) = (hf m W hh n r had m).1 := e
      have := hl i hi
      have := ih (had ||| 2 ^ i)
      omega
theorem hf_le {m n : Nat} {W : Wt} {hh : Nat → Nat} (hl : ∀ i, i < m → wl W i ≤ 99) (r had j : Nat) (hj : j ≤ m) : (hf m W hh n r had j).1 ≤ (r + 1) * 99 := by
  have h := hF_ok (cnH W hh (n - (r + 1)) had) (fun i => wl W i + hB m W hh n r (had ||| 2 ^ i)) (hB m W hh n r had) j
  have h0 := hB_le (n := n) (hh := hh) hl r had
  rcases h.2.2 with ⟨_, e⟩ | ⟨i, _, hi, _, e, _⟩
  · have e : (hf m W hh n r had j).1 = hB m W hh n r had := e
    omega
  · have e : wl W i + hB m W hh n r (had ||| 2 ^ i) = (hf m W hh n r had j).1 := e
    have := hl i (by omega)
    have := hB_le (n := n) (hh := hh) hl r (had ||| 2 ^ i)
    omega
theorem lt_B {B v : Nat} (hB : B < 2 ^ 30) (hv : v < 2 ^ 30) : nI B - 1 < nI v ↔ B ≤ v := by
  by_cases h0 : B = 0
  · subst h0
    refine ⟨fun _ => Nat.zero_le _, fun _ => Int32.lt_iff_toInt_lt.mpr ?_⟩
    rw [nI_toInt (by omega), show (nI 0 - 1 : Int32).toInt = -1 from by decide]
    omega
  · rw [nI_lit1, pk_sub (by omega), nI_ltI (by omega) (by omega)]
    omega
theorem or_64 {a i m : Nat} (ha : a < 2 ^ m) (hi : i < m) : a ||| 2 ^ i < 2 ^ m := Nat.or_lt_two_pow ha (Nat.pow_lt_pow_right (by omega) hi)
theorem p2_64 {j : Nat} (h : j < 6) : 2 ^ j < 64 := by
  have h2 : 2 ^ j < 2 ^ 6 := Nat.pow_lt_pow_right (by omega) h
  exact h2
abbrev dGv (k i c : Nat) : Prop := (i = 38 ∧ k ≤ c) ∨ i = 39 ∨ (i = 0 ∧ c = 41)
theorem X_gf_s (u d : Nat) : X_gf u (d + 1) = X_givesFromo (X_gf u d) u := rfl
theorem X_gf_ok {u m n : Nat} {W : Wt} {hh : Nat → Nat} {s0 : Sg} (hu : 20000 ≤ u) (hm : m ≤ 6) (hn : n ≤ 6) (hl : ∀ i, i < m → wl W i ≤ 99) (hk4 : ∀ i, i < m → wk W i < 4) (hh4 : ∀ k, k < n → hh k < 4) (e5 : gI s0 0 5 = nI m) (eL : ∀ i, i < m → gI s0 2 i = nI (wl W i)) (eK : ∀ i, i < m → gI s0 5 i = nI (wk W i)) (eh : ∀ k, k < n → gI s0 37 k = nI (hh k)) (r : Nat) : ∀ d k been sum B s, r < d → k + r = n → been < 64 → sum ≤ k * 99 → B ≤ 600 → Fr (dGv 0) s0 s → gI s 0 41 = nI B - 1 → Tt (X_gf u d s (nI k) (nI n) (nI been) (nI sum)) (fun t => Fr (dGv k) s t ∧ gI t 0 41 = nI (max B (sum + hB m W hh n r been + 1)) - 1 ∧ ∀ i, i < n → gI t 39 i = if B ≤ sum + hB m W hh n r been then (if i < k then gI s 38 i else hP m W hh n r been i) else gI s 39 i) := by
  induction r with
  | zero =>
    intro d k been sum B s hd hk hb hs hBB f0 e41
    obtain ⟨d, rfl⟩ : ∃ d', d = d' + 1 := ⟨d - 1, by omega⟩
    have hkn : k = n := by omega
    subst hkn
    have e0 : hB m W hh k 0 been = 0 := rfl
    rw [X_gf_s, e0]
    unfold X_givesFromo
    rw [if_pos rfl, e41]
    by_cases q : B ≤ sum
    · rw [if_pos ((lt_B (by omega) (by omega)).mpr q), lt_e, cpI6, bd_some]
      refine Tt_some ⟨((Fr.refl _ _).pI (by omega)).cI (fun c => by omega), ?_, fun i hi => ?_⟩
      · rw [gI_cI_n (by omega), gI_pI_s, Nat.max_eq_right (by omega), Nat.add_zero, nI_lit1, pk_sub (by omega), Nat.add_sub_cancel]
      · rw [gI_cI_s, cpy6 (by omega), gI_pI_i (by omega), if_pos (by omega), if_pos hi]
    · rw [if_neg (fun h => q ((lt_B (by omega) (by omega)).mp h))]
      refine Tt_some ⟨Fr.refl _ _, ?_, fun i hi => ?_⟩
      · rw [e41, Nat.max_eq_left (by omega)]
      · rw [if_neg (by omega)]
  | succ r ih =>
    intro d k been sum B s hd hk hb hs hBB f0 e41
    obtain ⟨d, rfl⟩ : ∃ d', d = d' + 1 := ⟨d - 1, by omega⟩
    have hkk : n - (r + 1) = k := by omega
    rw [X_gf_s]
    unfold X_givesFromo
    rw [if_neg (fun h => by have := (nI_eq (by omega) (by omega)).mp h; omega), tI_n (by omega) (by omega), bd_some, nI_1]
    have hb0 := hB_le (n := n) (hh := hh) hl r been
    refine TtT (ih d (k + 1) been sum B (pI s 38 k (-1)) (by omega) (by omega) hb (by omega) hBB (f0.pI (by omega)) ((gI_pI_i (by omega)).trans e41)) (fun t1 h1 => ?_)
    refine loop_i (W := fun w j t => Tt (X_givesFromo_58 (X_gf u d) u w t (nI k) (nI n) (nI been) (nI sum) (nI j)) _)
      (I := fun j t => Fr (dGv k) s t ∧ gI t 0 41 = nI (max B (sum + (hf m W hh n r been j).1 + 1)) - 1 ∧ ∀ i, i < n → gI t 39 i = if B ≤ sum + (hf m W hh n r been j).1 then (if i < k then gI s 38 i else if i = k then oI (hf m W hh n r been j).2 else hP m W hh n r (hN been (hf m W hh n r been j).2) i) else gI s 39 i) m ?_ ?_ u 0 t1 (by omega) (by omega) ?_
    · intro w t ⟨g1, g2, g3⟩
      have e5t : gI t 0 5 = nI m := (g1.I (by omega)).trans ((f0.I (by omega)).trans e5)
      rw [X_givesFromo_58_s]
      unfold X_givesFromo_58b
      rw [e5t, if_pos (nI_le (Nat.le_refl _) (by omega))]
      refine Tt_some ⟨g1, g2, fun i hi => ?_⟩
      rw [g3 i hi, hP_s, hB_s, hkk]
    · intro w j t hj ⟨g1, g2, g3⟩ ih2
      have e5t : gI t 0 5 = nI m := (g1.I (by omega)).trans ((f0.I (by omega)).trans e5)
      have hv := hf_le (n := n) (hh := hh) hl r been j (by omega)
      have hsj := hf_s m W hh n r been j
      rw [hkk] at hsj
      have hno : cnH W hh k been j = false → Tt (X_givesFromo_58 (X_gf u d) u w t (nI k) (nI n) (nI been) (nI sum) (nI (j + 1))) _ := fun hc => ih2 t ⟨g1, by
        rw [hsj, if_neg (fun h => by rw [hc] at h; exact absurd h.1 (by decide))]
        exact g2, by
        rw [hsj, if_neg (fun h => by rw [hc] at h; exact absurd h.1 (by decide))]
        exact g3⟩
      rw [X_givesFromo_58_s]
      unfold X_givesFromo_58b
      rw [e5t, if_neg (nI_ge hj (by omega)), X_has_n (by omega) (by omega), bd_some, nI_1]
      by_cases eb : bt been j = 0
      · have eKt : gI t 5 j = nI (wk W j) := (g1.I (by omega)).trans ((f0.I (by omega)).trans (eK j hj))
        have eht : gI t 37 k = nI (hh k) := (g1.I (by omega)).trans ((f0.I (by omega)).trans (eh k (by omega)))
        have eLt : gI (pI t 38 k (nI j)) 2 j = nI (wl W j) := (gI_pI_i (by omega)).trans ((g1.I (by omega)).trans ((f0.I (by omega)).trans (eL j hj)))
        have hk1 := hk4 j hj
        have hk2 := hh4 k (by omega)
        have hl1 := hl j hj
        rw [eb, if_pos nI_0, aI_n (by omega) (by omega), bd_some, aI_n (by omega) (by omega), bd_some, eKt, eht]
        by_cases ek : wk W j = hh k
        · rw [if_pos (by rw [ek])]
          exact hno (by unfold cnH; rw [ek]; simp)
        · have hcn : cnH W hh k been j = true := by
            unfold cnH
            rw [decide_eq_true eb, decide_eq_true ek]
            rfl
          have hb1 := hB_le (n := n) (hh := hh) hl r (been ||| 2 ^ j)
          have h64 : been ||| 2 ^ j < 64 := or_64 (m := 6) hb (by omega)
          have hj2 : 2 ^ j < 64 := p2_64 (by omega)
          rw [if_neg (fun h => ek ((nI_eq (by omega) (by omega)).mp h)), tI_n (by omega) (by omega), bd_some, aI_n (by omega) (by omega), bd_some, eLt, nI_1, nI_shl1 (by omega), nI_or (by omega) (by omega), nI_add]
          have hB2 : max B (sum + (hf m W hh n r been j).1 + 1) ≤ 600 := by omega
          refine TtT (ih d (k + 1) (been ||| 2 ^ j) (sum + wl W j) (max B (sum + (hf m W hh n r been j).1 + 1)) (pI t 38 k (nI j)) (by omega) (by omega) h64 (by omega) hB2 ((f0.trans (g1.mono (fun i c q => by omega))).pI (by omega)) ((gI_pI_i (by omega)).trans g2)) (fun t2 ⟨p1, p2, p3⟩ => ?_)
          refine ih2 t2 ⟨(g1.pI (by omega)).trans (p1.mono (fun i c q => by omega)), ?_, fun i hi => ?_⟩
          · rw [p2]
            by_cases q : (hf m W hh n r been j).1 < wl W j + hB m W hh n r (been ||| 2 ^ j)
            · rw [hsj, if_pos ⟨hcn, q⟩]
              congr 2
              show max (max B _) _ = max B (sum + (wl W j + hB m W hh n r (been ||| 2 ^ j)) + 1)
              omega
            · rw [hsj, if_neg (fun h => q h.2)]
              congr 2
              omega
          · rw [p3 i hi]
            by_cases q : (hf m W hh n r been j).1 < wl W j + hB m W hh n r (been ||| 2 ^ j)
            · have hsj : hf m W hh n r been (j + 1) = (wl W j + hB m W hh n r (been ||| 2 ^ j), some j) := by rw [hsj, if_pos ⟨hcn, q⟩]
              rw [hsj]
              show _ = if B ≤ sum + (wl W j + hB m W hh n r (been ||| 2 ^ j)) then (if i < k then gI s 38 i else if i = k then nI j else hP m W hh n r (been ||| 2 ^ j) i) else gI s 39 i
              by_cases q2 : B ≤ sum + (wl W j + hB m W hh n r (been ||| 2 ^ j))
              · rw [if_pos q2, if_pos (by omega)]
                by_cases q3 : i < k
                · rw [if_pos (by omega), if_pos q3, gI_pI_k (by omega)]
                  exact g1.I (by omega)
                · rw [if_neg q3]
                  by_cases q4 : i = k
                  · rw [if_pos (by omega), if_pos q4, q4, gI_pI_s]
                  · rw [if_neg (by omega), if_neg q4]
              · rw [if_neg q2, if_neg (by omega), gI_pI_i (by omega), g3 i hi, if_neg (by omega)]
            · have hsj : hf m W hh n r been (j + 1) = hf m W hh n r been j := by rw [hsj, if_neg (fun h => q h.2)]
              rw [hsj, if_neg (by omega), gI_pI_i (by omega)]
              exact g3 i hi
      · have e1 : bt been j = 1 := by have := bt_lt been j; omega
        rw [e1, if_neg (by decide)]
        exact hno (by unfold cnH; rw [e1]; rfl)
    · obtain ⟨p1, p2, p3⟩ := h1
      rw [hf_0]
      refine ⟨((Fr.refl _ _).pI (by omega)).trans (p1.mono (fun i c q => by omega)), p2, fun i hi => ?_⟩
      rw [p3 i hi]
      show _ = if B ≤ sum + hB m W hh n r been then (if i < k then gI s 38 i else if i = k then -1 else hP m W hh n r been i) else gI s 39 i
      by_cases q2 : B ≤ sum + hB m W hh n r been
      · rw [if_pos q2, if_pos q2]
        by_cases q3 : i < k
        · rw [if_pos (by omega), if_pos q3, gI_pI_k (by omega)]
        · rw [if_neg q3]
          by_cases q4 : i = k
          · rw [if_pos (by omega), if_pos q4, q4, gI_pI_s]
          · rw [if_neg (by omega), if_neg q4]
      · rw [if_neg q2, if_neg q2, gI_pI_i (by omega)]
