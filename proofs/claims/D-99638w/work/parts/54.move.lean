/-! LAW: Waters copied, days that go by -/
set_option maxRecDepth 100000
theorem Tt_if {α : Type} {c : Prop} [Decidable c] {a b : Option α} {P : α → Prop} (h : c) (k : Tt a P) : Tt (if c then a else b) P := by rw [if_pos h]; exact k
theorem Tt_u {α : Type} {f : Unit → Option α} {P : α → Prop} (k : Tt (f ()) P) : Tt ((some ()).bind f) P := k
theorem Tt_R {α β : Type} {o : Option α} {i : α} {f : α → Option β} {P : β → Prop} (h : o = some i) (k : Tt (f i) P) : Tt (o.bind f) P := by rw [h]; exact k
/-- a Water of cells b .. b+4 -/
def DWb (s : Sg) (b : Nat) : Prop := gK s b = (6, 8) ∧ b + 4 < gN s ∧ ∀ j, j < 4 → gR s b j = some (b + 1 + j) ∧ gK s (b + 1 + j) = (0, 6)
theorem DWb_st {g : Geo} {ru : Ru} {s : Sg} (hE : XEn g ru s) {w : Nat} (hw : Wst w) : DWb s w := by
  obtain ⟨hk, _, _, hs⟩ := hE
  have hn := hk.1
  refine ⟨?_, by omega, fun j hj => ⟨hs w hw j hj, ?_⟩⟩
  · rw [hk.2 w (by omega)]
    rcases hw with e | e | e <;> subst e <;> rfl
  · rw [hk.2 _ (by omega)]
    have hj4 : j = 0 ∨ j = 1 ∨ j = 2 ∨ j = 3 := by omega
    rcases hw with e | e | e <;> subst e <;> rcases hj4 with e | e | e | e <;> subst e <;> rfl
abbrev dWa (b i k : Nat) : Prop := (i = b ∧ (k = 4 ∨ k = 5 ∨ k = 6 ∨ k = 7)) ∨ i = b + 1 ∨ i = b + 2 ∨ i = b + 3 ∨ i = b + 4
theorem cpI6 (s : Sg) (a b : Nat) : cpI s a 6 0 b 6 0 6 = some (cI s b (va_cpy (gI s a) (gI s b) 0 0 6)) := if_pos (by decide)
theorem cpy6 {f g : Nat → Int32} {k : Nat} (h : k < 6) : va_cpy f g 0 0 6 k = f k := by
  rw [pk_cpy_in (by omega) (by omega)]
  congr 1
  omega
theorem gI_cI_n {s : Sg} {i j m : Nat} {f : Nat → Int32} (h : j ≠ i) : gI (cI s i f) j m = gI s j m := by rw [gI_cI, if_neg h]
theorem gI_cI_s {s : Sg} {i m : Nat} {f : Nat → Int32} : gI (cI s i f) i m = f m := by rw [gI_cI, if_pos rfl]
theorem W_becomes_ok {s : Sg} {b c : Nat} (hb : DWb s b) (hc : DWb s c) (hd : b + 5 ≤ c ∨ c + 5 ≤ b) : Tt (W_becomes s b c) (fun t => Fr (dWa b) s t ∧ ∀ n W, n ≤ 6 → XW n s c W → XW n t b W) := by
  obtain ⟨kb, nb, rb⟩ := hb
  obtain ⟨kc, nc, rc⟩ := hc
  have nb0 : b < gN s := by omega
  have nc0 : c < gN s := by omega
  have Kb : Db 1 8 s b := ⟨kb, nb0⟩
  have Kc : Db 1 8 s c := ⟨kc, nc0⟩
  have b0 : gR s b 0 = some (b + 1) := (rb 0 (by omega)).1
  have b1 : gR s b 1 = some (b + 2) := (rb 1 (by omega)).1
  have b2 : gR s b 2 = some (b + 3) := (rb 2 (by omega)).1
  have b3 : gR s b 3 = some (b + 4) := (rb 3 (by omega)).1
  have c0 : gR s c 0 = some (c + 1) := (rc 0 (by omega)).1
  have c1 : gR s c 1 = some (c + 2) := (rc 1 (by omega)).1
  have c2 : gR s c 2 = some (c + 3) := (rc 2 (by omega)).1
  have c3 : gR s c 3 = some (c + 4) := (rc 3 (by omega)).1
  have B0 : Da s (b + 1) := ⟨(rb 0 (by omega)).2, by omega⟩
  have B1 : Da s (b + 2) := ⟨(rb 1 (by omega)).2, by omega⟩
  have B2 : Da s (b + 3) := ⟨(rb 2 (by omega)).2, by omega⟩
  have B3 : Da s (b + 4) := ⟨(rb 3 (by omega)).2, by omega⟩
  have C0 : Da s (c + 1) := ⟨(rc 0 (by omega)).2, by omega⟩
  have C1 : Da s (c + 2) := ⟨(rc 1 (by omega)).2, by omega⟩
  have C2 : Da s (c + 3) := ⟨(rc 2 (by omega)).2, by omega⟩
  have C3 : Da s (c + 4) := ⟨(rc 3 (by omega)).2, by omega⟩
  unfold W_becomes
  refine Tt_u (Tt_if Kc (Tt_u (Tt_if Kb (Tt_R b0 (Tt_if B0 (Tt_R c0 (Tt_if C0 (Tt_R (cpI6 _ _ _) ?_))))))))
  refine Tt_u (Tt_if Kc (Tt_u (Tt_if Kb (Tt_R b1 (Tt_if B1 (Tt_R c1 (Tt_if C1 (Tt_R (cpI6 _ _ _) ?_))))))))
  refine Tt_u (Tt_if Kc (Tt_u (Tt_if Kb (Tt_R b2 (Tt_if B2 (Tt_R c2 (Tt_if C2 (Tt_R (cpI6 _ _ _) ?_))))))))
  refine Tt_u (Tt_if Kc (Tt_u (Tt_if Kb (Tt_R b3 (Tt_if B3 (Tt_R c3 (Tt_if C3 (Tt_R (cpI6 _ _ _) ?_))))))))
  refine Tt_u (Tt_if Kc (Tt_u (Tt_if Kb ?_)))
  rw [lt_e]
  refine Tt_u (Tt_if Kc (Tt_u (Tt_if Kb ?_)))
  rw [lt_e]
  refine Tt_u (Tt_if Kc (Tt_u (Tt_if Kb ?_)))
  rw [lt_e]
  refine Tt_u (Tt_if Kc (Tt_u (Tt_if Kb ?_)))
  rw [lt_e]
  refine Tt_some ⟨?_, ?_⟩
  · repeat first | exact Fr.refl _ _ | refine Fr.pI ?_ (by omega) | refine Fr.cI ?_ (fun k => by omega)
  · intro n W hn ⟨h1, h2, h3, h4, h5, h6, h7, h8⟩
    refine ⟨fun k hk => ?_, fun k hk => ?_, fun k hk => ?_, fun k hk => ?_, ?_, ?_, ?_, ?_⟩
    · simp (disch := omega) only [gI_pI_s, gI_pI_i, gI_pI_k, gI_cI_s, gI_cI_n, cpy6, h1 k hk]
    · simp (disch := omega) only [gI_pI_s, gI_pI_i, gI_pI_k, gI_cI_s, gI_cI_n, cpy6, h2 k hk]
    · simp (disch := omega) only [gI_pI_s, gI_pI_i, gI_pI_k, gI_cI_s, gI_cI_n, cpy6, h3 k hk]
    · simp (disch := omega) only [gI_pI_s, gI_pI_i, gI_pI_k, gI_cI_s, gI_cI_n, cpy6, h4 k hk]
    · simp (disch := omega) only [gI_pI_s, gI_pI_i, gI_pI_k, gI_cI_s, gI_cI_n, h5]
    · simp (disch := omega) only [gI_pI_s, gI_pI_i, gI_pI_k, gI_cI_s, gI_cI_n, h6]
    · simp (disch := omega) only [gI_pI_s, gI_pI_i, gI_pI_k, gI_cI_s, gI_cI_n, h7]
    · simp (disch := omega) only [gI_pI_s, gI_pI_i, gI_pI_k, gI_cI_s, gI_cI_n, h8]
/-! ### the Model's copies -/
abbrev dRw (a o i k : Nat) : Prop := i = a ∧ o ≤ k ∧ k < o + 33
theorem M_lay_ok {u : Nat} {s : Sg} {a b o : Nat} (hu : 20000 ≤ u) (ha : Ai a) (hb : Ai b) (la : sln a = 33) (lb : o + 33 ≤ sln b) (lb2 : sln b < 2 ^ 31) (hab : a ≠ b) : Tt (M_lay u s a b (nI o)) (fun t => Fr (dRw b o) s t ∧ ∀ k, k < 33 → gI t b (o + k) = gI s a k) := by
  unfold M_lay
  rw [if_pos ha, if_pos hb]
  refine loop_i (W := fun f j t => Tt (M_lay_2 u a b f t (nI o) (nI j)) (fun t => Fr (dRw b o) s t ∧ ∀ k, k < 33 → gI t b (o + k) = gI s a k))
    (I := fun j t => Fr (dRw b o) s t ∧ ∀ k, k < j → gI t b (o + k) = gI s a k) 33 ?_ ?_ u 0 s (by omega) (by omega) ⟨Fr.refl _ _, fun k hk => by omega⟩
  · intro f t ⟨hF, h⟩
    show Tt (M_lay_2 u a b (f + 1) t (nI o) (nI 33)) _
    rw [M_lay_2_s]
    unfold M_lay_2b
    rw [if_pos (by decide)]
    exact Tt_some ⟨hF, h⟩
  · intro f j t hj ⟨hF, h⟩ ih
    show Tt (M_lay_2 u a b (f + 1) t (nI o) (nI j)) _
    have ih : ∀ s', _ → Tt (M_lay_2 u a b f s' (nI o) (nI (j + 1))) _ := ih
    rw [M_lay_2_s]
    unfold M_lay_2b
    rw [show (33 : Int32) = nI 33 from rfl, if_neg (nI_ge hj (by omega)), la, aI_n (by omega) (by omega), bd_some, nI_add, tI_n (by omega) (by omega), bd_some, nI_1]
    refine ih _ ⟨hF.pI (by omega), fun k hk => ?_⟩
    by_cases e : k = j
    · subst e
      rw [gI_pI_s]
      exact hF.I (by omega)
    · rw [gI_pI_k (by omega)]
      exact h k (by omega)
theorem lay_MW {n : Nat} {s t : Sg} {a b o : Nat} {W : Wt} (hn : n ≤ 6) (h : ∀ k, k < 33 → gI t b (o + k) = gI s a k) (hW : MW n s a 0 W) : MW n t b o W := by
  have hW := MW_row hW
  obtain ⟨h1, h2, h3, h4, h5, h7, h8, h9⟩ := hW
  refine ⟨fun k hk => ?_, fun k hk => ?_, fun k hk => ?_, fun k hk => ?_, fun k hk => ?_, ?_, ?_, ?_⟩
  · rw [h k (by omega)]; exact h1 k hk
  · rw [Nat.add_assoc, h (6 + k) (by omega)]; exact h2 k hk
  · rw [Nat.add_assoc, h (12 + k) (by omega)]; exact h3 k hk
  · rw [Nat.add_assoc, h (18 + k) (by omega)]; exact h4 k hk
  · rw [Nat.add_assoc, h (24 + k) (by omega)]; exact h5 k hk
  · rw [h 30 (by omega)]; exact h7
  · rw [h 31 (by omega)]; exact h8
  · rw [h 32 (by omega)]; exact h9
/-! ### days that go by -/
def dyS (g : Geo) (ru : Ru) (W : Wt) : Wt := dayS g ru (-1) 0 W
def dyN (g : Geo) (ru : Ru) (m : Nat) (W : Wt) : Wt := fo (fun _ W => dyS g ru W) m W
theorem dyN_s (g : Geo) (ru : Ru) (m : Nat) (W : Wt) : dyN g ru (m + 1) W = dyS g ru (dyN g ru m W) := rfl
theorem dyN_good {g : Geo} {ru : Ru} {W : Wt} (h : GoodW g W) (m : Nat) : GoodW g (dyN g ru m W) := by
  induction m with
  | zero => exact h
  | succ m ih => exact dayS_good ih
theorem moN_m1 (mo k : Nat) : moN (-1) mo k = 0 := if_neg (fun q => m1_lt (by omega) q.2)
theorem dayS_m1 (g : Geo) (ru : Ru) (mo : Nat) (W : Wt) : dayS g ru (-1) mo W = dyS g ru W := by
  have e : moN (-1) mo = moN (-1) 0 := funext fun k => by rw [moN_m1, moN_m1]
  have e2 : nx0 g ru (-1) mo W = nx0 g ru (-1) 0 W := funext fun k => by unfold nx0; rw [e]
  have e3 : nxN g ru (-1) mo W = nxN g ru (-1) 0 W := by unfold nxN; rw [e2]
  unfold dyS dayS dayL dayP dayR
  rw [e3]
theorem X_day_ok {g : Geo} {ru : Ru} {W : Wt} {s : Sg} {w u : Nat} (hu : 20000 ≤ u) (hg : GoodG g) (hE : XEn g ru s) (hgW : GoodW g W) (hW : XW (gn g) s w W) (hw : Wst w) : Tt (X_dayGoes u s w) (fun t => Fr (dDay w) s t ∧ XW (gn g) t w (dyS g ru W)) := by
  unfold X_dayGoes
  rw [if_pos hw]
  refine TtT (X_leaksDay_ok (lk := -1) (mo := 0) hu hg hE hgW hW hw (by omega)) (fun t h => Tt_some h)
theorem X_daysGo_ok {g : Geo} {ru : Ru} {W : Wt} {s : Sg} {w u m : Nat} (hu : 20000 ≤ u) (hg : GoodG g) (hE : XEn g ru s) (hgW : GoodW g W) (hW : XW (gn g) s w W) (hw : Wst w) (hm : m ≤ 10000) : Tt (X_daysGo u s w (nI m)) (fun t => Fr (dDay w) s t ∧ XW (gn g) t w (dyN g ru m W)) := by
  unfold X_daysGo
  rw [if_pos hw]
  refine loop_i (W := fun f j t => Tt (X_daysGo_2 u w f t (nI m) (nI j)) (fun t => Fr (dDay w) s t ∧ XW (gn g) t w (dyN g ru m W)))
    (I := fun j t => Fr (dDay w) s t ∧ XW (gn g) t w (dyN g ru j W)) m ?_ ?_ u 0 s (by omega) (by omega) ⟨Fr.refl _ _, hW⟩
  · intro f t ⟨hF, h⟩
    show Tt (X_daysGo_2 u w (f + 1) t (nI m) (nI m)) _
    rw [X_daysGo_2_s]
    unfold X_daysGo_2b
    rw [if_pos (nI_le (Nat.le_refl _) (by omega))]
    exact Tt_some ⟨hF, h⟩
  · intro f j t hj ⟨hF, h⟩ ih
    show Tt (X_daysGo_2 u w (f + 1) t (nI m) (nI j)) _
    rw [X_daysGo_2_s]
    unfold X_daysGo_2b
    rw [if_neg (nI_ge hj (by omega)), nI_1]
    refine TtT (X_day_ok hu hg (hE.fr hF (offX_day hw)) (dyN_good hgW j) h hw) (fun r hr => ?_)
    exact ih r ⟨hF.trans hr.1, hr.2⟩
/-- the Model's ground between its operations -/
def MB (u : Nat) (g : Geo) (ru : Ru) (s : Sg) : Prop := ME u g ru s ∧ gI s 45 27 = -1 ∧ ∃ mo, mo ≤ 9 ∧ gI s 45 28 = nI mo
theorem MB.fr {D : Nat → Nat → Prop} {u : Nat} {g : Geo} {ru : Ru} {s t : Sg} (h : MB u g ru s) (f : Fr D s t) (hd : OffM D) (h1 : ¬ D 45 27) (h2 : ¬ D 45 28) : MB u g ru t := ⟨h.1.fr f hd, (f.I h1).trans h.2.1, by
  obtain ⟨mo, h9, e⟩ := h.2.2
  exact ⟨mo, h9, (f.I h2).trans e⟩⟩
theorem M_day_ok {u : Nat} {g : Geo} {ru : Ru} {W : Wt} {s : Sg} {a : Nat} (hu : 20000 ≤ u) (hg : GoodG g) (hE : MB u g ru s) (hru : RuOK ru) (hgW : GoodW g W) (hW : MW (gn g) s a 0 W) (ha : a = 46 ∨ a = 58) : Tt (M_goDay u s a) (fun t => Fr (dDyM a) s t ∧ MW (gn g) t a 0 (dyS g ru W)) := by
  obtain ⟨hE, h27, mo, h9, h28⟩ := hE
  have := M_goDay_ok hu hg hE hru hgW hW ha h27 h28 h9
  rw [dayS_m1] at this
  exact this
theorem M_days_ok {u : Nat} {g : Geo} {ru : Ru} {W : Wt} {s : Sg} {a m : Nat} (hu : 20000 ≤ u) (hg : GoodG g) (hE : MB u g ru s) (hru : RuOK ru) (hgW : GoodW g W) (hW : MW (gn g) s a 0 W) (ha : a = 46 ∨ a = 58) (hm : m ≤ 10000) : Tt (M_goDays u s a (nI m)) (fun t => Fr (dDyM a) s t ∧ MW (gn g) t a 0 (dyN g ru m W)) := by
  obtain ⟨hs, hAi⟩ := lnM ha
  unfold M_goDays
  rw [if_pos hAi]
  refine loop_i (W := fun f j t => Tt (M_goDays_2 u a f t (nI m) (nI j)) (fun t => Fr (dDyM a) s t ∧ MW (gn g) t a 0 (dyN g ru m W)))
    (I := fun j t => Fr (dDyM a) s t ∧ MW (gn g) t a 0 (dyN g ru j W)) m ?_ ?_ u 0 s (by omega) (by omega) ⟨Fr.refl _ _, hW⟩
  · intro f t ⟨hF, h⟩
    show Tt (M_goDays_2 u a (f + 1) t (nI m) (nI m)) _
    rw [M_goDays_2_s]
    unfold M_goDays_2b
    rw [if_pos (nI_le (Nat.le_refl _) (by omega))]
    exact Tt_some ⟨hF, h⟩
  · intro f j t hj ⟨hF, h⟩ ih
    show Tt (M_goDays_2 u a (f + 1) t (nI m) (nI j)) _
    rw [M_goDays_2_s]
    unfold M_goDays_2b
    rw [if_neg (nI_ge hj (by omega)), nI_1]
    refine TtT (M_day_ok hu hg (hE.fr hF (offM_day ha) (by omega) (by omega)) hru (dyN_good hgW j) h ha) (fun r hr => ?_)
    exact ih r ⟨hF.trans hr.1, hr.2⟩
