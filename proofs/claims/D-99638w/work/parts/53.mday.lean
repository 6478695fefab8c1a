/-! LAW: the Model's run of a lake, and its day -/
set_option maxRecDepth 100000
abbrev dPar (i k : Nat) : Prop := i = 45 ∧ (k = 13 ∨ k = 14)
abbrev dAsM (i k : Nat) : Prop := i = 55 ∨ (i = 45 ∧ (k = 10 ∨ k = 11 ∨ k = 12 ∨ k = 13 ∨ k = 14 ∨ k = 19))
/-- a rule's text in cell r, of z signs, answers as f -/
def MEv (u r z : Nat) (f : (Nat → Int32) → Int32) (s : Sg) : Prop := ∀ t, (∀ k, k < z → gI t r k = gI s r k) → gR t 45 10 = some r → gI t 45 11 = nI z → gI t 45 12 = nI 40 → gI t 45 13 = nI 0 → gI t 45 14 = -1 → gI t 45 19 = nI 1 → Tp (M_held u t 0) (fun v q => v = f (gI t 55) ∧ Fr dPar t q)
def MRul (u : Nat) (ru : Ru) (s : Sg) : Prop := ∃ r, gR s 45 16 = some r ∧ (r = 53 ∨ r = 54) ∧ match ru with
  | none => gI s 45 18 = nI 0
  | some f => ∃ z, 0 < z ∧ z ≤ 40 ∧ gI s 45 18 = nI z ∧ MEv u r z f s
theorem MRul.mv {u : Nat} {ru : Ru} {s t : Sg} (h : MRul u ru s) (h1 : gR t 45 16 = gR s 45 16) (h2 : gI t 45 18 = gI s 45 18) (h3 : ∀ r k, r = 53 ∨ r = 54 → gI t r k = gI s r k) : MRul u ru t := by
  obtain ⟨r, e, hr, hm⟩ := h
  refine ⟨r, h1.trans e, hr, ?_⟩
  cases ru with
  | none => exact h2.trans hm
  | some f =>
    obtain ⟨z, z0, z40, hz, hev⟩ := hm
    exact ⟨z, z0, z40, h2.trans hz, fun q hq => hev q (fun k hk => (hq k hk).trans (h3 r k hr))⟩
def ME (u : Nat) (g : Geo) (ru : Ru) (s : Sg) : Prop := MG g s ∧ MRul u ru s
def OffM (D : Nat → Nat → Prop) : Prop := (∀ k, ¬ D 47 k ∧ ¬ D 48 k ∧ ¬ D 49 k ∧ ¬ D 53 k ∧ ¬ D 54 k) ∧ ¬ D 45 1 ∧ ¬ D 45 16 ∧ ¬ D 45 18
theorem ME.fr {D : Nat → Nat → Prop} {u : Nat} {g : Geo} {ru : Ru} {s t : Sg} (h : ME u g ru s) (f : Fr D s t) (hd : OffM D) : ME u g ru t := ⟨h.1.fr f ⟨hd.2.1, fun k => ⟨(hd.1 k).1, (hd.1 k).2.1, (hd.1 k).2.2.1⟩⟩, h.2.mv (f.R hd.2.2.1) (f.I hd.2.2.2) (fun r k hr => by
  rcases hr with e | e
  · subst e
    exact f.I (hd.1 k).2.2.2.1
  · subst e
    exact f.I (hd.1 k).2.2.2.2)⟩
theorem lnM {a : Nat} (ha : a = 46 ∨ a = 58) : sln a = 33 ∧ Ai a := by
  rcases ha with e | e
  · subst e
    exact ⟨rfl, by decide⟩
  · subst e
    exact ⟨rfl, by decide⟩
/-- M_outOnes: the plugs' bits as one number -/
theorem orB : ∀ o, o < 64 → ∀ j, j < 6 → (o % 2 ^ j) ||| (bt o j * 2 ^ j) = o % 2 ^ (j + 1) := by decide +kernel
theorem M_outOnes_ok {u n o a : Nat} {s : Sg} (hu : 20000 ≤ u) (hn : gI s 45 1 = nI n) (h6 : n ≤ 6) (ha : Ai a) (hs : sln a = 33) (ho : o < 2 ^ n) (hb : ∀ k, k < n → gI s a (6 + k) = nI (bt o k)) : M_outOnes u s a = some (nI o) := by
  have h64 : o < 64 := by have := two6 h6; omega
  unfold M_outOnes
  rw [if_pos ha]
  have hmod : o % 2 ^ n = o := Nat.mod_eq_of_lt ho
  have key := loop_i (W := fun f j (_ : Unit) => M_outOnes_4 u s a f (nI (o % 2 ^ j)) (nI j) = some (nI o)) (I := fun _ _ => True) n ?_ ?_ u 0 () (by omega) (by omega) trivial
  · rw [Nat.pow_zero, Nat.mod_one] at key
    exact key
  · intro f _ _
    show M_outOnes_4 u s a (f + 1) (nI (o % 2 ^ n)) (nI n) = some (nI o)
    rw [M_outOnes_4_s]
    unfold M_outOnes_4b
    rw [hn, if_pos (nI_le (Nat.le_refl _) (by omega)), hmod]
  · intro f j _ hj _ ih
    show M_outOnes_4 u s a (f + 1) (nI (o % 2 ^ j)) (nI j) = some (nI o)
    have ih : M_outOnes_4 u s a f (nI (o % 2 ^ (j + 1))) (nI (j + 1)) = some (nI o) := ih () trivial
    rw [M_outOnes_4_s]
    unfold M_outOnes_4b
    have h2 : 2 ^ j ≤ 2 ^ 5 := Nat.pow_le_pow_right (n := 2) (by omega) (by omega)
    have h3 := bt_lt o j
    have h4 : bt o j * 2 ^ j ≤ 1 * 2 ^ 5 := Nat.mul_le_mul (by omega) h2
    have h5 : o % 2 ^ j ≤ o := Nat.mod_le _ _
    rw [hn, if_neg (nI_ge hj (by omega)), ad_6, hs, aI_n (by omega) (by omega), bd_some, lt_e, hb j hj, nI_shl (by omega) (by omega), nI_or (by omega) (by omega), orB o h64 j (by omega), nI_1]
    exact ih
theorem M_runOf_ok {u : Nat} {g : Geo} {ru : Ru} {W : Wt} {s : Sg} {a k : Nat} (hu : 20000 ≤ u) (hg : GoodG g) (hE : ME u g ru s) (hru : RuOK ru) (hgW : GoodW g W) (hW : MW (gn g) s a 0 W) (ha : a = 46 ∨ a = 58) (hk : k < gn g) : Tp (M_runOf u s a (nI k)) (fun v t => v = nI (runN g ru W k) ∧ Fr dAsM s t) := by
  have ho := GoodW.o hg hgW
  have h6 := hg.1
  have hl : wl W k < 2 ^ 31 := by have := (hgW.1 k hk).1; have := (hg.2 k hk).2.1; omega
  have hb := bt_lt (wo W) k
  obtain ⟨hs, hAi⟩ := lnM ha
  obtain ⟨hG, r, hr, hr2, hm⟩ := hE
  have a0 : gI s a k = nI (wl W k) := by have := hW.1 k hk; rwa [Nat.zero_add] at this
  have a6 : gI s a (6 + k) = nI (bt (wo W) k) := by have := hW.2.1 k hk; rwa [Nat.zero_add] at this
  have a12 : gI s a (12 + k) = nI (wh W k) := by have := hW.2.2.1 k hk; rwa [Nat.zero_add] at this
  have a18 : gI s a (18 + k) = nI (wt W k) := by have := hW.2.2.2.1 k hk; rwa [Nat.zero_add] at this
  have a30 : gI s a 30 = wd W := by have := hW.2.2.2.2.2.1; rwa [Nat.zero_add] at this
  have e47 := (hG.2 k hk).1
  have hfin : ∀ t v, gI t a k = nI (wl W k) → bt (wo W) k = 1 → v = runV g ru W k → Fr dAsM s t → Tp (M_runOf_135 u a t (nI k) v) (fun v t => v = nI (runN g ru W k) ∧ Fr dAsM s t) := by
    intro t v ht e hv hF
    unfold M_runOf_135
    rw [hs, aI_n (by omega) (by omega), bd_some, ht, (clN_e hl v).1]
    refine Tp_some ⟨?_, hF⟩
    unfold runN
    rw [if_pos e, hv]
  unfold M_runOf
  rw [if_pos hAi, hs, ad_6, ad_12, ad_18]
  simp (disch := omega) only [aI_n, bd_some, lt_e, a6]
  by_cases e : bt (wo W) k = 1
  · rw [e, if_neg (by decide)]
    simp (disch := omega) only [aI_n, bd_some, lt_e, a0, a12]
    cases ru with
    | none =>
      rw [hm, if_pos (by decide)]
      exact hfin s _ a0 e rfl (Fr.refl _ _)
    | some f =>
      obtain ⟨z, z0, z40, hz, hev⟩ := hm
      rw [hz, if_neg (nI_nle z0 (by omega))]
      have t0 : ∀ (q : Sg) (v : Int32), tI q 55 6 0 v = some (pI q 55 0 v) := fun q v => tI_n (k := 0) (by omega) (by omega)
      have t1 : ∀ (q : Sg) (v : Int32), tI q 55 6 1 v = some (pI q 55 1 v) := fun q v => tI_n (k := 1) (by omega) (by omega)
      have t2 : ∀ (q : Sg) (v : Int32), tI q 55 6 2 v = some (pI q 55 2 v) := fun q v => tI_n (k := 2) (by omega) (by omega)
      have t3 : ∀ (q : Sg) (v : Int32), tI q 55 6 3 v = some (pI q 55 3 v) := fun q v => tI_n (k := 3) (by omega) (by omega)
      have t4 : ∀ (q : Sg) (v : Int32), tI q 55 6 4 v = some (pI q 55 4 v) := fun q v => tI_n (k := 4) (by omega) (by omega)
      have t5 : ∀ (q : Sg) (v : Int32), tI q 55 6 5 v = some (pI q 55 5 v) := fun q v => tI_n (k := 5) (by omega) (by omega)
      have l30 : ∀ q : Sg, aI q a 33 30 = some (gI q a 30) := fun q => aI_n (k := 30) (by omega) (by omega)
      have ha55 : a ≠ 55 := by omega
      simp (disch := omega) only [aI_n, bd_some, lt_e, t0, t1, t2, t3, gI_pI_i, a0, a12, a18, e47]
      have hout : ∀ q : Sg, (∀ k, k < gn g → gI q a (6 + k) = gI s a (6 + k)) → gI q 45 1 = gI s 45 1 → M_outOnes u q a = some (nI (wo W)) := fun q h1 h2 => M_outOnes_ok hu (h2.trans hG.1) h6 hAi hs hgW.2.1 (fun k hk => (h1 k hk).trans (by have := hW.2.1 k hk; rwa [Nat.zero_add] at this))
      rw [hout _ (fun k hk => by simp (disch := omega) only [gI_pI_i]) (by simp (disch := omega) only [gI_pI_i]), bd_some, pop_b _ ho, bd_some, t4, bd_some, l30, bd_some, t5, bd_some]
      simp (disch := omega) only [gI_pI_i, a30, gR_pI, hr, bd_some, hz]
      have hAb : Ab r := by
        rcases hr2 with e | e
        · subst e; decide
        · subst e; decide
      unfold M_begin
      rw [if_pos hAb]
      simp (disch := omega) only [lt_e, bd_some]
      have hr45 : r ≠ 45 ∧ r ≠ 55 := by omega
      refine TpP (hev _ (fun j hj => ?_) ?_ ?_ ?_ ?_ ?_ ?_) (fun v t hvt => ?_)
      · simp (disch := omega) only [gI_pI_i, gI_pR]
      · simp (disch := omega) only [gR_pI, gR_pR, and_self, if_true]
      · simp (disch := omega) only [gI_pI_s, gI_pI_i, gI_pI_k, gI_pR, gI_pJ]
      · simp (disch := omega) only [gI_pI_s, gI_pI_i, gI_pI_k, gI_pR, gI_pJ]
        rfl
      · simp (disch := omega) only [gI_pI_s, gI_pI_i, gI_pI_k, gI_pR, gI_pJ]
        rfl
      · simp (disch := omega) only [gI_pI_s, gI_pI_i, gI_pI_k, gI_pR, gI_pJ]
      · simp (disch := omega) only [gI_pI_s, gI_pI_i, gI_pI_k, gI_pR, gI_pJ]
        rfl
      · obtain ⟨hv, hF⟩ := hvt
        refine hfin _ v ?_ e ?_ ?_
        · rw [gI_pI_i (by omega), hF.I (by omega)]
          simp (disch := omega) only [gI_pI_i, gI_pR, a0]
        · rw [hv]
          refine hru f rfl _ _ (fun j hj => ?_)
          have : j = 0 ∨ j = 1 ∨ j = 2 ∨ j = 3 ∨ j = 4 ∨ j = 5 := by omega
          rcases this with e | e | e | e | e | e <;> subst e
          · simp (disch := omega) only [gI_pI_s, gI_pI_i, gI_pI_k, gI_pR, gI_pJ]
            rfl
          · simp (disch := omega) only [gI_pI_s, gI_pI_i, gI_pI_k, gI_pR, gI_pJ]
            rfl
          · simp (disch := omega) only [gI_pI_s, gI_pI_i, gI_pI_k, gI_pR, gI_pJ]
            rfl
          · simp (disch := omega) only [gI_pI_s, gI_pI_i, gI_pI_k, gI_pR, gI_pJ]
            rfl
          · simp (disch := omega) only [gI_pI_s, gI_pI_i, gI_pI_k, gI_pR, gI_pJ]
            rfl
          · simp (disch := omega) only [gI_pI_s, gI_pI_i, gI_pI_k, gI_pR, gI_pJ]
            rfl
        · refine Fr.pI (Fr.trans ?_ (hF.mono (fun i k h => by omega))) (by omega)
          repeat first | exact Fr.refl _ _ | refine Fr.pI ?_ (by omega) | refine Fr.pR ?_ (by omega)
  · have e0 : bt (wo W) k = 0 := by omega
    rw [e0, if_pos nI_0]
    refine Tp_some ⟨?_, Fr.refl _ _⟩
    unfold runN
    rw [if_neg e]
    rfl
/-! ### the Model's day -/
abbrev dDyM (a i k : Nat) : Prop := i = a ∨ i = 59 ∨ i = 60 ∨ i = 55 ∨ (i = 45 ∧ (k = 10 ∨ k = 11 ∨ k = 12 ∨ k = 13 ∨ k = 14 ∨ k = 19))
theorem offM_day {a : Nat} (ha : a = 46 ∨ a = 58) : OffM (dDyM a) := ⟨fun k => ⟨by omega, by omega, by omega, by omega, by omega⟩, by omega, by omega, by omega⟩
/-- what a lake gets: tap and what runs down -/
def gtN (g : Geo) (ru : Ru) (W : Wt) (j : Nat) : Nat → Nat := adD g (runN g ru W) j (wt W)
theorem nxN_gt (g : Geo) (ru : Ru) (lk : Int32) (mo : Nat) (W : Wt) (k : Nat) : nxN g ru lk mo W k = (wl W k - runN g ru W k) - min (wl W k - runN g ru W k) (gl g k + moN lk mo k) + gtN g ru W (gn g) k := adD_add g (runN g ru W) (gn g) (fun k => (wl W k - runN g ru W k) - min (wl W k - runN g ru W k) (gl g k + moN lk mo k)) (wt W) k
theorem gtN_le {g : Geo} {ru : Ru} {W : Wt} (hg : GoodG g) (hW : GoodW g W) {j k : Nat} (hj : j ≤ gn g) (hk : k < gn g) : gtN g ru W j k ≤ 603 := by
  have h1 : gtN g ru W j k ≤ wt W k + j * 99 := adD_le (fun i hi => by
    have h1 := (hW.1 i (by omega)).1
    have h2 := (hg.2 i (by omega)).2.1
    have h3 := runN_le (g := g) (ru := ru) (W := W) (k := i) (by omega)
    omega) k
  have h2 := hg.1
  have h3 := (hW.1 k hk).2.2.1
  omega
/-- the row of a Water in the Model, taken apart -/
def MRow (n : Nat) (s : Sg) (a : Nat) (L H : Nat → Nat) (W : Wt) (p r : Nat) : Prop := (∀ k, k < n → gI s a k = nI (L k)) ∧ (∀ k, k < n → gI s a (6 + k) = nI (bt (wo W) k)) ∧ (∀ k, k < n → gI s a (12 + k) = nI (H k)) ∧ (∀ k, k < n → gI s a (18 + k) = nI (wt W k)) ∧ (∀ k, k < n → gI s a (24 + k) = nI (wk W k)) ∧ gI s a 30 = wd W ∧ gI s a 31 = nI p ∧ gI s a 32 = nI r
theorem MW_row {n : Nat} {s : Sg} {a : Nat} {W : Wt} (h : MW n s a 0 W) : MRow n s a (wl W) (wh W) W (ws W) (wr W) := by
  unfold MW at h
  simp only [Nat.zero_add] at h
  exact h
theorem row_MW {n : Nat} {s : Sg} {a : Nat} {W : Wt} (h : MRow n s a (wl W) (wh W) W (ws W) (wr W)) : MW n s a 0 W := by
  unfold MW
  simp only [Nat.zero_add]
  exact h
theorem MRow.mv {n : Nat} {s t : Sg} {a : Nat} {L H : Nat → Nat} {W : Wt} {p r : Nat} (h : MRow n s a L H W p r) (e : ∀ k, gI t a k = gI s a k) : MRow n t a L H W p r := by
  unfold MRow at *
  simp only [e]
  exact h
/-- third row of loops -/
theorem M_gd3 {u : Nat} {g : Geo} {ru : Ru} {lk : Int32} {mo : Nat} {W : Wt} {s0 : Sg} {a : Nat} (hu : 20000 ≤ u) (hg : GoodG g) (hgW : GoodW g W) (ha : a = 46 ∨ a = 58) (hG : MG g s0) (hlk : gI s0 45 27 = lk) (hmo : gI s0 45 28 = nI mo) (hmo9 : mo ≤ 9)
    (s : Sg) (hF : Fr (dDyM a) s0 s) (hrn : ∀ k, k < gn g → gI s 59 k = nI (runN g ru W k)) (hgt : ∀ k, k < gn g → gI s 60 k = nI (gtN g ru W (gn g) k)) (hW : MW (gn g) s a 0 W) :
    Tt (M_goDay_88 u a u s (nI 0)) (fun t => Fr (dDyM a) s0 t ∧ MW (gn g) t a 0 (dayS g ru lk mo W)) := by
  have h6 := hg.1
  obtain ⟨hs, hAi⟩ := lnM ha
  refine loop_i (W := fun f j s => Tt (M_goDay_88 u a f s (nI j)) (fun t => Fr (dDyM a) s0 t ∧ MW (gn g) t a 0 (dayS g ru lk mo W)))
    (I := fun j s => Fr (dDyM a) s0 s ∧ (∀ k, k < gn g → gI s 59 k = nI (runN g ru W k)) ∧ (∀ k, k < gn g → gI s 60 k = nI (gtN g ru W (gn g) k)) ∧ MRow (gn g) s a (fun k => if k < j then dayL g ru lk mo W k else wl W k) (fun k => if k < j then dayH W k else wh W k) W (dayP g ru lk mo W j) (dayR g ru lk mo W j)) (gn g) ?_ ?_ u 0 s (by omega) (by omega) ⟨hF, hrn, hgt, MW_row hW⟩
  · intro f s ⟨hF, hrn, hgt, h1, h2, h3, h4, h5, h7, h8, h9⟩
    dsimp only at h1 h3
    show Tt (M_goDay_88 u a (f + 1) s (nI (gn g))) _
    rw [M_goDay_88_s]
    unfold M_goDay_88b
    have e0 : gI s 45 1 = nI (gn g) := (hF.I (by omega)).trans hG.1
    have l30 : ∀ q : Sg, aI q a 33 30 = some (gI q a 30) := fun q => aI_n (k := 30) (by omega) (by omega)
    have t30 : ∀ (q : Sg) (v : Int32), tI q a 33 30 v = some (pI q a 30 v) := fun q v => tI_n (k := 30) (by omega) (by omega)
    rw [e0, if_pos (nI_le (Nat.le_refl _) (by omega)), hs, l30, bd_some, t30, bd_some, h7]
    refine Tt_some ⟨hF.pI (by omega), row_MW ⟨?_, ?_, ?_, ?_, ?_, ?_, ?_, ?_⟩⟩
    · intro k hk
      rw [gI_pI_k (by omega), h1 k hk, if_pos hk]
      rfl
    · intro k hk
      rw [gI_pI_k (by omega), h2 k hk]
      rfl
    · intro k hk
      rw [gI_pI_k (by omega), h3 k hk, if_pos hk]
      rfl
    · intro k hk
      rw [gI_pI_k (by omega), h4 k hk]
      rfl
    · intro k hk
      rw [gI_pI_k (by omega), h5 k hk]
      rfl
    · rw [gI_pI_s]
      rfl
    · rw [gI_pI_k (by omega), h8]
      rfl
    · rw [gI_pI_k (by omega), h9]
      rfl
  · intro f j s hj ⟨hF, hrn, hgt, h1, h2, h3, h4, h5, h7, h8, h9⟩ ih
    dsimp only at h1 h3
    show Tt (M_goDay_88 u a (f + 1) s (nI j)) _
    have ih : ∀ s', _ → Tt (M_goDay_88 u a f s' (nI (j + 1))) _ := ih
    have hlj := (hgW.1 j hj).1
    have hhj := (hgW.1 j hj).2.1
    have hbj := (hg.2 j hj).2.1
    have hb1 := (hg.2 j hj).1
    have hkj := (hg.2 j hj).2.2.1
    have hrl := runN_le (g := g) (ru := ru) (W := W) (k := j) (by omega)
    have hgl := gtN_le (ru := ru) hg hgW (Nat.le_refl _) hj
    have hnxj := nxN_gt g ru lk mo W j
    have hpj := dayP_le (g := g) (ru := ru) (lk := lk) (mo := mo) hgW.2.2.1 j
    have hrj := dayR_le (g := g) (ru := ru) (lk := lk) (mo := mo) hgW.2.2.2 j
    have hbt := bt_lt (wo W) j
    have hmn : moN lk mo j ≤ 9 := by
      unfold moN
      split
      · exact hmo9
      · omega
    have e0 : gI s 45 1 = nI (gn g) := (hF.I (by omega)).trans hG.1
    have e47 : gI s 47 j = nI (gb g j) := (hF.I (by omega)).trans (hG.2 j hj).1
    have e48 : gI s 48 j = nI (gl g j) := (hF.I (by omega)).trans (hG.2 j hj).2.1
    have e27 : gI s 45 27 = lk := (hF.I (by omega)).trans hlk
    have e28 : gI s 45 28 = nI mo := (hF.I (by omega)).trans hmo
    have hlv : gI s a j = nI (wl W j) := by rw [h1 j hj, if_neg (by omega)]
    have hhv : gI s a (12 + j) = nI (wh W j) := by rw [h3 j hj, if_neg (by omega)]
    have l31 : ∀ q : Sg, aI q a 33 31 = some (gI q a 31) := fun q => aI_n (k := 31) (by omega) (by omega)
    have t31 : ∀ (q : Sg) (v : Int32), tI q a 33 31 v = some (pI q a 31 v) := fun q v => tI_n (k := 31) (by omega) (by omega)
    have l32 : ∀ q : Sg, aI q a 33 32 = some (gI q a 32) := fun q => aI_n (k := 32) (by omega) (by omega)
    have t32 : ∀ (q : Sg) (v : Int32), tI q a 33 32 v = some (pI q a 32 v) := fun q v => tI_n (k := 32) (by omega) (by omega)
    rw [M_goDay_88_s]
    unfold M_goDay_88b
    rw [e0, if_neg (nI_ge hj (by omega)), hs, aI_n (by omega) (by omega), bd_some, aI_n (by omega) (by omega), bd_some, lt_e, aI_n (by omega) (by omega), bd_some, hlv, hrn j hj, e48, e27, e28, pk_sub hrl]
    have eL : dayL g ru lk mo W j = min (gb g j) (nxN g ru lk mo W j) := rfl
    -- the end: dried
    have hend : ∀ q : Sg, Fr (dDyM a) s0 q → (∀ k, k < gn g → gI q 59 k = nI (runN g ru W k)) → (∀ k, k < gn g → gI q 60 k = nI (gtN g ru W (gn g) k)) → MRow (gn g) q a (fun k => if k < j + 1 then dayL g ru lk mo W k else wl W k) (fun k => if k < j + 1 then dayH W k else wh W k) W (dayP g ru lk mo W (j + 1)) (dayR g ru lk mo W j) → Tt (M_goDay_225 u a (M_goDay_88 u a f) q (nI j) (nI (wl W j))) (fun t => Fr (dDyM a) s0 t ∧ MW (gn g) t a 0 (dayS g ru lk mo W)) := by
      intro q hFq hrq hgq hMq
      have hq1 : gI q a j = nI (dayL g ru lk mo W j) := by have := hMq.1 j hj; dsimp only at this; rw [this, if_pos (by omega)]
      have eR : dayR g ru lk mo W (j + 1) = min 999 (dayR g ru lk mo W j + if 0 < wl W j ∧ nxN g ru lk mo W j = 0 then 1 else 0) := rfl
      unfold M_goDay_225
      rw [nI_1]
      by_cases z : wl W j = 0
      · rw [z, if_pos (by decide)]
        rw [if_neg (by omega)] at eR
        have eR : dayR g ru lk mo W (j + 1) = dayR g ru lk mo W j := by omega
        exact ih _ ⟨hFq, hrq, hgq, by rw [eR]; exact hMq⟩
      · rw [if_neg (nI_nle (by omega) (by omega)), hs, aI_n (by omega) (by omega), bd_some, hq1]
        by_cases y : nxN g ru lk mo W j = 0
        · rw [if_pos ⟨by omega, y⟩] at eR
          rw [if_pos (by rw [eL, y, Nat.min_eq_right (by omega)]; rfl), l32, bd_some, t32, bd_some, hMq.2.2.2.2.2.2.2, nI_1, show (999 : Int32) = nI 999 from rfl, nI_mi (by omega) (by omega), ← eR]
          obtain ⟨m1, m2, m3, m4, m5, m7, m8, m9⟩ := hMq
          refine ih _ ⟨hFq.pI (by omega), fun k hk => by rw [gI_pI_i (by omega)]; exact hrq k hk, fun k hk => by rw [gI_pI_i (by omega)]; exact hgq k hk, fun k hk => ?_, fun k hk => ?_, fun k hk => ?_, fun k hk => ?_, fun k hk => ?_, ?_, ?_, ?_⟩
          · rw [gI_pI_k (by omega)]; exact m1 k hk
          · rw [gI_pI_k (by omega)]; exact m2 k hk
          · rw [gI_pI_k (by omega)]; exact m3 k hk
          · rw [gI_pI_k (by omega)]; exact m4 k hk
          · rw [gI_pI_k (by omega)]; exact m5 k hk
          · rw [gI_pI_k (by omega)]; exact m7
          · rw [gI_pI_k (by omega)]; exact m8
          · rw [gI_pI_s]
        · rw [if_neg (by omega)] at eR
          have eR : dayR g ru lk mo W (j + 1) = dayR g ru lk mo W j := by omega
          rw [if_neg (by rw [eL]; exact nI_ne0 (by omega) (by omega))]
          exact ih _ ⟨hFq, hrq, hgq, by rw [eR]; exact hMq⟩
    have hgo : Tt (M_goDay_136 u a (M_goDay_88 u a f) s (nI j) (nI (wl W j)) (nI (wl W j - runN g ru W j)) (nI (wl W j - runN g ru W j)) (nI (gl g j)) (nI (moN lk mo j))) (fun t => Fr (dDyM a) s0 t ∧ MW (gn g) t a 0 (dayS g ru lk mo W)) := by
      have eP : dayP g ru lk mo W (j + 1) = min 9999 (dayP g ru lk mo W j + (nxN g ru lk mo W j - gb g j)) := rfl
      unfold M_goDay_136
      rw [lt_e, aI_n (by omega) (by omega), bd_some, lt_e, hgt j hj, nI_add, nI_mi (by omega) (by omega), pk_sub (by omega), nI_add, ← hnxj, hs, l31, bd_some, aI_n (by omega) (by omega), bd_some, t31, bd_some, h8, e47, ov_e (by omega) (by omega), nI_add, show (9999 : Int32) = nI 9999 from rfl, nI_mi (by omega) (by omega), ← eP, aI_n (by omega) (by omega), bd_some, gI_pI_i (by omega), e47, nI_mi (by omega) (by omega), tI_n (by omega) (by omega), bd_some, ad_6, ad_12, aI_n (by omega) (by omega), bd_some, gI_pI_k (by omega), gI_pI_k (by omega), h2 j hj, ← eL]
      have hF2 : Fr (dDyM a) s0 (pI (pI s a 31 (nI (dayP g ru lk mo W (j + 1)))) a j (nI (dayL g ru lk mo W j))) := (hF.pI (by omega)).pI (by omega)
      by_cases eb : bt (wo W) j = 1
      · rw [eb, if_pos nI_lit1.symm, aI_n (by omega) (by omega), bd_some, tI_n (by omega) (by omega), bd_some, gI_pI_k (by omega), gI_pI_k (by omega), hhv, nI_1, show (9 : Int32) = nI 9 from rfl, nI_mi (by omega) (by omega)]
        refine hend _ (hF2.pI (by omega)) (fun k hk => ?_) (fun k hk => ?_) ⟨fun k hk => ?_, fun k hk => ?_, fun k hk => ?_, fun k hk => ?_, fun k hk => ?_, ?_, ?_, ?_⟩
        · rw [gI_pI_i (by omega), gI_pI_i (by omega), gI_pI_i (by omega)]; exact hrn k hk
        · rw [gI_pI_i (by omega), gI_pI_i (by omega), gI_pI_i (by omega)]; exact hgt k hk
        · dsimp only
          rw [gI_pI_k (by omega)]
          by_cases q : k = j
          · subst q
            rw [gI_pI_s, if_pos (by omega)]
          · rw [gI_pI_k q, gI_pI_k (by omega), h1 k hk]
            by_cases y : k < j
            · rw [if_pos y, if_pos (by omega)]
            · rw [if_neg y, if_neg (by omega)]
        · rw [gI_pI_k (by omega), gI_pI_k (by omega), gI_pI_k (by omega)]; exact h2 k hk
        · dsimp only
          by_cases q : k = j
          · subst q
            rw [gI_pI_s, if_pos (by omega)]
            unfold dayH
            rw [eb]
          · rw [gI_pI_k (by omega), gI_pI_k (by omega), gI_pI_k (by omega), h3 k hk]
            by_cases y : k < j
            · rw [if_pos y, if_pos (by omega)]
            · rw [if_neg y, if_neg (by omega)]
        · rw [gI_pI_k (by omega), gI_pI_k (by omega), gI_pI_k (by omega)]; exact h4 k hk
        · rw [gI_pI_k (by omega), gI_pI_k (by omega), gI_pI_k (by omega)]; exact h5 k hk
        · rw [gI_pI_k (by omega), gI_pI_k (by omega), gI_pI_k (by omega)]; exact h7
        · rw [gI_pI_k (by omega), gI_pI_k (by omega), gI_pI_s]
        · rw [gI_pI_k (by omega), gI_pI_k (by omega), gI_pI_k (by omega)]; exact h9
      · have eb0 : bt (wo W) j = 0 := by omega
        rw [eb0, if_neg (by decide)]
        refine hend _ hF2 (fun k hk => ?_) (fun k hk => ?_) ⟨fun k hk => ?_, fun k hk => ?_, fun k hk => ?_, fun k hk => ?_, fun k hk => ?_, ?_, ?_, ?_⟩
        · rw [gI_pI_i (by omega), gI_pI_i (by omega)]; exact hrn k hk
        · rw [gI_pI_i (by omega), gI_pI_i (by omega)]; exact hgt k hk
        · dsimp only
          by_cases q : k = j
          · subst q
            rw [gI_pI_s, if_pos (by omega)]
          · rw [gI_pI_k q, gI_pI_k (by omega), h1 k hk]
            by_cases y : k < j
            · rw [if_pos y, if_pos (by omega)]
            · rw [if_neg y, if_neg (by omega)]
        · rw [gI_pI_k (by omega), gI_pI_k (by omega)]; exact h2 k hk
        · dsimp only
          rw [gI_pI_k (by omega), gI_pI_k (by omega), h3 k hk]
          by_cases q : k = j
          · subst q
            rw [if_neg (by omega), if_pos (by omega)]
            unfold dayH
            rw [eb0, Nat.add_zero, Nat.min_eq_right hhj]
          · by_cases y : k < j
            · rw [if_pos y, if_pos (by omega)]
            · rw [if_neg y, if_neg (by omega)]
        · rw [gI_pI_k (by omega), gI_pI_k (by omega)]; exact h4 k hk
        · rw [gI_pI_k (by omega), gI_pI_k (by omega)]; exact h5 k hk
        · rw [gI_pI_k (by omega), gI_pI_k (by omega)]; exact h7
        · rw [gI_pI_k (by omega), gI_pI_s]
        · rw [gI_pI_k (by omega), gI_pI_k (by omega)]; exact h9
    by_cases e : nI j = lk
    · rw [if_pos e]
      rw [show moN lk mo j = mo from if_pos ⟨by omega, e⟩] at hgo
      exact hgo
    · rw [if_neg e]
      rw [show moN lk mo j = 0 from if_neg (fun q => e q.2)] at hgo
      exact hgo
/-- second row of loops -/
theorem M_gd2 {u : Nat} {g : Geo} {ru : Ru} {lk : Int32} {mo : Nat} {W : Wt} {s0 : Sg} {a : Nat} (hu : 20000 ≤ u) (hg : GoodG g) (hgW : GoodW g W) (ha : a = 46 ∨ a = 58) (hG : MG g s0) (hlk : gI s0 45 27 = lk) (hmo : gI s0 45 28 = nI mo) (hmo9 : mo ≤ 9)
    (s : Sg) (hF : Fr (dDyM a) s0 s) (hrn : ∀ k, k < gn g → gI s 59 k = nI (runN g ru W k)) (hgt : ∀ k, k < gn g → gI s 60 k = nI (wt W k)) (hW : MW (gn g) s a 0 W) :
    Tt (M_goDay_42 u a u s (nI 0)) (fun t => Fr (dDyM a) s0 t ∧ MW (gn g) t a 0 (dayS g ru lk mo W)) := by
  have h6 := hg.1
  refine loop_i (W := fun f j s => Tt (M_goDay_42 u a f s (nI j)) (fun t => Fr (dDyM a) s0 t ∧ MW (gn g) t a 0 (dayS g ru lk mo W)))
    (I := fun j s => Fr (dDyM a) s0 s ∧ (∀ k, k < gn g → gI s 59 k = nI (runN g ru W k)) ∧ (∀ k, k < gn g → gI s 60 k = nI (gtN g ru W j k)) ∧ MW (gn g) s a 0 W) (gn g) ?_ ?_ u 0 s (by omega) (by omega) ⟨hF, hrn, hgt, hW⟩
  · intro f s ⟨hF, hrn, hgt, hW⟩
    show Tt (M_goDay_42 u a (f + 1) s (nI (gn g))) _
    rw [M_goDay_42_s]
    unfold M_goDay_42b
    have e0 : gI s 45 1 = nI (gn g) := (hF.I (by omega)).trans hG.1
    rw [e0, if_pos (nI_le (Nat.le_refl _) (by omega))]
    exact M_gd3 hu hg hgW ha hG hlk hmo hmo9 s hF hrn hgt hW
  · intro f j s hj ⟨hF, hrn, hgt, hW⟩ ih
    show Tt (M_goDay_42 u a (f + 1) s (nI j)) _
    have ih : ∀ s', _ → Tt (M_goDay_42 u a f s' (nI (j + 1))) _ := ih
    rw [M_goDay_42_s]
    unfold M_goDay_42b
    have e0 : gI s 45 1 = nI (gn g) := (hF.I (by omega)).trans hG.1
    have e49 : gI s 49 j = oI (gd g j) := (hF.I (by omega)).trans (hG.2 j hj).2.2
    rw [e0, if_neg (nI_ge hj (by omega)), aI_n (by omega) (by omega), bd_some, e49, nI_1]
    have hs : gtN g ru W (j + 1) = _ := adD_s g (runN g ru W) j (wt W)
    cases hd1 : gd g j with
    | none =>
      rw [hd1] at hs
      rw [if_pos (show oI none = -1 from rfl)]
      exact ih s ⟨hF, hrn, by rw [hs]; exact hgt, hW⟩
    | some d =>
      rw [hd1] at hs
      have hdj := (hg.2 j hj).2.2.2 d hd1
      show Tt (if nI d = -1 then _ else ((some (nI d)).bind _)) _
      rw [if_neg (m1_lt (by omega)), bd_some, aI_n (by omega) (by omega), bd_some, aI_n (by omega) (by omega), bd_some, tI_n (by omega) (by omega), bd_some, hrn j hj, hgt d (by omega), nI_add]
      refine ih _ ⟨hF.pI (by omega), ?_, ?_, row_MW ((MW_row hW).mv fun k => gI_pI_i (by omega))⟩
      · intro k hk
        rw [gI_pI_i (by omega)]
        exact hrn k hk
      · intro k hk
        rw [hs]
        show _ = nI (if k = d then _ else _)
        by_cases e : k = d
        · subst e
          rw [gI_pI_s, if_pos rfl]
          rfl
        · rw [gI_pI_k e, if_neg e]
          exact hgt k hk
/-- A DAY OF THE MODEL -/
theorem M_goDay_ok {u : Nat} {g : Geo} {ru : Ru} {lk : Int32} {mo : Nat} {W : Wt} {s : Sg} {a : Nat} (hu : 20000 ≤ u) (hg : GoodG g) (hE : ME u g ru s) (hru : RuOK ru) (hgW : GoodW g W) (hW : MW (gn g) s a 0 W) (ha : a = 46 ∨ a = 58) (hlk : gI s 45 27 = lk) (hmo : gI s 45 28 = nI mo) (hmo9 : mo ≤ 9) :
    Tt (M_goDay u s a) (fun t => Fr (dDyM a) s t ∧ MW (gn g) t a 0 (dayS g ru lk mo W)) := by
  have h6 := hg.1
  obtain ⟨hs, hAi⟩ := lnM ha
  have hG := hE.1
  unfold M_goDay
  rw [if_pos hAi]
  refine loop_i (W := fun f j t => Tt (M_goDay_2 u a f t (nI j)) (fun t => Fr (dDyM a) s t ∧ MW (gn g) t a 0 (dayS g ru lk mo W)))
    (I := fun j t => Fr (dDyM a) s t ∧ (∀ k, k < j → gI t 59 k = nI (runN g ru W k)) ∧ (∀ k, k < j → gI t 60 k = nI (wt W k)) ∧ MW (gn g) t a 0 W) (gn g) ?_ ?_ u 0 s (by omega) (by omega) ⟨Fr.refl _ _, fun k hk => by omega, fun k hk => by omega, hW⟩
  · intro f t ⟨hF, hrn, hgt, hW1⟩
    show Tt (M_goDay_2 u a (f + 1) t (nI (gn g))) _
    rw [M_goDay_2_s]
    unfold M_goDay_2b
    have e0 : gI t 45 1 = nI (gn g) := (hF.I (by omega)).trans hG.1
    rw [e0, if_pos (nI_le (Nat.le_refl _) (by omega))]
    exact M_gd2 hu hg hgW ha hG hlk hmo hmo9 t hF hrn hgt hW1
  · intro f j t hj ⟨hF, hrn, hgt, hW1⟩ ih
    show Tt (M_goDay_2 u a (f + 1) t (nI j)) _
    have ih : ∀ s', _ → Tt (M_goDay_2 u a f s' (nI (j + 1))) _ := ih
    have hE1 : ME u g ru t := hE.fr hF (offM_day ha)
    rw [M_goDay_2_s]
    unfold M_goDay_2b
    have e0 : gI t 45 1 = nI (gn g) := hE1.1.1
    rw [e0, if_neg (nI_ge hj (by omega))]
    refine TpT (M_runOf_ok hu hg hE1 hru hgW hW1 ha hj) (fun v t2 hq => ?_)
    obtain ⟨hv, hF2⟩ := hq
    subst hv
    have hF3 : Fr (dDyM a) s t2 := hF.trans (hF2.mono (fun i k h => by omega))
    have hm : ∀ k, gI t2 a k = gI t a k := fun k => hF2.I (by omega)
    have e18 : gI t2 a (18 + j) = nI (wt W j) := (hm _).trans ((MW_row hW1).2.2.2.1 j hj)
    rw [tI_n (by omega) (by omega), bd_some, ad_18, hs, aI_n (by omega) (by omega), bd_some, gI_pI_i (by omega), e18, tI_n (by omega) (by omega), bd_some, nI_1]
    refine ih _ ⟨(hF3.pI (by omega)).pI (by omega), ?_, ?_, row_MW ((MW_row hW1).mv fun k => ?_)⟩
    · intro k hk
      rw [gI_pI_i (by decide)]
      by_cases e : k = j
      · subst e
        rw [gI_pI_s]
      · rw [gI_pI_k e, hF2.I (by omega)]
        exact hrn k (by omega)
    · intro k hk
      by_cases e : k = j
      · subst e
        rw [gI_pI_s]
      · rw [gI_pI_k e, gI_pI_i (by decide), hF2.I (by omega)]
        exact hgt k (by omega)
    · rw [gI_pI_i (by omega), gI_pI_i (by omega)]
      exact hm k
