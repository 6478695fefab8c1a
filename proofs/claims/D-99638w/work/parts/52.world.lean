/-! LAW, world: lakes as numbers, the two pictures of them, a day -/
set_option maxRecDepth 100000
abbrev Geo : Type := Nat × (Nat → Nat) × (Nat → Nat) × (Nat → Option Nat)
def gn (g : Geo) : Nat := g.1
def gb (g : Geo) : Nat → Nat := g.2.1
def gl (g : Geo) : Nat → Nat := g.2.2.1
def gd (g : Geo) : Nat → Option Nat := g.2.2.2
def oI (o : Option Nat) : Int32 := match o with
  | none => -1
  | some d => nI d
def GoodG (g : Geo) : Prop := gn g ≤ 6 ∧ ∀ k, k < gn g → 1 ≤ gb g k ∧ gb g k ≤ 99 ∧ gl g k ≤ 9 ∧ ∀ d, gd g k = some d → d < k
abbrev Wt : Type := (Nat → Nat) × (Nat → Nat) × (Nat → Nat) × (Nat → Nat) × Nat × Int32 × Nat × Nat
/-- levels, hair, taps, kings, plugs out, day, spilt, dried -/
def wl (W : Wt) : Nat → Nat := W.1
def wh (W : Wt) : Nat → Nat := W.2.1
def wt (W : Wt) : Nat → Nat := W.2.2.1
def wk (W : Wt) : Nat → Nat := W.2.2.2.1
def wo (W : Wt) : Nat := W.2.2.2.2.1
def wd (W : Wt) : Int32 := W.2.2.2.2.2.1
def ws (W : Wt) : Nat := W.2.2.2.2.2.2.1
def wr (W : Wt) : Nat := W.2.2.2.2.2.2.2
def GoodW (g : Geo) (W : Wt) : Prop := (∀ k, k < gn g → wl W k ≤ gb g k ∧ wh W k ≤ 9 ∧ wt W k ≤ 9 ∧ wk W k ≤ 3) ∧ wo W < 2 ^ gn g ∧ ws W ≤ 9999 ∧ wr W ≤ 999
theorem two6 {n : Nat} (h : n ≤ 6) : 2 ^ n ≤ 64 := Nat.pow_le_pow_right (n := 2) (by omega) h
theorem GoodW.o {g : Geo} {W : Wt} (hg : GoodG g) (h : GoodW g W) : wo W < 64 := by
  have := two6 hg.1
  have := h.2.1
  omega
def XG (g : Geo) (s : Sg) : Prop := gI s 0 5 = nI (gn g) ∧ ∀ k, k < gn g → gI s 11 k = nI (gb g k) ∧ gI s 12 k = nI (gl g k) ∧ gI s 13 k = oI (gd g k)
def MG (g : Geo) (s : Sg) : Prop := gI s 45 1 = nI (gn g) ∧ ∀ k, k < gn g → gI s 47 k = nI (gb g k) ∧ gI s 48 k = nI (gl g k) ∧ gI s 49 k = oI (gd g k)
def XW (n : Nat) (s : Sg) (w : Nat) (W : Wt) : Prop := (∀ k, k < n → gI s (w + 1) k = nI (wl W k)) ∧ (∀ k, k < n → gI s (w + 2) k = nI (wh W k)) ∧ (∀ k, k < n → gI s (w + 3) k = nI (wt W k)) ∧ (∀ k, k < n → gI s (w + 4) k = nI (wk W k)) ∧ gI s w 4 = nI (wo W) ∧ gI s w 5 = wd W ∧ gI s w 6 = nI (ws W) ∧ gI s w 7 = nI (wr W)
def MW (n : Nat) (s : Sg) (a o : Nat) (W : Wt) : Prop := (∀ k, k < n → gI s a (o + k) = nI (wl W k)) ∧ (∀ k, k < n → gI s a (o + 6 + k) = nI (bt (wo W) k)) ∧ (∀ k, k < n → gI s a (o + 12 + k) = nI (wh W k)) ∧ (∀ k, k < n → gI s a (o + 18 + k) = nI (wt W k)) ∧ (∀ k, k < n → gI s a (o + 24 + k) = nI (wk W k)) ∧ gI s a (o + 30) = wd W ∧ gI s a (o + 31) = nI (ws W) ∧ gI s a (o + 32) = nI (wr W)
/-- the standing kinds -/
def KS (s : Sg) : Prop := 73 ≤ gN s ∧ ∀ i, i < 73 → gK s i = stK.getD i (0, 0)
/-! ### the rule, what it is asked -/
abbrev Ru : Type := Option ((Nat → Int32) → Int32)
def pop (o : Nat) : Nat := bt o 0 + bt o 1 + bt o 2 + bt o 3 + bt o 4 + bt o 5
theorem pop_b : ∀ o, o < 64 → J_bitCount (nI o) = some (nI (pop o)) := by decide +kernel
theorem pop_le (o : Nat) : pop o ≤ 6 := by
  have := bt_lt o 0; have := bt_lt o 1; have := bt_lt o 2; have := bt_lt o 3; have := bt_lt o 4; have := bt_lt o 5
  unfold pop
  omega
def askW (g : Geo) (W : Wt) (k : Nat) : Nat → Int32 := fun j => match j with
  | 0 => nI (wl W k)
  | 1 => nI (gb g k)
  | 2 => nI (wh W k)
  | 3 => nI (wt W k)
  | 4 => nI (pop (wo W))
  | _ => wd W - wd W / 7 * 7
def RuOK (ru : Ru) : Prop := ∀ f, ru = some f → ∀ a b : Nat → Int32, (∀ j, j < 6 → a j = b j) → f a = f b
/-- of a number so much as there is -/
def clN (l : Nat) (v : Int32) : Nat := (mx 0 (mi (nI l) v)).toNatClampNeg
theorem clN_e {l : Nat} (hl : l < 2 ^ 31) (v : Int32) : mx 0 (mi (nI l) v) = nI (clN l v) ∧ clN l v ≤ l := by
  by_cases h : v < 0
  · have i1 := Int32.lt_iff_toInt_lt.mp h
    have e0 : (0 : Int32).toInt = 0 := rfl
    have e1 := nI_toInt hl
    have e : mx 0 (mi (nI l) v) = nI 0 := by
      have q1 : mi (nI l) v = v := if_pos (Int32.lt_iff_toInt_lt.mpr (by omega))
      have q2 : mx 0 v = 0 := if_neg (fun q => by have := Int32.lt_iff_toInt_lt.mp q; omega)
      rw [q1, q2]
      rfl
    refine ⟨?_, ?_⟩
    · unfold clN
      rw [e]
      rfl
    · unfold clN
      rw [e, nI_clamp (by omega)]
      omega
  · obtain ⟨j, hj, e⟩ := nI_of h
    subst e
    have e : mx 0 (mi (nI l) (nI j)) = nI (min l j) := by
      rw [nI_mi hl hj, nI_lit0, nI_mx (by omega) (by omega), Nat.max_eq_right (by omega)]
    have e2 : clN l (nI j) = min l j := by
      unfold clN
      rw [e, nI_clamp (by omega)]
    rw [e2]
    exact ⟨e, by omega⟩
def runV (g : Geo) (ru : Ru) (W : Wt) (k : Nat) : Int32 := match ru with
  | none => (nI (wl W k) + 2) / 3 - nI (wh W k)
  | some f => f (askW g W k)
def runN (g : Geo) (ru : Ru) (W : Wt) (k : Nat) : Nat := if bt (wo W) k = 1 then clN (wl W k) (runV g ru W k) else 0
theorem runN_le {g : Geo} {ru : Ru} {W : Wt} {k : Nat} (h : wl W k < 2 ^ 31) : runN g ru W k ≤ wl W k := by
  unfold runN
  by_cases e : bt (wo W) k = 1
  · rw [if_pos e]
    exact (clN_e h _).2
  · rw [if_neg e]
    omega
/-- nodes stay as they are -/
def NdS (s t : Sg) : Prop := gN s ≤ gN t ∧ ∀ i, i < gN s → 8 ≤ (gK s i).1 → (gK s i).1 ≤ 11 → gK t i = gK s i ∧ (∀ k, gI t i k = gI s i k) ∧ ∀ k, gR t i k = gR s i k
theorem NdS.refl (s : Sg) : NdS s s := ⟨Nat.le_refl _, fun _ _ _ _ => ⟨rfl, fun _ => rfl, fun _ => rfl⟩⟩
theorem NdS.trans {s t r : Sg} (h : NdS s t) (g : NdS t r) : NdS s r := ⟨Nat.le_trans h.1 g.1, fun i hi h1 h2 => by
  have a := h.2 i hi h1 h2
  have b := g.2 i (Nat.lt_of_lt_of_le hi h.1) (by rw [a.1]; exact h1) (by rw [a.1]; exact h2)
  exact ⟨b.1.trans a.1, fun k => (b.2.1 k).trans (a.2.1 k), fun k => (b.2.2 k).trans (a.2.2 k)⟩⟩
theorem KS.node {s : Sg} (h : KS s) {i : Nat} (h1 : 8 ≤ (gK s i).1) (h2 : (gK s i).1 ≤ 11) : 73 ≤ i := by
  by_cases e : i < 73
  · exfalso
    rw [h.2 i e] at h1 h2
    have : ∀ i, i < 73 → ¬ (8 ≤ (stK.getD i (0, 0)).1 ∧ (stK.getD i (0, 0)).1 ≤ 11) := by decide
    exact this i e ⟨h1, h2⟩
  · omega
theorem Fa.nd {D : Nat → Nat → Prop} {s t : Sg} (h : Fa D s t) (hk : KS s) (hd : ∀ i k, 73 ≤ i → ¬ D i k) : NdS s t := ⟨h.N, fun i hi h1 h2 => ⟨h.K hi, fun k => h.I hi (hd i k (hk.node h1 h2)), fun k => h.R hi (hd i k (hk.node h1 h2))⟩⟩
theorem Fr.nd {D : Nat → Nat → Prop} {s t : Sg} (h : Fr D s t) (hk : KS s) (hd : ∀ i k, 73 ≤ i → ¬ D i k) : NdS s t := h.fa.nd hk hd
def AskX (t : Sg) (w k : Nat) (a : Nat → Int32) : Prop := gR t 0 18 = some w ∧ gI t 0 19 = nI k ∧ a 0 = gI t (w + 1) k ∧ a 1 = gI t 11 k ∧ a 2 = gI t (w + 2) k ∧ a 3 = gI t (w + 3) k ∧ J_bitCount (gI t w 4) = some (a 4) ∧ a 5 = gI t w 5 - gI t w 5 / 7 * 7
def TreeOK (s : Sg) (i : Nat) (f : (Nat → Int32) → Int32) : Prop := ∀ t, NdS s t → ∀ w k a, Wst w → k < 6 → AskX t w k a → X_val t i = some (f a)
def XRul (ru : Ru) (s : Sg) : Prop := match ru with
  | none => gR s 0 20 = none
  | some f => ∃ i, gR s 0 20 = some i ∧ TreeOK s i f
theorem TreeOK.nd {s t : Sg} {i : Nat} {f : (Nat → Int32) → Int32} (h : TreeOK s i f) (hn : NdS s t) : TreeOK t i f := fun r hr => h r (hn.trans hr)
theorem XRul.nd {s t : Sg} {ru : Ru} (h : XRul ru s) (hn : NdS s t) (hr : gR t 0 20 = gR s 0 20) : XRul ru t := by
  cases ru with
  | none => exact hr.trans h
  | some f =>
    obtain ⟨i, hi, ht⟩ := h
    exact ⟨i, hr.trans hi, ht.nd hn⟩
/-- the standing Waters' rows -/
def SWt (s : Sg) : Prop := ∀ w, Wst w → ∀ j, j < 4 → gR s w j = some (w + 1 + j)
def OffX (D : Nat → Nat → Prop) : Prop := (∀ k, ¬ D 11 k ∧ ¬ D 12 k ∧ ¬ D 13 k) ∧ ¬ D 0 5 ∧ ¬ D 0 20 ∧ (∀ i k, 73 ≤ i → ¬ D i k) ∧ ∀ w, Wst w → ∀ j, j < 4 → ¬ D w j
theorem XG.fr {D : Nat → Nat → Prop} {g : Geo} {s t : Sg} (h : XG g s) (f : Fr D s t) (hd : ¬ D 0 5 ∧ ∀ k, ¬ D 11 k ∧ ¬ D 12 k ∧ ¬ D 13 k) : XG g t := ⟨(f.I hd.1).trans h.1, fun k hk => ⟨(f.I (hd.2 k).1).trans (h.2 k hk).1, (f.I (hd.2 k).2.1).trans (h.2 k hk).2.1, (f.I (hd.2 k).2.2).trans (h.2 k hk).2.2⟩⟩
theorem MG.fr {D : Nat → Nat → Prop} {g : Geo} {s t : Sg} (h : MG g s) (f : Fr D s t) (hd : ¬ D 45 1 ∧ ∀ k, ¬ D 47 k ∧ ¬ D 48 k ∧ ¬ D 49 k) : MG g t := ⟨(f.I hd.1).trans h.1, fun k hk => ⟨(f.I (hd.2 k).1).trans (h.2 k hk).1, (f.I (hd.2 k).2.1).trans (h.2 k hk).2.1, (f.I (hd.2 k).2.2).trans (h.2 k hk).2.2⟩⟩
theorem KS.fr {D : Nat → Nat → Prop} {s t : Sg} (h : KS s) (f : Fr D s t) : KS t := ⟨by rw [f.N]; exact h.1, fun i hi => by rw [f.K]; exact h.2 i hi⟩
/-- what a day of the class stands on -/
def XEn (g : Geo) (ru : Ru) (s : Sg) : Prop := KS s ∧ XG g s ∧ XRul ru s ∧ SWt s
theorem XEn.fr {D : Nat → Nat → Prop} {g : Geo} {ru : Ru} {s t : Sg} (h : XEn g ru s) (f : Fr D s t) (hd : OffX D) : XEn g ru t := ⟨h.1.fr f, h.2.1.fr f ⟨hd.2.1, hd.1⟩, h.2.2.1.nd (f.nd h.1 hd.2.2.2.1) (f.R hd.2.2.1), fun w hw j hj => (f.R (hd.2.2.2.2 w hw j hj)).trans (h.2.2.2 w hw j hj)⟩
abbrev dAsk (i k : Nat) : Prop := i = 0 ∧ (k = 18 ∨ k = 19)
theorem X_run_ok {g : Geo} {ru : Ru} {W : Wt} {s : Sg} {w k : Nat} (hg : GoodG g) (hE : XEn g ru s) (hgW : GoodW g W) (hW : XW (gn g) s w W) (hw : Wst w) (hk : k < gn g) : Tp (X_run s w (nI k)) (fun v t => v = nI (runN g ru W k) ∧ Fr dAsk s t) := by
  obtain ⟨hks, hG, hr, _⟩ := hE
  have ho := GoodW.o hg hgW
  have h6 : k < 6 := by have := hg.1; omega
  have hl : wl W k < 2 ^ 31 := by have := (hgW.1 k hk).1; have := (hg.2 k hk).2.1; omega
  unfold X_run
  rw [if_pos hw, hW.2.2.2.2.1, X_has_n (by omega) (by omega)]
  simp only [bd_some]
  have hb := bt_lt (wo W) k
  by_cases e : bt (wo W) k = 1
  · rw [e, if_neg (by decide)]
    simp only [lt_e]
    have hF : Fr dAsk s (pI (pR s 0 18 (some w)) 0 19 (nI k)) := ((Fr.refl dAsk s).pR (by omega)).pI (by omega)
    have e1 : gI (pI (pR s 0 18 (some w)) 0 19 (nI k)) (w + 1) k = nI (wl W k) := by rw [gI_pI_i (by omega), gI_pR, hW.1 k hk]
    have e2 : gI (pI (pR s 0 18 (some w)) 0 19 (nI k)) (w + 2) k = nI (wh W k) := by rw [gI_pI_i (by omega), gI_pR, hW.2.1 k hk]
    have e3 : gI (pI (pR s 0 18 (some w)) 0 19 (nI k)) (w + 3) k = nI (wt W k) := by rw [gI_pI_i (by omega), gI_pR, hW.2.2.1 k hk]
    have hfin : ∀ v, v = runV g ru W k → Tp (X_run_57 w (pI (pR s 0 18 (some w)) 0 19 (nI k)) (nI k) v) (fun v t => v = nI (runN g ru W k) ∧ Fr dAsk s t) := by
      intro v hv
      unfold X_run_57
      rw [aI_n h6 (by omega), bd_some, e1, (clN_e hl v).1]
      refine Tp_some ⟨?_, hF⟩
      unfold runN
      rw [if_pos e, hv]
    cases ru with
    | none =>
      have hr0 : gR (pI (pR s 0 18 (some w)) 0 19 (nI k)) 0 20 = none := by rw [gR_pI, gR_pR, if_neg (by decide)]; exact hr
      rw [hr0, ox_none, aI_n h6 (by omega), bd_some, aI_n h6 (by omega), bd_some]
      exact hfin _ (by rw [e1, e2]; rfl)
    | some f =>
      obtain ⟨i, hi, ht⟩ := hr
      have hr0 : gR (pI (pR s 0 18 (some w)) 0 19 (nI k)) 0 20 = some i := by rw [gR_pI, gR_pR, if_neg (by decide)]; exact hi
      rw [hr0, ox_some, bd_some]
      have hnd : NdS s (pI (pR s 0 18 (some w)) 0 19 (nI k)) := hF.nd hks (fun i k hi => by omega)
      have hv := ht _ hnd w k (askW g W k) hw h6 ⟨by rw [gR_pI, gR_pR, if_pos ⟨rfl, rfl⟩], by rw [gI_pI_s], e1.symm, by rw [gI_pI_i (by decide), gI_pR, (hG.2 k hk).1]; rfl, e2.symm, e3.symm, by
        have hw0 : w ≠ 0 := by omega
        rw [gI_pI_i hw0, gI_pR, hW.2.2.2.2.1]
        exact pop_b _ ho, by
        have hw0 : w ≠ 0 := by omega
        rw [gI_pI_i hw0, gI_pR, hW.2.2.2.2.2.1]
        rfl⟩
      rw [hv, bd_some]
      exact hfin _ rfl
  · have e0 : bt (wo W) k = 0 := by omega
    rw [e0, if_pos nI_0]
    refine Tp_some ⟨?_, Fr.refl _ _⟩
    unfold runN
    rw [if_neg e]
    rfl
/-! ### a day -/
def moN (lk : Int32) (mo k : Nat) : Nat := if k < 6 ∧ nI k = lk then mo else 0
def nx0 (g : Geo) (ru : Ru) (lk : Int32) (mo : Nat) (W : Wt) (k : Nat) : Nat := (wl W k - runN g ru W k) - min (wl W k - runN g ru W k) (gl g k + moN lk mo k) + wt W k
/-- what runs down, row by row -/
def adD (g : Geo) (r : Nat → Nat) (j : Nat) (f : Nat → Nat) : Nat → Nat := fo (fun i f => match gd g i with
  | none => f
  | some d => fun k => if k = d then f k + r i else f k) j f
theorem adD_s (g : Geo) (r : Nat → Nat) (j : Nat) (f : Nat → Nat) : adD g r (j + 1) f = match gd g j with
  | none => adD g r j f
  | some d => fun k => if k = d then adD g r j f k + r j else adD g r j f k := rfl
theorem adD_add (g : Geo) (r : Nat → Nat) (j : Nat) (c f : Nat → Nat) (k : Nat) : adD g r j (fun k => c k + f k) k = c k + adD g r j f k := by
  induction j with
  | zero => rfl
  | succ j ih =>
    rw [adD_s, adD_s]
    cases gd g j with
    | none => exact ih
    | some d =>
      show (if k = d then _ else _) = c k + (if k = d then _ else _)
      by_cases e : k = d
      · rw [if_pos e, if_pos e, ih]; omega
      · rw [if_neg e, if_neg e, ih]
theorem adD_le {g : Geo} {r : Nat → Nat} {j : Nat} {f : Nat → Nat} (h : ∀ i, i < j → r i ≤ 99) (k : Nat) : adD g r j f k ≤ f k + j * 99 := by
  induction j with
  | zero => exact Nat.le_refl _
  | succ j ih =>
    have h1 := ih (fun i hi => h i (by omega))
    have h2 := h j (by omega)
    rw [adD_s]
    cases gd g j with
    | none => show adD g r j f k ≤ _; omega
    | some d =>
      show (if k = d then _ else _) ≤ _
      by_cases e : k = d
      · rw [if_pos e]; omega
      · rw [if_neg e]; omega
def nxN (g : Geo) (ru : Ru) (lk : Int32) (mo : Nat) (W : Wt) : Nat → Nat := adD g (runN g ru W) (gn g) (nx0 g ru lk mo W)
def dayL (g : Geo) (ru : Ru) (lk : Int32) (mo : Nat) (W : Wt) : Nat → Nat := fun k => min (gb g k) (nxN g ru lk mo W k)
def dayH (W : Wt) : Nat → Nat := fun k => min 9 (wh W k + bt (wo W) k)
def dayP (g : Geo) (ru : Ru) (lk : Int32) (mo : Nat) (W : Wt) (j : Nat) : Nat := fo (fun k a => min 9999 (a + (nxN g ru lk mo W k - gb g k))) j (ws W)
def dayR (g : Geo) (ru : Ru) (lk : Int32) (mo : Nat) (W : Wt) (j : Nat) : Nat := fo (fun k a => min 999 (a + if 0 < wl W k ∧ nxN g ru lk mo W k = 0 then 1 else 0)) j (wr W)
def dayS (g : Geo) (ru : Ru) (lk : Int32) (mo : Nat) (W : Wt) : Wt := (dayL g ru lk mo W, dayH W, wt W, wk W, wo W, wd W + 1, dayP g ru lk mo W (gn g), dayR g ru lk mo W (gn g))
theorem nx0_le {g : Geo} {ru : Ru} {lk : Int32} {mo : Nat} {W : Wt} (hg : GoodG g) (hW : GoodW g W) {k : Nat} (hk : k < gn g) : nx0 g ru lk mo W k ≤ 108 := by
  have h1 := (hW.1 k hk).1
  have h2 := (hg.2 k hk).2.1
  have h3 := (hW.1 k hk).2.2.1
  unfold nx0
  omega
theorem nxN_le {g : Geo} {ru : Ru} {lk : Int32} {mo : Nat} {W : Wt} (hg : GoodG g) (hW : GoodW g W) {k : Nat} (hk : k < gn g) : nxN g ru lk mo W k ≤ 702 := by
  have h0 := nx0_le (ru := ru) (lk := lk) (mo := mo) hg hW hk
  have h1 : nxN g ru lk mo W k ≤ nx0 g ru lk mo W k + gn g * 99 := adD_le (fun i hi => by
    have h1 := (hW.1 i hi).1
    have h2 := (hg.2 i hi).2.1
    have h3 := runN_le (g := g) (ru := ru) (W := W) (k := i) (by omega)
    omega) k
  have h2 := hg.1
  omega
theorem dayP_le {g : Geo} {ru : Ru} {lk : Int32} {mo : Nat} {W : Wt} (h : ws W ≤ 9999) (j : Nat) : dayP g ru lk mo W j ≤ 9999 := by
  cases j with
  | zero => exact h
  | succ j => exact Nat.min_le_left _ _
theorem dayR_le {g : Geo} {ru : Ru} {lk : Int32} {mo : Nat} {W : Wt} (h : wr W ≤ 999) (j : Nat) : dayR g ru lk mo W j ≤ 999 := by
  cases j with
  | zero => exact h
  | succ j => exact Nat.min_le_left _ _
theorem dayS_good {g : Geo} {ru : Ru} {lk : Int32} {mo : Nat} {W : Wt} (hW : GoodW g W) : GoodW g (dayS g ru lk mo W) := by
  refine ⟨fun k hk => ⟨Nat.min_le_left _ _, Nat.min_le_left _ _, (hW.1 k hk).2.2.1, (hW.1 k hk).2.2.2⟩, hW.2.1, dayP_le hW.2.2.1 _, dayR_le hW.2.2.2 _⟩
/-- a day on the Water w -/
abbrev dDay (w i k : Nat) : Prop := i = 26 ∨ i = 27 ∨ i = w + 1 ∨ i = w + 2 ∨ (i = w ∧ (k = 5 ∨ k = 6 ∨ k = 7)) ∨ (i = 0 ∧ (k = 18 ∨ k = 19))
/-- third row of loops: levels, hair, spilt, dried -/
theorem X_ld3 {g : Geo} {ru : Ru} {lk : Int32} {mo : Nat} {W : Wt} {s0 : Sg} {w u : Nat} (hu : 20000 ≤ u) (hg : GoodG g) (hgW : GoodW g W) (hw : Wst w) (hG : XG g s0) (hT : ∀ k, k < gn g → gI s0 (w + 3) k = nI (wt W k)) (hK : ∀ k, k < gn g → gI s0 (w + 4) k = nI (wk W k)) (hO : gI s0 w 4 = nI (wo W))
    (s : Sg) (hF : Fr (dDay w) s0 s) (hnx : ∀ k, k < gn g → gI s 27 k = nI (nxN g ru lk mo W k)) (hl : ∀ k, k < gn g → gI s (w + 1) k = nI (wl W k)) (hh : ∀ k, k < gn g → gI s (w + 2) k = nI (wh W k)) (hd : gI s w 5 = wd W) (hp : gI s w 6 = nI (ws W)) (hr : gI s w 7 = nI (wr W)) :
    Tt (X_leaksDay_144 u w u s (nI 0)) (fun t => Fr (dDay w) s0 t ∧ XW (gn g) t w (dayS g ru lk mo W)) := by
  have h6 := hg.1
  have hn := hG.1
  have ho := GoodW.o hg hgW
  refine loop_i (W := fun f j s => Tt (X_leaksDay_144 u w f s (nI j)) (fun t => Fr (dDay w) s0 t ∧ XW (gn g) t w (dayS g ru lk mo W)))
    (I := fun j s => Fr (dDay w) s0 s ∧ (∀ k, k < gn g → gI s 27 k = nI (nxN g ru lk mo W k)) ∧ (∀ k, k < gn g → gI s (w + 1) k = if k < j then nI (dayL g ru lk mo W k) else nI (wl W k)) ∧ (∀ k, k < gn g → gI s (w + 2) k = if k < j then nI (dayH W k) else nI (wh W k)) ∧ gI s w 5 = wd W ∧ gI s w 6 = nI (dayP g ru lk mo W j) ∧ gI s w 7 = nI (dayR g ru lk mo W j)) (gn g) ?_ ?_ u 0 s (by omega) (by omega) ⟨hF, hnx, fun k hk => by rw [if_neg (by omega)]; exact hl k hk, fun k hk => by rw [if_neg (by omega)]; exact hh k hk, hd, hp, hr⟩
  · intro f s ⟨hF, hnx, hl, hh, hd, hp, hr⟩
    show Tt (X_leaksDay_144 u w (f + 1) s (nI (gn g))) _
    rw [X_leaksDay_144_s]
    unfold X_leaksDay_144b
    have e0 : gI s 0 5 = nI (gn g) := (hF.I (by omega)).trans hn
    rw [e0, if_pos (nI_le (Nat.le_refl _) (by omega)), lt_e]
    refine Tt_some ⟨hF.pI (by omega), ?_, ?_, ?_, ?_, ?_, ?_, ?_, ?_⟩
    · intro k hk
      rw [gI_pI_i (by omega), hl k hk, if_pos hk]
      rfl
    · intro k hk
      rw [gI_pI_i (by omega), hh k hk, if_pos hk]
      rfl
    · intro k hk
      rw [gI_pI_i (by omega), hF.I (by omega)]
      exact hT k hk
    · intro k hk
      rw [gI_pI_i (by omega), hF.I (by omega)]
      exact hK k hk
    · rw [gI_pI_k (by omega), hF.I (by omega)]
      exact hO
    · rw [gI_pI_s, hd]
      rfl
    · rw [gI_pI_k (by omega), hp]
      rfl
    · rw [gI_pI_k (by omega), hr]
      rfl
  · intro f j s hj ⟨hF, hnx, hl, hh, hd, hp, hr⟩ ih
    show Tt (X_leaksDay_144 u w (f + 1) s (nI j)) _
    have ih : ∀ s', _ → Tt (X_leaksDay_144 u w f s' (nI (j + 1))) _ := ih
    have hnxj := nxN_le (ru := ru) (lk := lk) (mo := mo) hg hgW hj
    have hbj := (hg.2 j hj).2.1
    have hb1 := (hg.2 j hj).1
    have hlj := (hgW.1 j hj).1
    have hhj := (hgW.1 j hj).2.1
    have hpj := dayP_le (g := g) (ru := ru) (lk := lk) (mo := mo) hgW.2.2.1 j
    have hrj := dayR_le (g := g) (ru := ru) (lk := lk) (mo := mo) hgW.2.2.2 j
    have hbt := bt_lt (wo W) j
    rw [X_leaksDay_144_s]
    unfold X_leaksDay_144b
    have e0 : gI s 0 5 = nI (gn g) := (hF.I (by omega)).trans hn
    have e11 : gI s 11 j = nI (gb g j) := (hF.I (by omega)).trans (hG.2 j hj).1
    have eov := ov_e (a := nxN g ru lk mo W j) (b := gb g j) (by omega) (by omega)
    rw [e0, if_neg (nI_ge hj (by omega)), aI_n (by omega) (by omega), bd_some, aI_n (by omega) (by omega), bd_some, lt_e, lt_e, hnx j hj, e11, eov, hp]
    have eP : mi 9999 (nI (dayP g ru lk mo W j) + nI (nxN g ru lk mo W j - gb g j)) = nI (dayP g ru lk mo W (j + 1)) := by
      rw [nI_add, show (9999 : Int32) = nI 9999 from rfl, nI_mi (by omega) (by omega)]
      rfl
    rw [eP]
    have hF1 : Fr (dDay w) s0 (pI s w 6 (nI (dayP g ru lk mo W (j + 1)))) := hF.pI (by omega)
    -- what stands behind the question of drying
    have hfin : ∀ c : Nat, dayR g ru lk mo W (j + 1) = min 999 (dayR g ru lk mo W j + c) → c ≤ 1 → Tt (X_leaksDay_224 u w (X_leaksDay_144 u w f) (pI s w 6 (nI (dayP g ru lk mo W (j + 1)))) (nI j) (nI (nxN g ru lk mo W j - gb g j)) 999 (nI (dayR g ru lk mo W j)) (nI c)) (fun t => Fr (dDay w) s0 t ∧ XW (gn g) t w (dayS g ru lk mo W)) := by
      intro c hc hc1
      unfold X_leaksDay_224
      rw [lt_e, nI_add, show (999 : Int32) = nI 999 from rfl, nI_mi (by omega) (by omega), ← hc, aI_n (by omega) (by omega), bd_some, gI_pI_i (by omega), gI_pI_i (by omega), hnx j hj, tI_n (by omega) (by omega), bd_some, aI_n (by omega) (by omega), bd_some]
      simp (disch := omega) only [gI_pI_i, gI_pI_k]
      rw [hh j hj, if_neg (by omega), hF.I (by omega), hO, X_has_n (by omega) (by omega), bd_some]
      have hgo : Tt (X_leaksDay_280 u w (X_leaksDay_144 u w f) (pI (pI (pI s w 6 (nI (dayP g ru lk mo W (j + 1)))) w 7 (nI (dayR g ru lk mo W (j + 1)))) (w + 1) j (nI (nxN g ru lk mo W j) - nI (nxN g ru lk mo W j - gb g j))) (nI j) (nI j) 9 (nI (wh W j)) (nI (bt (wo W) j))) (fun t => Fr (dDay w) s0 t ∧ XW (gn g) t w (dayS g ru lk mo W)) := by
        unfold X_leaksDay_280
        rw [nI_add, show (9 : Int32) = nI 9 from rfl, nI_mi (by omega) (by omega), tI_n (by omega) (by omega), bd_some, nI_1]
        refine ih _ ⟨(((hF.pI (by omega)).pI (by omega)).pI (by omega)).pI (by omega), ?_, ?_, ?_, ?_, ?_, ?_⟩
        · intro k hk
          rw [gI_pI_i (by omega), gI_pI_i (by omega), gI_pI_i (by omega), gI_pI_i (by omega)]
          exact hnx k hk
        · refine part_up hl ?_ ?_
          · rw [gI_pI_i (by omega), gI_pI_s, pk_sub (by omega)]
            congr 1
            unfold dayL
            omega
          · intro k hk
            rw [gI_pI_i (by omega), gI_pI_k hk, gI_pI_i (by omega), gI_pI_i (by omega)]
        · refine part_up hh ?_ ?_
          · rw [gI_pI_s]
            rfl
          · intro k hk
            rw [gI_pI_k hk, gI_pI_i (by omega), gI_pI_i (by omega), gI_pI_i (by omega)]
        · rw [gI_pI_i (by omega), gI_pI_i (by omega), gI_pI_k (by omega), gI_pI_k (by omega)]
          exact hd
        · rw [gI_pI_i (by omega), gI_pI_i (by omega), gI_pI_k (by omega), gI_pI_s]
        · rw [gI_pI_i (by omega), gI_pI_i (by omega), gI_pI_s]
      by_cases eb : bt (wo W) j = 1
      · rw [eb] at hgo ⊢
        rw [if_neg (by decide)]
        exact hgo
      · have e0 : bt (wo W) j = 0 := by omega
        rw [e0] at hgo ⊢
        rw [if_pos nI_0]
        exact hgo
    have hl' : gI (pI s w 6 (nI (dayP g ru lk mo W (j + 1)))) (w + 1) j = nI (wl W j) := by
      rw [gI_pI_i (by omega), hl j hj, if_neg (by omega)]
    have hr' : gI (pI s w 6 (nI (dayP g ru lk mo W (j + 1)))) w 7 = nI (dayR g ru lk mo W j) := by
      rw [gI_pI_k (by omega)]
      exact hr
    rw [aI_n (by omega) (by omega), bd_some, hl', hr']
    by_cases q : wl W j = 0
    · rw [q, if_pos (by decide)]
      unfold X_leaksDay_223
      refine hfin 0 ?_ (by omega)
      unfold dayR
      rw [fo_s, if_neg (by omega)]
    · rw [if_neg (nI_nle (by omega) (by omega)), aI_n (by omega) (by omega), bd_some, gI_pI_i (by omega), hnx j hj]
      by_cases q2 : nxN g ru lk mo W j = 0
      · rw [if_pos (by rw [q2]; exact nI_0)]
        refine hfin 1 ?_ (by omega)
        unfold dayR
        rw [fo_s, if_pos ⟨by omega, q2⟩]
      · rw [if_neg (nI_ne0 (by omega) (by omega))]
        unfold X_leaksDay_223
        refine hfin 0 ?_ (by omega)
        unfold dayR
        rw [fo_s, if_neg (by omega)]
theorem offX_day {w : Nat} (hw : Wst w) : OffX (dDay w) := ⟨fun k => ⟨by omega, by omega, by omega⟩, by omega, by omega, fun i k hi => by omega, fun v hv j hj => by omega⟩
/-- second row of loops: what runs down -/
theorem X_ld2 {g : Geo} {ru : Ru} {lk : Int32} {mo : Nat} {W : Wt} {s0 : Sg} {w u : Nat} (hu : 20000 ≤ u) (hg : GoodG g) (hgW : GoodW g W) (hw : Wst w) (hG : XG g s0) (hW : XW (gn g) s0 w W)
    (s : Sg) (hF : Fr (dDay w) s0 s) (hrn : ∀ k, k < gn g → gI s 26 k = nI (runN g ru W k)) (hnx : ∀ k, k < gn g → gI s 27 k = nI (nx0 g ru lk mo W k)) (hl : ∀ k, k < gn g → gI s (w + 1) k = nI (wl W k)) (hh : ∀ k, k < gn g → gI s (w + 2) k = nI (wh W k)) (hd : gI s w 5 = wd W) (hp : gI s w 6 = nI (ws W)) (hr : gI s w 7 = nI (wr W)) :
    Tt (X_leaksDay_94 u w u s (nI 0)) (fun t => Fr (dDay w) s0 t ∧ XW (gn g) t w (dayS g ru lk mo W)) := by
  have h6 := hg.1
  have hn := hG.1
  refine loop_i (W := fun f j s => Tt (X_leaksDay_94 u w f s (nI j)) (fun t => Fr (dDay w) s0 t ∧ XW (gn g) t w (dayS g ru lk mo W)))
    (I := fun j s => Fr (dDay w) s0 s ∧ (∀ k, k < gn g → gI s 26 k = nI (runN g ru W k)) ∧ (∀ k, k < gn g → gI s 27 k = nI (adD g (runN g ru W) j (nx0 g ru lk mo W) k)) ∧ (∀ k, k < gn g → gI s (w + 1) k = nI (wl W k)) ∧ (∀ k, k < gn g → gI s (w + 2) k = nI (wh W k)) ∧ gI s w 5 = wd W ∧ gI s w 6 = nI (ws W) ∧ gI s w 7 = nI (wr W)) (gn g) ?_ ?_ u 0 s (by omega) (by omega) ⟨hF, hrn, hnx, hl, hh, hd, hp, hr⟩
  · intro f s ⟨hF, hrn, hnx, hl, hh, hd, hp, hr⟩
    show Tt (X_leaksDay_94 u w (f + 1) s (nI (gn g))) _
    rw [X_leaksDay_94_s]
    unfold X_leaksDay_94b
    have e0 : gI s 0 5 = nI (gn g) := (hF.I (by omega)).trans hn
    rw [e0, if_pos (nI_le (Nat.le_refl _) (by omega))]
    exact X_ld3 hu hg hgW hw hG hW.2.2.1 hW.2.2.2.1 hW.2.2.2.2.1 s hF hnx hl hh hd hp hr
  · intro f j s hj ⟨hF, hrn, hnx, hl, hh, hd, hp, hr⟩ ih
    show Tt (X_leaksDay_94 u w (f + 1) s (nI j)) _
    have ih : ∀ s', _ → Tt (X_leaksDay_94 u w f s' (nI (j + 1))) _ := ih
    rw [X_leaksDay_94_s]
    unfold X_leaksDay_94b
    have e0 : gI s 0 5 = nI (gn g) := (hF.I (by omega)).trans hn
    have e13 : gI s 13 j = oI (gd g j) := (hF.I (by omega)).trans (hG.2 j hj).2.2
    rw [e0, if_neg (nI_ge hj (by omega)), aI_n (by omega) (by omega), bd_some, e13, nI_1]
    have hs := adD_s g (runN g ru W) j (nx0 g ru lk mo W)
    cases hd1 : gd g j with
    | none =>
      rw [hd1] at hs
      rw [if_pos (by decide)]
      exact ih s ⟨hF, hrn, by rw [hs]; exact hnx, hl, hh, hd, hp, hr⟩
    | some d =>
      rw [hd1] at hs
      have hdj := (hg.2 j hj).2.2.2 d hd1
      show Tt (if nI d < 0 then _ else ((some (nI d)).bind _)) _
      rw [if_neg (nI_pos (by omega)), bd_some, aI_n (by omega) (by omega), bd_some, aI_n (by omega) (by omega), bd_some, tI_n (by omega) (by omega), bd_some, hrn j hj, hnx d (by omega), nI_add]
      refine ih _ ⟨hF.pI (by omega), ?_, ?_, ?_, ?_, ?_, ?_, ?_⟩
      · intro k hk
        rw [gI_pI_i (by omega)]
        exact hrn k hk
      · intro k hk
        rw [hs]
        show _ = nI (if k = d then _ else _)
        by_cases e : k = d
        · subst e
          rw [gI_pI_s, if_pos rfl]
        · rw [gI_pI_k e, if_neg e]
          exact hnx k hk
      · intro k hk
        rw [gI_pI_i (by omega)]
        exact hl k hk
      · intro k hk
        rw [gI_pI_i (by omega)]
        exact hh k hk
      · rw [gI_pI_i (by omega)]; exact hd
      · rw [gI_pI_i (by omega)]; exact hp
      · rw [gI_pI_i (by omega)]; exact hr
/-- A DAY OF THE CLASS -/
theorem X_leaksDay_ok {g : Geo} {ru : Ru} {lk : Int32} {mo : Nat} {W : Wt} {s : Sg} {w u : Nat} (hu : 20000 ≤ u) (hg : GoodG g) (hE : XEn g ru s) (hgW : GoodW g W) (hW : XW (gn g) s w W) (hw : Wst w) (hmo : mo ≤ 9) :
    Tt (X_leaksDay u s w lk (nI mo)) (fun t => Fr (dDay w) s t ∧ XW (gn g) t w (dayS g ru lk mo W)) := by
  have h6 := hg.1
  have hn := hE.2.1.1
  have hG := hE.2.1
  unfold X_leaksDay
  rw [if_pos hw]
  refine loop_i (W := fun f j t => Tt (X_leaksDay_3 u w f t lk (nI mo) (nI j)) (fun t => Fr (dDay w) s t ∧ XW (gn g) t w (dayS g ru lk mo W)))
    (I := fun j t => Fr (dDay w) s t ∧ (∀ k, k < j → gI t 26 k = nI (runN g ru W k)) ∧ (∀ k, k < j → gI t 27 k = nI (nx0 g ru lk mo W k)) ∧ XW (gn g) t w W) (gn g) ?_ ?_ u 0 s (by omega) (by omega) ⟨Fr.refl _ _, fun k hk => by omega, fun k hk => by omega, hW⟩
  · intro f t ⟨hF, hrn, hnx, hW1⟩
    show Tt (X_leaksDay_3 u w (f + 1) t lk (nI mo) (nI (gn g))) _
    rw [X_leaksDay_3_s]
    unfold X_leaksDay_3b
    have e0 : gI t 0 5 = nI (gn g) := (hF.I (by omega)).trans hn
    rw [e0, if_pos (nI_le (Nat.le_refl _) (by omega))]
    exact X_ld2 hu hg hgW hw hG hW t hF hrn hnx hW1.1 hW1.2.1 hW1.2.2.2.2.2.1 hW1.2.2.2.2.2.2.1 hW1.2.2.2.2.2.2.2
  · intro f j t hj ⟨hF, hrn, hnx, hW1⟩ ih
    show Tt (X_leaksDay_3 u w (f + 1) t lk (nI mo) (nI j)) _
    have ih : ∀ s', _ → Tt (X_leaksDay_3 u w f s' lk (nI mo) (nI (j + 1))) _ := ih
    have hE1 : XEn g ru t := hE.fr hF (offX_day hw)
    have hlj := (hgW.1 j hj).1
    have hbj := (hg.2 j hj).2.1
    have hkj := (hg.2 j hj).2.2.1
    have htj := (hgW.1 j hj).2.2.1
    have hrl := runN_le (g := g) (ru := ru) (W := W) (k := j) (by omega)
    rw [X_leaksDay_3_s]
    unfold X_leaksDay_3b
    have e0 : gI t 0 5 = nI (gn g) := hE1.2.1.1
    rw [e0, if_neg (nI_ge hj (by omega))]
    refine TpT (X_run_ok hg hE1 hgW hW1 hw hj) (fun v t2 hq => ?_)
    obtain ⟨hv, hF2⟩ := hq
    subst hv
    have hF3 : Fr (dDay w) s t2 := hF.trans (hF2.mono (fun i k h => by omega))
    have e1 : gI t2 (w + 1) j = nI (wl W j) := (hF2.I (by omega)).trans (hW1.1 j hj)
    have e3 : gI t2 (w + 3) j = nI (wt W j) := (hF2.I (by omega)).trans (hW1.2.2.1 j hj)
    have e12 : gI t2 12 j = nI (gl g j) := (hF2.I (by omega)).trans (hE1.2.1.2 j hj).2.1
    have hw2 : w + 1 ≠ 26 ∧ w + 3 ≠ 26 := by omega
    rw [tI_n (by omega) (by omega), bd_some, aI_n (by omega) (by omega), bd_some, aI_n (by omega) (by omega), bd_some, lt_e, aI_n (by omega) (by omega), bd_some, gI_pI_s, gI_pI_i hw2.1, gI_pI_i (by decide), e1, e12, pk_sub hrl]
    have hgo : Tt (X_leaksDay_71 u w (X_leaksDay_3 u w f) (pI t2 26 j (nI (runN g ru W j))) lk (nI mo) (nI j) (nI j) (nI (wl W j - runN g ru W j)) (nI (wl W j - runN g ru W j)) (nI (gl g j)) (nI (moN lk mo j))) (fun t => Fr (dDay w) s t ∧ XW (gn g) t w (dayS g ru lk mo W)) := by
      have hmn : moN lk mo j ≤ 9 := by
        unfold moN
        split
        · exact hmo
        · omega
      unfold X_leaksDay_71
      rw [aI_n (by omega) (by omega), bd_some, gI_pI_i hw2.2, e3, nI_add, nI_mi (by omega) (by omega), pk_sub (by omega), nI_add, tI_n (by omega) (by omega), bd_some, nI_1]
      refine ih _ ⟨(hF3.pI (by omega)).pI (by omega), ?_, ?_, ?_⟩
      · intro k hk
        rw [gI_pI_i (by decide)]
        by_cases e : k = j
        · subst e
          rw [gI_pI_s]
        · rw [gI_pI_k e, hF2.I (by omega)]
          exact hrn k (by omega)
      · intro k hk
        by_cases e : k = j
        · subst e
          rw [gI_pI_s]
          rfl
        · rw [gI_pI_k e, gI_pI_i (by decide), hF2.I (by omega)]
          exact hnx k (by omega)
      · have hm : ∀ i k, i ≠ 26 → i ≠ 27 → i ≠ 0 → gI (pI (pI t2 26 j (nI (runN g ru W j))) 27 j (nI (wl W j - runN g ru W j - min (wl W j - runN g ru W j) (gl g j + moN lk mo j) + wt W j))) i k = gI t i k := by
          intro i k h1 h2 h3
          rw [gI_pI_i h2, gI_pI_i h1]
          exact hF2.I (by omega)
        refine ⟨fun k hk => ?_, fun k hk => ?_, fun k hk => ?_, fun k hk => ?_, ?_, ?_, ?_, ?_⟩
        · rw [hm _ _ (by omega) (by omega) (by omega)]; exact hW1.1 k hk
        · rw [hm _ _ (by omega) (by omega) (by omega)]; exact hW1.2.1 k hk
        · rw [hm _ _ (by omega) (by omega) (by omega)]; exact hW1.2.2.1 k hk
        · rw [hm _ _ (by omega) (by omega) (by omega)]; exact hW1.2.2.2.1 k hk
        · rw [hm _ _ (by omega) (by omega) (by omega)]; exact hW1.2.2.2.2.1
        · rw [hm _ _ (by omega) (by omega) (by omega)]; exact hW1.2.2.2.2.2.1
        · rw [hm _ _ (by omega) (by omega) (by omega)]; exact hW1.2.2.2.2.2.2.1
        · rw [hm _ _ (by omega) (by omega) (by omega)]; exact hW1.2.2.2.2.2.2.2
    by_cases e : nI j = lk
    · rw [if_pos e]
      rw [show moN lk mo j = mo from if_pos ⟨by omega, e⟩] at hgo
      exact hgo
    · rw [if_neg e]
      rw [show moN lk mo j = 0 from if_neg (fun q => e q.2)] at hgo
      exact hgo
