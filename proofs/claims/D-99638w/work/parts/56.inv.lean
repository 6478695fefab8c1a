/-! LAW: the two pictures whole -/
set_option maxRecDepth 100000
def XRow (row : List Int64) (s : Sg) : Prop := gI s 0 48 = nI row.length ∧ row.length ≤ 16 ∧ ∀ k, k < row.length → gJ s 44 k = row.getD k 0
def MRw (row : List Int64) (s : Sg) : Prop := gI s 45 8 = nI row.length ∧ ∀ k, k < row.length → gJ s 51 k = row.getD k 0
/-- a place where a made Water may hang -/
def slt (s : Sg) (p : Nat) : Option Nat := if p < 12 then gR s 20 p else gR s 42 (p - 12)
def SL (s : Sg) : Prop := (∀ p b, p < 14 → slt s p = some b → 73 ≤ b ∧ DWb s b) ∧ ∀ p q b c, p < 14 → q < 14 → p ≠ q → slt s p = some b → slt s q = some c → b + 5 ≤ c ∨ c + 5 ≤ b
def XUn (n : Nat) (U : List Wt) (s : Sg) : Prop := gI s 0 24 = nI U.length ∧ ∀ k (h : k < U.length), ∃ b, gR s 20 k = some b ∧ XW n s b U[k]
def MUn (n : Nat) (U : List Wt) (s : Sg) : Prop := gI s 45 22 = nI U.length ∧ ∀ k (h : k < U.length), MW n s 56 (33 * k) U[k]
/-- kept: of this geography, or not -/
def XKp (n : Nat) (Kp : Nat → Option Wt) (c : Nat) (s : Sg) : Prop := gI s 0 6 = nI c ∧ ∀ i, i < 2 → match Kp i with
  | some W => gI s 43 i = nI c ∧ ∃ b, gR s 42 i = some b ∧ XW n s b W
  | none => gR s 42 i = none ∨ ∃ d, d < c ∧ gI s 43 i = nI d
def MKp (n : Nat) (Kp : Nat → Option Wt) (c : Nat) (s : Sg) : Prop := gI s 45 39 = nI c ∧ ∀ i, i < 2 → match Kp i with
  | some W => gI s 70 i = 1 ∧ gI s 71 i = nI c ∧ MW n s 69 (33 * i) W
  | none => gI s 70 i = 0 ∨ ∃ d, d < c ∧ gI s 71 i = nI d
def XRg (rg : List (Nat × Nat × Nat)) (s : Sg) : Prop := gI s 0 31 = nI rg.length ∧ ∀ k (h : k < rg.length), gI s 31 k = nI rg[k].1 ∧ gI s 32 k = nI rg[k].2.1 ∧ gI s 33 k = nI rg[k].2.2
def MRg (rg : List (Nat × Nat × Nat)) (s : Sg) : Prop := gI s 45 33 = nI rg.length ∧ ∀ k (h : k < rg.length), gI s 62 k = nI rg[k].1 ∧ gI s 63 k = nI rg[k].2.1 ∧ gI s 64 k = nI rg[k].2.2
/-- the text: how many signs, the signs -/
abbrev Tx : Type := Nat × (Nat → Nat)
def XTx (tx : Tx) (s : Sg) : Prop := gI s 0 8 = nI tx.1 ∧ ∀ k, k < tx.1 → gI s 14 k = nI (tx.2 k)
def MTx (tx : Tx) (s : Sg) : Prop := gI s 45 6 = nI tx.1 ∧ ∀ k, k < tx.1 → gI s 50 k = (nI (tx.2 k)).toInt8.toInt32
/-- all that lasts: geography, lakes, row, what can be undone, kept, rings, text, rule, changes -/
abbrev AS : Type := Geo × Wt × List Int64 × List Wt × (Nat → Option Wt) × List (Nat × Nat × Nat) × Tx × Ru × Nat
def aG (A : AS) : Geo := A.1
def aW (A : AS) : Wt := A.2.1
def aRow (A : AS) : List Int64 := A.2.2.1
def aU (A : AS) : List Wt := A.2.2.2.1
def aK (A : AS) : Nat → Option Wt := A.2.2.2.2.1
def aRg (A : AS) : List (Nat × Nat × Nat) := A.2.2.2.2.2.1
def aT (A : AS) : Tx := A.2.2.2.2.2.2.1
def aRu (A : AS) : Ru := A.2.2.2.2.2.2.2.1
def aC (A : AS) : Nat := A.2.2.2.2.2.2.2.2
def XI (A : AS) (s : Sg) : Prop := XEn (aG A) (aRu A) s ∧ XW (gn (aG A)) s 1 (aW A) ∧ XRow (aRow A) s ∧ XUn (gn (aG A)) (aU A) s ∧ XKp (gn (aG A)) (aK A) (aC A) s ∧ XRg (aRg A) s ∧ XTx (aT A) s ∧ SL s
def MI (u : Nat) (A : AS) (s : Sg) : Prop := MB u (aG A) (aRu A) s ∧ MW (gn (aG A)) s 46 0 (aW A) ∧ MRw (aRow A) s ∧ MUn (gn (aG A)) (aU A) s ∧ MKp (gn (aG A)) (aK A) (aC A) s ∧ MRg (aRg A) s ∧ MTx (aT A) s ∧ gR s 45 16 = some 53 ∧ gR s 45 17 = some 54
def GI (c : Nat) (A : AS) : Prop := GoodG (aG A) ∧ GoodW (aG A) (aW A) ∧ ((aU A).length ≤ 12 ∧ ∀ W ∈ aU A, GoodW (aG A) W) ∧ (∀ i W, aK A i = some W → GoodW (aG A) W) ∧ ((aRg A).length ≤ 10 ∧ ∀ r ∈ aRg A, r.1 < gn (aG A) ∧ r.2.1 ≤ 20 ∧ r.2.2 ≤ 99) ∧ ((aT A).1 ≤ 80 ∧ ∀ k, (aT A).2 k < 256) ∧ RuOK (aRu A) ∧ aC A ≤ c
def sRow (A : AS) (r : List Int64) : AS := (A.1, A.2.1, r, A.2.2.2)
def sW (A : AS) (W : Wt) : AS := (A.1, W, A.2.2)
/-! ### frames of the pieces -/
abbrev dSX (i k : Nat) : Prop := (7 ≤ i ∧ i ≤ 10) ∨ (15 ≤ i ∧ i ≤ 19) ∨ (22 ≤ i ∧ i ≤ 30) ∨ (34 ≤ i ∧ i ≤ 41) ∨ ((i = 6 ∨ i = 21) ∧ 4 ≤ k ∧ k ≤ 7) ∨ (i = 0 ∧ (k = 9 ∨ k = 10 ∨ k = 11 ∨ k = 17 ∨ k = 18 ∨ k = 19 ∨ k = 21 ∨ k = 30 ∨ k = 41 ∨ k = 44))
abbrev dXr (i k : Nat) : Prop := dSX i k ∨ i = 44 ∨ (i = 0 ∧ k = 48)
abbrev dSM (i k : Nat) : Prop := i = 52 ∨ i = 55 ∨ (57 ≤ i ∧ i ≤ 61) ∨ (65 ≤ i ∧ i ≤ 68) ∨ (i = 45 ∧ (k = 9 ∨ (10 ≤ k ∧ k ≤ 14) ∨ k = 19 ∨ k = 38))
abbrev dMr (i k : Nat) : Prop := dSM i k ∨ i = 51 ∨ (i = 45 ∧ k = 8)
/-- the places of the class, of the Model, that last (the row apart) -/
abbrev PX (i k : Nat) : Prop := (i < 45 ∨ 73 ≤ i) ∧ ¬ dXr i k
abbrev PM (i k : Nat) : Prop := 45 ≤ i ∧ i ≤ 71 ∧ ¬ dMr i k
theorem XW.mv {n : Nat} {s t : Sg} {w : Nat} {W : Wt} (h : XW n s w W) (e : ∀ i k, w ≤ i → i ≤ w + 4 → gI t i k = gI s i k) : XW n t w W := by
  obtain ⟨h1, h2, h3, h4, h5, h6, h7, h8⟩ := h
  exact ⟨fun k hk => (e _ _ (by omega) (by omega)).trans (h1 k hk), fun k hk => (e _ _ (by omega) (by omega)).trans (h2 k hk), fun k hk => (e _ _ (by omega) (by omega)).trans (h3 k hk), fun k hk => (e _ _ (by omega) (by omega)).trans (h4 k hk), (e _ _ (by omega) (by omega)).trans h5, (e _ _ (by omega) (by omega)).trans h6, (e _ _ (by omega) (by omega)).trans h7, (e _ _ (by omega) (by omega)).trans h8⟩
theorem MW.mv {n : Nat} {s t : Sg} {a o : Nat} {W : Wt} (h : MW n s a o W) (e : ∀ k, gI t a k = gI s a k) : MW n t a o W := by
  unfold MW at *
  simp only [e]
  exact h
theorem slt_20 {s : Sg} {k : Nat} (h : k < 12) : slt s k = gR s 20 k := if_pos h
theorem slt_42 {s : Sg} {i : Nat} : slt s (12 + i) = gR s 42 i := by
  unfold slt
  rw [if_neg (by omega)]
  congr 1
  omega
theorem SL.b20 {s : Sg} (h : SL s) {k b : Nat} (hk : k < 12) (e : gR s 20 k = some b) : 73 ≤ b ∧ DWb s b := h.1 k b (by omega) (by rw [slt_20 hk]; exact e)
theorem SL.b42 {s : Sg} (h : SL s) {i b : Nat} (hi : i < 2) (e : gR s 42 i = some b) : 73 ≤ b ∧ DWb s b := h.1 (12 + i) b (by omega) (by rw [slt_42]; exact e)
theorem SL.mv {s t : Sg} (h : SL s) (e1 : ∀ k, gR t 20 k = gR s 20 k) (e2 : ∀ k, gR t 42 k = gR s 42 k) (e3 : ∀ b k, 73 ≤ b → b < gN s → gR t b k = gR s b k) (e4 : ∀ i, i < gN s → gK t i = gK s i) (e5 : gN s ≤ gN t) : SL t := by
  have es : ∀ p, slt t p = slt s p := fun p => by unfold slt; rw [e1, e2]
  refine ⟨fun p b hp e => ?_, fun p q b c hp hq hpq eb ec => h.2 p q b c hp hq hpq (by rw [← es]; exact eb) (by rw [← es]; exact ec)⟩
  obtain ⟨hb, k1, k2, k3⟩ := h.1 p b hp (by rw [← es]; exact e)
  exact ⟨hb, by rw [e4 b (by omega)]; exact k1, by omega, fun j hj => ⟨by rw [e3 b j hb (by omega)]; exact (k3 j hj).1, by rw [e4 _ (by omega)]; exact (k3 j hj).2⟩⟩
theorem XUn.mv {n : Nat} {U : List Wt} {s t : Sg} (h : XUn n U s) (hl : U.length ≤ 12) (hs : SL s) (e1 : gI t 0 24 = gI s 0 24) (e2 : ∀ k, gR t 20 k = gR s 20 k) (e3 : ∀ i k, 73 ≤ i → i < gN s → gI t i k = gI s i k) : XUn n U t := ⟨e1.trans h.1, fun k hk => by
  obtain ⟨b, hb, hw⟩ := h.2 k hk
  obtain ⟨h73, _, hN, _⟩ := hs.b20 (by omega) hb
  exact ⟨b, (e2 k).trans hb, hw.mv (fun i m h1 h2 => e3 i m (by omega) (by omega))⟩⟩
theorem XKp.mv {n : Nat} {Kp : Nat → Option Wt} {c : Nat} {s t : Sg} (h : XKp n Kp c s) (hs : SL s) (e0 : gI t 0 6 = gI s 0 6) (e1 : ∀ k, gI t 43 k = gI s 43 k) (e2 : ∀ k, gR t 42 k = gR s 42 k) (e3 : ∀ i k, 73 ≤ i → i < gN s → gI t i k = gI s i k) : XKp n Kp c t := ⟨e0.trans h.1, fun i hi => by
  have h2 := h.2 i hi
  cases hk : Kp i with
  | none =>
    rw [hk] at h2
    show gR t 42 i = none ∨ ∃ d, d < c ∧ gI t 43 i = nI d
    rw [e1, e2]
    exact h2
  | some W =>
    rw [hk] at h2
    obtain ⟨q1, b, hb, hw⟩ := h2
    obtain ⟨h73, _, hN, _⟩ := hs.b42 hi hb
    exact ⟨(e1 i).trans q1, b, (e2 i).trans hb, hw.mv (fun i m h1 h2 => e3 i m (by omega) (by omega))⟩⟩
theorem XRg.mv {rg : List (Nat × Nat × Nat)} {s t : Sg} (h : XRg rg s) (e0 : gI t 0 31 = gI s 0 31) (e : ∀ i k, 31 ≤ i → i ≤ 33 → gI t i k = gI s i k) : XRg rg t := ⟨e0.trans h.1, fun k hk => ⟨(e _ _ (by omega) (by omega)).trans (h.2 k hk).1, (e _ _ (by omega) (by omega)).trans (h.2 k hk).2.1, (e _ _ (by omega) (by omega)).trans (h.2 k hk).2.2⟩⟩
theorem MRg.mv {rg : List (Nat × Nat × Nat)} {s t : Sg} (h : MRg rg s) (e0 : gI t 45 33 = gI s 45 33) (e : ∀ i k, 62 ≤ i → i ≤ 64 → gI t i k = gI s i k) : MRg rg t := ⟨e0.trans h.1, fun k hk => ⟨(e _ _ (by omega) (by omega)).trans (h.2 k hk).1, (e _ _ (by omega) (by omega)).trans (h.2 k hk).2.1, (e _ _ (by omega) (by omega)).trans (h.2 k hk).2.2⟩⟩
theorem XTx.mv {tx : Tx} {s t : Sg} (h : XTx tx s) (e0 : gI t 0 8 = gI s 0 8) (e : ∀ k, gI t 14 k = gI s 14 k) : XTx tx t := ⟨e0.trans h.1, fun k hk => (e k).trans (h.2 k hk)⟩
theorem MTx.mv {tx : Tx} {s t : Sg} (h : MTx tx s) (e0 : gI t 45 6 = gI s 45 6) (e : ∀ k, gI t 50 k = gI s 50 k) : MTx tx t := ⟨e0.trans h.1, fun k hk => (e k).trans (h.2 k hk)⟩
theorem XRow.mv {r : List Int64} {s t : Sg} (h : XRow r s) (e0 : gI t 0 48 = gI s 0 48) (e : ∀ k, gJ t 44 k = gJ s 44 k) : XRow r t := ⟨e0.trans h.1, h.2.1, fun k hk => (e k).trans (h.2.2 k hk)⟩
theorem MRw.mv {r : List Int64} {s t : Sg} (h : MRw r s) (e0 : gI t 45 8 = gI s 45 8) (e : ∀ k, gJ t 51 k = gJ s 51 k) : MRw r t := ⟨e0.trans h.1, fun k hk => (e k).trans (h.2 k hk)⟩
theorem MUn.mv {n : Nat} {U : List Wt} {s t : Sg} (h : MUn n U s) (e0 : gI t 45 22 = gI s 45 22) (e : ∀ k, gI t 56 k = gI s 56 k) : MUn n U t := ⟨e0.trans h.1, fun k hk => (h.2 k hk).mv e⟩
theorem MKp.mv {n : Nat} {Kp : Nat → Option Wt} {c : Nat} {s t : Sg} (h : MKp n Kp c s) (e0 : gI t 45 39 = gI s 45 39) (e : ∀ i k, 69 ≤ i → i ≤ 71 → gI t i k = gI s i k) : MKp n Kp c t := ⟨e0.trans h.1, fun i hi => by
  have h2 := h.2 i hi
  cases hk : Kp i with
  | none =>
    rw [hk] at h2
    show gI t 70 i = 0 ∨ ∃ d, d < c ∧ gI t 71 i = nI d
    rw [e 70 _ (by omega) (by omega), e 71 _ (by omega) (by omega)]
    exact h2
  | some W =>
    rw [hk] at h2
    exact ⟨(e 70 _ (by omega) (by omega)).trans h2.1, (e 71 _ (by omega) (by omega)).trans h2.2.1, h2.2.2.mv (fun k => e 69 k (by omega) (by omega))⟩⟩
theorem XI_row {D : Nat → Nat → Prop} {A : AS} {s t : Sg} {c : Nat} {r : List Int64} (h : XI A s) (hG : GI c A) (f : Fr D s t) (hd : ∀ i k, PX i k → ¬ D i k) (hr : XRow r t) : XI (sRow A r) t := by
  obtain ⟨h1, h2, h3, h4, h5, h6, h7, h8⟩ := h
  refine ⟨h1.fr f ⟨fun k => ⟨hd _ _ (by omega), hd _ _ (by omega), hd _ _ (by omega)⟩, hd _ _ (by omega), hd _ _ (by omega), fun i k hi => hd _ _ (by omega), fun w hw j hj => hd _ _ (by omega)⟩, h2.mv (fun i k q1 q2 => f.I (hd _ _ (by omega))), hr, h4.mv hG.2.2.1.1 h8 (f.I (hd _ _ (by omega))) (fun k => f.R (hd _ _ (by omega))) (fun i k q _ => f.I (hd _ _ (by omega))), h5.mv h8 (f.I (hd _ _ (by omega))) (fun k => f.I (hd _ _ (by omega))) (fun k => f.R (hd _ _ (by omega))) (fun i k q _ => f.I (hd _ _ (by omega))), h6.mv (f.I (hd _ _ (by omega))) (fun i k q1 q2 => f.I (hd _ _ (by omega))), h7.mv (f.I (hd _ _ (by omega))) (fun k => f.I (hd _ _ (by omega))), h8.mv (fun k => f.R (hd _ _ (by omega))) (fun k => f.R (hd _ _ (by omega))) (fun b k q _ => f.R (hd _ _ (by omega))) (fun i _ => by rw [f.K]) (by rw [f.N]; exact Nat.le_refl _)⟩
theorem XI.fr {D : Nat → Nat → Prop} {A : AS} {s t : Sg} {c : Nat} (h : XI A s) (hG : GI c A) (f : Fr D s t) (hd : ∀ i k, i < 45 ∨ 73 ≤ i → ¬ D i k) : XI A t := XI_row h hG f (fun i k q => hd i k q.1) (h.2.2.1.mv (f.I (hd _ _ (by omega))) (fun k => f.J (hd _ _ (by omega))))
theorem MI_row {D : Nat → Nat → Prop} {u : Nat} {A : AS} {s t : Sg} {r : List Int64} (h : MI u A s) (f : Fr D s t) (hd : ∀ i k, PM i k → ¬ D i k) (hr : MRw r t) : MI u (sRow A r) t := by
  obtain ⟨h1, h2, h3, h4, h5, h6, h7, h8⟩ := h
  exact ⟨h1.fr f ⟨fun k => ⟨hd _ _ (by omega), hd _ _ (by omega), hd _ _ (by omega), hd _ _ (by omega), hd _ _ (by omega)⟩, hd _ _ (by omega), hd _ _ (by omega), hd _ _ (by omega)⟩ (hd _ _ (by omega)) (hd _ _ (by omega)), h2.mv (fun k => f.I (hd _ _ (by omega))), hr, h4.mv (f.I (hd _ _ (by omega))) (fun k => f.I (hd _ _ (by omega))), h5.mv (f.I (hd _ _ (by omega))) (fun i k q1 q2 => f.I (hd _ _ (by omega))), h6.mv (f.I (hd _ _ (by omega))) (fun i k q1 q2 => f.I (hd _ _ (by omega))), h7.mv (f.I (hd _ _ (by omega))) (fun k => f.I (hd _ _ (by omega))), (f.R (hd _ _ (by omega))).trans h8.1, (f.R (hd _ _ (by omega))).trans h8.2⟩
theorem MI.fr {D : Nat → Nat → Prop} {u : Nat} {A : AS} {s t : Sg} (h : MI u A s) (f : Fr D s t) (hd : ∀ i k, 45 ≤ i → i ≤ 71 → ¬ D i k) : MI u A t := MI_row h f (fun i k q => hd i k q.1 q.2.1) (h.2.2.1.mv (f.I (hd _ _ (by omega) (by omega))) (fun k => f.J (hd _ _ (by omega) (by omega))))
/-- the law's ground -/
def Inv (u c : Nat) (s : Sg) : Prop := ∃ A, XI A s ∧ MI u A s ∧ GI c A
/-- both answer alike, and the ground holds behind them -/
def Bth (u c : Nat) (s : Sg) (x : Option (Int32 × Sg)) (m : Sg → Option (Int32 × Sg)) : Prop := ∃ r s1 s2, x = some (r, s1) ∧ m s1 = some (r, s2) ∧ Inv u (c + 1) s2 ∧ gS s2 = gS s ∧ gC s2 ≤ gC s + 100 ∧ gZ s2 ≤ gZ s + 1000
theorem GI.up {c : Nat} {A : AS} (h : GI c A) : GI (c + 1) A := ⟨h.1, h.2.1, h.2.2.1, h.2.2.2.1, h.2.2.2.2.1, h.2.2.2.2.2.1, h.2.2.2.2.2.2.1, by have := h.2.2.2.2.2.2.2; omega⟩
theorem both_row {u c : Nat} {s : Sg} {A : AS} {x : Option (Int32 × Sg)} {m : Sg → Option (Int32 × Sg)} (a : Int32) (r : List Int64) (hX : XI A s) (hM : MI u A s) (hG : GI c A) (hx : Tp x (fun v t => v = a ∧ Fr dXr s t ∧ XRow r t)) (hm : ∀ t, MI u A t → Tp (m t) (fun v t' => v = a ∧ Fr dMr t t' ∧ MRw r t')) : Bth u c s x m := by
  obtain ⟨v, t, ex, ev, hF, hr⟩ := hx
  subst ev
  have hMt : MI u A t := hM.fr hF (fun i k h1 h2 => by omega)
  have hXt : XI (sRow A r) t := XI_row hX hG hF (fun i k q => q.2) hr
  obtain ⟨v2, t2, em, ev, hF2, hr2⟩ := hm t hMt
  subst ev
  refine ⟨v2, t, t2, ex, em, ⟨sRow A r, XI.fr hXt (c := c) hG hF2 (fun i k q => by omega), MI_row hMt hF2 (fun i k q => q.2.2) hr2, hG.up⟩, ?_, ?_, ?_⟩
  · rw [hF2.S, hF.S]
  · rw [hF2.C, hF.C]; omega
  · rw [hF2.Z, hF.Z]; omega
/-- nothing is done: the Model's 'thrown' apart -/
theorem both_no {u c : Nat} {s : Sg} {A : AS} {x : Option (Int32 × Sg)} {m : Sg → Option (Int32 × Sg)} (a : Int32) (hX : XI A s) (hM : MI u A s) (hG : GI c A) (hx : x = some (a, s)) (hm : ∀ t, MI u A t → m t = some (a, pI t 45 9 0)) : Bth u c s x m :=
  both_row a (aRow A) hX hM hG ⟨a, s, hx, rfl, Fr.refl _ _, hX.2.2.1⟩ (fun t ht => ⟨a, _, hm t ht, rfl, (Fr.refl _ _).pI (by omega), ht.2.2.1.mv (gI_pI_k (by omega)) (fun k => rfl)⟩)
/-! ### the row -/
theorem XRow_0 {s : Sg} : XRow [] (pI s 0 48 0) := ⟨by rw [gI_pI_s]; rfl, by decide, fun k hk => absurd hk (Nat.not_lt_zero _)⟩
theorem X_tells_ok {s : Sg} {r : List Int64} (v : Int64) (h : XRow r s) (hl : r.length < 16) : Tt (X_tells s v) (fun t => XRow (r ++ [v]) t ∧ Fr (fun i k => i = 44 ∨ (i = 0 ∧ k = 48)) s t) := by
  obtain ⟨h1, h2, h3⟩ := h
  unfold X_tells
  rw [h1, tJ_n hl (by omega), bd_some, lt_e]
  refine Tt_some ⟨⟨?_, ?_, ?_⟩, ((Fr.refl _ _).pJ (by omega)).pI (by omega)⟩
  · rw [gI_pI_s, gI_pJ, h1, nI_1, List.length_append]
    rfl
  · rw [List.length_append]
    exact hl
  · intro k hk
    rw [List.length_append] at hk
    have hk : k < r.length + 1 := hk
    rw [gJ_pI, gJ_pJ]
    by_cases e : k = r.length
    · rw [if_pos ⟨rfl, e⟩, e, List.getD_eq_getElem?_getD, List.getElem?_append_right (Nat.le_refl _), Nat.sub_self]
      rfl
    · rw [if_neg (fun q => e q.2), h3 k (by omega), List.getD_eq_getElem?_getD, List.getD_eq_getElem?_getD, List.getElem?_append_left (by omega)]
theorem MRw_0 {s : Sg} : MRw [] (pI s 45 8 0) := ⟨by rw [gI_pI_s]; rfl, fun k hk => absurd hk (Nat.not_lt_zero _)⟩
theorem M_tell_ok {s : Sg} {r : List Int64} (v : Int64) (h : MRw r s) (hl : r.length < 16) : Tt (M_tell s v) (fun t => MRw (r ++ [v]) t ∧ Fr (fun i k => i = 51 ∨ (i = 45 ∧ k = 8)) s t) := by
  obtain ⟨h1, h3⟩ := h
  unfold M_tell
  rw [h1, tJ_n hl (by omega), bd_some, lt_e]
  refine Tt_some ⟨⟨?_, ?_⟩, ((Fr.refl _ _).pJ (by omega)).pI (by omega)⟩
  · rw [gI_pI_s, gI_pJ, h1, nI_1, List.length_append]
    rfl
  · intro k hk
    rw [List.length_append] at hk
    have hk : k < r.length + 1 := hk
    rw [gJ_pI, gJ_pJ]
    by_cases e : k = r.length
    · rw [if_pos ⟨rfl, e⟩, e, List.getD_eq_getElem?_getD, List.getElem?_append_right (Nat.le_refl _), Nat.sub_self]
      rfl
    · rw [if_neg (fun q => e q.2), h3 k (by omega), List.getD_eq_getElem?_getD, List.getD_eq_getElem?_getD, List.getElem?_append_left (by omega)]
