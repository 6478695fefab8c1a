/-! LAW: lakes, they come -/
set_option maxRecDepth 100000
def nB (g : Geo) (f : Nat → Nat) (x : Nat) : Nat := if x < gn g then gb g x else lkB f (7 * (x - gn g))
def nL (g : Geo) (f : Nat → Nat) (x : Nat) : Nat := if x < gn g then gl g x else f (7 * (x - gn g) + 3) - 48
def nD (g : Geo) (f : Nat → Nat) (x : Nat) : Option Nat := if x < gn g then gd g x else lkD f (7 * (x - gn g))
def nG (g : Geo) (f : Nat → Nat) (m : Nat) : Geo := (m, nB g f, nL g f, nD g f)
def nW (g : Geo) (f : Nat → Nat) (W : Wt) : Wt := (fun x => if x < gn g then wl W x else lkB f (7 * (x - gn g)), fun x => if x < gn g then wh W x else 0, fun x => if x < gn g then wt W x else f (7 * (x - gn g) + 2) - 48, fun x => if x < gn g then wk W x else f (7 * (x - gn g) + 4) - 97, wo W, wd W, ws W, wr W)
theorem n_new {α : Type} (g : Geo) (j : Nat) (a : α) (b : Nat → α) : (if gn g + j < gn g then a else b (gn g + j - gn g)) = b j := by
  rw [if_neg (by omega), Nat.add_sub_cancel_left]
abbrev dCo (i k : Nat) : Prop := (2 ≤ i ∧ i ≤ 5) ∨ (11 ≤ i ∧ i ≤ 13) ∨ (i = 0 ∧ k = 5)
theorem X_comes_ok {g : Geo} {f : Nat → Nat} {W : Wt} {s : Sg} {j : Nat} (hG : XG (nG g f (gn g + j)) s) (hW : XW (gn g + j) s 1 (nW g f W)) (hm : gn g + j < 6) (hl : XLk f (7 * j) j s) : Tt (X_comes s (nI j)) (fun t => Fr dCo s t ∧ XG (nG g f (gn g + (j + 1))) t ∧ XW (gn g + (j + 1)) t 1 (nW g f W)) := by
  have e5 : gI s 0 5 = nI (gn g + j) := hG.1
  obtain ⟨l1, l2, l3, l4, l5⟩ := hl
  unfold X_comes
  rw [lt_e, e5, aI_n (by omega) (by omega), bd_some, l1, tI_n (by omega) (by omega), bd_some, aI_n (by omega) (by omega), bd_some, gI_pI_i (by omega), l3, tI_n (by omega) (by omega), bd_some, aI_n (by omega) (by omega), bd_some, gI_pI_i (by omega), gI_pI_i (by omega), l5, tI_n (by omega) (by omega), bd_some, aI_n (by omega) (by omega), bd_some, gI_pI_i (by omega), gI_pI_i (by omega), gI_pI_i (by omega), l2, tI_n (by omega) (by omega), bd_some, aI_n (by omega) (by omega), bd_some, gI_pI_i (by omega), gI_pI_i (by omega), gI_pI_i (by omega), gI_pI_i (by omega), l4, tI_n (by omega) (by omega), bd_some, aI_n (by omega) (by omega), bd_some, gI_pI_i (by omega), gI_pI_i (by omega), gI_pI_i (by omega), gI_pI_i (by omega), gI_pI_i (by omega), l1, tI_n (by omega) (by omega), bd_some, tI_n (by omega) (by omega), bd_some, lt_e]
  have hF : Fr dCo s (pI (pI (pI (pI (pI (pI (pI s 11 (gn g + j) (nI (lkB f (7 * j)))) 12 (gn g + j) (nI (f (7 * j + 3) - 48))) 13 (gn g + j) (oI (lkD f (7 * j)))) 4 (gn g + j) (nI (f (7 * j + 2) - 48))) 5 (gn g + j) (nI (f (7 * j + 4) - 97))) 2 (gn g + j) (nI (lkB f (7 * j)))) 3 (gn g + j) 0) := (((((((Fr.refl _ _).pI (by omega)).pI (by omega)).pI (by omega)).pI (by omega)).pI (by omega)).pI (by omega)).pI (by omega)
  rw [show gI (pI (pI (pI (pI (pI (pI (pI s 11 (gn g + j) (nI (lkB f (7 * j)))) 12 (gn g + j) (nI (f (7 * j + 3) - 48))) 13 (gn g + j) (oI (lkD f (7 * j)))) 4 (gn g + j) (nI (f (7 * j + 2) - 48))) 5 (gn g + j) (nI (f (7 * j + 4) - 97))) 2 (gn g + j) (nI (lkB f (7 * j)))) 3 (gn g + j) 0) 0 5 = nI (gn g + j) from by simp (disch := omega) only [gI_pI_s, gI_pI_i, gI_pI_k, gI_pR, gI_pJ]; exact e5, nI_1]
  refine Tt_some ⟨hF.pI (by omega), ⟨by rw [gI_pI_s]; rfl, fun x hx => ?_⟩, fun x hx => ?_, fun x hx => ?_, fun x hx => ?_, fun x hx => ?_, ?_, ?_, ?_, ?_⟩
  · have hx : x < gn g + (j + 1) := hx
    show _ = nI (nB g f x) ∧ _ = nI (nL g f x) ∧ _ = oI (nD g f x)
    by_cases e : x = gn g + j
    · subst e
      have b1 : nB g f (gn g + j) = lkB f (7 * j) := n_new g j _ (fun j => lkB f (7 * j))
      have b2 : nL g f (gn g + j) = f (7 * j + 3) - 48 := n_new g j _ (fun j => f (7 * j + 3) - 48)
      have b3 : nD g f (gn g + j) = lkD f (7 * j) := n_new g j _ (fun j => lkD f (7 * j))
      rw [b1, b2, b3]
      refine ⟨?_, ?_, ?_⟩
      · simp (disch := omega) only [gI_pI_s, gI_pI_i, gI_pI_k, gI_pR, gI_pJ]
      · simp (disch := omega) only [gI_pI_s, gI_pI_i, gI_pI_k, gI_pR, gI_pJ]
      · simp (disch := omega) only [gI_pI_s, gI_pI_i, gI_pI_k, gI_pR, gI_pJ]
    · have ho := hG.2 x (show x < gn g + j by omega)
      refine ⟨?_, ?_, ?_⟩
      · simp (disch := omega) only [gI_pI_s, gI_pI_i, gI_pI_k, gI_pR, gI_pJ]; exact ho.1
      · simp (disch := omega) only [gI_pI_s, gI_pI_i, gI_pI_k, gI_pR, gI_pJ]; exact ho.2.1
      · simp (disch := omega) only [gI_pI_s, gI_pI_i, gI_pI_k, gI_pR, gI_pJ]; exact ho.2.2
  · by_cases e : x = gn g + j
    · subst e
      have b1 : wl (nW g f W) (gn g + j) = lkB f (7 * j) := n_new g j _ (fun j => lkB f (7 * j))
      rw [b1]
      simp (disch := omega) only [gI_pI_s, gI_pI_i, gI_pI_k, gI_pR, gI_pJ]
    · have ho := hW.1 x (by omega)
      simp (disch := omega) only [gI_pI_s, gI_pI_i, gI_pI_k, gI_pR, gI_pJ]
      exact ho
  · by_cases e : x = gn g + j
    · subst e
      have b1 : wh (nW g f W) (gn g + j) = 0 := n_new g j _ (fun j => 0)
      rw [b1]
      simp (disch := omega) only [gI_pI_s, gI_pI_i, gI_pI_k, gI_pR, gI_pJ]
      rfl
    · have ho := hW.2.1 x (by omega)
      simp (disch := omega) only [gI_pI_s, gI_pI_i, gI_pI_k, gI_pR, gI_pJ]
      exact ho
  · by_cases e : x = gn g + j
    · subst e
      have b1 : wt (nW g f W) (gn g + j) = f (7 * j + 2) - 48 := n_new g j _ (fun j => f (7 * j + 2) - 48)
      rw [b1]
      simp (disch := omega) only [gI_pI_s, gI_pI_i, gI_pI_k, gI_pR, gI_pJ]
    · have ho := hW.2.2.1 x (by omega)
      simp (disch := omega) only [gI_pI_s, gI_pI_i, gI_pI_k, gI_pR, gI_pJ]
      exact ho
  · by_cases e : x = gn g + j
    · subst e
      have b1 : wk (nW g f W) (gn g + j) = f (7 * j + 4) - 97 := n_new g j _ (fun j => f (7 * j + 4) - 97)
      rw [b1]
      simp (disch := omega) only [gI_pI_s, gI_pI_i, gI_pI_k, gI_pR, gI_pJ]
    · have ho := hW.2.2.2.1 x (by omega)
      simp (disch := omega) only [gI_pI_s, gI_pI_i, gI_pI_k, gI_pR, gI_pJ]
      exact ho
  · simp (disch := omega) only [gI_pI_s, gI_pI_i, gI_pI_k, gI_pR, gI_pJ]
    exact hW.2.2.2.2.1
  · simp (disch := omega) only [gI_pI_s, gI_pI_i, gI_pI_k, gI_pR, gI_pJ]
    exact hW.2.2.2.2.2.1
  · simp (disch := omega) only [gI_pI_s, gI_pI_i, gI_pI_k, gI_pR, gI_pJ]
    exact hW.2.2.2.2.2.2.1
  · simp (disch := omega) only [gI_pI_s, gI_pI_i, gI_pI_k, gI_pR, gI_pJ]
    exact hW.2.2.2.2.2.2.2
abbrev dCoM (i k : Nat) : Prop := i = 46 ∨ (47 ≤ i ∧ i ≤ 49) ∨ (i = 45 ∧ k = 1)
theorem M_comes_ok {g : Geo} {f : Nat → Nat} {W : Wt} {s : Sg} {j n1 u : Nat} {K : Sg → Int32 → Int32 → Option (Int32 × Sg)} (hG : MG (nG g f (gn g + j)) s) (hW : MW (gn g + j) s 46 0 (nW g f W)) (hm : gn g + j < 6) (hj : j < n1) (hn1 : n1 < 100) (ho : wo W < 2 ^ gn g) (hl : MLk f (7 * j) j s) : ∃ t, M_lakes_91b u K s (nI n1) (nI j) = K t (nI n1) (nI (j + 1)) ∧ Fr dCoM s t ∧ MG (nG g f (gn g + (j + 1))) t ∧ MW (gn g + (j + 1)) t 46 0 (nW g f W) := by
  have e1 : gI s 45 1 = nI (gn g + j) := hG.1
  obtain ⟨l1, l2, l3, l4, l5⟩ := hl
  obtain ⟨n2, n3, n4⟩ := n5 j
  obtain ⟨w1, w2, w3, w4, w5, w6, w7, w8⟩ := MW_row hW
  have hbt : bt (wo W) (gn g + j) = 0 := bt_big ho (by omega)
  refine ⟨pI (pI (pI (pI (pI (pI (pI (pI (pI s 47 (gn g + j) (nI (lkB f (7 * j)))) 48 (gn g + j) (nI (f (7 * j + 3) - 48))) 49 (gn g + j) (oI (lkD f (7 * j)))) 46 (gn g + j) (nI (lkB f (7 * j)))) 46 (6 + (gn g + j)) 0) 46 (12 + (gn g + j)) 0) 46 (18 + (gn g + j)) (nI (f (7 * j + 2) - 48))) 46 (24 + (gn g + j)) (nI (f (7 * j + 4) - 97))) 45 1 (nI (gn g + j + 1)), ?_, ((((((((((Fr.refl _ _).pI (by omega)).pI (by omega)).pI (by omega)).pI (by omega)).pI (by omega)).pI (by omega)).pI (by omega)).pI (by omega)).pI (by omega)), ?_, ?_⟩
  · unfold M_lakes_91b
    rw [if_neg (nI_ge hj (by omega)), show (5 : Int32) * nI j = nI (5 * j) from pk_mul 5 j, n2, n3, n4, nI_1, nI_1, aI_n (by omega) (by omega), bd_some, l1, e1, tI_n (by omega) (by omega), bd_some, aI_n (by omega) (by omega), bd_some, gI_pI_i (by omega), gI_pI_i (by omega), l3, e1, tI_n (by omega) (by omega), bd_some, aI_n (by omega) (by omega), bd_some, gI_pI_i (by omega), gI_pI_i (by omega), gI_pI_i (by omega), gI_pI_i (by omega), l5, e1, tI_n (by omega) (by omega), bd_some]
    rw [show gI (pI (pI (pI s 47 (gn g + j) (nI (lkB f (7 * j)))) 48 (gn g + j) (nI (f (7 * j + 3) - 48))) 49 (gn g + j) (oI (lkD f (7 * j)))) 45 1 = nI (gn g + j) from by simp (disch := omega) only [gI_pI_s, gI_pI_i, gI_pI_k, gI_pR, gI_pJ]; exact e1, aI_n (by omega) (by omega), bd_some, show gI (pI (pI (pI s 47 (gn g + j) (nI (lkB f (7 * j)))) 48 (gn g + j) (nI (f (7 * j + 3) - 48))) 49 (gn g + j) (oI (lkD f (7 * j)))) 47 (gn g + j) = nI (lkB f (7 * j)) from by simp (disch := omega) only [gI_pI_s, gI_pI_i, gI_pI_k, gI_pR, gI_pJ], tI_n (by omega) (by omega), bd_some]
    rw [show gI (pI (pI (pI (pI s 47 (gn g + j) (nI (lkB f (7 * j)))) 48 (gn g + j) (nI (f (7 * j + 3) - 48))) 49 (gn g + j) (oI (lkD f (7 * j)))) 46 (gn g + j) (nI (lkB f (7 * j)))) 45 1 = nI (gn g + j) from by simp (disch := omega) only [gI_pI_s, gI_pI_i, gI_pI_k, gI_pR, gI_pJ]; exact e1, ad_6, tI_n (by omega) (by omega), bd_some]
    rw [show gI (pI (pI (pI (pI (pI s 47 (gn g + j) (nI (lkB f (7 * j)))) 48 (gn g + j) (nI (f (7 * j + 3) - 48))) 49 (gn g + j) (oI (lkD f (7 * j)))) 46 (gn g + j) (nI (lkB f (7 * j)))) 46 (6 + (gn g + j)) 0) 45 1 = nI (gn g + j) from by simp (disch := omega) only [gI_pI_s, gI_pI_i, gI_pI_k, gI_pR, gI_pJ]; exact e1, ad_12, tI_n (by omega) (by omega), bd_some, aI_n (by omega) (by omega), bd_some]
    rw [show gI (pI (pI (pI (pI (pI (pI s 47 (gn g + j) (nI (lkB f (7 * j)))) 48 (gn g + j) (nI (f (7 * j + 3) - 48))) 49 (gn g + j) (oI (lkD f (7 * j)))) 46 (gn g + j) (nI (lkB f (7 * j)))) 46 (6 + (gn g + j)) 0) 46 (12 + (gn g + j)) 0) 52 (5 * j + 1) = nI (f (7 * j + 2) - 48) from by simp (disch := omega) only [gI_pI_s, gI_pI_i, gI_pI_k, gI_pR, gI_pJ]; exact l2, show gI (pI (pI (pI (pI (pI (pI s 47 (gn g + j) (nI (lkB f (7 * j)))) 48 (gn g + j) (nI (f (7 * j + 3) - 48))) 49 (gn g + j) (oI (lkD f (7 * j)))) 46 (gn g + j) (nI (lkB f (7 * j)))) 46 (6 + (gn g + j)) 0) 46 (12 + (gn g + j)) 0) 45 1 = nI (gn g + j) from by simp (disch := omega) only [gI_pI_s, gI_pI_i, gI_pI_k, gI_pR, gI_pJ]; exact e1, ad_18, tI_n (by omega) (by omega), bd_some, aI_n (by omega) (by omega), bd_some]
    rw [show gI (pI (pI (pI (pI (pI (pI (pI s 47 (gn g + j) (nI (lkB f (7 * j)))) 48 (gn g + j) (nI (f (7 * j + 3) - 48))) 49 (gn g + j) (oI (lkD f (7 * j)))) 46 (gn g + j) (nI (lkB f (7 * j)))) 46 (6 + (gn g + j)) 0) 46 (12 + (gn g + j)) 0) 46 (18 + (gn g + j)) (nI (f (7 * j + 2) - 48))) 52 (5 * j + 3) = nI (f (7 * j + 4) - 97) from by simp (disch := omega) only [gI_pI_s, gI_pI_i, gI_pI_k, gI_pR, gI_pJ]; exact l4, show gI (pI (pI (pI (pI (pI (pI (pI s 47 (gn g + j) (nI (lkB f (7 * j)))) 48 (gn g + j) (nI (f (7 * j + 3) - 48))) 49 (gn g + j) (oI (lkD f (7 * j)))) 46 (gn g + j) (nI (lkB f (7 * j)))) 46 (6 + (gn g + j)) 0) 46 (12 + (gn g + j)) 0) 46 (18 + (gn g + j)) (nI (f (7 * j + 2) - 48))) 45 1 = nI (gn g + j) from by simp (disch := omega) only [gI_pI_s, gI_pI_i, gI_pI_k, gI_pR, gI_pJ]; exact e1, ad_24, tI_n (by omega) (by omega), bd_some, lt_e]
    rw [show gI (pI (pI (pI (pI (pI (pI (pI (pI s 47 (gn g + j) (nI (lkB f (7 * j)))) 48 (gn g + j) (nI (f (7 * j + 3) - 48))) 49 (gn g + j) (oI (lkD f (7 * j)))) 46 (gn g + j) (nI (lkB f (7 * j)))) 46 (6 + (gn g + j)) 0) 46 (12 + (gn g + j)) 0) 46 (18 + (gn g + j)) (nI (f (7 * j + 2) - 48))) 46 (24 + (gn g + j)) (nI (f (7 * j + 4) - 97))) 45 1 = nI (gn g + j) from by simp (disch := omega) only [gI_pI_s, gI_pI_i, gI_pI_k, gI_pR, gI_pJ]; exact e1, nI_1]
  · refine ⟨by rw [gI_pI_s]; rfl, fun x hx => ?_⟩
    have hx : x < gn g + (j + 1) := hx
    show _ = nI (nB g f x) ∧ _ = nI (nL g f x) ∧ _ = oI (nD g f x)
    by_cases e : x = gn g + j
    · subst e
      have b1 : nB g f (gn g + j) = lkB f (7 * j) := n_new g j _ (fun j => lkB f (7 * j))
      have b2 : nL g f (gn g + j) = f (7 * j + 3) - 48 := n_new g j _ (fun j => f (7 * j + 3) - 48)
      have b3 : nD g f (gn g + j) = lkD f (7 * j) := n_new g j _ (fun j => lkD f (7 * j))
      rw [b1, b2, b3]
      refine ⟨?_, ?_, ?_⟩
      · simp (disch := omega) only [gI_pI_s, gI_pI_i, gI_pI_k, gI_pR, gI_pJ]
      · simp (disch := omega) only [gI_pI_s, gI_pI_i, gI_pI_k, gI_pR, gI_pJ]
      · simp (disch := omega) only [gI_pI_s, gI_pI_i, gI_pI_k, gI_pR, gI_pJ]
    · have ho := hG.2 x (show x < gn g + j by omega)
      refine ⟨?_, ?_, ?_⟩
      · simp (disch := omega) only [gI_pI_s, gI_pI_i, gI_pI_k, gI_pR, gI_pJ]; exact ho.1
      · simp (disch := omega) only [gI_pI_s, gI_pI_i, gI_pI_k, gI_pR, gI_pJ]; exact ho.2.1
      · simp (disch := omega) only [gI_pI_s, gI_pI_i, gI_pI_k, gI_pR, gI_pJ]; exact ho.2.2
  · refine row_MW ⟨fun x hx => ?_, fun x hx => ?_, fun x hx => ?_, fun x hx => ?_, fun x hx => ?_, ?_, ?_, ?_⟩
    · by_cases e : x = gn g + j
      · subst e
        have b1 : wl (nW g f W) (gn g + j) = lkB f (7 * j) := n_new g j _ (fun j => lkB f (7 * j))
        rw [b1]
        simp (disch := omega) only [gI_pI_s, gI_pI_i, gI_pI_k, gI_pR, gI_pJ]
      · have ho := w1 x (by omega)
        simp (disch := omega) only [gI_pI_s, gI_pI_i, gI_pI_k, gI_pR, gI_pJ]
        exact ho
    · by_cases e : x = gn g + j
      · subst e
        rw [show bt (wo (nW g f W)) (gn g + j) = 0 from hbt]
        simp (disch := omega) only [gI_pI_s, gI_pI_i, gI_pI_k, gI_pR, gI_pJ]
        rfl
      · have ho := w2 x (by omega)
        simp (disch := omega) only [gI_pI_s, gI_pI_i, gI_pI_k, gI_pR, gI_pJ]
        exact ho
    · by_cases e : x = gn g + j
      · subst e
        have b1 : wh (nW g f W) (gn g + j) = 0 := n_new g j _ (fun j => 0)
        rw [b1]
        simp (disch := omega) only [gI_pI_s, gI_pI_i, gI_pI_k, gI_pR, gI_pJ]
        rfl
      · have ho := w3 x (by omega)
        simp (disch := omega) only [gI_pI_s, gI_pI_i, gI_pI_k, gI_pR, gI_pJ]
        exact ho
    · by_cases e : x = gn g + j
      · subst e
        have b1 : wt (nW g f W) (gn g + j) = f (7 * j + 2) - 48 := n_new g j _ (fun j => f (7 * j + 2) - 48)
        rw [b1]
        simp (disch := omega) only [gI_pI_s, gI_pI_i, gI_pI_k, gI_pR, gI_pJ]
      · have ho := w4 x (by omega)
        simp (disch := omega) only [gI_pI_s, gI_pI_i, gI_pI_k, gI_pR, gI_pJ]
        exact ho
    · by_cases e : x = gn g + j
      · subst e
        have b1 : wk (nW g f W) (gn g + j) = f (7 * j + 4) - 97 := n_new g j _ (fun j => f (7 * j + 4) - 97)
        rw [b1]
        simp (disch := omega) only [gI_pI_s, gI_pI_i, gI_pI_k, gI_pR, gI_pJ]
      · have ho := w5 x (by omega)
        simp (disch := omega) only [gI_pI_s, gI_pI_i, gI_pI_k, gI_pR, gI_pJ]
        exact ho
    · simp (disch := omega) only [gI_pI_s, gI_pI_i, gI_pI_k, gI_pR, gI_pJ]
      exact w6
    · simp (disch := omega) only [gI_pI_s, gI_pI_i, gI_pI_k, gI_pR, gI_pJ]
      exact w7
    · simp (disch := omega) only [gI_pI_s, gI_pI_i, gI_pI_k, gI_pR, gI_pJ]
      exact w8
/-- the old lakes are as they were -/
theorem XG_n {g : Geo} {f : Nat → Nat} {s : Sg} (h : XG g s) : XG (nG g f (gn g + 0)) s := ⟨h.1, fun k hk => by
  have hk : k < gn g := hk
  show _ = nI (nB g f k) ∧ _ = nI (nL g f k) ∧ _ = oI (nD g f k)
  unfold nB nL nD
  rw [if_pos hk, if_pos hk, if_pos hk]
  exact h.2 k hk⟩
theorem MG_n {g : Geo} {f : Nat → Nat} {s : Sg} (h : MG g s) : MG (nG g f (gn g + 0)) s := ⟨h.1, fun k hk => by
  have hk : k < gn g := hk
  show _ = nI (nB g f k) ∧ _ = nI (nL g f k) ∧ _ = oI (nD g f k)
  unfold nB nL nD
  rw [if_pos hk, if_pos hk, if_pos hk]
  exact h.2 k hk⟩
theorem nW_l {g : Geo} {f : Nat → Nat} {W : Wt} {k : Nat} (hk : k < gn g) : wl (nW g f W) k = wl W k := if_pos hk
theorem nW_h {g : Geo} {f : Nat → Nat} {W : Wt} {k : Nat} (hk : k < gn g) : wh (nW g f W) k = wh W k := if_pos hk
theorem nW_t {g : Geo} {f : Nat → Nat} {W : Wt} {k : Nat} (hk : k < gn g) : wt (nW g f W) k = wt W k := if_pos hk
theorem nW_k {g : Geo} {f : Nat → Nat} {W : Wt} {k : Nat} (hk : k < gn g) : wk (nW g f W) k = wk W k := if_pos hk
theorem XW_n {g : Geo} {f : Nat → Nat} {W : Wt} {s : Sg} (h : XW (gn g) s 1 W) : XW (gn g + 0) s 1 (nW g f W) := ⟨fun k hk => by rw [nW_l hk]; exact h.1 k hk, fun k hk => by rw [nW_h hk]; exact h.2.1 k hk, fun k hk => by rw [nW_t hk]; exact h.2.2.1 k hk, fun k hk => by rw [nW_k hk]; exact h.2.2.2.1 k hk, h.2.2.2.2⟩
theorem MW_n {g : Geo} {f : Nat → Nat} {W : Wt} {s : Sg} (h : MW (gn g) s 46 0 W) : MW (gn g + 0) s 46 0 (nW g f W) := ⟨fun k hk => by rw [nW_l hk]; exact h.1 k hk, h.2.1, fun k hk => by rw [nW_h hk]; exact h.2.2.1 k hk, fun k hk => by rw [nW_t hk]; exact h.2.2.2.1 k hk, fun k hk => by rw [nW_k hk]; exact h.2.2.2.2.1 k hk, h.2.2.2.2.2⟩
