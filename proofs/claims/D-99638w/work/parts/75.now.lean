/-! LAW: the lakes changed: sheet -/
set_option maxRecDepth 100000
abbrev dXn (i k : Nat) : Prop := dXr i k ∨ (i = 1 ∧ 4 ≤ k ∧ k ≤ 7) ∨ (2 ≤ i ∧ i ≤ 5)
abbrev dMn (i k : Nat) : Prop := dMr i k ∨ i = 46
def sN (A : AS) (W : Wt) (r : List Int64) : AS := (A.1, W, r, A.2.2.2)
theorem XI_now {A : AS} {s t : Sg} {c : Nat} {W : Wt} {r : List Int64} (h : XI A s) (hG : GI c A) (f : Fr dXn s t) (hr : XRow r t) (hW : XW (gn (aG A)) t 1 W) : XI (sN A W r) t := by
  obtain ⟨h1, h2, h3, h4, h5, h6, h7, h8⟩ := h
  exact ⟨(h1.fr f ⟨fun k => ⟨by omega, by omega, by omega⟩, by omega, by omega, fun i k hi => by omega, fun w hw j hj => by omega⟩), hW, hr, (h4.mv hG.2.2.1.1 h8 (f.I (by omega)) (fun k => f.R (by omega)) (fun i k q _ => f.I (by omega))), (h5.mv h8 (f.I (by omega)) (fun k => f.I (by omega)) (fun k => f.R (by omega)) (fun i k q _ => f.I (by omega))), (h6.mv (f.I (by omega)) (fun i k q1 q2 => f.I (by omega))), (h7.mv (f.I (by omega)) (fun k => f.I (by omega))), (h8.mv (fun k => f.R (by omega)) (fun k => f.R (by omega)) (fun b k q _ => f.R (by omega)) (fun i _ => by rw [f.K]) (by rw [f.N]; exact Nat.le_refl _))⟩
theorem MI_now {u : Nat} {A : AS} {s t : Sg} {W : Wt} {r : List Int64} (h : MI u A s) (f : Fr dMn s t) (hr : MRw r t) (hW : MW (gn (aG A)) t 46 0 W) : MI u (sN A W r) t := by
  obtain ⟨h1, h2, h3, h4, h5, h6, h7, h8⟩ := h
  exact ⟨(h1.fr f ⟨fun k => ⟨by omega, by omega, by omega, by omega, by omega⟩, by omega, by omega, by omega⟩ (by omega) (by omega)), hW, hr, (h4.mv (f.I (by omega)) (fun k => f.I (by omega))), (h5.mv (f.I (by omega)) (fun i k q1 q2 => f.I (by omega))), (h6.mv (f.I (by omega)) (fun i k q1 q2 => f.I (by omega))), (h7.mv (f.I (by omega)) (fun k => f.I (by omega))), (⟨(f.R (by omega)).trans h8.1, (f.R (by omega)).trans h8.2⟩)⟩
theorem GI_now {c : Nat} {A : AS} {W : Wt} {r : List Int64} (hG : GI c A) (hW : GoodW (aG A) W) : GI (c + 1) (sN A W r) := ⟨hG.1, hW, hG.2.2.1, hG.2.2.2.1, hG.2.2.2.2.1, hG.2.2.2.2.2.1, hG.2.2.2.2.2.2.1, hG.up.2.2.2.2.2.2.2⟩
/-! ### sheet -/
def shV (f d : Int32) (k : Nat) : Int32 := fo (fun _ v => v + d) k f
theorem shV_s (f d : Int32) (k : Nat) : shV f d (k + 1) = shV f d k + d := by unfold shV; rw [fo_s]
def shI (q v : Int32) : Int32 := if q = 0 then v.toInt8.toInt32 else if q = 1 then v.toInt16.toInt32 else v
def shN (g : Geo) (q n f d : Int32) (k : Nat) : Nat := if q = 3 then 0 else if nI k < n then clN (gb g k) (shI q (shV f d k)) else 0
theorem shN_le {g : Geo} (hg : GoodG g) (q n f d : Int32) {k : Nat} (hk : k < gn g) : shN g q n f d k ≤ gb g k := by
  have := (hg.2 k hk).2.1
  unfold shN
  split
  · omega
  · split
    · exact (clN_e (by omega) _).2
    · omega
def shW (g : Geo) (W : Wt) (q n f d : Int32) : Wt := (shN g q n f d, W.2)
theorem op_sheet {u c : Nat} {s : Sg} {A : AS} (hu : 20000 ≤ u) (hX : XI A s) (hM : MI u A s) (hG : GI c A) (x y z w : Int32) : Bth u c s (X_sheet u s x y z w) (fun t => M_sheet u t x y z w) := by
  have h6 := hG.1.1
  rcases in_or2 x 0 3 (by omega) (by omega) with ⟨q, hq0, hq, e⟩ | hno
  rotate_left
  · refine both_no (-1) hX hM hG ?_ (fun t ht => ?_)
    · unfold X_sheet
      rw [Xin_0_3, gd_e, if_neg hno]
    · unfold M_sheet
      rw [lt_e, Min_0_3, gd_e, if_neg hno] <;> rfl
  subst e
  by_cases hn6 : y ≤ 6
  rotate_left
  · refine both_no (-1) hX hM hG ?_ (fun t ht => ?_)
    · unfold X_sheet
      rw [Xin_0_3, gd_e, if_pos (in_yes2 hq0 hq (by omega)), if_neg hn6]
    · unfold M_sheet
      rw [lt_e, Min_0_3, gd_e, if_pos (in_yes2 hq0 hq (by omega)), if_neg hn6]
  by_cases hq3 : ¬ nI q = 3 ∧ ¬ 0 ≤ y
  · have hlt : ¬ 3 ≤ nI q := fun h => hq3.1 (by
      have h : nI 3 ≤ nI q := h
      have : q = 3 := by have := (nI_leI (by omega) (by omega)).mp h; omega
      rw [this]; rfl)
    refine both_no (-2) hX hM hG ?_ (fun t ht => ?_)
    · unfold X_sheet
      rw [Xin_0_3, gd_e, if_pos (in_yes2 hq0 hq (by omega)), if_pos hn6, if_neg hq3.1, if_neg hq3.2]
    · unfold M_sheet
      rw [lt_e, Min_0_3, gd_e, if_pos (in_yes2 hq0 hq (by omega)), if_pos hn6, if_neg hlt, if_neg hq3.2]
  have hgW : GoodW (aG A) (shW (aG A) (aW A) (nI q) y z w) := ⟨fun k hk => ⟨shN_le hG.1 _ _ _ _ hk, (hG.2.1.1 k hk).2⟩, hG.2.1.2⟩
  have hG' : GI (c + 1) (sN A (shW (aG A) (aW A) (nI q) y z w) (aRow A)) := GI_now hG hgW
  have hval : ∀ j, j < gn (aG A) → ∀ t0, t0 = shI (nI q) (shV z w j) → (if nI q = 3 then (0 : Int32) else if nI j < y then mx 0 (mi (nI (gb (aG A) j)) t0) else 0) = nI (shN (aG A) (nI q) y z w j) := by
    intro j hj t0 ht0
    have := (hG.1.2 j hj).2.1
    unfold shN
    by_cases e3 : nI q = 3
    · rw [if_pos e3, if_pos e3]; rfl
    · rw [if_neg e3, if_neg e3]
      by_cases e : nI j < y
      · rw [if_pos e, if_pos e, ht0, (clN_e (by omega) _).1]
      · rw [if_neg e, if_neg e]; rfl
  refine both_gen (A := A) (if nI q = 3 then -3 else nI (sm (shN (aG A) (nI q) y z w) (gn (aG A)))) (sN A (shW (aG A) (aW A) (nI q) y z w) (aRow A)) ?_ (fun t hXt ht => ?_) hG'
  · have hgo : X_sheet u s (nI q) y z w = X_sheet_38 u u s (nI q) y w z (nI 0) := by
      unfold X_sheet
      rw [Xin_0_3, gd_e, if_pos (in_yes2 hq0 hq (by omega)), if_pos hn6]
      by_cases e3 : nI q = 3
      · rw [if_pos e3]; rfl
      · rw [if_neg e3]
        by_cases e0 : 0 ≤ y
        · rw [if_pos e0]; rfl
        · exact absurd ⟨e3, e0⟩ hq3
    rw [hgo]
    refine loop_i (W := fun f j t' => Tp (X_sheet_38 u f t' (nI q) y w (shV z w j) (nI j)) _)
      (I := fun j t' => Fr (fun i _ => i = 2) s t' ∧ ∀ k, k < gn (aG A) → gI t' 2 k = if k < j then nI (shN (aG A) (nI q) y z w k) else nI (wl (aW A) k)) (gn (aG A)) ?_ ?_ u 0 s (by omega) (by omega) ⟨Fr.refl _ _, fun k hk => by rw [if_neg (by omega)]; exact hX.2.1.1 k hk⟩
    · intro f t' ⟨f', hl⟩
      have e0 : gI t' 0 5 = nI (gn (aG A)) := (f'.I (by omega)).trans hX.1.2.1.1
      have hW1 : XW (gn (aG A)) t' 1 (shW (aG A) (aW A) (nI q) y z w) := by
        obtain ⟨w1, w2, w3, w4, w5, w7, w8, w9⟩ := hX.2.1
        exact ⟨fun k hk => (hl k hk).trans (if_pos hk), fun k hk => (f'.I (by omega)).trans (w2 k hk), fun k hk => (f'.I (by omega)).trans (w3 k hk), fun k hk => (f'.I (by omega)).trans (w4 k hk), (f'.I (by omega)).trans w5, (f'.I (by omega)).trans w7, (f'.I (by omega)).trans w8, (f'.I (by omega)).trans w9⟩
      have f2 : Fr dXn s t' := f'.mono (fun i k h => by have h : i = 2 := h; omega)
      have hfin := gx (c := c) hM f2 (fun i k h1 h2 => by omega) (XI_now hX hG f2 (hX.2.2.1.mv (f'.I (by omega)) (fun k => f'.J (by omega))) hW1)
      rw [X_sheet_38_s]
      unfold X_sheet_38b
      rw [e0, if_pos (nI_le (Nat.le_refl _) (by omega))]
      by_cases e3 : nI q = 3
      · rw [if_pos e3, if_pos e3]
        exact Tp_some ⟨rfl, hfin⟩
      · rw [if_neg e3, if_neg e3, X_water_ok hu hG.1 hfin.1.1.2.1 (by omega) hW1, bd_some]
        exact Tp_some ⟨rfl, hfin⟩
    · intro f j t' hj ⟨f', hl⟩ ih
      have e0 : gI t' 0 5 = nI (gn (aG A)) := (f'.I (by omega)).trans hX.1.2.1.1
      have e11 : gI t' 11 j = nI (gb (aG A) j) := (f'.I (by omega)).trans (hX.1.2.1.2 j hj).1
      have hv := hval j hj
      rw [shV_s] at ih
      have hst : ∀ t0, t0 = shI (nI q) (shV z w j) → Tp (X_sheet_70 u (X_sheet_38 u f) t' (nI q) y w (shV z w j) (nI j) t0) (fun v t => v = (if nI q = 3 then -3 else nI (sm (shN (aG A) (nI q) y z w) (gn (aG A)))) ∧ XI (sN A (shW (aG A) (aW A) (nI q) y z w) (aRow A)) t ∧ MI u A t ∧ gS t = gS s ∧ gC t ≤ gC s + 100 ∧ gZ t ≤ gZ s + 1000) := by
        intro t0 ht0
        have hgo2 : ∀ val, val = nI (shN (aG A) (nI q) y z w j) → Tp (X_sheet_112 u (X_sheet_38 u f) t' (nI q) y w (shV z w j) (nI j) (nI j) val) (fun v t => v = (if nI q = 3 then -3 else nI (sm (shN (aG A) (nI q) y z w) (gn (aG A)))) ∧ XI (sN A (shW (aG A) (aW A) (nI q) y z w) (aRow A)) t ∧ MI u A t ∧ gS t = gS s ∧ gC t ≤ gC s + 100 ∧ gZ t ≤ gZ s + 1000) := by
          intro val hval
          unfold X_sheet_112
          rw [tI_n (by omega) (by omega), bd_some, lt_e, nI_1]
          refine ih _ ⟨f'.pI rfl, part_up hl (by rw [gI_pI_s]; exact hval) (fun k hk => gI_pI_k hk)⟩
        unfold X_sheet_70
        have hv := hv t0 ht0
        by_cases e3 : nI q = 3
        · rw [if_pos e3] at hv
          rw [if_pos e3]
          exact hgo2 _ hv
        · rw [if_neg e3] at hv
          rw [if_neg e3]
          by_cases e : nI j < y
          · rw [if_pos e] at hv
            rw [if_pos e, aI_n (by omega) (by omega), bd_some, e11]
            exact hgo2 _ hv
          · rw [if_neg e] at hv
            rw [if_neg e]
            exact hgo2 _ hv
      rw [X_sheet_38_s]
      unfold X_sheet_38b
      rw [e0, if_neg (nI_ge hj (by omega))]
      by_cases q0 : nI q = 0
      · rw [if_pos q0]
        exact hst _ (by unfold shI; rw [if_pos q0])
      · rw [if_neg q0]
        by_cases q1 : nI q = 1
        · rw [if_pos q1]
          exact hst _ (by unfold shI; rw [if_neg q0, if_pos q1])
        · rw [if_neg q1]
          exact hst _ (by unfold shI; rw [if_neg q0, if_neg q1])
  · have hgo : M_sheet u t (nI q) y z w = M_sheet_40 u u (pI t 45 9 0) (nI q) y w z (nI 0) := by
      unfold M_sheet
      rw [lt_e, Min_0_3, gd_e, if_pos (in_yes2 hq0 hq (by omega)), if_pos hn6]
      by_cases e3 : nI q = 3
      · rw [if_pos (show (3 : Int32) ≤ nI q by rw [e3]; decide)]; rfl
      · have hlt : ¬ 3 ≤ nI q := fun h => e3 (by
          have h : nI 3 ≤ nI q := h
          have : q = 3 := by have := (nI_leI (by omega) (by omega)).mp h; omega
          rw [this]; rfl)
        rw [if_neg hlt]
        by_cases e0 : 0 ≤ y
        · rw [if_pos e0]; rfl
        · exact absurd ⟨e3, e0⟩ hq3
    rw [hgo]
    refine loop_i (W := fun f j t' => Tp (M_sheet_40 u f t' (nI q) y w (shV z w j) (nI j)) _)
      (I := fun j t' => Fr (fun i k => (i = 46 ∧ k < 6) ∨ (i = 45 ∧ k = 9)) t t' ∧ ∀ k, k < gn (aG A) → gI t' 46 k = if k < j then nI (shN (aG A) (nI q) y z w k) else nI (wl (aW A) k)) (gn (aG A)) ?_ ?_ u 0 _ (by omega) (by omega) ⟨(Fr.refl _ _).pI (by omega), fun k hk => by rw [if_neg (by omega), gI_pI_i (by decide)]; exact (MW_row ht.2.1).1 k hk⟩
    · intro f t' ⟨f', hl⟩
      have e0 : gI t' 45 1 = nI (gn (aG A)) := (f'.I (by omega)).trans ht.1.1.1.1
      have hW1 : MW (gn (aG A)) t' 46 0 (shW (aG A) (aW A) (nI q) y z w) := by
        obtain ⟨w1, w2, w3, w4, w5, w7, w8, w9⟩ := MW_row ht.2.1
        exact row_MW ⟨fun k hk => (hl k hk).trans (if_pos hk), fun k hk => (f'.I (by omega)).trans (w2 k hk), fun k hk => (f'.I (by omega)).trans (w3 k hk), fun k hk => (f'.I (by omega)).trans (w4 k hk), fun k hk => (f'.I (by omega)).trans (w5 k hk), (f'.I (by omega)).trans w7, (f'.I (by omega)).trans w8, (f'.I (by omega)).trans w9⟩
      have f2 : Fr dMn t t' := f'.mono (fun i k h => by have h : (i = 46 ∧ k < 6) ∨ (i = 45 ∧ k = 9) := h; omega)
      have hfin := gm hXt hG' f2 (fun i k h => by omega) (MI_now ht f2 (ht.2.2.1.mv (f'.I (by omega)) (fun k => f'.J (by omega))) hW1)
      rw [M_sheet_40_s]
      unfold M_sheet_40b
      rw [e0, if_pos (nI_le (Nat.le_refl _) (by omega))]
      by_cases e3 : nI q = 3
      · rw [if_pos e3, if_pos e3]
        exact Tp_some ⟨rfl, hfin⟩
      · rw [if_neg e3, if_neg e3, M_water_ok hu hG.1 hfin.2.1.1.1.1 (by omega) hW1, bd_some]
        exact Tp_some ⟨rfl, hfin⟩
    · intro f j t' hj ⟨f', hl⟩ ih
      have e0 : gI t' 45 1 = nI (gn (aG A)) := (f'.I (by omega)).trans ht.1.1.1.1
      have e47 : gI t' 47 j = nI (gb (aG A) j) := (f'.I (by omega)).trans (ht.1.1.1.2 j hj).1
      have hv := hval j hj
      rw [shV_s] at ih
      have hst : ∀ t0, t0 = shI (nI q) (shV z w j) → Tp (M_sheet_72 u (M_sheet_40 u f) t' (nI q) y w (shV z w j) (nI j) t0) (fun v t' => v = (if nI q = 3 then -3 else nI (sm (shN (aG A) (nI q) y z w) (gn (aG A)))) ∧ XI (sN A (shW (aG A) (aW A) (nI q) y z w) (aRow A)) t' ∧ MI u (sN A (shW (aG A) (aW A) (nI q) y z w) (aRow A)) t' ∧ gS t' = gS t ∧ gC t' = gC t ∧ gZ t' = gZ t) := by
        intro t0 ht0
        have hgo2 : ∀ val, val = nI (shN (aG A) (nI q) y z w j) → Tp (M_sheet_111 u (M_sheet_40 u f) t' (nI q) y w (shV z w j) (nI j) (nI j) val) (fun v t' => v = (if nI q = 3 then -3 else nI (sm (shN (aG A) (nI q) y z w) (gn (aG A)))) ∧ XI (sN A (shW (aG A) (aW A) (nI q) y z w) (aRow A)) t' ∧ MI u (sN A (shW (aG A) (aW A) (nI q) y z w) (aRow A)) t' ∧ gS t' = gS t ∧ gC t' = gC t ∧ gZ t' = gZ t) := by
          intro val hval
          unfold M_sheet_111
          rw [tI_n (by omega) (by omega), bd_some, lt_e, nI_1]
          refine ih _ ⟨f'.pI (by omega), part_up hl (by rw [gI_pI_s]; exact hval) (fun k hk => gI_pI_k hk)⟩
        unfold M_sheet_72
        have hv := hv t0 ht0
        by_cases e3 : nI q = 3
        · rw [if_pos e3] at hv
          rw [if_pos e3]
          exact hgo2 _ hv
        · rw [if_neg e3] at hv
          rw [if_neg e3]
          by_cases e : nI j < y
          · rw [if_pos e] at hv
            rw [if_pos e, aI_n (by omega) (by omega), bd_some, e47]
            exact hgo2 _ hv
          · rw [if_neg e] at hv
            rw [if_neg e]
            exact hgo2 _ hv
      rw [M_sheet_40_s]
      unfold M_sheet_40b
      rw [e0, if_neg (nI_ge hj (by omega))]
      by_cases q0 : nI q = 0
      · rw [if_pos q0]
        exact hst _ (by unfold shI; rw [if_pos q0])
      · rw [if_neg q0]
        by_cases q1 : nI q = 1
        · rw [if_pos q1]
          exact hst _ (by unfold shI; rw [if_neg q0, if_pos q1])
        · rw [if_neg q1]
          exact hst _ (by unfold shI; rw [if_neg q0, if_neg q1])
