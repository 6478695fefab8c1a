/-! LAW: operations that change what lasts -/
set_option maxRecDepth 100000
theorem both_gen {u c : Nat} {s : Sg} {A : AS} {x : Option (Int32 × Sg)} {m : Sg → Option (Int32 × Sg)} (a : Int32) (A' : AS) (hx : Tp x (fun v t => v = a ∧ XI A' t ∧ MI u A t ∧ gS t = gS s ∧ gC t ≤ gC s + 100 ∧ gZ t ≤ gZ s + 1000)) (hm : ∀ t, XI A' t → MI u A t → Tp (m t) (fun v t' => v = a ∧ XI A' t' ∧ MI u A' t' ∧ gS t' = gS t ∧ gC t' = gC t ∧ gZ t' = gZ t)) (hG : GI (c + 1) A') : Bth u c s x m := by
  obtain ⟨v, t, ex, ev, h1, h2, h3, h4, h5⟩ := hx
  subst ev
  obtain ⟨v2, t2, em, ev, g1, g2, g3, g4, g5⟩ := hm t h1 h2
  subst ev
  exact ⟨v2, t, t2, ex, em, ⟨A', g1, g2, hG⟩, g3.trans h3, by omega, by omega⟩
/-- the class changes only its own; nothing is made -/
theorem gx {u c : Nat} {s t : Sg} {A A' : AS} {D : Nat → Nat → Prop} (hM : MI u A s) (f : Fr D s t) (hd : ∀ i k, 45 ≤ i → i ≤ 71 → ¬ D i k) (h : XI A' t) : XI A' t ∧ MI u A t ∧ gS t = gS s ∧ gC t ≤ gC s + 100 ∧ gZ t ≤ gZ s + 1000 := ⟨h, hM.fr f hd, f.S, by rw [f.C]; omega, by rw [f.Z]; omega⟩
theorem gm {u c : Nat} {s t : Sg} {A' : AS} {D : Nat → Nat → Prop} (hX : XI A' s) (hG : GI c A') (f : Fr D s t) (hd : ∀ i k, i < 45 ∨ 73 ≤ i → ¬ D i k) (h : MI u A' t) : XI A' t ∧ MI u A' t ∧ gS t = gS s ∧ gC t = gC s ∧ gZ t = gZ s := ⟨hX.fr hG f hd, h, f.S, f.C, f.Z⟩
/-! ### rings -/
def sRg (A : AS) (r : List (Nat × Nat × Nat)) : AS := (A.1, A.2.1, A.2.2.1, A.2.2.2.1, A.2.2.2.2.1, r, A.2.2.2.2.2.2)
abbrev dXg (i k : Nat) : Prop := (31 ≤ i ∧ i ≤ 33) ∨ (i = 0 ∧ k = 31)
abbrev dMg (i k : Nat) : Prop := (62 ≤ i ∧ i ≤ 64) ∨ (i = 45 ∧ (k = 33 ∨ k = 9))
theorem XI_rg {A : AS} {s t : Sg} {c : Nat} {r : List (Nat × Nat × Nat)} (h : XI A s) (hG : GI c A) (f : Fr dXg s t) (hr : XRg r t) : XI (sRg A r) t := by
  obtain ⟨h1, h2, h3, h4, h5, h6, h7, h8⟩ := h
  exact ⟨(h1.fr f ⟨fun k => ⟨by omega, by omega, by omega⟩, by omega, by omega, fun i k hi => by omega, fun w hw j hj => by omega⟩), (h2.mv (fun i k q1 q2 => f.I (by omega))), (h3.mv (f.I (by omega)) (fun k => f.J (by omega))), (h4.mv hG.2.2.1.1 h8 (f.I (by omega)) (fun k => f.R (by omega)) (fun i k q _ => f.I (by omega))), (h5.mv h8 (f.I (by omega)) (fun k => f.I (by omega)) (fun k => f.R (by omega)) (fun i k q _ => f.I (by omega))), hr, (h7.mv (f.I (by omega)) (fun k => f.I (by omega))), (h8.mv (fun k => f.R (by omega)) (fun k => f.R (by omega)) (fun b k q _ => f.R (by omega)) (fun i _ => by rw [f.K]) (by rw [f.N]; exact Nat.le_refl _))⟩
theorem MI_rg {u : Nat} {A : AS} {s t : Sg} {r : List (Nat × Nat × Nat)} (h : MI u A s) (f : Fr dMg s t) (hr : MRg r t) : MI u (sRg A r) t := by
  obtain ⟨h1, h2, h3, h4, h5, h6, h7, h8⟩ := h
  exact ⟨(h1.fr f ⟨fun k => ⟨by omega, by omega, by omega, by omega, by omega⟩, by omega, by omega, by omega⟩ (by omega) (by omega)), (h2.mv (fun k => f.I (by omega))), (h3.mv (f.I (by omega)) (fun k => f.J (by omega))), (h4.mv (f.I (by omega)) (fun k => f.I (by omega))), (h5.mv (f.I (by omega)) (fun i k q1 q2 => f.I (by omega))), hr, (h7.mv (f.I (by omega)) (fun k => f.I (by omega))), (⟨(f.R (by omega)).trans h8.1, (f.R (by omega)).trans h8.2⟩)⟩
theorem op_washes {u c : Nat} {s : Sg} {A : AS} (hX : XI A s) (hM : MI u A s) (hG : GI c A) : Bth u c s (X_washes s) (fun t => M_washes t) := by
  have hG' : GI (c + 1) (sRg A []) := ⟨hG.1, hG.2.1, hG.2.2.1, hG.2.2.2.1, ⟨Nat.zero_le _, fun r hr => by cases hr⟩, hG.2.2.2.2.2.1, hG.2.2.2.2.2.2.1, hG.up.2.2.2.2.2.2.2⟩
  refine both_gen (A := A) (nI (aRg A).length) (sRg A []) ?_ (fun t hXt ht => ?_) hG'
  · unfold X_washes
    rw [lt_e, lt_e, hX.2.2.2.2.2.1.1]
    have f : Fr dXg s (pI s 0 31 0) := (Fr.refl _ _).pI (by omega)
    refine Tp_some ⟨rfl, gx (c := c) hM f (fun i k h1 h2 => by omega) (XI_rg hX hG f ⟨by rw [gI_pI_s]; rfl, fun k hk => absurd hk (Nat.not_lt_zero _)⟩)⟩
  · unfold M_washes
    rw [lt_e, lt_e, lt_e, gI_pI_k (by omega), ht.2.2.2.2.2.1.1]
    have f : Fr dMg t (pI (pI t 45 9 0) 45 33 0) := ((Fr.refl _ _).pI (by omega)).pI (by omega)
    refine Tp_some ⟨rfl, gm hXt hG' f (fun i k h => by omega) (MI_rg ht f ⟨by rw [gI_pI_s]; rfl, fun k hk => absurd hk (Nat.not_lt_zero _)⟩)⟩
theorem op_ring {u c : Nat} {s : Sg} {A : AS} (hX : XI A s) (hM : MI u A s) (hG : GI c A) (x y z : Int32) : Bth u c s (X_ring s x y z) (fun t => M_ring t x y z) := by
  have h6 := hG.1.1
  rcases in_n x (gn (aG A)) (by omega) with ⟨i, hi, e⟩ | hno
  rotate_left
  · refine both_no (-1) hX hM hG ?_ (fun t ht => ?_)
    · unfold X_ring
      rw [X_isL hX, gd_e, if_neg hno]
    · unfold M_ring
      rw [lt_e, M_isL ht, gd_e, if_neg hno] <;> rfl
  subst e
  rcases in_or2 y 0 20 (by omega) (by omega) with ⟨m, hm0, hm, e⟩ | hno
  rotate_left
  · refine both_no (-1) hX hM hG ?_ (fun t ht => ?_)
    · unfold X_ring
      rw [X_isL hX, gd_e, if_pos (in_nyes hi (by omega)), Xin_0_20, gd_e, if_neg hno]
    · unfold M_ring
      rw [lt_e, M_isL ht, gd_e, if_pos (in_nyes hi (by omega)), Min_0_20, gd_e, if_neg hno] <;> rfl
  subst e
  rcases in_or2 z 0 99 (by omega) (by omega) with ⟨v, hv0, hv, e⟩ | hno
  rotate_left
  · refine both_no (-1) hX hM hG ?_ (fun t ht => ?_)
    · unfold X_ring
      rw [X_isL hX, gd_e, if_pos (in_nyes hi (by omega)), Xin_0_20, gd_e, if_pos (in_yes2 hm0 hm (by omega)), Xin_0_99, gd_e, if_neg hno]
    · unfold M_ring
      rw [lt_e, M_isL ht, gd_e, if_pos (in_nyes hi (by omega)), Min_0_20, gd_e, if_pos (in_yes2 hm0 hm (by omega)), Min_0_99, gd_e, if_neg hno] <;> rfl
  subst e
  have hrl := hG.2.2.2.2.1.1
  by_cases e10 : (aRg A).length = 10
  · refine both_no (-1) hX hM hG ?_ (fun t ht => ?_)
    · unfold X_ring
      rw [X_isL hX, gd_e, if_pos (in_nyes hi (by omega)), Xin_0_20, gd_e, if_pos (in_yes2 hm0 hm (by omega)), Xin_0_99, gd_e, if_pos (in_yes2 hv0 hv (by omega)), hX.2.2.2.2.2.1.1, if_pos (by rw [e10]; rfl)]
    · unfold M_ring
      rw [lt_e, M_isL ht, gd_e, if_pos (in_nyes hi (by omega)), Min_0_20, gd_e, if_pos (in_yes2 hm0 hm (by omega)), Min_0_99, gd_e, if_pos (in_yes2 hv0 hv (by omega)), gI_pI_k (by omega), ht.2.2.2.2.2.1.1, if_pos (by rw [e10]; rfl)]
  have hn10 : ¬ nI (aRg A).length = 10 := fun h => e10 ((nI_eq (b := 10) (by omega) (by omega)).mp h)
  have hG' : GI (c + 1) (sRg A (aRg A ++ [(i, m, v)])) := ⟨hG.1, hG.2.1, hG.2.2.1, hG.2.2.2.1, ⟨by show (aRg A ++ [(i, m, v)]).length ≤ 10; rw [List.length_append]; show (aRg A).length + 1 ≤ 10; omega, fun r hr => by
    rcases List.mem_append.mp hr with h | h
    · exact hG.2.2.2.2.1.2 r h
    · rw [List.mem_singleton] at h
      subst h
      exact ⟨hi, hm, hv⟩⟩, hG.2.2.2.2.2.1, hG.2.2.2.2.2.2.1, hG.up.2.2.2.2.2.2.2⟩
  have hget : ∀ (k : Nat) (h : k < (aRg A ++ [(i, m, v)]).length), (∃ h2 : k < (aRg A).length, (aRg A ++ [(i, m, v)])[k] = (aRg A)[k]) ∨ (k = (aRg A).length ∧ (aRg A ++ [(i, m, v)])[k] = (i, m, v)) := by
    intro k h
    by_cases e : k < (aRg A).length
    · exact Or.inl ⟨e, List.getElem_append_left e⟩
    · right
      rw [List.length_append] at h
      have h : k < (aRg A).length + 1 := h
      have e : k = (aRg A).length := by omega
      subst e
      exact ⟨rfl, by rw [List.getElem_append_right (Nat.le_refl _)]; simp⟩
  refine both_gen (A := A) (nI ((aRg A).length + 1)) (sRg A (aRg A ++ [(i, m, v)])) ?_ (fun t hXt ht => ?_) hG'
  · unfold X_ring
    have hl := hX.2.2.2.2.2.1
    rw [X_isL hX, gd_e, if_pos (in_nyes hi (by omega)), Xin_0_20, gd_e, if_pos (in_yes2 hm0 hm (by omega)), Xin_0_99, gd_e, if_pos (in_yes2 hv0 hv (by omega)), hl.1, if_neg hn10]
    simp (disch := omega) only [tI_n, bd_some, lt_e, gI_pI_s, gI_pI_i, gI_pI_k, hl.1, nI_1]
    have f : Fr dXg s (pI (pI (pI (pI s 31 (aRg A).length (nI i)) 32 (aRg A).length (nI m)) 33 (aRg A).length (nI v)) 0 31 (nI ((aRg A).length + 1))) := ((((Fr.refl _ _).pI (by omega)).pI (by omega)).pI (by omega)).pI (by omega)
    refine Tp_some ⟨rfl, gx (c := c) hM f (fun i k h1 h2 => by omega) (XI_rg hX hG f ⟨by rw [gI_pI_s, List.length_append]; rfl, fun k hk => ?_⟩)⟩
    rcases hget k hk with ⟨h2, e⟩ | ⟨h2, e⟩
    · rw [e]
      have hq := hl.2 k h2
      simp (disch := omega) only [gI_pI_i, gI_pI_k]
      exact hq
    · rw [e, h2]
      simp (disch := omega) only [gI_pI_s, gI_pI_i, and_self]
  · unfold M_ring
    have hl := ht.2.2.2.2.2.1
    rw [lt_e, M_isL ht, gd_e, if_pos (in_nyes hi (by omega)), Min_0_20, gd_e, if_pos (in_yes2 hm0 hm (by omega)), Min_0_99, gd_e, if_pos (in_yes2 hv0 hv (by omega)), gI_pI_k (by omega), hl.1, if_neg hn10]
    simp (disch := omega) only [tI_n, bd_some, lt_e, gI_pI_s, gI_pI_i, gI_pI_k, hl.1, nI_1]
    have f : Fr dMg t (pI (pI (pI (pI (pI t 45 9 0) 62 (aRg A).length (nI i)) 63 (aRg A).length (nI m)) 64 (aRg A).length (nI v)) 45 33 (nI ((aRg A).length + 1))) := (((((Fr.refl _ _).pI (by omega)).pI (by omega)).pI (by omega)).pI (by omega)).pI (by omega)
    refine Tp_some ⟨rfl, gm hXt hG' f (fun i k h => by omega) (MI_rg ht f ⟨by rw [gI_pI_s, List.length_append]; rfl, fun k hk => ?_⟩)⟩
    rcases hget k hk with ⟨h2, e⟩ | ⟨h2, e⟩
    · rw [e]
      have hq := hl.2 k h2
      simp (disch := omega) only [gI_pI_i, gI_pI_k]
      exact hq
    · rw [e, h2]
      simp (disch := omega) only [gI_pI_s, gI_pI_i, and_self]
/-! ### text -/
def sTx (A : AS) (x : Tx) : AS := (A.1, A.2.1, A.2.2.1, A.2.2.2.1, A.2.2.2.2.1, A.2.2.2.2.2.1, x, A.2.2.2.2.2.2.2)
abbrev dXt (i k : Nat) : Prop := i = 14 ∨ (i = 0 ∧ k = 8)
abbrev dMt (i k : Nat) : Prop := i = 50 ∨ (i = 45 ∧ (k = 6 ∨ k = 9))
theorem XI_tx {A : AS} {s t : Sg} {c : Nat} {x : Tx} (h : XI A s) (hG : GI c A) (f : Fr dXt s t) (hr : XTx x t) : XI (sTx A x) t := by
  obtain ⟨h1, h2, h3, h4, h5, h6, h7, h8⟩ := h
  exact ⟨(h1.fr f ⟨fun k => ⟨by omega, by omega, by omega⟩, by omega, by omega, fun i k hi => by omega, fun w hw j hj => by omega⟩), (h2.mv (fun i k q1 q2 => f.I (by omega))), (h3.mv (f.I (by omega)) (fun k => f.J (by omega))), (h4.mv hG.2.2.1.1 h8 (f.I (by omega)) (fun k => f.R (by omega)) (fun i k q _ => f.I (by omega))), (h5.mv h8 (f.I (by omega)) (fun k => f.I (by omega)) (fun k => f.R (by omega)) (fun i k q _ => f.I (by omega))), (h6.mv (f.I (by omega)) (fun i k q1 q2 => f.I (by omega))), hr, (h8.mv (fun k => f.R (by omega)) (fun k => f.R (by omega)) (fun b k q _ => f.R (by omega)) (fun i _ => by rw [f.K]) (by rw [f.N]; exact Nat.le_refl _))⟩
theorem MI_tx {u : Nat} {A : AS} {s t : Sg} {x : Tx} (h : MI u A s) (f : Fr dMt s t) (hr : MTx x t) : MI u (sTx A x) t := by
  obtain ⟨h1, h2, h3, h4, h5, h6, h7, h8⟩ := h
  exact ⟨(h1.fr f ⟨fun k => ⟨by omega, by omega, by omega, by omega, by omega⟩, by omega, by omega, by omega⟩ (by omega) (by omega)), (h2.mv (fun k => f.I (by omega))), (h3.mv (f.I (by omega)) (fun k => f.J (by omega))), (h4.mv (f.I (by omega)) (fun k => f.I (by omega))), (h5.mv (f.I (by omega)) (fun i k q1 q2 => f.I (by omega))), (h6.mv (f.I (by omega)) (fun i k q1 q2 => f.I (by omega))), hr, (⟨(f.R (by omega)).trans h8.1, (f.R (by omega)).trans h8.2⟩)⟩
theorem GI_tx {c : Nat} {A : AS} {x : Tx} (hG : GI c A) (h : x.1 ≤ 80 ∧ ∀ k, x.2 k < 256) : GI (c + 1) (sTx A x) := ⟨hG.1, hG.2.1, hG.2.2.1, hG.2.2.2.1, hG.2.2.2.2.1, h, hG.2.2.2.2.2.2.1, hG.up.2.2.2.2.2.2.2⟩
theorem op_end {u c : Nat} {s : Sg} {A : AS} (hX : XI A s) (hM : MI u A s) (hG : GI c A) (x : Int32) : Bth u c s (X_end s x) (fun t => M_end t x) := by
  have hz := hG.2.2.2.2.2.1
  rcases in_or x (aT A).1 (by omega) with ⟨i, hi, e⟩ | hno
  rotate_left
  · refine both_no 0 hX hM hG ?_ (fun t ht => ?_)
    · unfold X_end
      rw [hX.2.2.2.2.2.2.1.1, Xin_0, gd_e, if_neg hno]
    · unfold M_end
      rw [lt_e, gI_pI_k (by omega), ht.2.2.2.2.2.2.1.1, M_in_eq, gd_e, if_neg hno]
  subst e
  have hG' : GI (c + 1) (sTx A (i, (aT A).2)) := GI_tx hG ⟨by show i ≤ 80; omega, hz.2⟩
  refine both_gen (A := A) 1 (sTx A (i, (aT A).2)) ?_ (fun t hXt ht => ?_) hG'
  · unfold X_end
    rw [hX.2.2.2.2.2.2.1.1, Xin_0, gd_e, if_pos (in_yes hi (by omega)), lt_e]
    have f : Fr dXt s (pI s 0 8 (nI i)) := (Fr.refl _ _).pI (by omega)
    refine Tp_some ⟨rfl, gx (c := c) hM f (fun i k h1 h2 => by omega) (XI_tx hX hG f ⟨gI_pI_s, fun k hk => ?_⟩)⟩
    have hk : k < i := hk
    exact (gI_pI_i (by decide)).trans (hX.2.2.2.2.2.2.1.2 k (by omega))
  · unfold M_end
    rw [lt_e, gI_pI_k (by omega), ht.2.2.2.2.2.2.1.1, M_in_eq, gd_e, if_pos (in_yes hi (by omega)), lt_e]
    have f : Fr dMt t (pI (pI t 45 9 0) 45 6 (nI i)) := ((Fr.refl _ _).pI (by omega)).pI (by omega)
    refine Tp_some ⟨rfl, gm hXt hG' f (fun i k h => by omega) (MI_tx ht f ⟨gI_pI_s, fun k hk => ?_⟩)⟩
    have hk : k < i := hk
    exact (gI_pI_i (by decide)).trans ((gI_pI_i (by decide)).trans (ht.2.2.2.2.2.2.1.2 k (by omega)))
/-- the sign of a word at place k (0 the highest) -/
def sgZ (v : Int32) (k : Nat) : Int32 := v >>> (nI (24 - 8 * k) &&& 31)
def sgN (v : Int32) (k : Nat) : Nat := (sgZ v k).toBitVec.toNat % 256
theorem sgN_lt (v : Int32) (k : Nat) : sgN v k < 256 := Nat.mod_lt _ (by omega)
theorem sg_and (v : Int32) (k : Nat) : sgZ v k &&& 255 = nI (sgN v k) := pk_and (sgZ v k) (m := 255) 8 (by decide)
theorem byt_and (z : Int32) : z.toInt8 = (z &&& 255).toInt8 := by
  apply Int8.toBitVec.inj
  apply BitVec.eq_of_toNat_eq
  rw [Int32.toBitVec_toInt8, Int32.toBitVec_toInt8, BitVec.signExtend_eq_setWidth_of_le _ (by decide), BitVec.signExtend_eq_setWidth_of_le _ (by decide), BitVec.toNat_setWidth, BitVec.toNat_setWidth, Int32.toBitVec_and, BitVec.toNat_and]
  have e : (255 : Int32).toBitVec.toNat = 2 ^ 8 - 1 := by decide
  rw [e, Nat.and_two_pow_sub_one_eq_mod, Nat.mod_mod]
theorem sg_byt (v : Int32) (k : Nat) : (sgZ v k).toInt8.toInt32 = (nI (sgN v k)).toInt8.toInt32 := by rw [byt_and, sg_and]
def dn3 (k : Nat) : Int32 := match k with
  | 0 => 3
  | 1 => 2
  | 2 => 1
  | 3 => 0
  | _ => -1
theorem dn3_s : ∀ k, k < 4 → (¬ dn3 k < 0) ∧ dn3 k + (-1) = dn3 (k + 1) ∧ (8 : Int32) * dn3 k = nI (24 - 8 * k) := by decide
def txA (tx : Tx) (v : Int32) : Tx := (tx.1 + 4, fun k => if k < tx.1 then tx.2 k else sgN v (k - tx.1))
theorem op_sign {u c : Nat} {s : Sg} {A : AS} (hu : 20000 ≤ u) (hX : XI A s) (hM : MI u A s) (hG : GI c A) (x : Int32) : Bth u c s (X_sign u s x) (fun t => M_sign u t x) := by
  have hz := hG.2.2.2.2.2.1
  by_cases hno : 76 < (aT A).1
  · refine both_no (-1) hX hM hG ?_ (fun t ht => ?_)
    · unfold X_sign
      rw [hX.2.2.2.2.2.2.1.1, show (76 : Int32) = nI 76 from rfl, if_neg (nI_ge hno (by omega))]
    · unfold M_sign
      rw [lt_e, gI_pI_k (by omega), ht.2.2.2.2.2.2.1.1, show (4 : Int32) = nI 4 from rfl, nI_add, show (80 : Int32) = nI 80 from rfl, if_neg (nI_ge (by omega) (by omega))]
  have hG' : GI (c + 1) (sTx A (txA (aT A) x)) := GI_tx hG ⟨by show (aT A).1 + 4 ≤ 80; omega, fun k => by
    show (if k < (aT A).1 then (aT A).2 k else sgN x (k - (aT A).1)) < 256
    split
    · exact hz.2 k
    · exact sgN_lt _ _⟩
  refine both_gen (A := A) (nI ((aT A).1 + 4)) (sTx A (txA (aT A) x)) ?_ (fun t hXt ht => ?_) hG'
  · obtain ⟨hl1, hl2⟩ := hX.2.2.2.2.2.2.1
    unfold X_sign
    rw [hl1, show (76 : Int32) = nI 76 from rfl, if_pos (nI_le (by omega) (by omega))]
    refine loop_i (W := fun f k t' => Tp (X_sign_13 u f t' x (nI k)) _)
      (I := fun k t' => Fr dXt s t' ∧ gI t' 0 8 = nI (aT A).1 ∧ (∀ j, j < (aT A).1 → gI t' 14 j = nI ((aT A).2 j)) ∧ ∀ j, j < k → gI t' 14 ((aT A).1 + j) = nI (sgN x j)) 4 ?_ ?_ u 0 s (by omega) (by omega) ⟨Fr.refl _ _, hl1, hl2, fun j hj => absurd hj (Nat.not_lt_zero _)⟩
    · intro f t' ⟨f', e8, h1, h2⟩
      rw [X_sign_13_s]
      unfold X_sign_13b
      rw [if_pos (by decide), lt_e, gI_pI_s, e8, show (4 : Int32) = nI 4 from rfl, nI_add]
      have f2 : Fr dXt s (pI t' 0 8 (nI ((aT A).1 + 4))) := f'.pI (by omega)
      refine Tp_some ⟨rfl, gx (c := c) hM f2 (fun i k h1 h2 => by omega) (XI_tx hX hG f2 ⟨gI_pI_s, fun k hk => ?_⟩)⟩
      have hk : k < (aT A).1 + 4 := hk
      rw [gI_pI_i (by decide)]
      show _ = nI (if k < (aT A).1 then (aT A).2 k else sgN x (k - (aT A).1))
      by_cases e : k < (aT A).1
      · rw [if_pos e]
        exact h1 k e
      · rw [if_neg e, ← h2 (k - (aT A).1) (by omega)]
        congr 1
        omega
    · intro f k t' hk ⟨f', e8, h1, h2⟩ ih
      rw [X_sign_13_s]
      unfold X_sign_13b
      rw [show (4 : Int32) = nI 4 from rfl, if_neg (nI_ge hk (by omega)), e8, nI_add, mu_8, show (24 : Int32) = nI 24 from rfl, pk_sub (by omega), show x >>> (nI (24 - 8 * k) &&& 31) = sgZ x k from rfl, sg_and, tI_n (by omega) (by omega), bd_some, nI_1]
      refine ih _ ⟨f'.pI (by omega), (gI_pI_i (by decide)).trans e8, fun j hj => (gI_pI_k (by omega)).trans (h1 j hj), fun j hj => ?_⟩
      by_cases e : j = k
      · subst e
        exact gI_pI_s
      · exact (gI_pI_k (by omega)).trans (h2 j (by omega))
  · obtain ⟨hl1, hl2⟩ := ht.2.2.2.2.2.2.1
    unfold M_sign
    rw [lt_e, gI_pI_k (by omega), hl1, show (4 : Int32) = nI 4 from rfl, nI_add, show (80 : Int32) = nI 80 from rfl, if_pos (nI_le (by omega) (by omega))]
    refine loop_i (W := fun f k t' => Tp (M_sign_20 u f t' x (dn3 k)) _)
      (I := fun k t' => Fr dMt t t' ∧ gI t' 45 6 = nI ((aT A).1 + k) ∧ (∀ j, j < (aT A).1 → gI t' 50 j = (nI ((aT A).2 j)).toInt8.toInt32) ∧ ∀ j, j < k → gI t' 50 ((aT A).1 + j) = (nI (sgN x j)).toInt8.toInt32) 4 ?_ ?_ u 0 _ (by omega) (by omega) ⟨(Fr.refl _ _).pI (by omega), (gI_pI_k (by omega)).trans hl1, fun j hj => (gI_pI_i (by decide)).trans (hl2 j hj), fun j hj => absurd hj (Nat.not_lt_zero _)⟩
    · intro f t' ⟨f', e8, h1, h2⟩
      rw [M_sign_20_s]
      unfold M_sign_20b
      rw [if_pos (by decide), e8]
      refine Tp_some ⟨rfl, gm hXt hG' f' (fun i k h => by omega) (MI_tx ht f' ⟨e8, fun k hk => ?_⟩)⟩
      have hk : k < (aT A).1 + 4 := hk
      show _ = (nI (if k < (aT A).1 then (aT A).2 k else sgN x (k - (aT A).1))).toInt8.toInt32
      by_cases e : k < (aT A).1
      · rw [if_pos e]
        exact h1 k e
      · rw [if_neg e, ← h2 (k - (aT A).1) (by omega)]
        congr 1
        omega
    · intro f k t' hk ⟨f', e8, h1, h2⟩ ih
      obtain ⟨d1, d2, d3⟩ := dn3_s k hk
      rw [M_sign_20_s]
      unfold M_sign_20b
      rw [if_neg d1, lt_e, e8, d3, pk_vb, show x >>> (nI (24 - 8 * k) &&& 31) = sgZ x k from rfl, sg_byt, tI_n (by omega) (by omega), bd_some, d2, nI_1]
      refine ih _ ⟨(f'.pI (by omega)).pI (by omega), (gI_pI_i (by decide)).trans gI_pI_s, fun j hj => (gI_pI_k (by omega)).trans ((gI_pI_i (by decide)).trans (h1 j hj)), fun j hj => ?_⟩
      by_cases e : j = k
      · subst e
        exact gI_pI_s
      · exact (gI_pI_k (by omega)).trans ((gI_pI_i (by decide)).trans (h2 j (by omega)))
