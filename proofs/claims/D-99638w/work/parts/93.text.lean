/-! LAW: texts read: the state of both readers, the readers' small methods -/
set_option maxRecDepth 100000
/-- behind an operation that reads: the text is used up, a row is told -/
def sTr (A : AS) (r : List Int64) : AS := (A.1, A.2.1, r, A.2.2.2.1, A.2.2.2.2.1, A.2.2.2.2.2.1, (0, fun _ => 0), A.2.2.2.2.2.2.2)
abbrev dXd (i k : Nat) : Prop := dXr i k ∨ (i = 0 ∧ k = 8)
abbrev dMd (i k : Nat) : Prop := dMr i k ∨ (i = 45 ∧ k = 6)
theorem XTx_0 {s : Sg} (h : gI s 0 8 = nI 0) : XTx (0, fun _ => 0) s := ⟨h, fun k hk => absurd hk (Nat.not_lt_zero _)⟩
theorem MTx_0 {s : Sg} (h : gI s 45 6 = nI 0) : MTx (0, fun _ => 0) s := ⟨h, fun k hk => absurd hk (Nat.not_lt_zero _)⟩
theorem XI_tr {A : AS} {s t : Sg} {c : Nat} {r : List Int64} (h : XI A s) (hG : GI c A) (f : Fr dXd s t) (hr : XRow r t) (h0 : gI t 0 8 = nI 0) : XI (sTr A r) t := by
  obtain ⟨h1, h2, h3, h4, h5, h6, h7, h8⟩ := h
  exact ⟨(h1.fr f ⟨fun k => ⟨by omega, by omega, by omega⟩, by omega, by omega, fun i k hi => by omega, fun w hw j hj => by omega⟩), (h2.mv (fun i k q1 q2 => f.I (by omega))), hr, (h4.mv hG.2.2.1.1 h8 (f.I (by omega)) (fun k => f.R (by omega)) (fun i k q _ => f.I (by omega))), (h5.mv h8 (f.I (by omega)) (fun k => f.I (by omega)) (fun k => f.R (by omega)) (fun i k q _ => f.I (by omega))), (h6.mv (f.I (by omega)) (fun i k q1 q2 => f.I (by omega))), XTx_0 h0, (h8.mv (fun k => f.R (by omega)) (fun k => f.R (by omega)) (fun b k q _ => f.R (by omega)) (fun i _ => by rw [f.K]) (by rw [f.N]; exact Nat.le_refl _))⟩
theorem MI_tr {u : Nat} {A : AS} {s t : Sg} {r : List Int64} (h : MI u A s) (f : Fr dMd s t) (hr : MRw r t) (h0 : gI t 45 6 = nI 0) : MI u (sTr A r) t := by
  obtain ⟨h1, h2, h3, h4, h5, h6, h7, h8⟩ := h
  exact ⟨(h1.fr f ⟨fun k => ⟨by omega, by omega, by omega, by omega, by omega⟩, by omega, by omega, by omega⟩ (by omega) (by omega)), (h2.mv (fun k => f.I (by omega))), hr, (h4.mv (f.I (by omega)) (fun k => f.I (by omega))), (h5.mv (f.I (by omega)) (fun i k q1 q2 => f.I (by omega))), (h6.mv (f.I (by omega)) (fun i k q1 q2 => f.I (by omega))), MTx_0 h0, (⟨(f.R (by omega)).trans h8.1, (f.R (by omega)).trans h8.2⟩)⟩
theorem GI_tr {c : Nat} {A : AS} (r : List Int64) (hG : GI c A) : GI (c + 1) (sTr A r) := ⟨hG.1, hG.2.1, hG.2.2.1, hG.2.2.2.1, hG.2.2.2.2.1, ⟨Nat.zero_le _, fun k => by show 0 < 256; decide⟩, hG.2.2.2.2.2.2.1, hG.up.2.2.2.2.2.2.2⟩
theorem both_txt {u c : Nat} {s : Sg} {A : AS} {x : Option (Int32 × Sg)} {m : Sg → Option (Int32 × Sg)} (a : Int32) (r : List Int64) (hX : XI A s) (hM : MI u A s) (hG : GI c A) (hx : Tp x (fun v t => v = a ∧ Fr dXd s t ∧ XRow r t ∧ gI t 0 8 = nI 0)) (hm : ∀ t, MI u A t → Tp (m t) (fun v t' => v = a ∧ Fr dMd t t' ∧ MRw r t' ∧ gI t' 45 6 = nI 0)) : Bth u c s x m :=
  both_gen (A := A) a (sTr A r) (Tp_mono hx (fun v t h => ⟨h.1, gx (c := c) hM h.2.1 (fun i k h1 h2 => by omega) (XI_tr hX hG h.2.1 h.2.2.1 h.2.2.2)⟩)) (fun t hXt ht => Tp_mono (hm t ht) (fun v t' h => ⟨h.1, gm hXt (GI_tr r hG) h.2.1 (fun i k h => by omega) (MI_tr ht h.2.1 h.2.2.1 h.2.2.2)⟩)) (GI_tr r hG)
theorem by_and : ∀ b, b < 256 → (nI b).toInt8.toInt32 &&& 255 = nI b := by decide +kernel
theorem by_lo : ∀ b, b < 128 → (nI b).toInt8.toInt32 = nI b := by decide +kernel
theorem first_out (P : Nat → Prop) (b : Nat) : ∃ q, q ≤ b ∧ (∀ j, j < q → P j) ∧ (q = b ∨ ¬ P q) := by
  induction b with
  | zero => exact ⟨0, Nat.le_refl _, fun j hj => absurd hj (Nat.not_lt_zero _), Or.inl rfl⟩
  | succ b ih =>
    obtain ⟨q, h1, h2, h3⟩ := ih
    rcases h3 with h3 | h3
    · by_cases e : P b
      · exact ⟨b + 1, Nat.le_refl _, fun j hj => by
          by_cases q2 : j = b
          · subst q2; exact e
          · exact h2 j (by omega), Or.inl rfl⟩
      · exact ⟨q, by omega, h2, Or.inr (by rw [h3]; exact e)⟩
    · exact ⟨q, by omega, h2, Or.inr h3⟩
/-! ### the class -/
def XRd (f : Nat → Nat) (e p : Nat) (s : Sg) : Prop := gI s 0 9 = nI p ∧ gI s 0 10 = nI e ∧ (∀ k, k < e → gI s 14 k = nI (f k) ∧ f k < 256) ∧ e ≤ 80 ∧ p ≤ e
abbrev dAt (i k : Nat) : Prop := i = 0 ∧ k = 9
theorem XRd.mv {f : Nat → Nat} {e p : Nat} {s t : Sg} (h : XRd f e p s) (e1 : gI t 0 9 = gI s 0 9) (e2 : gI t 0 10 = gI s 0 10) (e3 : ∀ k, gI t 14 k = gI s 14 k) : XRd f e p t := ⟨e1.trans h.1, e2.trans h.2.1, fun k hk => ⟨(e3 k).trans (h.2.2.1 k hk).1, (h.2.2.1 k hk).2⟩, h.2.2.2⟩
theorem XRd.set {f : Nat → Nat} {e p q : Nat} {s : Sg} (h : XRd f e p s) (hq : q ≤ e) : XRd f e q (pI s 0 9 (nI q)) := ⟨gI_pI_s, (gI_pI_k (by omega)).trans h.2.1, fun k hk => ⟨(gI_pI_i (by omega)).trans (h.2.2.1 k hk).1, (h.2.2.1 k hk).2⟩, h.2.2.2.1, hq⟩
theorem X_begins_ok {A : AS} {s : Sg} {c m : Nat} {x : Int32} (hX : XI A s) (hG : GI c A) (hm : m < 2 ^ 31) (hx : x = nI m) : Tp (X_begins s x) (fun v t => v = nI (aT A).1 ∧ Fr (fun i k => i = 0 ∧ (8 ≤ k ∧ k ≤ 11)) s t ∧ XRd (aT A).2 (min (aT A).1 m) 0 t ∧ gI t 0 8 = nI 0 ∧ gI t 0 11 = nI 0) := by
  obtain ⟨e8, hc⟩ := hX.2.2.2.2.2.2.1
  have h80 := hG.2.2.2.2.2.1
  have h81 := h80.1
  subst hx
  unfold X_begins
  rw [lt_e, lt_e, lt_e, lt_e, lt_e, e8, nI_mi (by omega) hm]
  refine Tp_some ⟨rfl, ((((Fr.refl _ _).pI (by omega)).pI (by omega)).pI (by omega)).pI (by omega), ⟨?_, ?_, ?_, ?_, Nat.zero_le _⟩, ?_, ?_⟩
  · rw [gI_pI_k (by omega), gI_pI_k (by omega), gI_pI_s]; rfl
  · rw [gI_pI_s]
  · intro k hk
    rw [gI_pI_i (by omega), gI_pI_i (by omega), gI_pI_i (by omega), gI_pI_i (by omega)]
    exact ⟨hc k (by omega), h80.2 k⟩
  · omega
  · rw [gI_pI_k (by omega), gI_pI_k (by omega), gI_pI_k (by omega), gI_pI_s]; rfl
  · rw [gI_pI_k (by omega), gI_pI_s]; rfl
theorem X_isAt_ok {f : Nat → Nat} {e p ch : Nat} {s : Sg} {x : Int32} (h : XRd f e p s) (hx : x = nI ch) (hc : ch < 256) : X_isAt s x = some (if p < e ∧ f p = ch then 1 else 0) := by
  obtain ⟨e9, e10, ht, h80, hpe⟩ := h
  subst hx
  unfold X_isAt X_isAt_28
  rw [e9, e10]
  by_cases q : p < e
  · have hp := ht p q
    rw [if_neg (nI_ge q (by omega)), aI_n (by omega) (by omega), bd_some, hp.1]
    by_cases q2 : f p = ch
    · rw [if_pos (by rw [q2]), if_pos ⟨q, q2⟩]
    · rw [if_neg (fun h => q2 ((nI_eq (by omega) (by omega)).mp h)), if_neg (fun h => q2 h.2)]
  · rw [if_pos (nI_le (by omega) (by omega)), if_neg (fun h => q h.1)]
theorem X_takes_ok {f : Nat → Nat} {e p ch : Nat} {s : Sg} {x : Int32} (h : XRd f e p s) (hx : x = nI ch) (hc : ch < 256) : Tp (X_takes s x) (fun v t => Fr dAt s t ∧ ((p < e ∧ f p = ch ∧ v = 1 ∧ XRd f e (p + 1) t) ∨ (¬ (p < e ∧ f p = ch) ∧ v = 0 ∧ XRd f e p t))) := by
  unfold X_takes X_takes_20
  rw [X_isAt_ok h hx hc, bd_some, h.1]
  by_cases q : p < e ∧ f p = ch
  · rw [if_pos q, if_neg (by decide), lt_e, nI_1]
    exact ⟨1, pI s 0 9 (nI (p + 1)), rfl, (Fr.refl _ _).pI ⟨rfl, rfl⟩, Or.inl ⟨q.1, q.2, rfl, h.set (by omega)⟩⟩
  · rw [if_neg q, if_pos rfl, lt_e, Int32.add_zero]
    exact ⟨0, pI s 0 9 (nI p), rfl, (Fr.refl _ _).pI ⟨rfl, rfl⟩, Or.inr ⟨q, rfl, h.set h.2.2.2.2⟩⟩
/-- a digit is next -/
def dg (f : Nat → Nat) (e p : Nat) : Prop := p < e ∧ 48 ≤ f p ∧ f p ≤ 57
theorem X_isDigit_y {f : Nat → Nat} {e p : Nat} {s : Sg} (h : XRd f e p s) (q : dg f e p) : X_isDigit s = some 1 := by
  obtain ⟨e9, e10, ht, h80, hpe⟩ := h
  obtain ⟨q1, q2, q3⟩ := q
  unfold X_isDigit X_isDigit_37
  rw [e9, e10, if_neg (nI_ge q1 (by omega)), aI_n (by omega) (by omega), bd_some, (ht p q1).1, Xin_48_57, if_pos ⟨nI_le q2 (by omega), nI_le q3 (by omega)⟩]
  rfl
theorem X_isDigit_n {f : Nat → Nat} {e p : Nat} {s : Sg} (h : XRd f e p s) (q : ¬ dg f e p) : X_isDigit s = some 0 := by
  obtain ⟨e9, e10, ht, h80, hpe⟩ := h
  unfold X_isDigit X_isDigit_37
  rw [e9, e10]
  by_cases q1 : p < e
  · have hp := ht p q1
    rw [if_neg (nI_ge q1 (by omega)), aI_n (by omega) (by omega), bd_some, hp.1, Xin_48_57, if_neg (fun h => q ⟨q1, (nI_leI (by omega) (by omega)).mp h.1, (nI_leI (by omega) (by omega)).mp h.2⟩)]
    rfl
  · rw [if_pos (nI_le (by omega) (by omega))]
/-- a number of so many digits at most: the number, the place behind it -/
def nmr (f : Nat → Nat) (e : Nat) : Nat → Nat → Nat → Nat × Nat
  | 0, p, v => (v, p)
  | n + 1, p, v => if p < e ∧ 48 ≤ f p ∧ f p ≤ 57 then nmr f e n (p + 1) (10 * v + (f p - 48)) else (v, p)
theorem nmr_le {f : Nat → Nat} {e : Nat} (n : Nat) : ∀ p v, p ≤ e → p ≤ (nmr f e n p v).2 ∧ (nmr f e n p v).2 ≤ e ∧ (nmr f e n p v).2 ≤ p + n ∧ (nmr f e n p v).1 + 1 ≤ 10 ^ n * (v + 1) := by
  induction n with
  | zero => intro p v h; exact ⟨Nat.le_refl _, h, Nat.le_refl _, by show v + 1 ≤ 1 * (v + 1); omega⟩
  | succ n ih =>
    intro p v h
    show p ≤ (if p < e ∧ 48 ≤ f p ∧ f p ≤ 57 then _ else _ : Nat × Nat).2 ∧ (if p < e ∧ 48 ≤ f p ∧ f p ≤ 57 then _ else _ : Nat × Nat).2 ≤ e ∧ (if p < e ∧ 48 ≤ f p ∧ f p ≤ 57 then _ else _ : Nat × Nat).2 ≤ p + (n + 1) ∧ (if p < e ∧ 48 ≤ f p ∧ f p ≤ 57 then _ else _ : Nat × Nat).1 + 1 ≤ 10 ^ (n + 1) * (v + 1)
    by_cases q : p < e ∧ 48 ≤ f p ∧ f p ≤ 57
    · rw [if_pos q]
      have h1 := ih (p + 1) (10 * v + (f p - 48)) (by omega)
      refine ⟨by omega, h1.2.1, by omega, Nat.le_trans h1.2.2.2 ?_⟩
      rw [Nat.pow_succ, Nat.mul_assoc]
      exact Nat.mul_le_mul_left _ (by omega)
    · rw [if_neg q]
      refine ⟨Nat.le_refl _, h, by omega, ?_⟩
      have : 1 * (v + 1) ≤ 10 ^ (n + 1) * (v + 1) := Nat.mul_le_mul_right _ (Nat.pow_pos_iff.mpr (Or.inl (by omega)))
      show v + 1 ≤ _
      omega
theorem X_num13 {f : Nat → Nat} {e d u : Nat} (hd : d ≤ 3) (n : Nat) : ∀ w p v j s, n + j = d → n < w → v < 10 ^ j → XRd f e p s → Tp (X_number_13 u w s (nI d) (nI v) (nI j)) (fun r t => r = nI (nmr f e n p v).1 ∧ Fr dAt s t ∧ XRd f e (nmr f e n p v).2 t) := by
  induction n with
  | zero =>
    intro w p v j s hj hw hv h
    obtain ⟨w, rfl⟩ : ∃ w', w = w' + 1 := ⟨w - 1, by omega⟩
    rw [X_number_13_s]
    unfold X_number_13b
    rw [if_pos (nI_le (by omega) (by omega))]
    exact Tp_some ⟨rfl, Fr.refl _ _, h⟩
  | succ n ih =>
    intro w p v j s hj hw hv h
    obtain ⟨w, rfl⟩ : ∃ w', w = w' + 1 := ⟨w - 1, by omega⟩
    rw [X_number_13_s]
    unfold X_number_13b
    rw [if_neg (nI_ge (by omega) (by omega))]
    have h3 : v < 1000 := Nat.lt_of_lt_of_le hv (Nat.pow_le_pow_right (n := 10) (by omega) (by omega : j ≤ 3))
    by_cases q : dg f e p
    · have hp := h.2.2.1 p q.1
      have hq := q.2
      have h80 := h.2.2.2.1
      have hq1 := q.1
      have em : nmr f e (n + 1) p v = nmr f e n (p + 1) (10 * v + (f p - 48)) := if_pos q
      rw [em, X_isDigit_y h q, bd_some, if_neg (by decide), h.1, aI_n (by omega) (by omega), bd_some, lt_e, lt_e, hp.1, show (10 : Int32) = nI 10 from rfl, show (48 : Int32) = nI 48 from rfl, pk_mul, nI_add, pk_sub (by omega), nI_1, nI_1, show 10 * v + f p - 48 = 10 * v + (f p - 48) from by omega]
      refine Tp_mono (ih w (p + 1) (10 * v + (f p - 48)) (j + 1) _ (by omega) (by omega) ?_ (h.set (by omega))) (fun r t g => ⟨g.1, ((Fr.refl _ _).pI ⟨rfl, rfl⟩).trans g.2.1, g.2.2⟩)
      rw [Nat.pow_succ]
      omega
    · have em : nmr f e (n + 1) p v = (v, p) := if_neg q
      rw [em, X_isDigit_n h q, bd_some, if_pos rfl]
      exact Tp_some ⟨rfl, Fr.refl _ _, h⟩
/-- a number: read, or none and nothing is moved -/
theorem X_number_ok {f : Nat → Nat} {e p d u : Nat} {x : Int32} {s : Sg} (hu : 20000 ≤ u) (hd : d ≤ 3) (hx : x = nI d) (h : XRd f e p s) : Tp (X_number u s x) (fun v t => Fr dAt s t ∧ ((dg f e p ∧ v = nI (nmr f e d p 0).1 ∧ XRd f e (nmr f e d p 0).2 t) ∨ (¬ dg f e p ∧ v = -1 ∧ XRd f e p t))) := by
  subst hx
  unfold X_number
  by_cases q : dg f e p
  · rw [X_isDigit_y h q, bd_some, if_neg (by decide)]
    exact Tp_mono (X_num13 (f := f) (e := e) hd d u p 0 0 s (by omega) (by omega) (by decide) h) (fun v t g => ⟨g.2.1, Or.inl ⟨q, g.1, g.2.2⟩⟩)
  · rw [X_isDigit_n h q, bd_some, if_pos rfl]
    exact Tp_some ⟨Fr.refl _ _, Or.inr ⟨q, rfl, h⟩⟩
/-- one digit -/
theorem nmr_1 {f : Nat → Nat} {e p : Nat} (q : dg f e p) : nmr f e 1 p 0 = (f p - 48, p + 1) := by
  have q : p < e ∧ 48 ≤ f p ∧ f p ≤ 57 := q
  show (if p < e ∧ 48 ≤ f p ∧ f p ≤ 57 then _ else _) = _
  rw [if_pos q, Nat.mul_zero, Nat.zero_add]
  rfl
theorem X_num1 {f : Nat → Nat} {e p u : Nat} {s : Sg} (hu : 20000 ≤ u) (h : XRd f e p s) : Tp (X_number u s 1) (fun v t => Fr dAt s t ∧ ((dg f e p ∧ v = nI (f p - 48) ∧ XRd f e (p + 1) t) ∨ (¬ dg f e p ∧ v = -1 ∧ XRd f e p t))) :=
  Tp_mono (X_number_ok (d := 1) hu (by omega) rfl h) (fun v t g => ⟨g.1, by
    rcases g.2 with ⟨q, g1, g2⟩ | g
    · rw [nmr_1 q] at g1 g2
      exact Or.inl ⟨q, g1, g2⟩
    · exact Or.inr g⟩)
/-- the place of a sign among a constant's signs -/
def ixC (c b : Nat) : Int32 := if b = 0 then -1 else ixB (stLen.getD c 0) (fun j => (stByt.getD c []).getD j 0) (nI b)
theorem X_among_ok {f : Nat → Nat} {e p c : Nat} {s : Sg} (h : XRd f e p s) (hc : c < 8) : X_among s c = some (if p < e then ixC c (f p) else -1) := by
  obtain ⟨e9, e10, ht, h80, hpe⟩ := h
  unfold X_among X_among_39
  rw [e9, e10]
  by_cases q : p < e
  · have hp := ht p q
    rw [if_neg (nI_ge q (by omega)), aI_n (by omega) (by omega), bd_some, hp.1, if_pos q]
    unfold ixC
    by_cases q0 : f p = 0
    · rw [if_pos q0, if_pos (by rw [q0]; decide)]
    · rw [if_neg q0, if_neg (nI_nle (by omega) (by omega)), bd_some, bd_some, if_pos (Or.inl hc)]
      unfold sLen sByt
      rw [if_pos hc, if_pos hc]
  · rw [if_pos (nI_le (by omega) (by omega)), if_neg q]
theorem ix_0 : ∀ b, b < 256 → ixC 0 b = if 97 ≤ b ∧ b ≤ 100 then nI (b - 97) else -1 := by decide +kernel
theorem ix_1 : ∀ b, b < 256 → ixC 1 b = if 48 ≤ b ∧ b ≤ 57 then nI (b - 48) else -1 := by decide +kernel
theorem ix_2 : ∀ b, b < 256 → (ixC 2 b < 0 ↔ ¬ (b = 108 ∨ b = 98 ∨ b = 104 ∨ b = 116 ∨ b = 107 ∨ b = 110)) := by decide +kernel
theorem ix_3 : ∀ b, b < 256 → (ixC 3 b < 0 ↔ ¬ (b = 60 ∨ b = 62 ∨ b = 61)) := by decide +kernel
theorem ix_4 : ∀ b, b < 256 → (ixC 4 b < 0 ↔ ¬ (b = 43 ∨ b = 45)) := by decide +kernel
theorem ix_5 : ∀ b, b < 256 → (ixC 5 b < 0 ↔ ¬ (b = 42 ∨ b = 47)) := by decide +kernel
theorem ix_6 : ∀ b, b < 256 → (ixC 6 b < 0 ↔ ¬ (b = 110 ∨ b = 112 ∨ b = 115 ∨ b = 99 ∨ b = 116 ∨ b = 103)) := by decide +kernel
/-- one of a row of letters is next -/
def lt4 (f : Nat → Nat) (e p : Nat) : Prop := p < e ∧ 97 ≤ f p ∧ f p ≤ 100
theorem X_among0_y {f : Nat → Nat} {e p : Nat} {s : Sg} (h : XRd f e p s) (q : lt4 f e p) : X_among s 0 = some (nI (f p - 97)) := by
  rw [X_among_ok h (by omega), if_pos q.1, ix_0 _ (h.2.2.1 p q.1).2, if_pos q.2]
theorem X_among0_n {f : Nat → Nat} {e p : Nat} {s : Sg} (h : XRd f e p s) (q : ¬ lt4 f e p) : X_among s 0 = some (-1) := by
  rw [X_among_ok h (by omega)]
  by_cases q1 : p < e
  · rw [if_pos q1, ix_0 _ (h.2.2.1 p q1).2, if_neg (fun h => q ⟨q1, h⟩)]
  · rw [if_neg q1]
theorem X_takesOf0 {f : Nat → Nat} {e p : Nat} {s : Sg} (h : XRd f e p s) : Tp (X_takesOf s 0) (fun v t => Fr dAt s t ∧ ((lt4 f e p ∧ v = nI (f p - 97) ∧ XRd f e (p + 1) t) ∨ (¬ lt4 f e p ∧ v = -1 ∧ XRd f e p t))) := by
  unfold X_takesOf X_takesOf_20
  by_cases q : lt4 f e p
  · have hq := q.2
    have hq1 := q.1
    rw [X_among0_y h q, bd_some, if_neg (nI_pos (by omega)), lt_e, h.1, nI_1]
    exact Tp_some ⟨(Fr.refl _ _).pI ⟨rfl, rfl⟩, Or.inl ⟨q, rfl, h.set (by omega)⟩⟩
  · rw [X_among0_n h q, bd_some, if_pos (by decide), lt_e, h.1, Int32.add_zero]
    exact Tp_some ⟨(Fr.refl _ _).pI ⟨rfl, rfl⟩, Or.inr ⟨q, rfl, h.set h.2.2.2.2⟩⟩
theorem X_faultOf_n {f : Nat → Nat} {e p n : Nat} {s : Sg} (h : XRd f e p s) (hn : n ≤ 80) : X_faultOf s (nI n) 0 = some (-1 - nI p) := by
  obtain ⟨e9, e10, ht, h80, hpe⟩ := h
  unfold X_faultOf X_faultOf_19 X_faultOf_20 X_faultOf_51 X_faultOf_44
  rw [if_pos rfl, e9, e10, if_pos rfl]
  by_cases q : n ≤ e
  · rw [if_pos (nI_le q (by omega))]
  · rw [if_neg (nI_ge (by omega) (by omega)), if_pos rfl]
    by_cases q2 : p = e
    · rw [q2, if_pos rfl]
    · rw [if_neg (fun h => q2 ((nI_eq (by omega) (by omega)).mp h))]
theorem X_faultOf_y {f : Nat → Nat} {e p n : Nat} {s : Sg} (h : XRd f e p s) (hn : n ≤ 80) : X_faultOf s (nI n) 1 = some (if p = e ∧ n ≤ e then 0 else -1 - nI p) := by
  have h0 := X_faultOf_n h hn
  obtain ⟨e9, e10, ht, h80, hpe⟩ := h
  unfold X_faultOf at h0 ⊢
  rw [if_pos rfl] at h0
  rw [if_neg (by decide), h0, e9, e10]
  by_cases q2 : p = e
  · rw [if_pos (by rw [q2])]
    unfold X_faultOf_20 X_faultOf_51 X_faultOf_44
    rw [e10]
    by_cases q : n ≤ e
    · rw [if_pos (nI_le q (by omega)), if_neg (by decide), if_pos ⟨q2, q⟩]
    · rw [if_neg (nI_ge (by omega) (by omega)), if_neg (by decide), if_neg (fun h => q h.2), q2]
  · rw [if_neg (fun h => q2 ((nI_eq (by omega) (by omega)).mp h)), if_neg (fun h => q2 h.1)]
/-! ### the Model -/
def MRd (r : Nat) (f : Nat → Nat) (n m p : Nat) (w : Option Nat) (s : Sg) : Prop := gR s 45 10 = some r ∧ gI s 45 11 = nI n ∧ gI s 45 12 = nI m ∧ gI s 45 13 = nI p ∧ gI s 45 14 = oI w ∧ (∀ k, k < n → gI s r k = (nI (f k)).toInt8.toInt32 ∧ f k < 256) ∧ (Ab r ∧ n ≤ sln r) ∧ sln r ≤ 80 ∧ m ≤ 80 ∧ p ≤ n ∧ p ≤ m ∧ ∀ q, w = some q → q ≤ 80
theorem MRd.mv {r : Nat} {f : Nat → Nat} {n m p : Nat} {w : Option Nat} {s t : Sg} (h : MRd r f n m p w s) (e0 : gR t 45 10 = gR s 45 10) (e1 : ∀ k, 11 ≤ k → k ≤ 14 → gI t 45 k = gI s 45 k) (e2 : ∀ k, gI t r k = gI s r k) : MRd r f n m p w t := by
  obtain ⟨h0, h1, h2, h3, h4, h5, h6⟩ := h
  exact ⟨e0.trans h0, (e1 _ (by omega) (by omega)).trans h1, (e1 _ (by omega) (by omega)).trans h2, (e1 _ (by omega) (by omega)).trans h3, (e1 _ (by omega) (by omega)).trans h4, fun k hk => ⟨(e2 k).trans (h5 k hk).1, (h5 k hk).2⟩, h6⟩
theorem Ab_ne {r : Nat} (h : Ab r) : r ≠ 45 := fun e => by
  subst e
  exact absurd h.2 (by decide)
theorem MRd.adv {r : Nat} {f : Nat → Nat} {n m p q : Nat} {w : Option Nat} {s : Sg} (h : MRd r f n m p w s) (h1 : q ≤ n) (h2 : q ≤ m) : MRd r f n m q w (pI s 45 13 (nI q)) := by
  obtain ⟨g0, g1, g2, g3, g4, g5, g6, g7, g8, g9, g10, g11⟩ := h
  have hr := Ab_ne g6.1
  exact ⟨g0, (gI_pI_k (by omega)).trans g1, (gI_pI_k (by omega)).trans g2, gI_pI_s, (gI_pI_k (by omega)).trans g4, fun k hk => ⟨(gI_pI_i hr).trans (g5 k hk).1, (g5 k hk).2⟩, g6, g7, g8, h1, h2, g11⟩
theorem MRd.flt {r : Nat} {f : Nat → Nat} {n m p q : Nat} {w : Option Nat} {s : Sg} (h : MRd r f n m p w s) (h1 : q ≤ 80) : MRd r f n m p (some q) (pI s 45 14 (nI q)) := by
  obtain ⟨g0, g1, g2, g3, g4, g5, g6, g7, g8, g9, g10, g11⟩ := h
  have hr := Ab_ne g6.1
  exact ⟨g0, (gI_pI_k (by omega)).trans g1, (gI_pI_k (by omega)).trans g2, (gI_pI_k (by omega)).trans g3, gI_pI_s, fun k hk => ⟨(gI_pI_i hr).trans (g5 k hk).1, (g5 k hk).2⟩, g6, g7, g8, g9, g10, fun q' hq => by cases hq; exact h1⟩
theorem M_beginText_ok {c m : Nat} {A : AS} {s : Sg} {x : Int32} (hM : MTx (aT A) s) (hG : GI c A) (hm : m ≤ 80) (hx : x = nI m) : Tt (M_beginText s x) (fun t => Fr (fun i k => i = 45 ∧ (k = 6 ∨ (10 ≤ k ∧ k ≤ 14))) s t ∧ MRd 50 (aT A).2 (aT A).1 m 0 none t ∧ gI t 45 6 = nI 0) := by
  obtain ⟨e6, hc⟩ := hM
  have h80 := hG.2.2.2.2.2.1
  have h81 := h80.1
  subst hx
  unfold M_beginText M_begin
  rw [if_pos (by decide)]
  simp only [lt_e, bd_some]
  rw [e6]
  refine Tt_some ⟨(((((((Fr.refl _ _).pR (by omega)).pI (by omega)).pI (by omega)).pI (by omega)).pI (by omega)).pI (by omega)), ⟨?_, ?_, ?_, ?_, ?_, ?_, ⟨by decide, h81⟩, by decide, hm, Nat.zero_le _, Nat.zero_le _, fun q hq => by cases hq⟩, gI_pI_s⟩
  · rw [gR_pI, gR_pI, gR_pI, gR_pI, gR_pI, gR_pR, if_pos ⟨rfl, rfl⟩]
  · rw [gI_pI_k (by omega), gI_pI_k (by omega), gI_pI_k (by omega), gI_pI_k (by omega), gI_pI_s]
  · rw [gI_pI_k (by omega), gI_pI_k (by omega), gI_pI_k (by omega), gI_pI_s]
  · rw [gI_pI_k (by omega), gI_pI_k (by omega), gI_pI_s]; rfl
  · rw [gI_pI_k (by omega), gI_pI_s]; rfl
  · intro k hk
    rw [gI_pI_i (by omega), gI_pI_i (by omega), gI_pI_i (by omega), gI_pI_i (by omega), gI_pI_i (by omega), gI_pR]
    exact ⟨hc k hk, h80.2 k⟩
theorem M_fine_y {r : Nat} {f : Nat → Nat} {n m p : Nat} {s : Sg} (h : MRd r f n m p none s) : M_fine s = some 1 := by
  unfold M_fine
  rw [h.2.2.2.2.1, if_pos (show oI none = -1 from rfl)]
theorem M_fine_n {r : Nat} {f : Nat → Nat} {n m p q : Nat} {s : Sg} (h : MRd r f n m p (some q) s) : M_fine s = some 0 := by
  unfold M_fine
  have hq := h.2.2.2.2.2.2.2.2.2.2.2 q rfl
  rw [h.2.2.2.2.1, if_neg (show ¬ oI (some q) = -1 from m1_lt (by omega))]
theorem M_here_ok {r : Nat} {f : Nat → Nat} {n m p : Nat} {w : Option Nat} {s : Sg} (h : MRd r f n m p w s) : M_here s = some (if p < n ∧ p < m then nI (f p) else -1) := by
  obtain ⟨g0, g1, g2, g3, g4, g5, g6, g7, g8, g9, g10, g11⟩ := h
  have g62 := g6.2
  unfold M_here M_here_38
  rw [g1, g2, g3]
  by_cases q1 : p < n
  · rw [if_neg (nI_ge q1 (by omega))]
    by_cases q2 : p < m
    · rw [if_neg (nI_ge q2 (by omega)), g0, bd_some, if_pos g6.1, aI_n (by omega) (by omega), bd_some, (g5 p q1).1, by_and _ (g5 p q1).2, if_pos ⟨q1, q2⟩]
    · rw [if_pos (nI_le (by omega) (by omega)), if_neg (fun h => q2 h.2)]
  · rw [if_pos (nI_le (by omega) (by omega)), if_neg (fun h => q1 h.1)]
theorem M_passes_n {r : Nat} {f : Nat → Nat} {n m p q : Nat} {s : Sg} {x : Int32} (h : MRd r f n m p (some q) s) : M_passes s x = some (0, s) := by
  unfold M_passes
  rw [M_fine_n h, bd_some, if_pos rfl]
theorem M_passes_y {r : Nat} {f : Nat → Nat} {n m p ch : Nat} {s : Sg} {x : Int32} (h : MRd r f n m p none s) (hx : x = nI ch) (hc : ch < 256) : M_passes s x = if p < n ∧ p < m ∧ f p = ch then some (1, pI s 45 13 (nI (p + 1))) else some (0, s) := by
  subst hx
  unfold M_passes
  rw [M_fine_y h, bd_some, if_neg (by decide), M_here_ok h, bd_some, h.2.2.2.1, lt_e, nI_1]
  by_cases q : p < n ∧ p < m
  · have hb := (h.2.2.2.2.2.1 p q.1).2
    rw [if_pos q]
    by_cases q2 : f p = ch
    · rw [if_pos (by rw [q2]), if_pos ⟨q.1, q.2, q2⟩]
    · rw [if_neg (fun h => q2 ((nI_eq (by omega) (by omega)).mp h)), if_neg (fun h => q2 h.2.2)]
  · rw [if_neg q, if_neg (fun h => m1_lt (a := ch) (by omega) h.symm), if_neg (fun h => q ⟨h.1, h.2.1⟩)]
theorem M_oneOf_n {r : Nat} {f : Nat → Nat} {n m p q : Nat} {s : Sg} {x y : Int32} (h : MRd r f n m p (some q) s) : M_oneOf s x y = some (0, s) := by
  unfold M_oneOf
  rw [M_fine_n h, bd_some, if_pos rfl]
theorem M_oneOf_y {r : Nat} {f : Nat → Nat} {n m p a b : Nat} {s : Sg} {x y : Int32} (h : MRd r f n m p none s) (hx : x = nI a) (hy : y = nI b) (ha : 0 < a) (hb : a + b ≤ 128) : M_oneOf s x y = if p < n ∧ p < m ∧ a ≤ f p ∧ f p < a + b then some (nI (f p - a), pI s 45 13 (nI (p + 1))) else some (0, pI s 45 14 (nI p)) := by
  subst hx hy
  have h9 := h
  obtain ⟨g0, g1, g2, g3, g4, g5, g6, g7, g8, g9, g10, g11⟩ := h9
  have g62 := g6.2
  have hne := Ab_ne g6.1
  have e1 : nI a + nI b - 1 = nI (a + b - 1) := by rw [nI_add, nI_lit1, pk_sub (by omega)]
  have h10 : ¬ (1 : Int32) = 0 := by decide
  unfold M_oneOf M_fault
  rw [M_fine_y h, bd_some, if_neg h10, M_here_ok h, bd_some, e1, M_in_eq, gd_e]
  by_cases q : p < n ∧ p < m
  · have hf := (g5 p q.1).2
    rw [if_pos q]
    by_cases q2 : a ≤ f p ∧ f p < a + b
    · rw [if_pos ⟨nI_le q2.1 (by omega), nI_le (by omega) (by omega)⟩, g3, nI_1, lt_e, gR_pI, g0, bd_some, if_pos g6.1, gI_pI_s, nI_lit1, pk_sub (by omega), Nat.add_sub_cancel, aI_n (by omega) (by omega), bd_some, gI_pI_i hne, (g5 p q.1).1, by_lo _ (by omega), pk_sub q2.1, if_pos ⟨q.1, q.2, q2⟩]
    · rw [if_neg (fun h => q2 ⟨(nI_leI (by omega) (by omega)).mp h.1, by have := (nI_leI (by omega) (by omega)).mp h.2; omega⟩), bd_some, if_neg h10, lt_e, bd_some, g3, if_neg (fun h => q2 h.2.2)]
  · rw [if_neg q, if_neg (fun h => by
      have i1 := Int32.le_iff_toInt_le.mp h.1
      have i2 := nI_toInt (n := a) (by omega)
      have i3 : (-1 : Int32).toInt = -1 := rfl
      omega), bd_some, if_neg h10, lt_e, bd_some, g3, if_neg (fun h => q ⟨h.1, h.2.1⟩)]
theorem M_wasRight_n {r : Nat} {f : Nat → Nat} {n m p q : Nat} {s : Sg} (h : MRd r f n m p (some q) s) : M_wasRight s = some (0, s) := by
  unfold M_wasRight M_wasRight_19 M_fault
  rw [M_fine_n h, bd_some, bd_some, if_pos rfl, bd_some]
  split
  · rfl
  · rw [M_fine_n h, bd_some]; rfl
theorem M_wasRight_y {r : Nat} {f : Nat → Nat} {n m p : Nat} {s : Sg} (h : MRd r f n m p none s) : M_wasRight s = if n ≤ p then some (1, s) else some (0, pI s 45 14 (nI p)) := by
  have h9 := h
  obtain ⟨g0, g1, g2, g3, g4, g5, g6, g7, g8, g9, g10, g11⟩ := h9
  unfold M_wasRight M_wasRight_19 M_fault
  rw [g1, g3]
  by_cases q : n ≤ p
  · rw [if_pos (nI_le q (by omega)), M_fine_y h, bd_some, if_pos q]
    rfl
  · rw [if_neg (nI_ge (by omega) (by omega)), M_fine_y h, bd_some, if_neg (by decide), lt_e, bd_some, M_fine_n (h.flt (q := p) (by omega)), bd_some, if_neg q]
    rfl
