/-! LAW: rules, both parsers: what they share; a thing -/
set_option maxRecDepth 100000
abbrev dPx (a k : Nat) : Prop := a = 0 ∧ (k = 9 ∨ k = 11)
/-- what the class's parser leaves: from p to p2, a tree or none -/
def OX (f : Nat → Nat) (e deep p : Nat) (s : Sg) (h p2 : Nat) (D : Option Den) (o : Option Nat) (t : Sg) : Prop := Fa dPx s t ∧ gC t ≤ gC s + (p2 - p) ∧ gZ t ≤ gZ s + 5 * (p2 - p) ∧ XRd f e p2 t ∧ ((∃ g i, D = some g ∧ o = some i ∧ TrH t i g (h + (p2 - p)) ∧ gI t 0 11 = nI deep) ∨ (D = none ∧ o = none))
/-- what the Model's leaves: a worth, or a fault -/
def OM (f : Nat → Nat) (n m r : Nat) (p2 : Nat) (D : Option Den) (s : Sg) (v : Int32) (t : Sg) : Prop := Fr dPar s t ∧ ((∃ g, D = some g ∧ MRd r f n m p2 none t ∧ (gI s 45 19 = nI 1 → v = g (gI s 55))) ∨ (D = none ∧ ∃ p3, MRd r f n m p3 (some p2) t))
def GD (e p p2 : Nat) (D : Option Den) : Prop := p ≤ p2 ∧ p2 ≤ e ∧ ∀ g, D = some g → p < p2 ∧ RI g
/-- the calls that are needed -/
def nd_ (e p deep : Nat) : Nat := 1 + (e - p) + 5 * (4 - deep)
def TJ (f : Nat → Nat) (n m e u deep p : Nat) : Prop := ∃ p2 D, GD e p p2 D ∧ (∀ d s, nd_ e p deep ≤ d → KS s → XRd f e p s → gI s 0 11 = nI deep → Tp (X_px u d 1 s 0) (OX f e deep p s 0 p2 D)) ∧ (∀ d r s, nd_ e p deep ≤ d → MRd r f n m p none s → Tp (M_ex u d 3 s (nI deep)) (OM f n m r p2 D s))
def PJ (f : Nat → Nat) (n m e u k deep p : Nat) : Prop := ∃ p2 D, GD e p p2 D ∧ (∀ d s, nd_ e p deep + (4 - k) ≤ d → KS s → XRd f e p s → gI s 0 11 = nI deep → Tp (X_px u d 0 s (nI k)) (OX f e deep p s 0 p2 D)) ∧ (∀ d r s, nd_ e p deep + (4 - k) ≤ d → MRd r f n m p none s → Tp (M_ex u d k s (nI deep)) (OM f n m r p2 D s))
theorem X_thing_s (u d : Nat) (s : Sg) : X_px u (d + 1) 1 s 0 = X_readsThingo (fun s => X_px u d 1 s 0) (X_px u d 0) u s := rfl
theorem X_px_s (u d : Nat) (s : Sg) (x : Int32) : X_px u (d + 1) 0 s x = X_parseso (fun s => X_px u d 1 s 0) (X_px u d 0) u s x := rfl
theorem M_thing_s (u d : Nat) (s : Sg) (x : Int32) : M_ex u (d + 1) 3 s x = M_thingo (M_ex u d 3) (M_ex u d 0) u s x := rfl
theorem M_held_s (u d : Nat) (s : Sg) (x : Int32) : M_ex u (d + 1) 0 s x = M_heldo (M_ex u d 1) s x := rfl
theorem M_sum_s (u d : Nat) (s : Sg) (x : Int32) : M_ex u (d + 1) 1 s x = M_sumo (M_ex u d 2) u s x := rfl
theorem M_product_s (u d : Nat) (s : Sg) (x : Int32) : M_ex u (d + 1) 2 s x = M_producto (M_ex u d 3) u s x := rfl
theorem XRd.fa {D : Nat → Nat → Prop} {f : Nat → Nat} {e p : Nat} {s t : Sg} (h : XRd f e p s) (F : Fa D s t) (hN : 73 ≤ gN s) (h1 : ¬ D 0 9) (h2 : ¬ D 0 10) (h3 : ∀ k, ¬ D 14 k) : XRd f e p t := h.mv (F.I (by omega) h1) (F.I (by omega) h2) (fun k => F.I (by omega) (h3 k))
theorem node_new {kd n z : Nat} {s t : Sg} (ft : Fr (fun a _ => a = gN s) (aw s kd n z) t) : Fa (fun _ _ => False) s t ∧ gC t = gC s + 1 ∧ gZ t = gZ s + z ∧ gK t (gN s) = (kd, n) ∧ gN s < gN t := ⟨Fa.aw.new (Nat.le_refl _) ft, ft.C, ft.Z, by rw [ft.K, gK_awN], by rw [ft.N]; exact Nat.lt_succ_self _⟩
theorem Fa.f {D : Nat → Nat → Prop} {s t : Sg} (h : Fa (fun _ _ => False) s t) : Fa D s t := h.mono (fun _ _ q => q.elim)
theorem Fa.ndF {s t : Sg} (h : Fa (fun _ _ => False) s t) (hk : KS s) : NdS s t := h.nd hk (fun _ _ _ q => q)
theorem ndPx {s t : Sg} (h : Fa dPx s t) (hk : KS s) : NdS s t := h.nd hk (fun i k hi q => by omega)
/-! ### the Model's small ones -/
theorem M_num11 {f : Nat → Nat} {n m r u : Nat} (N : Nat) : ∀ w p v j s, N + j = 3 → N < w → v < 10 ^ j → MRd r f n m p none s → Tp (M_number_11 u w s 3 (nI v) (nI j)) (fun x t => x = nI (nmr f (min n m) N p v).1 ∧ Fr dPar s t ∧ MRd r f n m (nmr f (min n m) N p v).2 none t) := by
  induction N with
  | zero =>
    intro w p v j s hj hw hv h
    obtain ⟨w, rfl⟩ : ∃ w', w = w' + 1 := ⟨w - 1, by omega⟩
    rw [M_number_11_s]
    unfold M_number_11b
    have hj3 : j = 3 := by omega
    rw [if_pos (by rw [hj3]; decide)]
    exact Tp_some ⟨rfl, Fr.refl _ _, h⟩
  | succ N ih =>
    intro w p v j s hj hw hv h
    obtain ⟨w, rfl⟩ : ∃ w', w = w' + 1 := ⟨w - 1, by omega⟩
    have hbp := h.2.2.2.2.2.1
    rw [M_number_11_s]
    unfold M_number_11b
    rw [if_neg (show ¬ (3 : Int32) ≤ nI j from by rw [show (3 : Int32) = nI 3 from rfl]; exact nI_ge (by omega) (by omega)), M_fine_y h, bd_some, if_neg (by decide), M_here_ok h, bd_some, Min_48_57, gd_e]
    have h3 : v < 1000 := Nat.lt_of_lt_of_le hv (Nat.pow_le_pow_right (n := 10) (by omega) (by omega : j ≤ 3))
    by_cases q : p < min n m ∧ 48 ≤ f p ∧ f p ≤ 57
    · have em : nmr f (min n m) (N + 1) p v = nmr f (min n m) N (p + 1) (10 * v + (f p - 48)) := if_pos q
      have c : p < n ∧ p < m ∧ 48 ≤ f p ∧ f p < 48 + 10 := ⟨by omega, by omega, q.2.1, by omega⟩
      rw [em, if_pos (show nI 48 ≤ (if p < n ∧ p < m then nI (f p) else -1) ∧ (if p < n ∧ p < m then nI (f p) else -1) ≤ nI 57 from by rw [if_pos ⟨c.1, c.2.1⟩]; exact ⟨nI_le q.2.1 (by omega), nI_le q.2.2 (by omega)⟩), M_oneOf_y (x := 48) (y := 10) (a := 48) (b := 10) h rfl rfl (by omega) (by omega), if_pos c, b2_some, lt_e, show (10 : Int32) = nI 10 from rfl, pk_mul, nI_add, nI_1]
      refine Tp_mono (ih w (p + 1) (10 * v + (f p - 48)) (j + 1) _ (by omega) (by omega) ?_ (h.adv (by omega) (by omega))) (fun x t g => ⟨g.1, ((Fr.refl _ _).pI (by omega)).trans g.2.1, g.2.2⟩)
      rw [Nat.pow_succ]
      omega
    · have em : nmr f (min n m) (N + 1) p v = (v, p) := if_neg q
      rw [em, if_neg (fun hc => by
        by_cases c : p < n ∧ p < m
        · have hb := (hbp p c.1).2
          rw [if_pos c] at hc
          exact q ⟨by omega, (nI_leI (by omega) (by omega)).mp hc.1, (nI_leI (by omega) (by omega)).mp hc.2⟩
        · rw [if_neg c] at hc
          exact absurd hc.1 (by decide))]
      exact Tp_some ⟨rfl, Fr.refl _ _, h⟩
theorem M_number_ok {f : Nat → Nat} {n m r u p : Nat} {s : Sg} (hu : 20000 ≤ u) (h : MRd r f n m p none s) (q : dg f (min n m) p) : Tp (M_number u s 3) (fun x t => x = nI (nmr f (min n m) 3 p 0).1 ∧ Fr dPar s t ∧ MRd r f n m (nmr f (min n m) 3 p 0).2 none t) := by
  obtain ⟨q1, q2, q3⟩ := q
  have em : nmr f (min n m) 3 p 0 = nmr f (min n m) 2 (p + 1) (10 * 0 + (f p - 48)) := if_pos ⟨q1, q2, q3⟩
  have c : p < n ∧ p < m ∧ 48 ≤ f p ∧ f p < 48 + 10 := ⟨by omega, by omega, q2, by omega⟩
  unfold M_number
  rw [M_oneOf_y (x := 48) (y := 10) (a := 48) (b := 10) h rfl rfl (by omega) (by omega), if_pos c, b2_some, em, show (10 * 0 + (f p - 48) : Nat) = f p - 48 from by omega]
  exact Tp_mono (M_num11 2 u (p + 1) (f p - 48) 1 _ (by omega) (by omega) (by omega) (h.adv (by omega) (by omega))) (fun x t g => ⟨g.1, ((Fr.refl _ _).pI (by omega)).trans g.2.1, g.2.2⟩)
theorem lo_y : ∀ b, b < 256 → (b = 108 ∨ b = 98 ∨ b = 104 ∨ b = 116 ∨ b = 107 ∨ b = 110) → M_letterOf (nI b) = some (nI (ltI b)) := by decide +kernel
theorem lo_n : ∀ b, b < 256 → ¬ (b = 108 ∨ b = 98 ∨ b = 104 ∨ b = 116 ∨ b = 107 ∨ b = 110) → M_letterOf (nI b) = some (-1) := by decide +kernel
theorem M_need_ok {f : Nat → Nat} {n m r p : Nat} {s : Sg} (h : MRd r f n m p none s) : M_need s 41 = some (if p < n ∧ p < m ∧ f p = 41 then pI s 45 13 (nI (p + 1)) else pI s 45 14 (nI p)) := by
  unfold M_need M_fault
  rw [M_passes_y (ch := 41) (x := 41) h rfl (by omega)]
  by_cases c : p < n ∧ p < m ∧ f p = 41
  · rw [if_pos c, if_pos c, b2_some, if_neg (by decide)]
  · rw [if_neg c, if_neg c, b2_some, if_pos rfl, M_fine_y h, bd_some, if_neg (by decide), lt_e, bd_some, h.2.2.2.1]
theorem M_need_n {f : Nat → Nat} {n m r p q : Nat} {s : Sg} (h : MRd r f n m p (some q) s) : M_need s 41 = some s := by
  unfold M_need M_fault
  rw [M_passes_n h, b2_some, if_pos rfl, M_fine_n h, bd_some, if_pos rfl, bd_some]
