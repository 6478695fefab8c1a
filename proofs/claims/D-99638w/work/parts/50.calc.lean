/-! LAW, calculus: total answers, the store read behind its writers, frames, small numbers -/
set_option maxRecDepth 100000
def Tt {α : Type} (o : Option α) (P : α → Prop) : Prop := ∃ a, o = some a ∧ P a
theorem Tt_some {α : Type} {a : α} {P : α → Prop} (h : P a) : Tt (some a) P := ⟨a, rfl, h⟩
theorem Tt_bind {α β : Type} {o : Option α} {f : α → Option β} {Q : α → Prop} {P : β → Prop} (h : Tt o Q) (k : ∀ a, Q a → Tt (f a) P) : Tt (o.bind f) P := by
  obtain ⟨a, rfl, hq⟩ := h
  exact k a hq
theorem Tt_b2 {α β : Type} {o : Option (α × Sg)} {f : α → Sg → Option β} {Q : α × Sg → Prop} {P : β → Prop} (h : Tt o Q) (k : ∀ a t, Q (a, t) → Tt (f a t) P) : Tt (b2 o f) P := by
  obtain ⟨⟨a, t⟩, rfl, hq⟩ := h
  exact k a t hq
theorem Tt_mono {α : Type} {o : Option α} {Q P : α → Prop} (h : Tt o Q) (k : ∀ a, Q a → P a) : Tt o P := by
  obtain ⟨a, e, hq⟩ := h
  exact ⟨a, e, k a hq⟩
theorem Tt_eq {α : Type} {o : Option α} {a : α} {P : α → Prop} (e : o = some a) (h : P a) : Tt o P := ⟨a, e, h⟩
theorem b2_some {α β : Type} {a : α} {t : Sg} {f : α → Sg → Option β} : b2 (some (a, t)) f = f a t := rfl
theorem bd_some {α β : Type} {a : α} {f : α → Option β} : (some a).bind f = f a := rfl
theorem lt_e {α β : Type} (a : α) (f : α → β) : lt_ a f = f a := rfl
theorem itN_s {α : Type} (B : α → α) (z : α) (w : Nat) : itN B z (w + 1) = B (itN B z w) := rfl
theorem ox_none {β : Type} {a : β} {f : Nat → β} : ox none a f = a := rfl
theorem ox_some {β : Type} {a : β} {f : Nat → β} {i : Nat} : ox (some i) a f = f i := rfl
/-! ### the store -/
theorem gI_pI {s : Sg} {i k j m : Nat} {v : Int32} : gI (pI s i k v) j m = if j = i ∧ m = k then v else gI s j m := by
  show va_up s.1 i (upd (gI s i) k v) j m = _
  unfold va_up upd
  by_cases h : j = i
  · subst h
    by_cases h2 : m = k
    · simp [h2]
    · simp [h2]
  · simp [h, gI]
theorem gI_pI_i {s : Sg} {i k j m : Nat} {v : Int32} (h : j ≠ i) : gI (pI s i k v) j m = gI s j m := by rw [gI_pI, if_neg (fun q => h q.1)]
theorem gI_pI_k {s : Sg} {i k j m : Nat} {v : Int32} (h : m ≠ k) : gI (pI s i k v) j m = gI s j m := by rw [gI_pI, if_neg (fun q => h q.2)]
theorem gI_pI_s {s : Sg} {i k : Nat} {v : Int32} : gI (pI s i k v) i k = v := by rw [gI_pI, if_pos ⟨rfl, rfl⟩]
theorem gJ_pJ {s : Sg} {i k j m : Nat} {v : Int64} : gJ (pJ s i k v) j m = if j = i ∧ m = k then v else gJ s j m := by
  show va_up s.2.1 i (vp_updL (gJ s i) k v) j m = _
  unfold va_up vp_updL
  by_cases h : j = i
  · subst h
    by_cases h2 : m = k
    · simp [h2]
    · simp [h2]
  · simp [h, gJ]
theorem gR_pR {s : Sg} {i k j m : Nat} {v : Option Nat} : gR (pR s i k v) j m = if j = i ∧ m = k then v else gR s j m := by
  show va_up s.2.2.1 i (va_up (gR s i) k v) j m = _
  unfold va_up
  by_cases h : j = i
  · subst h
    by_cases h2 : m = k
    · simp [h2]
    · simp [h2]
  · simp [h, gR]
theorem gI_cI {s : Sg} {i j m : Nat} {f : Nat → Int32} : gI (cI s i f) j m = if j = i then f m else gI s j m := by
  show va_up s.1 i f j m = _
  unfold va_up
  by_cases h : j = i
  · simp [h]
  · simp [h, gI]
theorem gJ_cJ {s : Sg} {i j m : Nat} {f : Nat → Int64} : gJ (cJ s i f) j m = if j = i then f m else gJ s j m := by
  show va_up s.2.1 i f j m = _
  unfold va_up
  by_cases h : j = i
  · simp [h]
  · simp [h, gJ]
theorem gJ_pI {s : Sg} {i k : Nat} {v : Int32} : gJ (pI s i k v) = gJ s := rfl
theorem gR_pI {s : Sg} {i k : Nat} {v : Int32} : gR (pI s i k v) = gR s := rfl
theorem gK_pI {s : Sg} {i k : Nat} {v : Int32} : gK (pI s i k v) = gK s := rfl
theorem gN_pI {s : Sg} {i k : Nat} {v : Int32} : gN (pI s i k v) = gN s := rfl
theorem gI_pJ {s : Sg} {i k : Nat} {v : Int64} : gI (pJ s i k v) = gI s := rfl
theorem gR_pJ {s : Sg} {i k : Nat} {v : Int64} : gR (pJ s i k v) = gR s := rfl
theorem gK_pJ {s : Sg} {i k : Nat} {v : Int64} : gK (pJ s i k v) = gK s := rfl
theorem gN_pJ {s : Sg} {i k : Nat} {v : Int64} : gN (pJ s i k v) = gN s := rfl
theorem gI_pR {s : Sg} {i k : Nat} {v : Option Nat} : gI (pR s i k v) = gI s := rfl
theorem gJ_pR {s : Sg} {i k : Nat} {v : Option Nat} : gJ (pR s i k v) = gJ s := rfl
theorem gK_pR {s : Sg} {i k : Nat} {v : Option Nat} : gK (pR s i k v) = gK s := rfl
theorem gN_pR {s : Sg} {i k : Nat} {v : Option Nat} : gN (pR s i k v) = gN s := rfl
theorem gJ_cI {s : Sg} {i : Nat} {f : Nat → Int32} : gJ (cI s i f) = gJ s := rfl
theorem gR_cI {s : Sg} {i : Nat} {f : Nat → Int32} : gR (cI s i f) = gR s := rfl
theorem gK_cI {s : Sg} {i : Nat} {f : Nat → Int32} : gK (cI s i f) = gK s := rfl
theorem gN_cI {s : Sg} {i : Nat} {f : Nat → Int32} : gN (cI s i f) = gN s := rfl
theorem gI_cJ {s : Sg} {i : Nat} {f : Nat → Int64} : gI (cJ s i f) = gI s := rfl
theorem gR_cJ {s : Sg} {i : Nat} {f : Nat → Int64} : gR (cJ s i f) = gR s := rfl
/-! ### frames: what is not marked by D is as it was; no cell is made -/
def Fr (D : Nat → Nat → Prop) (s t : Sg) : Prop := (∀ i k, ¬ D i k → gI t i k = gI s i k) ∧ (∀ i k, ¬ D i k → gJ t i k = gJ s i k) ∧ (∀ i k, ¬ D i k → gR t i k = gR s i k) ∧ t.2.2.2 = s.2.2.2
theorem Fr.refl (D : Nat → Nat → Prop) (s : Sg) : Fr D s s := ⟨fun _ _ _ => rfl, fun _ _ _ => rfl, fun _ _ _ => rfl, rfl⟩
theorem Fr.trans {D : Nat → Nat → Prop} {s t r : Sg} (h : Fr D s t) (g : Fr D t r) : Fr D s r := ⟨fun i k d => (g.1 i k d).trans (h.1 i k d), fun i k d => (g.2.1 i k d).trans (h.2.1 i k d), fun i k d => (g.2.2.1 i k d).trans (h.2.2.1 i k d), g.2.2.2.trans h.2.2.2⟩
theorem Fr.mono {D D' : Nat → Nat → Prop} {s t : Sg} (h : Fr D s t) (m : ∀ i k, D i k → D' i k) : Fr D' s t := ⟨fun i k d => h.1 i k (fun q => d (m i k q)), fun i k d => h.2.1 i k (fun q => d (m i k q)), fun i k d => h.2.2.1 i k (fun q => d (m i k q)), h.2.2.2⟩
theorem Fr.pI {D : Nat → Nat → Prop} {s t : Sg} {i k : Nat} {v : Int32} (h : Fr D s t) (hd : D i k) : Fr D s (pI t i k v) := ⟨fun a b d => by
  rw [gI_pI, if_neg (fun q => d (by rw [q.1, q.2]; exact hd))]; exact h.1 a b d, h.2.1, h.2.2.1, h.2.2.2⟩
theorem Fr.pJ {D : Nat → Nat → Prop} {s t : Sg} {i k : Nat} {v : Int64} (h : Fr D s t) (hd : D i k) : Fr D s (pJ t i k v) := ⟨h.1, fun a b d => by
  rw [gJ_pJ, if_neg (fun q => d (by rw [q.1, q.2]; exact hd))]; exact h.2.1 a b d, h.2.2.1, h.2.2.2⟩
theorem Fr.pR {D : Nat → Nat → Prop} {s t : Sg} {i k : Nat} {v : Option Nat} (h : Fr D s t) (hd : D i k) : Fr D s (pR t i k v) := ⟨h.1, h.2.1, fun a b d => by
  rw [gR_pR, if_neg (fun q => d (by rw [q.1, q.2]; exact hd))]; exact h.2.2.1 a b d, h.2.2.2⟩
theorem Fr.cI {D : Nat → Nat → Prop} {s t : Sg} {i : Nat} {f : Nat → Int32} (h : Fr D s t) (hd : ∀ k, D i k) : Fr D s (cI t i f) := ⟨fun a b d => by
  rw [gI_cI, if_neg (fun q => d (by rw [q]; exact hd b))]; exact h.1 a b d, h.2.1, h.2.2.1, h.2.2.2⟩
theorem Fr.cJ {D : Nat → Nat → Prop} {s t : Sg} {i : Nat} {f : Nat → Int64} (h : Fr D s t) (hd : ∀ k, D i k) : Fr D s (cJ t i f) := ⟨h.1, fun a b d => by
  rw [gJ_cJ, if_neg (fun q => d (by rw [q]; exact hd b))]; exact h.2.1 a b d, h.2.2.1, h.2.2.2⟩
theorem Fr.I {D : Nat → Nat → Prop} {s t : Sg} {i k : Nat} (h : Fr D s t) (hd : ¬ D i k) : gI t i k = gI s i k := h.1 i k hd
theorem Fr.J {D : Nat → Nat → Prop} {s t : Sg} {i k : Nat} (h : Fr D s t) (hd : ¬ D i k) : gJ t i k = gJ s i k := h.2.1 i k hd
theorem Fr.R {D : Nat → Nat → Prop} {s t : Sg} {i k : Nat} (h : Fr D s t) (hd : ¬ D i k) : gR t i k = gR s i k := h.2.2.1 i k hd
theorem Fr.K {D : Nat → Nat → Prop} {s t : Sg} (h : Fr D s t) : gK t = gK s := congrArg (fun q => q.1) h.2.2.2
theorem Fr.N {D : Nat → Nat → Prop} {s t : Sg} (h : Fr D s t) : gN t = gN s := congrArg (fun q => q.2.1) h.2.2.2
theorem Fr.C {D : Nat → Nat → Prop} {s t : Sg} (h : Fr D s t) : gC t = gC s := congrArg (fun q => q.2.2.1) h.2.2.2
theorem Fr.Z {D : Nat → Nat → Prop} {s t : Sg} (h : Fr D s t) : gZ t = gZ s := congrArg (fun q => q.2.2.2.1) h.2.2.2
theorem Fr.S {D : Nat → Nat → Prop} {s t : Sg} (h : Fr D s t) : gS t = gS s := congrArg (fun q => q.2.2.2.2) h.2.2.2
/-! ### frames where cells may be made -/
def Fa (D : Nat → Nat → Prop) (s t : Sg) : Prop := (∀ i k, i < gN s → ¬ D i k → gI t i k = gI s i k) ∧ (∀ i k, i < gN s → ¬ D i k → gJ t i k = gJ s i k) ∧ (∀ i k, i < gN s → ¬ D i k → gR t i k = gR s i k) ∧ (∀ i, i < gN s → gK t i = gK s i) ∧ gN s ≤ gN t ∧ gS t = gS s
theorem Fa.refl (D : Nat → Nat → Prop) (s : Sg) : Fa D s s := ⟨fun _ _ _ _ => rfl, fun _ _ _ _ => rfl, fun _ _ _ _ => rfl, fun _ _ => rfl, Nat.le_refl _, rfl⟩
theorem Fa.trans {D : Nat → Nat → Prop} {s t r : Sg} (h : Fa D s t) (g : Fa D t r) : Fa D s r :=
  have hn := h.2.2.2.2.1
  ⟨fun i k n d => (g.1 i k (by omega) d).trans (h.1 i k n d), fun i k n d => (g.2.1 i k (by omega) d).trans (h.2.1 i k n d), fun i k n d => (g.2.2.1 i k (by omega) d).trans (h.2.2.1 i k n d), fun i n => (g.2.2.2.1 i (by omega)).trans (h.2.2.2.1 i n), Nat.le_trans hn g.2.2.2.2.1, g.2.2.2.2.2.trans h.2.2.2.2.2⟩
theorem Fa.mono {D D' : Nat → Nat → Prop} {s t : Sg} (h : Fa D s t) (m : ∀ i k, D i k → D' i k) : Fa D' s t := ⟨fun i k n d => h.1 i k n (fun q => d (m i k q)), fun i k n d => h.2.1 i k n (fun q => d (m i k q)), fun i k n d => h.2.2.1 i k n (fun q => d (m i k q)), h.2.2.2⟩
theorem Fr.fa {D : Nat → Nat → Prop} {s t : Sg} (h : Fr D s t) : Fa D s t := ⟨fun i k _ d => h.1 i k d, fun i k _ d => h.2.1 i k d, fun i k _ d => h.2.2.1 i k d, fun i _ => by rw [h.K], Nat.le_of_eq h.N.symm, h.S⟩
theorem Fa.I {D : Nat → Nat → Prop} {s t : Sg} {i k : Nat} (h : Fa D s t) (hn : i < gN s) (hd : ¬ D i k) : gI t i k = gI s i k := h.1 i k hn hd
theorem Fa.J {D : Nat → Nat → Prop} {s t : Sg} {i k : Nat} (h : Fa D s t) (hn : i < gN s) (hd : ¬ D i k) : gJ t i k = gJ s i k := h.2.1 i k hn hd
theorem Fa.R {D : Nat → Nat → Prop} {s t : Sg} {i k : Nat} (h : Fa D s t) (hn : i < gN s) (hd : ¬ D i k) : gR t i k = gR s i k := h.2.2.1 i k hn hd
theorem Fa.K {D : Nat → Nat → Prop} {s t : Sg} {i : Nat} (h : Fa D s t) (hn : i < gN s) : gK t i = gK s i := h.2.2.2.1 i hn
theorem Fa.N {D : Nat → Nat → Prop} {s t : Sg} (h : Fa D s t) : gN s ≤ gN t := h.2.2.2.2.1
theorem Fa.S {D : Nat → Nat → Prop} {s t : Sg} (h : Fa D s t) : gS t = gS s := h.2.2.2.2.2
/-! ### loads and stores at small places -/
theorem inb_n {k N : Nat} (h : k < N) (hN : N < 2 ^ 31) : inb (nI k) N = true := decide_eq_true (nI_in h hN)
theorem aI_n {s : Sg} {a N k : Nat} (h : k < N) (hN : N < 2 ^ 31) : aI s a N (nI k) = some (gI s a k) := by
  unfold aI; rw [if_pos (inb_n h hN), nI_clamp (by omega)]
theorem aJ_n {s : Sg} {a N k : Nat} (h : k < N) (hN : N < 2 ^ 31) : aJ s a N (nI k) = some (gJ s a k) := by
  unfold aJ; rw [if_pos (inb_n h hN), nI_clamp (by omega)]
theorem aR_n {s : Sg} {a N k : Nat} (h : k < N) (hN : N < 2 ^ 31) : aR s a N (nI k) = some (gR s a k) := by
  unfold aR; rw [if_pos (inb_n h hN), nI_clamp (by omega)]
theorem tI_n {s : Sg} {a N k : Nat} {v : Int32} (h : k < N) (hN : N < 2 ^ 31) : tI s a N (nI k) v = some (pI s a k v) := by
  unfold tI; rw [if_pos (inb_n h hN), nI_clamp (by omega)]
theorem tJ_n {s : Sg} {a N k : Nat} {v : Int64} (h : k < N) (hN : N < 2 ^ 31) : tJ s a N (nI k) v = some (pJ s a k v) := by
  unfold tJ; rw [if_pos (inb_n h hN), nI_clamp (by omega)]
theorem tR_n {s : Sg} {a N k : Nat} {v : Option Nat} (h : k < N) (hN : N < 2 ^ 31) : tR s a N (nI k) v = some (pR s a k v) := by
  unfold tR; rw [if_pos (inb_n h hN), nI_clamp (by omega)]
/-! ### small numbers -/
theorem nI_mi {a b : Nat} (ha : a < 2 ^ 31) (hb : b < 2 ^ 31) : mi (nI a) (nI b) = nI (min a b) := by
  unfold mi
  by_cases h : b < a
  · rw [if_pos (nI_lt h ha), Nat.min_eq_right (by omega)]
  · rw [if_neg (nI_nlt (by omega) hb), Nat.min_eq_left (by omega)]
theorem nI_mx {a b : Nat} (ha : a < 2 ^ 31) (hb : b < 2 ^ 31) : mx (nI a) (nI b) = nI (max a b) := by
  unfold mx
  by_cases h : a < b
  · rw [if_pos (nI_lt h hb), Nat.max_eq_right (by omega)]
  · rw [if_neg (nI_nlt (by omega) ha), Nat.max_eq_left (by omega)]
theorem nI_lit0 : (0 : Int32) = nI 0 := rfl
theorem nI_lit1 : (1 : Int32) = nI 1 := rfl
theorem m1_lt {a : Nat} (ha : a < 2 ^ 31) : ¬ nI a = -1 := fun e => by
  have h := nI_pos ha
  rw [e] at h
  exact h (by decide)
theorem nI_bv {a : Nat} (ha : a < 2 ^ 32) : (nI a).toBitVec.toNat = a := pk_tn ha
theorem bv_ext {x y : Int32} (h : x.toBitVec.toNat = y.toBitVec.toNat) : x = y := Int32.toBitVec.inj (BitVec.eq_of_toNat_eq h)
theorem nI_or {a b : Nat} (ha : a < 2 ^ 31) (hb : b < 2 ^ 31) : nI a ||| nI b = nI (a ||| b) := by
  apply bv_ext
  rw [Int32.toBitVec_or, BitVec.toNat_or, nI_bv (by omega), nI_bv (by omega), nI_bv (by have := Nat.or_lt_two_pow ha hb; omega)]
theorem nI_xor {a b : Nat} (ha : a < 2 ^ 31) (hb : b < 2 ^ 31) : nI a ^^^ nI b = nI (a ^^^ b) := by
  apply bv_ext
  rw [Int32.toBitVec_xor, BitVec.toNat_xor, nI_bv (by omega), nI_bv (by omega), nI_bv (by have := Nat.xor_lt_two_pow ha hb; omega)]
theorem nI_and {a b : Nat} (ha : a < 2 ^ 31) (hb : b < 2 ^ 31) : nI a &&& nI b = nI (a &&& b) := by
  apply bv_ext
  rw [Int32.toBitVec_and, BitVec.toNat_and, nI_bv (by omega), nI_bv (by omega), nI_bv (by have := Nat.and_lt_two_pow a hb; omega)]
theorem sh31 : ∀ k : Nat, k < 31 → ((nI k &&& 31).toBitVec.smod 32).toNat = k := by decide
theorem nI_shl1 {k : Nat} (hk : k < 31) : (1 : Int32) <<< (nI k &&& 31) = nI (2 ^ k) := by
  have h : 2 ^ k < 2 ^ 31 := Nat.pow_lt_pow_right (by omega) hk
  have := pk_shlN (n := 1) (nI k &&& 31) k (sh31 k hk) (by omega)
  rw [Nat.one_mul] at this
  exact this
theorem nI_shl {n k : Nat} (hk : k < 31) (hn : n * 2 ^ k < 2 ^ 32) : nI n <<< (nI k &&& 31) = nI (n * 2 ^ k) := pk_shlN _ k (sh31 k hk) hn
/-- a bit of a set -/
def bt (o k : Nat) : Nat := o / 2 ^ k % 2
theorem bt_lt (o k : Nat) : bt o k < 2 := Nat.mod_lt _ (by omega)
theorem bt_tb (o k : Nat) : o.testBit k = decide (bt o k = 1) := by
  rw [Nat.testBit_eq_decide_div_mod_eq]
  rfl
theorem has_core {o k : Nat} (ho : o < 2 ^ 31) (hk : k < 31) : ((nI o >>> (nI k &&& 31)) &&& 1) = nI (bt o k) := by
  rw [pk_shrN ho _ k (sh31 k hk), nI_lit1, nI_and (by have := Nat.div_le_self o (2 ^ k); omega) (by omega), Nat.and_one_is_mod]
  rfl
theorem X_has_n {o k : Nat} (ho : o < 2 ^ 31) (hk : k < 31) : X_has (nI o) (nI k) = some (nI (bt o k)) := by
  unfold X_has
  rw [has_core ho hk]
  have := bt_lt o k
  by_cases h : bt o k = 1
  · rw [h]; rfl
  · have h0 : bt o k = 0 := by omega
    rw [h0]; rfl
theorem M_has_n {o k : Nat} (ho : o < 2 ^ 31) (hk : k < 31) : M_has (nI o) (nI k) = some (nI (bt o k)) := X_has_n ho hk
theorem X_in_eq (x a b : Int32) : X_in x.toInt64 a.toInt64 b.toInt64 = some (if a ≤ x ∧ x ≤ b then 1 else 0) := by
  unfold X_in X_in_17 lg_cmp
  have e3 : (x.toInt64 = a.toInt64) = (x.toInt = a.toInt) := propext ⟨fun h => by have := congrArg Int64.toInt32 h; rw [Int32.toInt32_toInt64, Int32.toInt32_toInt64] at this; rw [this], fun h => by rw [Int32.toInt_inj.mp h]⟩
  have e4 : (x.toInt64 = b.toInt64) = (x.toInt = b.toInt) := propext ⟨fun h => by have := congrArg Int64.toInt32 h; rw [Int32.toInt32_toInt64, Int32.toInt32_toInt64] at this; rw [this], fun h => by rw [Int32.toInt_inj.mp h]⟩
  simp only [gt_iff_lt, Int32.toInt64_lt, e3, e4]
  simp only [Int32.le_iff_toInt_le (x := a), Int32.le_iff_toInt_le (x := x), Int32.lt_iff_toInt_lt (x := a), Int32.lt_iff_toInt_lt (x := b)]
  by_cases h1 : a.toInt < x.toInt
  · rw [if_pos h1, if_neg (by decide)]
    by_cases h2 : b.toInt < x.toInt
    · rw [if_pos h2, if_pos (by decide), if_neg (by omega)]
    · rw [if_neg h2]
      by_cases h3 : x.toInt = b.toInt
      · rw [if_pos h3, if_neg (by decide), if_pos (by omega)]
      · rw [if_neg h3, if_neg (by decide), if_pos (by omega)]
  · rw [if_neg h1]
    by_cases h5 : x.toInt = a.toInt
    · rw [if_pos h5, if_neg (by decide)]
      by_cases h2 : b.toInt < x.toInt
      · rw [if_pos h2, if_pos (by decide), if_neg (by omega)]
      · rw [if_neg h2]
        by_cases h3 : x.toInt = b.toInt
        · rw [if_pos h3, if_neg (by decide), if_pos (by omega)]
        · rw [if_neg h3, if_neg (by decide), if_pos (by omega)]
    · rw [if_neg h5, if_pos (by decide), if_neg (by omega)]
theorem M_in_eq (x a b : Int32) : M_in x a b = some (if a ≤ x ∧ x ≤ b then 1 else 0) := by
  unfold M_in M_in_14
  simp only [Int32.le_iff_toInt_le, Int32.lt_iff_toInt_lt]
  by_cases h1 : x.toInt < a.toInt
  · rw [if_pos h1, if_neg (by omega)]
  · rw [if_neg h1]
    by_cases h2 : b.toInt < x.toInt
    · rw [if_pos h2, if_neg (by omega)]
    · rw [if_neg h2, if_pos (by omega)]
/-- a number asked to be in [0, c]: a small one, or not -/
theorem in_or (x : Int32) (c : Nat) (hc : c < 2 ^ 31) : (∃ j, j ≤ c ∧ x = nI j) ∨ ¬ (0 ≤ x ∧ x ≤ nI c) := by
  by_cases h : 0 ≤ x ∧ x ≤ nI c
  · left
    obtain ⟨j, hj, e⟩ := nI_of (x := x) (fun q => absurd h.1 (Int32.not_le.mpr q))
    subst e
    exact ⟨j, (nI_leI hj hc).mp h.2, rfl⟩
  · exact Or.inr h
theorem in_yes {j c : Nat} (h : j ≤ c) (hc : c < 2 ^ 31) : 0 ≤ nI j ∧ nI j ≤ nI c := ⟨nI_pos' (by omega), nI_le h hc⟩
/-- a number asked to be one of n things -/
theorem in_n (x : Int32) (n : Nat) (hn : n < 2 ^ 30) : (∃ j, j < n ∧ x = nI j) ∨ ¬ (0 ≤ x ∧ x ≤ nI n - 1) := by
  by_cases h0 : n = 0
  · right
    subst h0
    intro h
    have i1 := Int32.le_iff_toInt_le.mp h.1
    have i2 := Int32.le_iff_toInt_le.mp h.2
    have e1 : (0 : Int32).toInt = 0 := rfl
    have e2 : (nI 0 - 1 : Int32).toInt = -1 := by decide
    omega
  · rw [nI_lit1, pk_sub (by omega)]
    rcases in_or x (n - 1) (by omega) with ⟨j, hj, e⟩ | h
    · exact Or.inl ⟨j, by omega, e⟩
    · exact Or.inr h
theorem in_nyes {j n : Nat} (h : j < n) (hn : n < 2 ^ 30) : 0 ≤ nI j ∧ nI j ≤ nI n - 1 := by
  rw [nI_lit1, pk_sub (by omega)]
  exact in_yes (by omega) (by omega)
/-! ### folds over 0 .. n-1 -/
def fo {α : Type} (f : Nat → α → α) : Nat → α → α
  | 0, a => a
  | n + 1, a => f n (fo f n a)
theorem fo_0 {α : Type} (f : Nat → α → α) (a : α) : fo f 0 a = a := rfl
theorem fo_s {α : Type} (f : Nat → α → α) (n : Nat) (a : α) : fo f (n + 1) a = f n (fo f n a) := rfl
theorem fo_congr {α : Type} {f g : Nat → α → α} {n : Nat} (h : ∀ k, k < n → ∀ a, f k a = g k a) (a : α) : fo f n a = fo g n a := by
  induction n with
  | zero => rfl
  | succ n ih => rw [fo_s, fo_s, ih (fun k hk => h k (by omega)), h n (by omega)]
def sm (f : Nat → Nat) (n : Nat) : Nat := fo (fun k a => a + f k) n 0
theorem sm_s (f : Nat → Nat) (n : Nat) : sm f (n + 1) = sm f n + f n := rfl
theorem sm_0 (f : Nat → Nat) : sm f 0 = 0 := rfl
theorem sm_congr {f g : Nat → Nat} {n : Nat} (h : ∀ k, k < n → f k = g k) : sm f n = sm g n := fo_congr (fun k hk a => by rw [h k hk]) 0
theorem sm_le {f : Nat → Nat} {n c : Nat} (h : ∀ k, k < n → f k ≤ c) : sm f n ≤ n * c := by
  induction n with
  | zero => rw [sm_0]; omega
  | succ n ih =>
    have := ih (fun k hk => h k (by omega))
    have := h n (by omega)
    rw [sm_s, Nat.succ_mul]
    omega
theorem sm_mono {f g : Nat → Nat} {n : Nat} (h : ∀ k, k < n → f k ≤ g k) : sm f n ≤ sm g n := by
  induction n with
  | zero => exact Nat.le_refl _
  | succ n ih =>
    have := ih (fun k hk => h k (by omega))
    have := h n (by omega)
    rw [sm_s, sm_s]
    omega
/-- a row that is rewritten from its front -/
theorem part_up {α : Type} {f g h : Nat → α} {j n : Nat} {F : Nat → α} (H : ∀ k, k < n → f k = if k < j then g k else h k) (hj : F j = g j) (ho : ∀ k, k ≠ j → F k = f k) : ∀ k, k < n → F k = if k < j + 1 then g k else h k := by
  intro k hk
  by_cases e : k = j
  · subst e
    rw [hj, if_pos (by omega)]
  · rw [ho k e, H k hk]
    by_cases q : k < j
    · rw [if_pos q, if_pos (by omega)]
    · rw [if_neg q, if_neg (by omega)]
/-! ### answers with a store -/
def Tp {α : Type} (o : Option (α × Sg)) (P : α → Sg → Prop) : Prop := ∃ a t, o = some (a, t) ∧ P a t
theorem Tp_some {α : Type} {a : α} {t : Sg} {P : α → Sg → Prop} (h : P a t) : Tp (some (a, t)) P := ⟨a, t, rfl, h⟩
theorem TtT {α β : Type} {o : Option α} {f : α → Option β} {Q : α → Prop} {P : β → Prop} (h : Tt o Q) (k : ∀ a, Q a → Tt (f a) P) : Tt (o.bind f) P := by
  obtain ⟨a, rfl, hq⟩ := h
  exact k a hq
theorem TtP {α β : Type} {o : Option α} {f : α → Option (β × Sg)} {Q : α → Prop} {P : β → Sg → Prop} (h : Tt o Q) (k : ∀ a, Q a → Tp (f a) P) : Tp (o.bind f) P := by
  obtain ⟨a, rfl, hq⟩ := h
  exact k a hq
theorem TpT {α β : Type} {o : Option (α × Sg)} {f : α → Sg → Option β} {Q : α → Sg → Prop} {P : β → Prop} (h : Tp o Q) (k : ∀ a t, Q a t → Tt (f a t) P) : Tt (b2 o f) P := by
  obtain ⟨a, t, rfl, hq⟩ := h
  exact k a t hq
theorem TpP {α β : Type} {o : Option (α × Sg)} {f : α → Sg → Option (β × Sg)} {Q : α → Sg → Prop} {P : β → Sg → Prop} (h : Tp o Q) (k : ∀ a t, Q a t → Tp (f a t) P) : Tp (b2 o f) P := by
  obtain ⟨a, t, rfl, hq⟩ := h
  exact k a t hq
theorem Tp_mono {α : Type} {o : Option (α × Sg)} {Q P : α → Sg → Prop} (h : Tp o Q) (k : ∀ a t, Q a t → P a t) : Tp o P := by
  obtain ⟨a, t, e, hq⟩ := h
  exact ⟨a, t, e, k a t hq⟩
/-- a guard -/
theorem gd_e {β : Type} {c : Prop} [Decidable c] {a b : Option β} : ((some (if c then (1 : Int32) else 0)).bind fun v => if v = 0 then a else b) = if c then b else a := by
  by_cases h : c
  · rw [if_pos h, if_pos h]; rfl
  · rw [if_neg h, if_neg h]; rfl
theorem zr_e {β : Type} {c : Prop} [Decidable c] {f : Int32 → β} : ((some (if c then (1 : Int32) else 0)).bind fun v => zr v (f v)) = some (f (if c then 1 else 0)) := by
  by_cases h : c
  · rw [if_pos h]; rfl
  · rw [if_neg h]; rfl
theorem Xin_0_3 (x : Int32) : X_in x.toInt64 0 3 = some (if nI 0 ≤ x ∧ x ≤ nI 3 then 1 else 0) := X_in_eq x (nI 0) (nI 3)
theorem Min_0_3 (x : Int32) : M_in x 0 3 = some (if nI 0 ≤ x ∧ x ≤ nI 3 then 1 else 0) := M_in_eq x (nI 0) (nI 3)
theorem Xin_0_60 (x : Int32) : X_in x.toInt64 0 60 = some (if nI 0 ≤ x ∧ x ≤ nI 60 then 1 else 0) := X_in_eq x (nI 0) (nI 60)
theorem Min_0_60 (x : Int32) : M_in x 0 60 = some (if nI 0 ≤ x ∧ x ≤ nI 60 then 1 else 0) := M_in_eq x (nI 0) (nI 60)
theorem Xin_0_99 (x : Int32) : X_in x.toInt64 0 99 = some (if nI 0 ≤ x ∧ x ≤ nI 99 then 1 else 0) := X_in_eq x (nI 0) (nI 99)
theorem Min_0_99 (x : Int32) : M_in x 0 99 = some (if nI 0 ≤ x ∧ x ≤ nI 99 then 1 else 0) := M_in_eq x (nI 0) (nI 99)
theorem Xin_0_20 (x : Int32) : X_in x.toInt64 0 20 = some (if nI 0 ≤ x ∧ x ≤ nI 20 then 1 else 0) := X_in_eq x (nI 0) (nI 20)
theorem Min_0_20 (x : Int32) : M_in x 0 20 = some (if nI 0 ≤ x ∧ x ≤ nI 20 then 1 else 0) := M_in_eq x (nI 0) (nI 20)
theorem Xin_0_9 (x : Int32) : X_in x.toInt64 0 9 = some (if nI 0 ≤ x ∧ x ≤ nI 9 then 1 else 0) := X_in_eq x (nI 0) (nI 9)
theorem Min_0_9 (x : Int32) : M_in x 0 9 = some (if nI 0 ≤ x ∧ x ≤ nI 9 then 1 else 0) := M_in_eq x (nI 0) (nI 9)
theorem Xin_0_40 (x : Int32) : X_in x.toInt64 0 40 = some (if nI 0 ≤ x ∧ x ≤ nI 40 then 1 else 0) := X_in_eq x (nI 0) (nI 40)
theorem Min_0_40 (x : Int32) : M_in x 0 40 = some (if nI 0 ≤ x ∧ x ≤ nI 40 then 1 else 0) := M_in_eq x (nI 0) (nI 40)
theorem Xin_1_40 (x : Int32) : X_in x.toInt64 1 40 = some (if nI 1 ≤ x ∧ x ≤ nI 40 then 1 else 0) := X_in_eq x (nI 1) (nI 40)
theorem Min_1_40 (x : Int32) : M_in x 1 40 = some (if nI 1 ≤ x ∧ x ≤ nI 40 then 1 else 0) := M_in_eq x (nI 1) (nI 40)
theorem Xin_1_99 (x : Int32) : X_in x.toInt64 1 99 = some (if nI 1 ≤ x ∧ x ≤ nI 99 then 1 else 0) := X_in_eq x (nI 1) (nI 99)
theorem Min_1_99 (x : Int32) : M_in x 1 99 = some (if nI 1 ≤ x ∧ x ≤ nI 99 then 1 else 0) := M_in_eq x (nI 1) (nI 99)
theorem Xin_0_6 (x : Int32) : X_in x.toInt64 0 6 = some (if nI 0 ≤ x ∧ x ≤ nI 6 then 1 else 0) := X_in_eq x (nI 0) (nI 6)
theorem Min_0_6 (x : Int32) : M_in x 0 6 = some (if nI 0 ≤ x ∧ x ≤ nI 6 then 1 else 0) := M_in_eq x (nI 0) (nI 6)
theorem Xin_1_9 (x : Int32) : X_in x.toInt64 1 9 = some (if nI 1 ≤ x ∧ x ≤ nI 9 then 1 else 0) := X_in_eq x (nI 1) (nI 9)
theorem Min_1_9 (x : Int32) : M_in x 1 9 = some (if nI 1 ≤ x ∧ x ≤ nI 9 then 1 else 0) := M_in_eq x (nI 1) (nI 9)
theorem Xin_0_10 (x : Int32) : X_in x.toInt64 0 10 = some (if nI 0 ≤ x ∧ x ≤ nI 10 then 1 else 0) := X_in_eq x (nI 0) (nI 10)
theorem Min_0_10 (x : Int32) : M_in x 0 10 = some (if nI 0 ≤ x ∧ x ≤ nI 10 then 1 else 0) := M_in_eq x (nI 0) (nI 10)
theorem Xin_1_60 (x : Int32) : X_in x.toInt64 1 60 = some (if nI 1 ≤ x ∧ x ≤ nI 60 then 1 else 0) := X_in_eq x (nI 1) (nI 60)
theorem Min_1_60 (x : Int32) : M_in x 1 60 = some (if nI 1 ≤ x ∧ x ≤ nI 60 then 1 else 0) := M_in_eq x (nI 1) (nI 60)
theorem Xin_0_999 (x : Int32) : X_in x.toInt64 0 999 = some (if nI 0 ≤ x ∧ x ≤ nI 999 then 1 else 0) := X_in_eq x (nI 0) (nI 999)
theorem Min_0_999 (x : Int32) : M_in x 0 999 = some (if nI 0 ≤ x ∧ x ≤ nI 999 then 1 else 0) := M_in_eq x (nI 0) (nI 999)
theorem Xin_0_1 (x : Int32) : X_in x.toInt64 0 1 = some (if nI 0 ≤ x ∧ x ≤ nI 1 then 1 else 0) := X_in_eq x (nI 0) (nI 1)
theorem Min_0_1 (x : Int32) : M_in x 0 1 = some (if nI 0 ≤ x ∧ x ≤ nI 1 then 1 else 0) := M_in_eq x (nI 0) (nI 1)
theorem Xin_48_57 (x : Int32) : X_in x.toInt64 48 57 = some (if nI 48 ≤ x ∧ x ≤ nI 57 then 1 else 0) := X_in_eq x (nI 48) (nI 57)
theorem Min_48_57 (x : Int32) : M_in x 48 57 = some (if nI 48 ≤ x ∧ x ≤ nI 57 then 1 else 0) := M_in_eq x (nI 48) (nI 57)
theorem Xin_0 (x b : Int32) : X_in x.toInt64 0 b.toInt64 = some (if 0 ≤ x ∧ x ≤ b then 1 else 0) := X_in_eq x 0 b
theorem ad_2 (k : Nat) : (2 : Int32) + nI k = nI (2 + k) := nI_add 2 k
theorem ad_5 (k : Nat) : (5 : Int32) + nI k = nI (5 + k) := nI_add 5 k
theorem ad_6 (k : Nat) : (6 : Int32) + nI k = nI (6 + k) := nI_add 6 k
theorem ad_10 (k : Nat) : (10 : Int32) + nI k = nI (10 + k) := nI_add 10 k
theorem ad_12 (k : Nat) : (12 : Int32) + nI k = nI (12 + k) := nI_add 12 k
theorem ad_18 (k : Nat) : (18 : Int32) + nI k = nI (18 + k) := nI_add 18 k
theorem ad_21 (k : Nat) : (21 : Int32) + nI k = nI (21 + k) := nI_add 21 k
theorem ad_24 (k : Nat) : (24 : Int32) + nI k = nI (24 + k) := nI_add 24 k
theorem ad_33 (k : Nat) : (33 : Int32) + nI k = nI (33 + k) := nI_add 33 k
theorem mu_2 (k : Nat) : (2 : Int32) * nI k = nI (2 * k) := pk_mul 2 k
theorem mu_5 (k : Nat) : (5 : Int32) * nI k = nI (5 * k) := pk_mul 5 k
theorem mu_8 (k : Nat) : (8 : Int32) * nI k = nI (8 * k) := pk_mul 8 k
theorem mu_21 (k : Nat) : (21 : Int32) * nI k = nI (21 * k) := pk_mul 21 k
theorem mu_33 (k : Nat) : (33 : Int32) * nI k = nI (33 * k) := pk_mul 33 k
theorem ov_e {a b : Nat} (ha : a < 2 ^ 30) (hb : b < 2 ^ 30) : mx 0 (nI a - nI b) = nI (a - b) := by
  by_cases q : b ≤ a
  · rw [pk_sub q, nI_lit0, nI_mx (by omega) (by omega), Nat.max_eq_right (by omega)]
  · have h1 := pk_sneg (a := a) (b := b) hb (by omega)
    have e : a - b = 0 := by omega
    rw [e]
    unfold mx
    rw [if_neg (fun h2 => by
      have i1 := Int32.lt_iff_toInt_lt.mp h1
      have i2 := Int32.lt_iff_toInt_lt.mp h2
      omega)]
    rfl
