/-! LAW: rules, trees -/
set_option maxRecDepth 100000
abbrev Den : Type := (Nat → Int32) → Int32
def RI (g : Den) : Prop := ∀ a b : Nat → Int32, (∀ j, j < 6 → a j = b j) → g a = g b
theorem Fa.aw {D : Nat → Nat → Prop} {s : Sg} {kd n z : Nat} : Fa D s (aw s kd n z) := ⟨fun i k h _ => gI_aw h, fun i k h _ => gJ_aw h, fun i k h _ => gR_aw h, fun i h => gK_aw h, Nat.le_succ _, rfl⟩
theorem Fa.new {D : Nat → Nat → Prop} {s s1 t : Sg} {x : Nat} (h : Fa D s s1) (hx : gN s ≤ x) (f : Fr (fun a _ => a = x) s1 t) : Fa D s t := ⟨fun i k hn hd => (f.I (by omega)).trans (h.I hn hd), fun i k hn hd => (f.J (by omega)).trans (h.J hn hd), fun i k hn hd => (f.R (by omega)).trans (h.R hn hd), fun i hn => by rw [f.K]; exact h.K hn, by rw [f.N]; exact h.N, by rw [f.S]; exact h.S⟩
/-! ### the nodes' constructors -/
theorem stl : stR.length ≤ 73 := by decide
theorem Nd_ok {c N : Nat} {s : Sg} {i : Nat} (hk : gK s i = (c + 5, N)) (hi : i < gN s) (h73 : 73 ≤ i) : Nd_init c N s i 0 = some (pR s i 0 (some 0)) := by
  unfold Nd_init
  rw [if_pos ⟨hk, hi⟩, if_pos (Nat.le_trans stl h73), if_pos (by omega), lt_e]
theorem N6_ok {s : Sg} {i : Nat} {v : Int32} (hk : gK s i = (8, 3)) (hi : i < gN s) (h73 : 73 ≤ i) : Tt (N6_init s i 0 v) (fun t => Fr (fun a _ => a = i) s t ∧ gI t i 1 = v) := by
  unfold N6_init
  rw [if_pos ⟨hk, hi⟩, if_pos (Nat.le_trans stl h73), if_pos (by omega), lt_e, Nd_ok (c := 3) (N := 3) (s := pR s i 2 (some 0)) hk hi h73, bd_some, if_pos (show Db 3 3 (pR (pR s i 2 (some 0)) i 0 (some 0)) i from ⟨hk, hi⟩), lt_e]
  exact Tt_some ⟨(((Fr.refl _ _).pR (by omega)).pR (by omega)).pI (by omega), gI_pI_s⟩
theorem N7_ok {s : Sg} {i : Nat} {v : Int32} (hk : gK s i = (9, 3)) (hi : i < gN s) (h73 : 73 ≤ i) : Tt (N7_init s i 0 v) (fun t => Fr (fun a _ => a = i) s t ∧ gI t i 1 = v ∧ gR t i 2 = some 0) := by
  unfold N7_init
  rw [if_pos ⟨hk, hi⟩, if_pos (Nat.le_trans stl h73), if_pos (by omega), lt_e, Nd_ok (c := 4) (N := 3) (s := pR s i 2 (some 0)) hk hi h73, bd_some, if_pos (show Db 4 3 (pR (pR s i 2 (some 0)) i 0 (some 0)) i from ⟨hk, hi⟩), lt_e]
  refine Tt_some ⟨(((Fr.refl _ _).pR (by omega)).pR (by omega)).pI (by omega), gI_pI_s, ?_⟩
  rw [gR_pI, gR_pR, if_neg (by omega), gR_pR, if_pos ⟨rfl, rfl⟩]
theorem N5_ok {s : Sg} {i p : Nat} (hk : gK s i = (10, 3)) (hi : i < gN s) (h73 : 73 ≤ i) (hp : p < gN s) : Tt (N5_init s i 0 p) (fun t => Fr (fun a _ => a = i) s t ∧ gR t i 1 = some p) := by
  unfold N5_init
  rw [if_pos ⟨hk, hi⟩, if_pos (Nat.le_trans stl h73), if_pos (by omega), lt_e, Nd_ok (c := 5) (N := 3) (s := pR s i 2 (some 0)) hk hi h73, bd_some, if_pos (show Db 5 3 (pR (pR s i 2 (some 0)) i 0 (some 0)) i ∧ p < gN (pR (pR s i 2 (some 0)) i 0 (some 0)) from ⟨⟨hk, hi⟩, hp⟩), lt_e]
  refine Tt_some ⟨(((Fr.refl _ _).pR (by omega)).pR (by omega)).pR (by omega), ?_⟩
  rw [gR_pR, if_pos ⟨rfl, rfl⟩]
theorem N8_ok {s : Sg} {i b p q : Nat} (hb : b < 65536) (hk : gK s i = (11, 5)) (hi : i < gN s) (h73 : 73 ≤ i) (hp : p < gN s) (hq : q < gN s) : Tt (N8_init s i 0 (nI b) p q) (fun t => Fr (fun a _ => a = i) s t ∧ gI t i 1 = nI b ∧ gR t i 2 = some p ∧ gR t i 3 = some q) := by
  unfold N8_init
  rw [if_pos ⟨hk, hi⟩, if_pos (Nat.le_trans stl h73), if_pos (by omega), lt_e, Nd_ok (c := 6) (N := 5) (s := pR s i 4 (some 0)) hk hi h73, bd_some, if_pos (show Db 6 5 (pR (pR s i 4 (some 0)) i 0 (some 0)) i ∧ _ from ⟨⟨hk, hi⟩, pk_charN hb⟩), lt_e, if_pos (show Db 6 5 (pI (pR (pR s i 4 (some 0)) i 0 (some 0)) i 1 (nI b)) i ∧ p < gN (pI (pR (pR s i 4 (some 0)) i 0 (some 0)) i 1 (nI b)) from ⟨⟨hk, hi⟩, hp⟩), lt_e, if_pos (show Db 6 5 (pR (pI (pR (pR s i 4 (some 0)) i 0 (some 0)) i 1 (nI b)) i 2 (some p)) i ∧ q < gN (pR (pI (pR (pR s i 4 (some 0)) i 0 (some 0)) i 1 (nI b)) i 2 (some p)) from ⟨⟨hk, hi⟩, hq⟩), lt_e]
  refine Tt_some ⟨(((((Fr.refl _ _).pR (by omega)).pR (by omega)).pI (by omega)).pR (by omega)).pR (by omega), ?_, ?_, ?_⟩
  · rw [gI_pR, gI_pR, gI_pI_s]
  · rw [gR_pR, if_neg (by omega), gR_pR, if_pos ⟨rfl, rfl⟩]
  · rw [gR_pR, if_pos ⟨rfl, rfl⟩]
/-! ### a tree: what it is worth -/
def TrH (s : Sg) (i : Nat) (g : Den) (h : Nat) : Prop := (i < gN s ∧ 8 ≤ (gK s i).1 ∧ (gK s i).1 ≤ 11) ∧ ∀ t, NdS s t → ∀ w k a, Wst w → k < 6 → AskX t w k a → ∀ d, h ≤ d → X_vl d t i = some (g a)
theorem TrH.nd {s t : Sg} {i h : Nat} {g : Den} (H : TrH s i g h) (hn : NdS s t) : TrH t i g h := by
  obtain ⟨⟨h1, h2, h3⟩, h4⟩ := H
  have hk := (hn.2 i h1 h2 h3).1
  exact ⟨⟨Nat.lt_of_lt_of_le h1 hn.1, by rw [hk]; exact h2, by rw [hk]; exact h3⟩, fun r hr => h4 r (hn.trans hr)⟩
theorem TrH.up {s : Sg} {i h h' : Nat} {g : Den} (H : TrH s i g h) (hh : h ≤ h') : TrH s i g h' := ⟨H.1, fun t ht w k a hw hk ha d hd => H.2 t ht w k a hw hk ha d (by omega)⟩
theorem X_vl_s (d : Nat) (s : Sg) (i : Nat) : X_vl (d + 1) s i = if Db 3 3 s i then N6_valueo (X_vl d) s i else if Db 4 3 s i then N7_valueo (X_vl d) s i else if Db 5 3 s i then N5_valueo (X_vl d) s i else if Db 6 5 s i then N8_valueo (X_vl d) s i else none := rfl
theorem ndk {s t : Sg} {i c N : Nat} (hn : NdS s t) (hk : gK s i = (c + 5, N)) (h1 : 3 ≤ c) (h2 : c ≤ 6) (hi : i < gN s) : Db c N t i ∧ (∀ k, gI t i k = gI s i k) ∧ ∀ k, gR t i k = gR s i k := by
  have h := hn.2 i hi (by rw [hk]; show 8 ≤ c + 5; omega) (by rw [hk]; show c + 5 ≤ 11; omega)
  exact ⟨⟨h.1.trans hk, Nat.lt_of_lt_of_le hi hn.1⟩, h.2⟩
theorem tr_number {s : Sg} {i : Nat} {v : Int32} (hk : gK s i = (8, 3)) (hi : i < gN s) (hv : gI s i 1 = v) : TrH s i (fun _ => v) 1 := by
  refine ⟨⟨hi, by rw [hk]; decide, by rw [hk]; decide⟩, fun t hn w k a hw hk6 ha d hd => ?_⟩
  obtain ⟨d, rfl⟩ : ∃ d', d = d' + 1 := ⟨d - 1, by omega⟩
  obtain ⟨h1, h2, h3⟩ := ndk (c := 3) (N := 3) hn hk (by omega) (by omega) hi
  rw [X_vl_s, if_pos h1]
  unfold N6_valueo
  rw [bd_some, if_pos h1, h2, hv]
/-- the letters of a rule -/
def ltI (b : Nat) : Nat := if b = 108 then 0 else if b = 98 then 1 else if b = 104 then 2 else if b = 116 then 3 else if b = 107 then 4 else 5
def isLt (b : Nat) : Prop := b = 108 ∨ b = 98 ∨ b = 104 ∨ b = 116 ∨ b = 107 ∨ b = 110
theorem ltI_lt (b : Nat) : ltI b < 6 := by
  unfold ltI
  split
  · omega
  · split
    · omega
    · split
      · omega
      · split
        · omega
        · split <;> omega
theorem db_no {s : Sg} {i c N c' N' : Nat} (h : Db c N s i) (hc : c ≠ c') : ¬ Db c' N' s i := fun h' => by
  have e := h.1.symm.trans h'.1
  have e1 : c + 5 = c' + 5 := congrArg Prod.fst e
  omega
theorem tr_sign {s : Sg} {i b : Nat} (hb : isLt b) (hk : gK s i = (9, 3)) (hi : i < gN s) (hv : gI s i 1 = nI b) (hr : gR s i 2 = some 0) : TrH s i (fun a => a (ltI b)) 1 := by
  refine ⟨⟨hi, by rw [hk]; decide, by rw [hk]; decide⟩, fun t hn w k a hw hk6 ha d hd => ?_⟩
  obtain ⟨d, rfl⟩ : ∃ d', d = d' + 1 := ⟨d - 1, by omega⟩
  obtain ⟨h1, h2, h3⟩ := ndk (c := 4) (N := 3) hn hk (by omega) (by omega) hi
  obtain ⟨a1, a2, a3, a4, a5, a6, a7, a8⟩ := ha
  rw [X_vl_s, if_neg (db_no h1 (by omega)), if_pos h1]
  unfold N7_valueo
  rw [bd_some, if_pos h1, h2, hv]
  rcases hb with rfl | rfl | rfl | rfl | rfl | rfl
  · rw [if_neg (by decide), if_neg (by decide), if_neg (by decide), if_pos (by decide), bd_some, if_pos h1, h3, hr, bd_some, if_pos rfl, a1, bd_some, if_pos hw, bd_some, if_pos h1, bd_some, if_pos rfl, a2, aI_n hk6 (by omega), bd_some, ← a3]
    rfl
  · rw [if_pos (by decide), bd_some, if_pos h1, h3, hr, bd_some, if_pos rfl, bd_some, if_pos h1, bd_some, if_pos rfl, a2, aI_n hk6 (by omega), bd_some, ← a4]
    rfl
  · rw [if_neg (by decide), if_pos (by decide), bd_some, if_pos h1, h3, hr, bd_some, if_pos rfl, a1, bd_some, if_pos hw, bd_some, if_pos h1, bd_some, if_pos rfl, a2, aI_n hk6 (by omega), bd_some, ← a5]
    rfl
  · rw [if_neg (by decide), if_neg (by decide), if_neg (by decide), if_neg (by decide), if_pos (by decide), bd_some, if_pos h1, h3, hr, bd_some, if_pos rfl, a1, bd_some, if_pos hw, bd_some, if_pos h1, bd_some, if_pos rfl, a2, aI_n hk6 (by omega), bd_some, ← a6]
    rfl
  · rw [if_neg (by decide), if_neg (by decide), if_pos (by decide), bd_some, if_pos h1, h3, hr, bd_some, if_pos rfl, a1, bd_some, if_pos hw, a7, bd_some]
    rfl
  · rw [if_neg (by decide), if_neg (by decide), if_neg (by decide), if_neg (by decide), if_neg (by decide), bd_some, if_pos h1, h3, hr, bd_some, if_pos rfl, a1, bd_some, if_pos hw, ← a8]
    rfl
theorem tr_less {s : Sg} {i j h : Nat} {g : Den} (hk : gK s i = (10, 3)) (hi : i < gN s) (hr : gR s i 1 = some j) (H : TrH s j g h) : TrH s i (fun a => -(g a)) (h + 1) := by
  refine ⟨⟨hi, by rw [hk]; decide, by rw [hk]; decide⟩, fun t hn w k a hw hk6 ha d hd => ?_⟩
  obtain ⟨d, rfl⟩ : ∃ d', d = d' + 1 := ⟨d - 1, by omega⟩
  obtain ⟨h1, h2, h3⟩ := ndk (c := 5) (N := 3) hn hk (by omega) (by omega) hi
  rw [X_vl_s, if_neg (db_no h1 (by omega)), if_neg (db_no h1 (by omega)), if_pos h1]
  unfold N5_valueo
  rw [bd_some, if_pos h1, h3, hr, bd_some, H.2 t hn w k a hw hk6 ha d (by omega), bd_some]
/-- an act of a rule -/
def opF (b : Nat) (x y : Int32) : Int32 := if b = 42 then x * y else if b = 43 then x + y else if b = 45 then x - y else if b = 47 then (if y = 0 then 0 else x / y) else if b = 60 then (if y ≤ x then 0 else 1) else if b = 62 then (if x ≤ y then 0 else 1) else (if x = y then 1 else 0)
def isOp (b : Nat) : Prop := b = 42 ∨ b = 43 ∨ b = 45 ∨ b = 47 ∨ b = 60 ∨ b = 62 ∨ b = 61
theorem opF_i (b : Nat) (x y : Int32) (hb : b < 256) : opF b x y = if nI b = 42 then x * y else if nI b = 43 then x + y else if nI b = 45 then x - y else if nI b = 47 then (if y = 0 then 0 else x / y) else if nI b = 60 then (if y ≤ x then 0 else 1) else if nI b = 62 then (if x ≤ y then 0 else 1) else (if x = y then 1 else 0) := by
  have h : ∀ c : Nat, c < 256 → (nI b = nI c ↔ b = c) := fun c hc => nI_eq (by omega) (by omega)
  have h42 : (nI b = 42) = (b = 42) := propext (h 42 (by omega))
  have h43 : (nI b = 43) = (b = 43) := propext (h 43 (by omega))
  have h45 : (nI b = 45) = (b = 45) := propext (h 45 (by omega))
  have h47 : (nI b = 47) = (b = 47) := propext (h 47 (by omega))
  have h60 : (nI b = 60) = (b = 60) := propext (h 60 (by omega))
  have h62 : (nI b = 62) = (b = 62) := propext (h 62 (by omega))
  simp only [h42, h43, h45, h47, h60, h62]
  rfl
theorem tr_act {s : Sg} {i j1 j2 b m1 m2 h : Nat} {g1 g2 : Den} (hb : b < 256) (hk : gK s i = (11, 5)) (hi : i < gN s) (hv : gI s i 1 = nI b) (hr2 : gR s i 2 = some j1) (hr3 : gR s i 3 = some j2) (H1 : TrH s j1 g1 m1) (H2 : TrH s j2 g2 m2) (e1 : m1 + 1 ≤ h) (e2 : m2 + 1 ≤ h) : TrH s i (fun a => opF b (g1 a) (g2 a)) h := by
  refine ⟨⟨hi, by rw [hk]; decide, by rw [hk]; decide⟩, fun t hn w k a hw hk6 ha d hd => ?_⟩
  obtain ⟨d, rfl⟩ : ∃ d', d = d' + 1 := ⟨d - 1, by omega⟩
  obtain ⟨h1, h2, h3⟩ := ndk (c := 6) (N := 5) hn hk (by omega) (by omega) hi
  rw [X_vl_s, if_neg (db_no h1 (by omega)), if_neg (db_no h1 (by omega)), if_neg (db_no h1 (by omega)), if_pos h1]
  unfold N8_valueo
  rw [bd_some, if_pos h1, h3, hr2, bd_some, H1.2 t hn w k a hw hk6 ha d (by omega), bd_some, bd_some, if_pos h1, h3, hr3, bd_some, H2.2 t hn w k a hw hk6 ha d (by omega), bd_some, bd_some, if_pos h1, h2, hv]
  show _ = some (opF b (g1 a) (g2 a))
  rw [opF_i b _ _ hb]
  generalize g1 a = x
  generalize g2 a = y
  generalize nI b = z
  split
  · rfl
  · split
    · rfl
    · split
      · rfl
      · split
        · by_cases hy : y = 0
          · rw [if_pos hy, if_pos hy]
          · rw [if_neg hy, if_neg hy, if_neg hy]
        · split
          · split <;> rfl
          · split
            · split <;> rfl
            · split <;> rfl
