/-! BASE: the abstract store, its picture on the heap, the judgement VC ('the machine, at this place, does what the body says') and its rows -/
set_option maxRecDepth 100000
/-- the store: ints, longs, references by (id, place); kinds; how many ids; cells and slots made so far -/
abbrev Sg : Type := (Nat → Nat → Int32) × (Nat → Nat → Int64) × (Nat → Nat → Option Nat) × (Nat → Nat × Nat) × Nat × Nat × Nat × Nat × (Nat → Int32)
def gI (σ : Sg) : Nat → Nat → Int32 := σ.1
def gJ (σ : Sg) : Nat → Nat → Int64 := σ.2.1
def gR (σ : Sg) : Nat → Nat → Option Nat := σ.2.2.1
def gK (σ : Sg) : Nat → Nat × Nat := σ.2.2.2.1
def gN (σ : Sg) : Nat := σ.2.2.2.2.1
def gC (σ : Sg) : Nat := σ.2.2.2.2.2.1
def gZ (σ : Sg) : Nat := σ.2.2.2.2.2.2.1
/-- the law's script: its length, its ints -/
def gS (σ : Sg) : Nat × (Nat → Int32) := σ.2.2.2.2.2.2.2
def cI (σ : Sg) (i : Nat) (f : Nat → Int32) : Sg := (va_up σ.1 i f, σ.2)
def cJ (σ : Sg) (i : Nat) (f : Nat → Int64) : Sg := (σ.1, va_up σ.2.1 i f, σ.2.2)
def cR (σ : Sg) (i : Nat) (f : Nat → Option Nat) : Sg := (σ.1, σ.2.1, va_up σ.2.2.1 i f, σ.2.2.2)
def pI (σ : Sg) (i k : Nat) (v : Int32) : Sg := cI σ i (upd (gI σ i) k v)
def pJ (σ : Sg) (i k : Nat) (v : Int64) : Sg := cJ σ i (vp_updL (gJ σ i) k v)
def pR (σ : Sg) (i k : Nat) (v : Option Nat) : Sg := cR σ i (va_up (gR σ i) k v)
/-- a new cell: kind kd, n places, z slots -/
def aw (σ : Sg) (kd n z : Nat) : Sg := (va_up σ.1 (gN σ) (fun _ => 0), va_up σ.2.1 (gN σ) (fun _ => 0), va_up σ.2.2.1 (gN σ) (fun _ => none), va_up σ.2.2.2.1 (gN σ) (kd, n), gN σ + 1, gC σ + 1, gZ σ + z, gS σ)
def lt_ {α β : Type} (a : α) (f : α → β) : β := f a
/-- an index in its bounds -/
def inb (k : Int32) (n : Nat) : Bool := decide (¬ (k < 0 ∨ n ≤ k.toNatClampNeg))
theorem inb_in {k : Int32} {n : Nat} (h : inb k n = true) : vp_in k n := of_decide_eq_true (p := ¬ (k < 0 ∨ n ≤ k.toNatClampNeg)) h
/-- classes: 0 PullThePlug, 1 Water, 2 Model, 3 Number, 4 Sign, 5 Less, 6 Act, 7 String, 8 NoSuchElementException -/
abbrev vwCl : List vw_C := [(RX1, TX1, 49), (RX2, TX2, 8), (RX3, TX3, 43), (RX6, TX6, 3), (RX7, TX7, 3), (RX5, TX5, 3), (RX8, TX8, 5), (RJ1, TJ1, 4), (RJ10, TJ10, 6)]
/-- which fields are references -/
def rfk (c k : Nat) : Bool := match c with
  | 0 => !([5, 6, 8, 9, 10, 11, 17, 19, 24, 30, 31, 41, 44, 48].contains k)
  | 1 => decide (k < 4)
  | 2 => !([1, 6, 8, 9, 11, 12, 13, 14, 18, 19, 22, 27, 28, 33, 38, 39].contains k)
  | 3 => k != 1
  | 4 => k != 1
  | 5 => true
  | 6 => k != 1
  | 7 => k == 0
  | _ => true
def celF (cA : Nat → ClassId) (ad : Nat → Nat) (k : Nat × Nat) (fI : Nat → Int32) (fJ : Nat → Int64) (fR : Nat → Option Nat) : va_E := match k.1 with
  | 0 => .inl (cA 0, k.2, .inl fI)
  | 1 => .inl (cA 1, k.2, .inr (.inl fJ))
  | 2 => .inl (cA 2, k.2, .inl fI)
  | 3 => .inl (cA 3, k.2, .inl fI)
  | 4 => .inl (cA 4, k.2, .inr (.inr (.inr (.inr (fun j => (fR j).map ad)))))
  | c + 5 => .inr (c, (List.range k.2).map (fun j => if rfk c j then va_rf ((fR j).map ad) else .int (fI j)))
def celE (cA : Nat → ClassId) (ad : Nat → Nat) (σ : Sg) (i : Nat) : va_E := celF cA ad (gK σ i) (gI σ i) (gJ σ i) (gR σ i)
def wsE (cA : Nat → ClassId) (ad : Nat → Nat) (σ : Sg) : va_W := (List.range (gN σ)).map (fun i => (ad i, celE cA ad σ i))
theorem wsE_at {cA : Nat → ClassId} {ad : Nat → Nat} {σ : Sg} {i : Nat} (hi : i < gN σ) : (wsE cA ad σ)[i]? = some (ad i, celE cA ad σ i) := by
  unfold wsE
  rw [List.getElem?_map, List.getElem?_range hi]
  rfl
theorem wsE_len {cA : Nat → ClassId} {ad : Nat → Nat} {σ : Sg} : (wsE cA ad σ).length = gN σ := by
  unfold wsE
  rw [List.length_map, List.length_range]
theorem wsE_none {cA : Nat → ClassId} {ad : Nat → Nat} {σ : Sg} {i : Nat} (hi : ¬ i < gN σ) : (wsE cA ad σ)[i]? = none := List.getElem?_eq_none (by rw [wsE_len]; omega)
theorem wsE_set {cA : Nat → ClassId} {ad : Nat → Nat} {σ σ' : Sg} {i : Nat} {x : va_E} (hi : i < gN σ) (hN : gN σ' = gN σ) (hx : celE cA ad σ' i = x) (ho : ∀ j, j ≠ i → celE cA ad σ' j = celE cA ad σ j) : (wsE cA ad σ).set i (ad i, x) = wsE cA ad σ' := by
  apply List.ext_getElem?
  intro j
  rw [List.getElem?_set, wsE_len]
  by_cases h : i = j
  · subst h
    rw [if_pos rfl, if_pos hi, wsE_at (by rw [hN]; exact hi), hx]
  · rw [if_neg h]
    by_cases hj : j < gN σ
    · rw [wsE_at hj, wsE_at (by rw [hN]; exact hj), ho j (fun q => h q.symm)]
    · rw [wsE_none hj, wsE_none (by rw [hN]; exact hj)]
theorem celE_cI {cA : Nat → ClassId} {ad : Nat → Nat} {σ : Sg} {i j : Nat} {f : Nat → Int32} (h : j ≠ i) : celE cA ad (cI σ i f) j = celE cA ad σ j := by
  show celF cA ad (gK σ j) (va_up σ.1 i f j) (gJ σ j) (gR σ j) = _
  rw [va_up_ne _ _ h]
  rfl
theorem celE_cJ {cA : Nat → ClassId} {ad : Nat → Nat} {σ : Sg} {i j : Nat} {f : Nat → Int64} (h : j ≠ i) : celE cA ad (cJ σ i f) j = celE cA ad σ j := by
  show celF cA ad (gK σ j) (gI σ j) (va_up σ.2.1 i f j) (gR σ j) = _
  rw [va_up_ne _ _ h]
  rfl
theorem celE_cR {cA : Nat → ClassId} {ad : Nat → Nat} {σ : Sg} {i j : Nat} {f : Nat → Option Nat} (h : j ≠ i) : celE cA ad (cR σ i f) j = celE cA ad σ j := by
  show celF cA ad (gK σ j) (gI σ j) (gJ σ j) (va_up σ.2.2.1 i f j) = _
  rw [va_up_ne _ _ h]
  rfl
theorem celE_cI_s {cA : Nat → ClassId} {ad : Nat → Nat} {σ : Sg} {i : Nat} {f : Nat → Int32} : celE cA ad (cI σ i f) i = celF cA ad (gK σ i) f (gJ σ i) (gR σ i) := by
  show celF cA ad (gK σ i) (va_up σ.1 i f i) (gJ σ i) (gR σ i) = _
  rw [va_up_self]
theorem celE_cJ_s {cA : Nat → ClassId} {ad : Nat → Nat} {σ : Sg} {i : Nat} {f : Nat → Int64} : celE cA ad (cJ σ i f) i = celF cA ad (gK σ i) (gI σ i) f (gR σ i) := by
  show celF cA ad (gK σ i) (gI σ i) (va_up σ.2.1 i f i) (gR σ i) = _
  rw [va_up_self]
theorem celE_cR_s {cA : Nat → ClassId} {ad : Nat → Nat} {σ : Sg} {i : Nat} {f : Nat → Option Nat} : celE cA ad (cR σ i f) i = celF cA ad (gK σ i) (gI σ i) (gJ σ i) f := by
  show celF cA ad (gK σ i) (gI σ i) (gJ σ i) (va_up σ.2.2.1 i f i) = _
  rw [va_up_self]
def stK : List (Nat × Nat) := [(5, 49), (6, 8), (0, 6), (0, 6), (0, 6), (0, 6), (6, 8), (0, 6), (0, 6), (0, 6), (0, 6), (0, 6), (0, 6), (0, 6), (0, 80), (0, 6), (0, 6), (0, 6), (0, 6), (0, 6), (4, 12), (6, 8), (0, 6), (0, 6), (0, 6), (0, 6), (0, 6), (0, 6), (0, 60), (0, 60), (0, 60), (0, 10), (0, 10), (0, 10), (3, 55), (0, 6930), (0, 100), (0, 6), (0, 6), (0, 6), (1, 6), (1, 6), (4, 2), (0, 2), (1, 16), (7, 43), (0, 33), (0, 6), (0, 6), (0, 6), (2, 80), (1, 16), (0, 30), (2, 40), (2, 40), (0, 6), (0, 396), (0, 33), (0, 33), (0, 6), (0, 6), (0, 240), (0, 10), (0, 10), (0, 10), (0, 12600), (0, 448), (1, 6), (1, 6), (0, 66), (3, 2), (0, 2), (1, 1)]
def stR : List (List Nat) := [[2, 7, 12, 13, 14, 0, 0, 15, 0, 0, 0, 0, 16, 17, 18, 19, 20, 0, 0, 0, 0, 0, 21, 22, 0, 27, 28, 29, 30, 31, 0, 0, 32, 33, 34, 35, 36, 37, 38, 39, 40, 0, 41, 42, 0, 43, 44, 45, 0], [3, 4, 5, 6, 0, 0, 0, 0], [], [], [], [], [8, 9, 10, 11, 0, 0, 0, 0], [], [], [], [], [], [], [], [], [], [], [], [], [], [], [23, 24, 25, 26, 0, 0, 0, 0], [], [], [], [], [], [], [], [], [], [], [], [], [], [], [], [], [], [], [], [], [], [], [], [47, 0, 48, 49, 50, 51, 0, 52, 0, 0, 0, 0, 0, 0, 0, 53, 0, 0, 0, 0, 56, 57, 0, 58, 59, 60, 61, 0, 0, 62, 63, 64, 65, 0, 66, 67, 68, 69, 0, 0, 70, 71, 72], [], [], [], [], [], [], [], [], [], [], [], [], [], [], [], [], [], [], [], [], [], [], [], [], [], [], []]
theorem stKR : stR.length ≤ stK.length := by decide
/-- all references are to ids that there are -/
def WF (σ : Sg) : Prop := ∀ i k r, gR σ i k = some r → r < gN σ
/-- the standing cells: kinds and final references are as the constructors left them -/
def FO (σ : Sg) : Prop := stK.length ≤ gN σ ∧ (∀ i, i < stK.length → gK σ i = stK.getD i (0, 0)) ∧ ∀ i k c, (stR.getD i []).getD k 0 = c + 1 → gR σ i k = some c
def Ok (fo : Bool) (σ : Sg) : Prop := WF σ ∧ (fo = true → FO σ)
theorem Ok.cI {fo : Bool} {σ : Sg} {i : Nat} {f : Nat → Int32} (h : Ok fo σ) : Ok fo (cI σ i f) := h
theorem Ok.cJ {fo : Bool} {σ : Sg} {i : Nat} {f : Nat → Int64} (h : Ok fo σ) : Ok fo (cJ σ i f) := h
theorem Ok.pR {fo : Bool} {σ : Sg} {i k : Nat} {v : Option Nat} (h : Ok fo σ) (hv : ∀ r, v = some r → r < gN σ) (hs : fo = true → (stR.getD i []).getD k 0 = 0) : Ok fo (pR σ i k v) := by
  refine ⟨?_, fun hf => ⟨(h.2 hf).1, (h.2 hf).2.1, ?_⟩⟩
  · intro a b r hr
    show r < gN σ
    have hr : va_up σ.2.2.1 i (va_up (gR σ i) k v) a b = some r := hr
    by_cases ha : a = i
    · subst ha
      rw [va_up_self] at hr
      by_cases hb : b = k
      · subst hb
        rw [va_up_self] at hr
        exact hv r hr
      · rw [va_up_ne _ _ hb] at hr
        exact h.1 a b r hr
    · rw [va_up_ne _ _ ha] at hr
      exact h.1 a b r hr
  · intro a b c hc
    show va_up σ.2.2.1 i (va_up (gR σ i) k v) a b = some c
    by_cases ha : a = i
    · subst ha
      rw [va_up_self]
      by_cases hb : b = k
      · subst hb
        rw [hs hf] at hc
        cases hc
      · rw [va_up_ne _ _ hb]
        exact (h.2 hf).2.2 a b c hc
    · rw [va_up_ne _ _ ha]
      exact (h.2 hf).2.2 a b c hc
theorem Ok.aw {fo : Bool} {σ : Sg} {kd n z : Nat} (h : Ok fo σ) (hst : fo = true → stR.length ≤ stK.length) : Ok fo (aw σ kd n z) := by
  refine ⟨?_, fun hf => ⟨Nat.le_succ_of_le (h.2 hf).1, ?_, ?_⟩⟩
  · intro a b r hr
    show r < gN σ + 1
    have hr : va_up σ.2.2.1 (gN σ) (fun _ => none) a b = some r := hr
    by_cases ha : a = gN σ
    · rw [ha, va_up_self] at hr
      cases hr
    · rw [va_up_ne _ _ ha] at hr
      exact Nat.lt_succ_of_lt (h.1 a b r hr)
  · intro i hi
    show va_up σ.2.2.2.1 (gN σ) (kd, n) i = _
    have := (h.2 hf).1
    rw [va_up_ne _ _ (by omega)]
    exact (h.2 hf).2.1 i hi
  · intro i k c hc
    show va_up σ.2.2.1 (gN σ) (fun _ => none) i k = _
    have h1 := (h.2 hf).1
    by_cases hi : i = gN σ
    · have h2 : stR.getD i [] = [] := by
        rw [List.getD_eq_getElem?_getD, List.getElem?_eq_none (by have := hst hf; omega)]
        rfl
      rw [h2] at hc
      cases hc
    · rw [va_up_ne _ _ hi]
      exact (h.2 hf).2.2 i k c hc
abbrev Ex : Type := (Nat → Nat) × (Nat → Nat) × Nat × (Nat → Int32)
/-- abstract values are values whose references are ids -/
def iv (E : Ex) (ad : Nat → Nat) (v : Value) : Value := match v with
  | .ref i => .ref (ad i)
  | .retAddr k => .ref (if k < 8 then E.1 k else E.2.1 (k - 8))
  | v => v
theorem iv_rf (E : Ex) (ad : Nat → Nat) (r : Option Nat) : iv E ad (va_rf r) = va_rf (r.map ad) := by cases r <;> rfl
theorem iv_cat (E : Ex) (ad : Nat → Nat) (v : Value) : (iv E ad v).category = v.category := by cases v <;> rfl
def Lm (E : Ex) (ad : Nat → Nat) (L : List (Nat × Value)) : List (Nat × Value) := L.map (fun q => (q.1, iv E ad q.2))
theorem Lm_at {E : Ex} {ad : Nat → Nat} {L : List (Nat × Value)} {ls : Array Slot} {nL j i : Nat} {v : Value} (h : lv_has ls nL (Lm E ad L)) (hj : L[j]? = some (i, v)) : ls[i]? = some (.val (iv E ad v)) := by
  refine lv_at h j ?_
  unfold Lm
  rw [List.getElem?_map, hj]
  rfl
theorem st_cat (E : Ex) (ad : Nat → Nat) (st : List Value) : ((st.map (iv E ad)).map fun v => v.category) = st.map fun v => v.category := by
  rw [List.map_map]
  exact List.map_congr_left fun v _ => iv_cat E ad v
/-- the words that don't ride in the list: nest mates' links, castable, declares, arrayOver -/
def nwW (w : Cond) : Bool := match w with
  | .fieldLinkNest .. => true
  | .methodLinkNest .. => true
  | .castable .. => true
  | .declares .. => true
  | _ => false
def NW (U : State) : Prop := (∀ w ∈ lw_tbl, nwW w = true → va_Nw w U) ∧ va_AO RX2 U
theorem NW.warm {s U : State} (hW : s.WarmedH U.vm) (h : NW s) : NW U := by
  refine ⟨fun w hw hn => ?_, h.2.moved hW.alike⟩
  have h1 := h.1 w hw hn
  cases w <;> first
    | exact va_Nw.warmF hW h1
    | exact va_Nw.warmM hW h1
    | exact va_Nw.warmC hW h1
    | exact va_Nw.warmD hW h1
    | (cases hn; done)
/-- what stands outside: String constants, statics -/
def stLen : List Nat := [4, 10, 6, 3, 2, 2, 6, 0]
def stByt : List (List Int32) := [[97, 98, 99, 100], [48, 49, 50, 51, 52, 53, 54, 55, 56, 57], [108, 98, 104, 116, 107, 110], [60, 62, 61], [43, 45], [42, 47], [110, 112, 115, 99, 116, 103], []]
def EXT (E : Ex) (A : Nat → Prop) (U : State) (H : Heap) : Prop := vk_S 8 stLen stByt E.1 E.2.1 A U H ∧ va_Z "java/lang/String" "COMPACT_STRINGS" "Z" (.int 1) A U H ∧ (va_Z "jdk/internal/util/Preconditions" "SIOOBE_FORMATTER" "Ljava/util/function/BiFunction;" .null A U H ∨ va_Z "jdk/internal/util/Preconditions" "SIOOBE_FORMATTER" "Ljava/util/function/BiFunction;" (.ref (E.2.1 8)) A U H) ∧ vx_Zq Bundle.tN "UNASSIGNED_STACK" Bundle.steD A U H ∧ vx_Zq Bundle.tN "SUPPRESSED_SENTINEL" Bundle.listD A U H ∧ va_T .int (E.2.1 9) E.2.2.1 (fun j => .int (E.2.2.2 j)) A U H
theorem EXT.moved {E : Ex} {A : Nat → Prop} {u U : State} {H : Heap} (hvm : u.vm.Alike U.vm) (h : EXT E A u H) : EXT E A U H := ⟨vk_S.moved hvm h.1, va_Z.moved hvm h.2.1, h.2.2.1.imp (va_Z.moved hvm) (va_Z.moved hvm), vx_Zq.moved hvm h.2.2.2.1, vx_Zq.moved hvm h.2.2.2.2.1, va_T.moved hvm h.2.2.2.2.2⟩
theorem EXT.kept {E : Ex} {A : Nat → Prop} {U : State} {H H1 : Heap} (h : EXT E A U H) (hq : ∀ a : Nat, a < H.size → ¬ A a → H1[a]? = H[a]?) : EXT E A U H1 := ⟨vk_S.kept h.1 hq, va_Z.kept h.2.1 hq, h.2.2.1.imp (fun h => va_Z.kept h hq) (fun h => va_Z.kept h hq), vx_Zq.kept h.2.2.2.1 hq, vx_Zq.kept h.2.2.2.2.1 hq, va_T.kept h.2.2.2.2.2 hq⟩
theorem EXT.narrow {E : Ex} {A B : Nat → Prop} {U : State} {H : Heap} (h : EXT E A U H) (hAB : ∀ q, B q → A q) : EXT E B U H := ⟨vk_S.narrow h.1 hAB, va_Z.narrow h.2.1 hAB, h.2.2.1.imp (fun h => va_Z.narrow h hAB) (fun h => va_Z.narrow h hAB), vx_Zq.narrow h.2.2.2.1 hAB, vx_Zq.narrow h.2.2.2.2.1 hAB, va_T.narrow h.2.2.2.2.2 hAB⟩
/-- the String constants' entries -/
def SR (E : Ex) (U : State) : Prop := vk_R "PullThePlug" 192 "abcd" (E.1 0) U ∧ vk_R "PullThePlug" 200 "0123456789" (E.1 1) U ∧ vk_R "PullThePlug" 246 "lbhtkn" (E.1 2) U ∧ vk_R "PullThePlug" 255 "<>=" (E.1 3) U ∧ vk_R "PullThePlug" 257 "+-" (E.1 4) U ∧ vk_R "PullThePlug" 259 "*/" (E.1 5) U ∧ vk_R "PullThePlug" 377 "npsctg" (E.1 6) U ∧ vk_R "java/lang/StringLatin1" 151 "" (E.1 7) U
theorem SR.warm {E : Ex} {s U : State} (hW : s.WarmedH U.vm) (h : SR E s) : SR E U := ⟨h.1.warm hW, h.2.1.warm hW, h.2.2.1.warm hW, h.2.2.2.1.warm hW, h.2.2.2.2.1.warm hW, h.2.2.2.2.2.1.warm hW, h.2.2.2.2.2.2.1.warm hW, h.2.2.2.2.2.2.2.warm hW⟩
theorem SR.same {E : Ex} {s U : State} (hv : U.vm = s.vm) (h : SR E s) : SR E U := ⟨h.1.same hv, h.2.1.same hv, h.2.2.1.same hv, h.2.2.2.1.same hv, h.2.2.2.2.1.same hv, h.2.2.2.2.2.1.same hv, h.2.2.2.2.2.2.1.same hv, h.2.2.2.2.2.2.2.same hv⟩
abbrev tyL (cA : Nat → ClassId) : List (ClassId × FieldType) := [(cA 0, .int), (cA 1, .long), (cA 2, .byte), (cA 3, .boolean), (cA 4, .object RX2)]
def hhOf (own mn : String) : Option (List (Nat × Nat × Nat × Nat)) := if own = "PullThePlugLaw" then (if mn = "lake" then some [(0, 10, 13, 13)] else if mn = "row" then some [(0, 8, 11, 13)] else none) else none
theorem hhOf_ne {own mn : String} (h : own ≠ "PullThePlugLaw") : hhOf own mn = none := if_neg h
/-- the surroundings of a walk in one method -/
def MC (l : Launch) (D : va_G) (cA : Nat → ClassId) (E : Ex) (A : Nat → Prop) (cc : ByteArray) (own mn : String) (nL fr lo : Nat) (p : Program) (R : Room) (s : State) (m : MethodId) (args : Array Value) (meth : Method) (c : Code) : Prop :=
  p.tables.exec = Jvm.exec ∧ c.code = cc ∧ c.maxLocals = nL ∧ s.vm.findClass own = some m.cls ∧ (∀ w ∈ lw_all, w.before args s = true) ∧ meth.locks = false ∧ va_K D vwCl (tyL cA) s ∧ NW s ∧ fr ≤ R.frames ∧ lo ≤ R.locals ∧ (∀ q, s.heap.size ≤ q → A q) ∧ EXT E A s s.heap ∧ SR E s ∧ l.stackTraces = false ∧ meth.name = mn ∧ ∀ hh, hhOf own mn = some hh → c.exceptionTable.toList = tableOf hh
/-- the world: the heap holds the store; addresses only grow -/
def WD (D : va_G) (cA : Nat → ClassId) (A : Nat → Prop) (s : State) (al : Bool) (ad0 : Nat → Nat) (n0 : Nat) (ad : Nat → Nat) (σ : Sg) (H : Heap) (locs : List Loc) : Prop :=
  va_P D vwCl (wsE cA ad σ) H ∧ va_D A (wsE cA ad σ) ∧ va_S A s.heap H locs ∧ (∀ i, (al = false ∨ i < n0) → ad i = ad0 i) ∧ n0 ≤ gN σ
def rtI (r : Option Value) : Instr := match r with
  | none => .return_
  | some (.int _) => .ireturn
  | some (.long _) => .lreturn
  | _ => .areturn
/-- what stands at the end: a return, or (the answer `.float k`) a throw by the `new` of entry k -/
def rtD (cc : ByteArray) (pc : Nat) (r : Option Value) : Prop := match r with
  | some (.float k) => decode cc pc = .ok (.new k.toNat, 3) ∧ decode cc (pc + 3) = .ok (.dup, 1) ∧ decode cc (pc + 4) = .ok (.invokespecial 303, 3) ∧ decode cc (pc + 7) = .ok (.athrow, 1)
  | r => decode cc pc = .ok (rtI r, 1)
def rtS (r : Option Value) : List Value := match r with
  | some (.float _) => []
  | r => r.toList
def rtOk (rt : Option FieldType) (r : Option Value) : Prop := match r with
  | none => rt = none
  | some (.int v) => ∃ ty, rt = some ty ∧ narrow ty (.int v) = .int v
  | some (.long _) => rt = some .long
  | some .null => ∃ t, rt = some t ∧ ((∃ n, t = .object n) ∨ ∃ u, t = .array u)
  | some (.ref _) => ∃ t, rt = some t ∧ ((∃ n, t = .object n) ∨ ∃ u, t = .array u)
  | some (.retAddr _) => ∃ t, rt = some t ∧ ((∃ n, t = .object n) ∨ ∃ u, t = .array u)
  | some (.float _) => True
  | _ => False
/-- what a body never does: take back -/
def Up (σ τ : Sg) : Prop := gC σ ≤ gC τ ∧ gZ σ ≤ gZ τ ∧ gN σ ≤ gN τ ∧ gS τ = gS σ
theorem Up.rf (σ : Sg) : Up σ σ := ⟨Nat.le_refl _, Nat.le_refl _, Nat.le_refl _, rfl⟩
theorem Up.tr {a b c : Sg} (h : Up a b) (g : Up b c) : Up a c := ⟨Nat.le_trans h.1 g.1, Nat.le_trans h.2.1 g.2.1, Nat.le_trans h.2.2.1 g.2.2.1, g.2.2.2.trans h.2.2.2⟩
/-- THE JUDGEMENT: from the place pc, with locals L, stack st and store σ, the machine does what the body says -/
def VC {β : Type} (l : Launch) (fo al : Bool) (ek : β → Option Value × Sg) (cc : ByteArray) (own mn : String) (nL fr lo : Nat) (rt : Option FieldType) (σ : Sg) (pc : Nat) (L : List (Nat × Value)) (st : List Value) (body : Option β) : Prop :=
  ∀ b, body = some b → Ok fo σ → (Ok fo (ek b).2 ∧ Up σ (ek b).2 ∧ (al = false → gN (ek b).2 = gN σ)) ∧
    ∀ (D : va_G) (cA : Nat → ClassId) (E : Ex) (A : Nat → Prop) (p : Program) (e : Env) (R : Room) (s : State) (m : MethodId) (args : Array Value) (below : List Frame) (meth : Method) (c : Code) (Q : State → Prop) (c0 z0 : Nat) (ad0 : Nat → Nat) (n0 : Nat),
      MC l D cA E A cc own mn nL fr lo p R s m args meth c → gS σ = E.2.2 → gC (ek b).2 ≤ c0 + R.cells → gZ (ek b).2 ≤ z0 + R.slots →
      (∀ (ad : Nat → Nat) (pc' : Nat) (ls : Array Slot) (H : Heap) (locs : List Loc) (cells slots : Nat), ls.size = nL → rtD cc pc' (ek b).1 → rtOk rt (ek b).1 → WD D cA A s al ad0 n0 ad (ek b).2 H locs → gC (ek b).2 = c0 + cells → gZ (ek b).2 = z0 + slots →
        W p l e R s m args below meth c H locs cells slots Q (F0 m pc' ls ((rtS (ek b).1).map (iv E ad)))) →
      ∀ (ad : Nat → Nat) (H : Heap) (locs : List Loc) (cells slots : Nat) (ls : Array Slot), WD D cA A s al ad0 n0 ad σ H locs → gC σ = c0 + cells → gZ σ = z0 + slots → lv_has ls nL (Lm E ad L) →
        W p l e R s m args below meth c H locs cells slots Q (F0 m pc ls (st.map (iv E ad)))
def PcE (l : Launch) (D : va_G) (cA : Nat → ClassId) (E : Ex) (av : List Value) (ad : Nat → Nat) (σ : Sg) (sz : Nat) : Array Value → State → Prop :=
  va_Pc (av.map (iv E ad)) (fun U => U.heap.size = sz ∧ va_P D vwCl (wsE cA ad σ) U.heap ∧ va_D (fun _ => True) (wsE cA ad σ) ∧ va_K D vwCl (tyL cA) U ∧ NW U ∧ EXT E (va_A (wsE cA ad σ) sz) U U.heap ∧ SR E U ∧ l.stackTraces = false ∧ gS σ = E.2.2)
def QcE (D : va_G) (cA : Nat → ClassId) (E : Ex) (al : Bool) (ad : Nat → Nat) (σ : Sg) (sz : Nat) (r : Option Value × Sg) : Array Value → State → Outcome → State → Prop := fun _ st oc t =>
  ∃ ad' : Nat → Nat, oc = .returned (r.1.map (iv E ad')) ∧ (∀ i, (al = false ∨ i < gN σ) → ad' i = ad i) ∧ va_P D vwCl (wsE cA ad' r.2) t.heap ∧ va_D (va_A (wsE cA ad σ) sz) (wsE cA ad' r.2) ∧ va_F (va_A (wsE cA ad σ) sz) st t
/-- THE CONTRACT: called with av at the store σ, the method does what the body says -/
def Con {β : Type} (l : Launch) (fo al : Bool) (ek : β → Option Value × Sg) (y : MethodName) (cc : ByteArray) (nL fr lo : Nat) (rt : Option FieldType) (σ : Sg) (av : List Value) (body : Option β) : Prop :=
  ∀ b, body = some b → Ok fo σ → (Ok fo (ek b).2 ∧ Up σ (ek b).2 ∧ (al = false → gN (ek b).2 = gN σ)) ∧
    ∀ (D : va_G) (cA : Nat → ClassId) (E : Ex) (ad : Nat → Nat) (sz : Nat), Met l y (ws_ y cc nL rt) { frames := fr, cells := gC (ek b).2 - gC σ, slots := gZ (ek b).2 - gZ σ, locals := lo } (PcE l D cA E av ad σ sz) (QcE D cA E al ad σ sz (ek b)) (gC (ek b).2 - gC σ) (gZ (ek b).2 - gZ σ) (va_A (wsE cA ad σ) sz)
theorem met_of {β : Type} {l : Launch} {fo al : Bool} {ek : β → Option Value × Sg} {y : MethodName} {cc : ByteArray} {own mn : String} {nL fr lo : Nat} {rt : Option FieldType} {σ : Sg} {av : List Value} {L : List (Nat × Value)} {body : Option β} {b : β}
    (hy : plainName y.cls = true) (hown : y.cls = own) (hmn : y.name = mn) (hlen : ∀ (E : Ex) (ad : Nat → Nat), (lg_sl (av.map (iv E ad))).length ≤ nL) (hL : ∀ (E : Ex) (ad : Nat → Nat), lv_args 0 (av.map (iv E ad)) = Lm E ad L)
    (hv : VC l fo al ek cc own mn nL fr lo rt σ 0 L [] body) (htb : own ≠ "PullThePlugLaw") (hb : body = some b) (hok : Ok fo σ) (hnf : ∀ k, (ek b).1 ≠ some (.float k)) (D : va_G) (cA : Nat → ClassId) (E : Ex) (ad : Nat → Nat) (sz : Nat) :
    Met l y (ws_ y cc nL rt) { frames := fr, cells := gC (ek b).2 - gC σ, slots := gZ (ek b).2 - gZ σ, locals := lo } (PcE l D cA E av ad σ sz) (QcE D cA E al ad σ sz (ek b)) (gC (ek b).2 - gC σ) (gZ (ek b).2 - gZ σ) (va_A (wsE cA ad σ) sz) := by
  obtain ⟨h1, h2⟩ := hv b hb hok
  refine Met.ofW (cc := cc) (maxL := nL) (ret := rt) hy rfl ?_
  intro p e s m args below meth c s₁ B hml hpc
  obtain ⟨rfl, hsz, hP, hD, hK, hN, hE, hR, htr, hgs⟩ := hpc
  have hts := atoms_spec (ws := ws_ y cc nL rt) B.pre
  have hts : ∀ w ∈ lw_all, w.before _ s = true := fun w h => hts w (List.mem_cons_of_mem _ h)
  have hown2 : s.vm.findClass own = some m.cls := by rw [← hown]; exact findClass_of_methodNamed B.named
  have hmn2 : meth.name = mn := by rw [← hmn]; exact (name_of_methodNamed B.named B.method).1
  subst hsz
  have hl := lv_entry (av.map (iv E ad)) (n := nL) (hlen E ad)
  rw [hL E ad] at hl
  rw [lg_entry_eq]
  refine h2 D cA E (va_A (wsE cA ad σ) s.heap.size) p e _ s m _ below meth c _ (gC σ) (gZ σ) ad (gN σ) ⟨B.exec, B.bytes, hml, hown2, hts, B.notSynchronized, hK, hN, Nat.le_refl _, Nat.le_refl _, fun q h => Or.inr h, hE, hR, htr, hmn2, fun hh h => by rw [hhOf_ne htb] at h; cases h⟩ hgs
    (by show gC (ek b).2 ≤ gC σ + (gC (ek b).2 - gC σ); omega) (by show gZ (ek b).2 ≤ gZ σ + (gZ (ek b).2 - gZ σ); omega) ?_ ad s.heap [] 0 0 _ ⟨hP, hD.self, va_S.rf, fun _ _ => rfl, Nat.le_refl _⟩ rfl rfl hl
  intro ad' pc' ls H locs cells slots _ hd hrt hW hc hz
  have hc' : cells = gC (ek b).2 - gC σ := by omega
  have hz' : slots = gZ (ek b).2 - gZ σ := by omega
  subst hc'
  subst hz'
  obtain ⟨w1, w2, w3, w4, w5⟩ := hW
  have hq : ∀ t : State, t.heap = H → s.WarmedH t.vm → QcE D cA E al ad σ s.heap.size (ek b) ((av.map (iv E ad)).toArray) s (.returned ((ek b).1.map (iv E ad'))) t := fun t ht _ => ⟨ad', rfl, w4, by rw [ht]; exact w1, w2, w3.F ht⟩
  have hlk := B.notSynchronized
  have hrr := B.returns
  generalize hek : ek b = eb at *
  obtain ⟨r, σ'⟩ := eb
  cases r with
  | none => exact W.vret B.exec B.bytes (hrr.trans hrt) hq w3.2.2 hd hlk
  | some v =>
    cases v with
    | int v =>
      obtain ⟨ty, e1, e2⟩ := hrt
      exact W.zret B.exec B.bytes (hrr.trans e1) e2 hq w3.2.2 hd hlk
    | long v => exact W.lret B.exec B.bytes (hrr.trans hrt) hq w3.2.2 hd hlk
    | null =>
      obtain ⟨t, e1, e2⟩ := hrt
      exact W.aret B.exec B.bytes (hrr.trans e1) e2 (Or.inl rfl) hq w3.2.2 hd hlk
    | ref a =>
      obtain ⟨t, e1, e2⟩ := hrt
      exact W.aret B.exec B.bytes (hrr.trans e1) e2 (Or.inr ⟨ad' a, rfl⟩) hq w3.2.2 hd hlk
    | float k => exact (hnf k rfl).elim
    | double _ => exact hrt.elim
    | retAddr k =>
      obtain ⟨t, e1, e2⟩ := hrt
      exact W.aret B.exec B.bytes (hrr.trans e1) e2 (Or.inr ⟨_, rfl⟩) hq w3.2.2 hd hlk
def noF (r : Option Value) : Bool := match r with
  | some (.float _) => false
  | _ => true
theorem con_of {β : Type} {l : Launch} {fo al : Bool} {ek : β → Option Value × Sg} {y : MethodName} {cc : ByteArray} {own mn : String} {nL fr lo : Nat} {rt : Option FieldType} {σ : Sg} {av : List Value} {L : List (Nat × Value)} {body : Option β}
    (hy : plainName y.cls = true) (hown : y.cls = own) (hmn : y.name = mn) (hlen : ∀ (E : Ex) (ad : Nat → Nat), (lg_sl (av.map (iv E ad))).length ≤ nL) (hL : ∀ (E : Ex) (ad : Nat → Nat), lv_args 0 (av.map (iv E ad)) = Lm E ad L)
    (hv : VC l fo al ek cc own mn nL fr lo rt σ 0 L [] body) (htb : own ≠ "PullThePlugLaw" := by decide) (hnf : ∀ b, noF (ek b).1 = true := by intro b; first | rfl | (obtain ⟨r, _⟩ := b; cases r <;> rfl)) : Con l fo al ek y cc nL fr lo rt σ av body :=
  fun b hb hok => ⟨(hv b hb hok).1, fun D cA E ad sz => met_of hy hown hmn hlen hL hv htb hb hok (fun k h => by have := hnf b; rw [h] at this; cases this) D cA E ad sz⟩
theorem VC.non {β : Type} {l : Launch} {fo al : Bool} {ek : β → Option Value × Sg} {cc : ByteArray} {own mn : String} {nL fr lo : Nat} {rt : Option FieldType} {σ : Sg} {pc : Nat} {L : List (Nat × Value)} {st : List Value} : VC l fo al ek cc own mn nL fr lo rt σ pc L st none := fun b hb => by cases hb
/-- one step that leaves the store, the locals' list, the heap -/
theorem VC.go {β : Type} {l : Launch} {fo al : Bool} {ek : β → Option Value × Sg} {cc : ByteArray} {own mn : String} {nL fr lo : Nat} {rt : Option FieldType} {σ : Sg} {pc n : Nat} {L : List (Nat × Value)} {st st' : List Value} {body : Option β}
    (h : ∀ {D : va_G} {cA : Nat → ClassId} {E : Ex} {A : Nat → Prop} {p : Program} {e : Env} {R : Room} {s : State} {m : MethodId} {args : Array Value} {below : List Frame} {meth : Method} {c : Code} {Q : State → Prop} {ad : Nat → Nat} {H : Heap} {locs : List Loc} {cells slots : Nat} {ls : Array Slot},
      MC l D cA E A cc own mn nL fr lo p R s m args meth c → lv_has ls nL (Lm E ad L) → cells ≤ R.cells ∧ slots ≤ R.slots → W p l e R s m args below meth c H locs cells slots Q (F0 m n ls (st'.map (iv E ad))) → W p l e R s m args below meth c H locs cells slots Q (F0 m pc ls (st.map (iv E ad))))
    (kk : VC l fo al ek cc own mn nL fr lo rt σ n L st' body) : VC l fo al ek cc own mn nL fr lo rt σ pc L st body := by
  intro b hb hok
  obtain ⟨h1, h2⟩ := kk b hb hok
  refine ⟨h1, ?_⟩
  intro D cA E A p e R s m args below meth c Q c0 z0 ad0 n0 hM hgs hc hz hret ad H locs cells slots ls hW hcc hzz hL
  have u1 := h1.2.1.1
  have u2 := h1.2.1.2.1
  exact h hM hL ⟨by omega, by omega⟩ (h2 D cA E A p e R s m args below meth c Q c0 z0 ad0 n0 hM hgs hc hz hret ad H locs cells slots ls hW hcc hzz hL)
/-- one step that changes the locals -/
theorem VC.loc {β : Type} {l : Launch} {fo al : Bool} {ek : β → Option Value × Sg} {cc : ByteArray} {own mn : String} {nL fr lo : Nat} {rt : Option FieldType} {σ : Sg} {pc n : Nat} {L L' : List (Nat × Value)} {st st' : List Value} {body : Option β}
    (h : ∀ {D : va_G} {cA : Nat → ClassId} {E : Ex} {A : Nat → Prop} {p : Program} {e : Env} {R : Room} {s : State} {m : MethodId} {args : Array Value} {below : List Frame} {meth : Method} {c : Code} {Q : State → Prop} {ad : Nat → Nat} {H : Heap} {locs : List Loc} {cells slots : Nat} {ls : Array Slot},
      MC l D cA E A cc own mn nL fr lo p R s m args meth c → lv_has ls nL (Lm E ad L) → cells ≤ R.cells ∧ slots ≤ R.slots → (∀ ls' : Array Slot, lv_has ls' nL (Lm E ad L') → W p l e R s m args below meth c H locs cells slots Q (F0 m n ls' (st'.map (iv E ad)))) → W p l e R s m args below meth c H locs cells slots Q (F0 m pc ls (st.map (iv E ad))))
    (kk : VC l fo al ek cc own mn nL fr lo rt σ n L' st' body) : VC l fo al ek cc own mn nL fr lo rt σ pc L st body := by
  intro b hb hok
  obtain ⟨h1, h2⟩ := kk b hb hok
  refine ⟨h1, ?_⟩
  intro D cA E A p e R s m args below meth c Q c0 z0 ad0 n0 hM hgs hc hz hret ad H locs cells slots ls hW hcc hzz hL
  have u1 := h1.2.1.1
  have u2 := h1.2.1.2.1
  exact h hM hL ⟨by omega, by omega⟩ (fun ls' hL' => h2 D cA E A p e R s m args below meth c Q c0 z0 ad0 n0 hM hgs hc hz hret ad H locs cells slots ls' hW hcc hzz hL')
/-- fewer or other locals are listed -/
theorem VC.sub {β : Type} {l : Launch} {fo al : Bool} {ek : β → Option Value × Sg} {cc : ByteArray} {own mn : String} {nL fr lo : Nat} {rt : Option FieldType} {σ : Sg} {pc : Nat} {L L' : List (Nat × Value)} {st : List Value} {body : Option β}
    (ks : List Nat) (hl : lv_pick L ks = L') (kk : VC l fo al ek cc own mn nL fr lo rt σ pc L' st body) : VC l fo al ek cc own mn nL fr lo rt σ pc L st body := by
  intro b hb hok
  obtain ⟨h1, h2⟩ := kk b hb hok
  refine ⟨h1, ?_⟩
  intro D cA E A p e R s m args below meth c Q c0 z0 ad0 n0 hM hgs hc hz hret ad H locs cells slots ls hW hcc hzz hL
  refine h2 D cA E A p e R s m args below meth c Q c0 z0 ad0 n0 hM hgs hc hz hret ad H locs cells slots ls hW hcc hzz (lv_sub hL ks ?_)
  rw [← hl]
  unfold lv_pick Lm
  rw [List.map_filterMap]
  congr 1
  funext k
  rw [List.getElem?_map]
theorem Lm_get {E : Ex} {ad : Nat → Nat} {L : List (Nat × Value)} {j i : Nat} {v : Value} (hj : L[j]? = some (i, v)) : (Lm E ad L)[j]? = some (i, iv E ad v) := by
  unfold Lm
  rw [List.getElem?_map, hj]
  rfl
theorem Lm_st1 {E : Ex} {ad : Nat → Nat} {L L' : List (Nat × Value)} {i : Nat} {v : Value} (h : (i, v) :: L.filter (fun q => !(q.1 == i) && !(q.1 + 1 == i && q.2.category == 2)) = L') : (i, iv E ad v) :: (Lm E ad L).filter (fun q => !(q.1 == i) && !(q.1 + 1 == i && q.2.category == 2)) = Lm E ad L' := by
  rw [← h]
  unfold Lm
  rw [List.map_cons, List.filter_map]
  congr 2
  apply List.filter_congr
  intro q _
  simp only [Function.comp, iv_cat]
theorem Lm_st2 {E : Ex} {ad : Nat → Nat} {L L' : List (Nat × Value)} {i : Nat} {v : Value} (h : (i, v) :: L.filter (fun q => !(q.1 == i) && (!(q.1 == i + 1) && !(q.1 + 1 == i && q.2.category == 2))) = L') : (i, iv E ad v) :: (Lm E ad L).filter (fun q => !(q.1 == i) && (!(q.1 == i + 1) && !(q.1 + 1 == i && q.2.category == 2))) = Lm E ad L' := by
  rw [← h]
  unfold Lm
  rw [List.map_cons, List.filter_map]
  congr 2
  apply List.filter_congr
  intro q _
  simp only [Function.comp, iv_cat]
theorem vv_iconst {β : Type} {l : Launch} {fo al : Bool} {ek : β → Option Value × Sg} {cc : ByteArray} {own mn : String} {nL fr lo : Nat} {rt : Option FieldType} {σ : Sg} {pc n : Nat} {L : List (Nat × Value)} {st : List Value} {body : Option β} {i : Int} {v : Int32} (hd : decode cc pc = .ok (.iconst i, 1)) (hn : pc + 1 = n) (hv : Int32.ofInt i = v) (kk : VC l fo al ek cc own mn nL fr lo rt σ n L (.int v :: st) body) : VC l fo al ek cc own mn nL fr lo rt σ pc L (st) body :=
  VC.go (fun hM hL _ k => by subst hn; exact lv_iconst hM.1 hM.2.1 hd hv k) kk
theorem vv_bipush {β : Type} {l : Launch} {fo al : Bool} {ek : β → Option Value × Sg} {cc : ByteArray} {own mn : String} {nL fr lo : Nat} {rt : Option FieldType} {σ : Sg} {pc n : Nat} {L : List (Nat × Value)} {st : List Value} {body : Option β} {i : Int} {v : Int32} (hd : decode cc pc = .ok (.bipush i, 2)) (hn : pc + 2 = n) (hv : (Int8.ofInt i).toInt32 = v) (kk : VC l fo al ek cc own mn nL fr lo rt σ n L (.int v :: st) body) : VC l fo al ek cc own mn nL fr lo rt σ pc L (st) body :=
  VC.go (fun hM hL _ k => by subst hn; exact lv_bipush hM.1 hM.2.1 hd hv k) kk
theorem vv_sipush {β : Type} {l : Launch} {fo al : Bool} {ek : β → Option Value × Sg} {cc : ByteArray} {own mn : String} {nL fr lo : Nat} {rt : Option FieldType} {σ : Sg} {pc n : Nat} {L : List (Nat × Value)} {st : List Value} {body : Option β} {i : Int} {v : Int32} (hd : decode cc pc = .ok (.sipush i, 3)) (hn : pc + 3 = n) (hv : (Int16.ofInt i).toInt32 = v) (kk : VC l fo al ek cc own mn nL fr lo rt σ n L (.int v :: st) body) : VC l fo al ek cc own mn nL fr lo rt σ pc L (st) body :=
  VC.go (fun hM hL _ k => by subst hn; exact lv_sipush hM.1 hM.2.1 hd hv k) kk
theorem vv_lconst {β : Type} {l : Launch} {fo al : Bool} {ek : β → Option Value × Sg} {cc : ByteArray} {own mn : String} {nL fr lo : Nat} {rt : Option FieldType} {σ : Sg} {pc n : Nat} {L : List (Nat × Value)} {st : List Value} {body : Option β} {i : Fin 2} {v : Int64} (hd : decode cc pc = .ok (.lconst i, 1)) (hn : pc + 1 = n) (hv : Int64.ofNat (i : Nat) = v) (kk : VC l fo al ek cc own mn nL fr lo rt σ n L (.long v :: st) body) : VC l fo al ek cc own mn nL fr lo rt σ pc L (st) body :=
  VC.go (fun hM hL _ k => by subst hn; exact lv_lconst hM.1 hM.2.1 hd hv k) kk
theorem vv_null {β : Type} {l : Launch} {fo al : Bool} {ek : β → Option Value × Sg} {cc : ByteArray} {own mn : String} {nL fr lo : Nat} {rt : Option FieldType} {σ : Sg} {pc n : Nat} {L : List (Nat × Value)} {st : List Value} {body : Option β}  (hd : decode cc pc = .ok (.aconst_null, 1)) (hn : pc + 1 = n) (kk : VC l fo al ek cc own mn nL fr lo rt σ n L (.null :: st) body) : VC l fo al ek cc own mn nL fr lo rt σ pc L (st) body :=
  VC.go (fun hM hL _ k => by subst hn; exact lv_null hM.1 hM.2.1 hd k) kk
theorem vv_iload_n {β : Type} {l : Launch} {fo al : Bool} {ek : β → Option Value × Sg} {cc : ByteArray} {own mn : String} {nL fr lo : Nat} {rt : Option FieldType} {σ : Sg} {pc n : Nat} {L : List (Nat × Value)} {st : List Value} {body : Option β} {i : Fin 4} {x : Int32} (hd : decode cc pc = .ok (.iload_n i, 1)) (hn : pc + 1 = n) (j : Nat) (hl : L[j]? = some ((i : Nat), .int x)) (kk : VC l fo al ek cc own mn nL fr lo rt σ n L (.int x :: st) body) : VC l fo al ek cc own mn nL fr lo rt σ pc L (st) body :=
  VC.go (fun hM hL _ k => by subst hn; exact lv_iload_n hM.1 hM.2.1 hd rfl (Lm_at hL hl) k) kk
theorem vv_iload {β : Type} {l : Launch} {fo al : Bool} {ek : β → Option Value × Sg} {cc : ByteArray} {own mn : String} {nL fr lo : Nat} {rt : Option FieldType} {σ : Sg} {pc n : Nat} {L : List (Nat × Value)} {st : List Value} {body : Option β} {i : Nat} {x : Int32} (hd : decode cc pc = .ok (.iload i, 2)) (hn : pc + 2 = n) (j : Nat) (hl : L[j]? = some (i, .int x)) (kk : VC l fo al ek cc own mn nL fr lo rt σ n L (.int x :: st) body) : VC l fo al ek cc own mn nL fr lo rt σ pc L (st) body :=
  VC.go (fun hM hL _ k => by subst hn; exact lv_iload hM.1 hM.2.1 hd (Lm_at hL hl) k) kk
theorem vv_lload_n {β : Type} {l : Launch} {fo al : Bool} {ek : β → Option Value × Sg} {cc : ByteArray} {own mn : String} {nL fr lo : Nat} {rt : Option FieldType} {σ : Sg} {pc n : Nat} {L : List (Nat × Value)} {st : List Value} {body : Option β} {i : Fin 4} {x : Int64} (hd : decode cc pc = .ok (.lload_n i, 1)) (hn : pc + 1 = n) (j : Nat) (hl : L[j]? = some ((i : Nat), .long x)) (kk : VC l fo al ek cc own mn nL fr lo rt σ n L (.long x :: st) body) : VC l fo al ek cc own mn nL fr lo rt σ pc L (st) body :=
  VC.go (fun hM hL _ k => by subst hn; exact lv_lload_n hM.1 hM.2.1 hd rfl (Lm_at hL hl) k) kk
theorem vv_lload {β : Type} {l : Launch} {fo al : Bool} {ek : β → Option Value × Sg} {cc : ByteArray} {own mn : String} {nL fr lo : Nat} {rt : Option FieldType} {σ : Sg} {pc n : Nat} {L : List (Nat × Value)} {st : List Value} {body : Option β} {i : Nat} {x : Int64} (hd : decode cc pc = .ok (.lload i, 2)) (hn : pc + 2 = n) (j : Nat) (hl : L[j]? = some (i, .long x)) (kk : VC l fo al ek cc own mn nL fr lo rt σ n L (.long x :: st) body) : VC l fo al ek cc own mn nL fr lo rt σ pc L (st) body :=
  VC.go (fun hM hL _ k => by subst hn; exact lv_lload hM.1 hM.2.1 hd (Lm_at hL hl) k) kk
theorem vv_aload_n {β : Type} {l : Launch} {fo al : Bool} {ek : β → Option Value × Sg} {cc : ByteArray} {own mn : String} {nL fr lo : Nat} {rt : Option FieldType} {σ : Sg} {pc n : Nat} {L : List (Nat × Value)} {st : List Value} {body : Option β} {i : Fin 4} {x : Nat} (hd : decode cc pc = .ok (.aload_n i, 1)) (hn : pc + 1 = n) (j : Nat) (hl : L[j]? = some ((i : Nat), .ref x)) (kk : VC l fo al ek cc own mn nL fr lo rt σ n L (.ref x :: st) body) : VC l fo al ek cc own mn nL fr lo rt σ pc L (st) body :=
  VC.go (fun hM hL _ k => by subst hn; exact lv_aload_n hM.1 hM.2.1 hd rfl (Lm_at hL hl) k) kk
theorem vv_aload {β : Type} {l : Launch} {fo al : Bool} {ek : β → Option Value × Sg} {cc : ByteArray} {own mn : String} {nL fr lo : Nat} {rt : Option FieldType} {σ : Sg} {pc n : Nat} {L : List (Nat × Value)} {st : List Value} {body : Option β} {i : Nat} {x : Nat} (hd : decode cc pc = .ok (.aload i, 2)) (hn : pc + 2 = n) (j : Nat) (hl : L[j]? = some (i, .ref x)) (kk : VC l fo al ek cc own mn nL fr lo rt σ n L (.ref x :: st) body) : VC l fo al ek cc own mn nL fr lo rt σ pc L (st) body :=
  VC.go (fun hM hL _ k => by subst hn; exact lv_aload hM.1 hM.2.1 hd (Lm_at hL hl) k) kk
theorem vv_iadd {β : Type} {l : Launch} {fo al : Bool} {ek : β → Option Value × Sg} {cc : ByteArray} {own mn : String} {nL fr lo : Nat} {rt : Option FieldType} {σ : Sg} {pc n : Nat} {L : List (Nat × Value)} {st : List Value} {body : Option β} {x y : Int32} (hd : decode cc pc = .ok (.iadd, 1)) (hn : pc + 1 = n) (kk : VC l fo al ek cc own mn nL fr lo rt σ n L (.int (x + y) :: st) body) : VC l fo al ek cc own mn nL fr lo rt σ pc L (.int y :: .int x :: st) body :=
  VC.go (fun hM hL _ k => by subst hn; exact lv_iadd hM.1 hM.2.1 hd k) kk
theorem vv_isub {β : Type} {l : Launch} {fo al : Bool} {ek : β → Option Value × Sg} {cc : ByteArray} {own mn : String} {nL fr lo : Nat} {rt : Option FieldType} {σ : Sg} {pc n : Nat} {L : List (Nat × Value)} {st : List Value} {body : Option β} {x y : Int32} (hd : decode cc pc = .ok (.isub, 1)) (hn : pc + 1 = n) (kk : VC l fo al ek cc own mn nL fr lo rt σ n L (.int (x - y) :: st) body) : VC l fo al ek cc own mn nL fr lo rt σ pc L (.int y :: .int x :: st) body :=
  VC.go (fun hM hL _ k => by subst hn; exact lv_isub hM.1 hM.2.1 hd k) kk
theorem vv_imul {β : Type} {l : Launch} {fo al : Bool} {ek : β → Option Value × Sg} {cc : ByteArray} {own mn : String} {nL fr lo : Nat} {rt : Option FieldType} {σ : Sg} {pc n : Nat} {L : List (Nat × Value)} {st : List Value} {body : Option β} {x y : Int32} (hd : decode cc pc = .ok (.imul, 1)) (hn : pc + 1 = n) (kk : VC l fo al ek cc own mn nL fr lo rt σ n L (.int (x * y) :: st) body) : VC l fo al ek cc own mn nL fr lo rt σ pc L (.int y :: .int x :: st) body :=
  VC.go (fun hM hL _ k => by subst hn; exact lv_imul hM.1 hM.2.1 hd k) kk
theorem vv_iand {β : Type} {l : Launch} {fo al : Bool} {ek : β → Option Value × Sg} {cc : ByteArray} {own mn : String} {nL fr lo : Nat} {rt : Option FieldType} {σ : Sg} {pc n : Nat} {L : List (Nat × Value)} {st : List Value} {body : Option β} {x y : Int32} (hd : decode cc pc = .ok (.iand, 1)) (hn : pc + 1 = n) (kk : VC l fo al ek cc own mn nL fr lo rt σ n L (.int (x &&& y) :: st) body) : VC l fo al ek cc own mn nL fr lo rt σ pc L (.int y :: .int x :: st) body :=
  VC.go (fun hM hL _ k => by subst hn; exact lv_iand hM.1 hM.2.1 hd k) kk
theorem vv_ior {β : Type} {l : Launch} {fo al : Bool} {ek : β → Option Value × Sg} {cc : ByteArray} {own mn : String} {nL fr lo : Nat} {rt : Option FieldType} {σ : Sg} {pc n : Nat} {L : List (Nat × Value)} {st : List Value} {body : Option β} {x y : Int32} (hd : decode cc pc = .ok (.ior, 1)) (hn : pc + 1 = n) (kk : VC l fo al ek cc own mn nL fr lo rt σ n L (.int (x ||| y) :: st) body) : VC l fo al ek cc own mn nL fr lo rt σ pc L (.int y :: .int x :: st) body :=
  VC.go (fun hM hL _ k => by subst hn; exact lv_ior hM.1 hM.2.1 hd k) kk
theorem vv_ixor {β : Type} {l : Launch} {fo al : Bool} {ek : β → Option Value × Sg} {cc : ByteArray} {own mn : String} {nL fr lo : Nat} {rt : Option FieldType} {σ : Sg} {pc n : Nat} {L : List (Nat × Value)} {st : List Value} {body : Option β} {x y : Int32} (hd : decode cc pc = .ok (.ixor, 1)) (hn : pc + 1 = n) (kk : VC l fo al ek cc own mn nL fr lo rt σ n L (.int (x ^^^ y) :: st) body) : VC l fo al ek cc own mn nL fr lo rt σ pc L (.int y :: .int x :: st) body :=
  VC.go (fun hM hL _ k => by subst hn; exact lv_ixor hM.1 hM.2.1 hd k) kk
theorem vv_ishl {β : Type} {l : Launch} {fo al : Bool} {ek : β → Option Value × Sg} {cc : ByteArray} {own mn : String} {nL fr lo : Nat} {rt : Option FieldType} {σ : Sg} {pc n : Nat} {L : List (Nat × Value)} {st : List Value} {body : Option β} {x y : Int32} (hd : decode cc pc = .ok (.ishl, 1)) (hn : pc + 1 = n) (kk : VC l fo al ek cc own mn nL fr lo rt σ n L (.int (x <<< (y &&& 31)) :: st) body) : VC l fo al ek cc own mn nL fr lo rt σ pc L (.int y :: .int x :: st) body :=
  VC.go (fun hM hL _ k => by subst hn; exact lv_ishl hM.1 hM.2.1 hd k) kk
theorem vv_ishr {β : Type} {l : Launch} {fo al : Bool} {ek : β → Option Value × Sg} {cc : ByteArray} {own mn : String} {nL fr lo : Nat} {rt : Option FieldType} {σ : Sg} {pc n : Nat} {L : List (Nat × Value)} {st : List Value} {body : Option β} {x y : Int32} (hd : decode cc pc = .ok (.ishr, 1)) (hn : pc + 1 = n) (kk : VC l fo al ek cc own mn nL fr lo rt σ n L (.int (x >>> (y &&& 31)) :: st) body) : VC l fo al ek cc own mn nL fr lo rt σ pc L (.int y :: .int x :: st) body :=
  VC.go (fun hM hL _ k => by subst hn; exact lv_ishr hM.1 hM.2.1 hd k) kk
theorem vv_ladd {β : Type} {l : Launch} {fo al : Bool} {ek : β → Option Value × Sg} {cc : ByteArray} {own mn : String} {nL fr lo : Nat} {rt : Option FieldType} {σ : Sg} {pc n : Nat} {L : List (Nat × Value)} {st : List Value} {body : Option β} {x y : Int64} (hd : decode cc pc = .ok (.ladd, 1)) (hn : pc + 1 = n) (kk : VC l fo al ek cc own mn nL fr lo rt σ n L (.long (x + y) :: st) body) : VC l fo al ek cc own mn nL fr lo rt σ pc L (.long y :: .long x :: st) body :=
  VC.go (fun hM hL _ k => by subst hn; exact lv_ladd hM.1 hM.2.1 hd k) kk
theorem vv_lsub {β : Type} {l : Launch} {fo al : Bool} {ek : β → Option Value × Sg} {cc : ByteArray} {own mn : String} {nL fr lo : Nat} {rt : Option FieldType} {σ : Sg} {pc n : Nat} {L : List (Nat × Value)} {st : List Value} {body : Option β} {x y : Int64} (hd : decode cc pc = .ok (.lsub, 1)) (hn : pc + 1 = n) (kk : VC l fo al ek cc own mn nL fr lo rt σ n L (.long (x - y) :: st) body) : VC l fo al ek cc own mn nL fr lo rt σ pc L (.long y :: .long x :: st) body :=
  VC.go (fun hM hL _ k => by subst hn; exact lv_lsub hM.1 hM.2.1 hd k) kk
theorem vv_lmul {β : Type} {l : Launch} {fo al : Bool} {ek : β → Option Value × Sg} {cc : ByteArray} {own mn : String} {nL fr lo : Nat} {rt : Option FieldType} {σ : Sg} {pc n : Nat} {L : List (Nat × Value)} {st : List Value} {body : Option β} {x y : Int64} (hd : decode cc pc = .ok (.lmul, 1)) (hn : pc + 1 = n) (kk : VC l fo al ek cc own mn nL fr lo rt σ n L (.long (x * y) :: st) body) : VC l fo al ek cc own mn nL fr lo rt σ pc L (.long y :: .long x :: st) body :=
  VC.go (fun hM hL _ k => by subst hn; exact lv_lmul hM.1 hM.2.1 hd k) kk
theorem vv_land {β : Type} {l : Launch} {fo al : Bool} {ek : β → Option Value × Sg} {cc : ByteArray} {own mn : String} {nL fr lo : Nat} {rt : Option FieldType} {σ : Sg} {pc n : Nat} {L : List (Nat × Value)} {st : List Value} {body : Option β} {x y : Int64} (hd : decode cc pc = .ok (.land, 1)) (hn : pc + 1 = n) (kk : VC l fo al ek cc own mn nL fr lo rt σ n L (.long (x &&& y) :: st) body) : VC l fo al ek cc own mn nL fr lo rt σ pc L (.long y :: .long x :: st) body :=
  VC.go (fun hM hL _ k => by subst hn; exact lv_land hM.1 hM.2.1 hd k) kk
theorem vv_lor {β : Type} {l : Launch} {fo al : Bool} {ek : β → Option Value × Sg} {cc : ByteArray} {own mn : String} {nL fr lo : Nat} {rt : Option FieldType} {σ : Sg} {pc n : Nat} {L : List (Nat × Value)} {st : List Value} {body : Option β} {x y : Int64} (hd : decode cc pc = .ok (.lor, 1)) (hn : pc + 1 = n) (kk : VC l fo al ek cc own mn nL fr lo rt σ n L (.long (x ||| y) :: st) body) : VC l fo al ek cc own mn nL fr lo rt σ pc L (.long y :: .long x :: st) body :=
  VC.go (fun hM hL _ k => by subst hn; exact lv_lor hM.1 hM.2.1 hd k) kk
theorem vv_lxor {β : Type} {l : Launch} {fo al : Bool} {ek : β → Option Value × Sg} {cc : ByteArray} {own mn : String} {nL fr lo : Nat} {rt : Option FieldType} {σ : Sg} {pc n : Nat} {L : List (Nat × Value)} {st : List Value} {body : Option β} {x y : Int64} (hd : decode cc pc = .ok (.lxor, 1)) (hn : pc + 1 = n) (kk : VC l fo al ek cc own mn nL fr lo rt σ n L (.long (x ^^^ y) :: st) body) : VC l fo al ek cc own mn nL fr lo rt σ pc L (.long y :: .long x :: st) body :=
  VC.go (fun hM hL _ k => by subst hn; exact lv_lxor hM.1 hM.2.1 hd k) kk
theorem vv_ineg {β : Type} {l : Launch} {fo al : Bool} {ek : β → Option Value × Sg} {cc : ByteArray} {own mn : String} {nL fr lo : Nat} {rt : Option FieldType} {σ : Sg} {pc n : Nat} {L : List (Nat × Value)} {st : List Value} {body : Option β} {x : Int32} (hd : decode cc pc = .ok (.ineg, 1)) (hn : pc + 1 = n) (kk : VC l fo al ek cc own mn nL fr lo rt σ n L (.int (-x) :: st) body) : VC l fo al ek cc own mn nL fr lo rt σ pc L (.int x :: st) body :=
  VC.go (fun hM hL _ k => by subst hn; exact lv_ineg hM.1 hM.2.1 hd k) kk
theorem vv_iushr {β : Type} {l : Launch} {fo al : Bool} {ek : β → Option Value × Sg} {cc : ByteArray} {own mn : String} {nL fr lo : Nat} {rt : Option FieldType} {σ : Sg} {pc n : Nat} {L : List (Nat × Value)} {st : List Value} {body : Option β} {x y : Int32} (hd : decode cc pc = .ok (.iushr, 1)) (hn : pc + 1 = n) (kk : VC l fo al ek cc own mn nL fr lo rt σ n L (.int ((x.toUInt32 >>> (y.toUInt32 &&& Int32.toUInt32 31)).toInt32) :: st) body) : VC l fo al ek cc own mn nL fr lo rt σ pc L (.int y :: .int x :: st) body :=
  VC.go (fun hM hL _ k => by subst hn; exact lv_iushr hM.1 hM.2.1 hd rfl k) kk
theorem vv_i2l {β : Type} {l : Launch} {fo al : Bool} {ek : β → Option Value × Sg} {cc : ByteArray} {own mn : String} {nL fr lo : Nat} {rt : Option FieldType} {σ : Sg} {pc n : Nat} {L : List (Nat × Value)} {st : List Value} {body : Option β} {x : Int32} (hd : decode cc pc = .ok (.i2l, 1)) (hn : pc + 1 = n) (kk : VC l fo al ek cc own mn nL fr lo rt σ n L (.long x.toInt64 :: st) body) : VC l fo al ek cc own mn nL fr lo rt σ pc L (.int x :: st) body :=
  VC.go (fun hM hL _ k => by subst hn; exact lv_i2l hM.1 hM.2.1 hd rfl k) kk
theorem vv_l2i {β : Type} {l : Launch} {fo al : Bool} {ek : β → Option Value × Sg} {cc : ByteArray} {own mn : String} {nL fr lo : Nat} {rt : Option FieldType} {σ : Sg} {pc n : Nat} {L : List (Nat × Value)} {st : List Value} {body : Option β} {x : Int64} (hd : decode cc pc = .ok (.l2i, 1)) (hn : pc + 1 = n) (kk : VC l fo al ek cc own mn nL fr lo rt σ n L (.int x.toInt32 :: st) body) : VC l fo al ek cc own mn nL fr lo rt σ pc L (.long x :: st) body :=
  VC.go (fun hM hL _ k => by subst hn; exact lv_l2i hM.1 hM.2.1 hd rfl k) kk
theorem vv_i2b {β : Type} {l : Launch} {fo al : Bool} {ek : β → Option Value × Sg} {cc : ByteArray} {own mn : String} {nL fr lo : Nat} {rt : Option FieldType} {σ : Sg} {pc n : Nat} {L : List (Nat × Value)} {st : List Value} {body : Option β} {x : Int32} (hd : decode cc pc = .ok (.i2b, 1)) (hn : pc + 1 = n) (kk : VC l fo al ek cc own mn nL fr lo rt σ n L (.int x.toInt8.toInt32 :: st) body) : VC l fo al ek cc own mn nL fr lo rt σ pc L (.int x :: st) body :=
  VC.go (fun hM hL _ k => by subst hn; exact lv_i2b hM.1 hM.2.1 hd rfl k) kk
theorem vv_i2s {β : Type} {l : Launch} {fo al : Bool} {ek : β → Option Value × Sg} {cc : ByteArray} {own mn : String} {nL fr lo : Nat} {rt : Option FieldType} {σ : Sg} {pc n : Nat} {L : List (Nat × Value)} {st : List Value} {body : Option β} {x : Int32} (hd : decode cc pc = .ok (.i2s, 1)) (hn : pc + 1 = n) (kk : VC l fo al ek cc own mn nL fr lo rt σ n L (.int x.toInt16.toInt32 :: st) body) : VC l fo al ek cc own mn nL fr lo rt σ pc L (.int x :: st) body :=
  VC.go (fun hM hL _ k => by subst hn; exact lv_i2s hM.1 hM.2.1 hd rfl k) kk
theorem vv_i2c {β : Type} {l : Launch} {fo al : Bool} {ek : β → Option Value × Sg} {cc : ByteArray} {own mn : String} {nL fr lo : Nat} {rt : Option FieldType} {σ : Sg} {pc n : Nat} {L : List (Nat × Value)} {st : List Value} {body : Option β} {x : Int32} (hd : decode cc pc = .ok (.i2c, 1)) (hn : pc + 1 = n) (kk : VC l fo al ek cc own mn nL fr lo rt σ n L (.int (x.toUInt32 % 65536).toInt32 :: st) body) : VC l fo al ek cc own mn nL fr lo rt σ pc L (.int x :: st) body :=
  VC.go (fun hM hL _ k => by subst hn; exact lv_i2c hM.1 hM.2.1 hd rfl k) kk
theorem vv_lcmp {β : Type} {l : Launch} {fo al : Bool} {ek : β → Option Value × Sg} {cc : ByteArray} {own mn : String} {nL fr lo : Nat} {rt : Option FieldType} {σ : Sg} {pc n : Nat} {L : List (Nat × Value)} {st : List Value} {body : Option β} {x y : Int64} (hd : decode cc pc = .ok (.lcmp, 1)) (hn : pc + 1 = n) (kk : VC l fo al ek cc own mn nL fr lo rt σ n L (.int (lg_cmp x y) :: st) body) : VC l fo al ek cc own mn nL fr lo rt σ pc L (.long y :: .long x :: st) body :=
  VC.go (fun hM hL _ k => by subst hn; exact W.lcmp hM.1 hM.2.1 hd k) kk
theorem vv_pop {β : Type} {l : Launch} {fo al : Bool} {ek : β → Option Value × Sg} {cc : ByteArray} {own mn : String} {nL fr lo : Nat} {rt : Option FieldType} {σ : Sg} {pc n : Nat} {L : List (Nat × Value)} {st : List Value} {body : Option β} {va : Value} (hd : decode cc pc = .ok (.pop, 1)) (hn : pc + 1 = n) (hva : va.category = 1) (kk : VC l fo al ek cc own mn nL fr lo rt σ n L (st) body) : VC l fo al ek cc own mn nL fr lo rt σ pc L (va :: st) body :=
  VC.go (fun hM hL _ k => by subst hn; exact lv_pop hM.1 hM.2.1 hd (by rw [iv_cat]; exact hva) k) kk
theorem vv_dup {β : Type} {l : Launch} {fo al : Bool} {ek : β → Option Value × Sg} {cc : ByteArray} {own mn : String} {nL fr lo : Nat} {rt : Option FieldType} {σ : Sg} {pc n : Nat} {L : List (Nat × Value)} {st : List Value} {body : Option β} {va : Value} (hd : decode cc pc = .ok (.dup, 1)) (hn : pc + 1 = n) (hva : va.category = 1) (kk : VC l fo al ek cc own mn nL fr lo rt σ n L (va :: va :: st) body) : VC l fo al ek cc own mn nL fr lo rt σ pc L (va :: st) body :=
  VC.go (fun hM hL _ k => by subst hn; exact lv_dup hM.1 hM.2.1 hd (by rw [iv_cat]; exact hva) k) kk
theorem vv_dup_x1 {β : Type} {l : Launch} {fo al : Bool} {ek : β → Option Value × Sg} {cc : ByteArray} {own mn : String} {nL fr lo : Nat} {rt : Option FieldType} {σ : Sg} {pc n : Nat} {L : List (Nat × Value)} {st : List Value} {body : Option β} {va vb : Value} (hd : decode cc pc = .ok (.dup_x1, 1)) (hn : pc + 1 = n) (hva : va.category = 1) (hvb : vb.category = 1) (kk : VC l fo al ek cc own mn nL fr lo rt σ n L (va :: vb :: va :: st) body) : VC l fo al ek cc own mn nL fr lo rt σ pc L (va :: vb :: st) body :=
  VC.go (fun hM hL _ k => by subst hn; exact lv_dup_x1 hM.1 hM.2.1 hd (by rw [iv_cat]; exact hva) (by rw [iv_cat]; exact hvb) k) kk
theorem vv_dup_x2 {β : Type} {l : Launch} {fo al : Bool} {ek : β → Option Value × Sg} {cc : ByteArray} {own mn : String} {nL fr lo : Nat} {rt : Option FieldType} {σ : Sg} {pc n : Nat} {L : List (Nat × Value)} {st : List Value} {body : Option β} {va vb vc : Value} (hd : decode cc pc = .ok (.dup_x2, 1)) (hn : pc + 1 = n) (hva : va.category = 1) (hvb : vb.category = 1) (hvc : vc.category = 1) (kk : VC l fo al ek cc own mn nL fr lo rt σ n L (va :: vb :: vc :: va :: st) body) : VC l fo al ek cc own mn nL fr lo rt σ pc L (va :: vb :: vc :: st) body :=
  VC.go (fun hM hL _ k => by subst hn; exact lv_dup_x2 hM.1 hM.2.1 hd (by rw [iv_cat]; exact hva) (by rw [iv_cat]; exact hvb) (by rw [iv_cat]; exact hvc) k) kk
theorem vv_dup2_11 {β : Type} {l : Launch} {fo al : Bool} {ek : β → Option Value × Sg} {cc : ByteArray} {own mn : String} {nL fr lo : Nat} {rt : Option FieldType} {σ : Sg} {pc n : Nat} {L : List (Nat × Value)} {st : List Value} {body : Option β} {va vb : Value} (hd : decode cc pc = .ok (.dup2, 1)) (hn : pc + 1 = n) (hva : va.category = 1) (hvb : vb.category = 1) (kk : VC l fo al ek cc own mn nL fr lo rt σ n L (va :: vb :: va :: vb :: st) body) : VC l fo al ek cc own mn nL fr lo rt σ pc L (va :: vb :: st) body :=
  VC.go (fun hM hL _ k => by subst hn; exact lv_dup2_11 hM.1 hM.2.1 hd (by rw [iv_cat]; exact hva) (by rw [iv_cat]; exact hvb) k) kk
theorem vv_goto {β : Type} {l : Launch} {fo al : Bool} {ek : β → Option Value × Sg} {cc : ByteArray} {own mn : String} {nL fr lo : Nat} {rt : Option FieldType} {σ : Sg} {pc n : Nat} {L : List (Nat × Value)} {st : List Value} {body : Option β} {off : Int} (hd : decode cc pc = .ok (.goto off, 3)) (ht : (pc : Int) + off = (n : Int)) (kk : VC l fo al ek cc own mn nL fr lo rt σ n L st body) : VC l fo al ek cc own mn nL fr lo rt σ pc L st body :=
  VC.go (fun hM hL _ k => lv_goto hM.1 hM.2.1 hd ht k) kk
theorem vv_idiv {β : Type} {l : Launch} {fo al : Bool} {ek : β → Option Value × Sg} {cc : ByteArray} {own mn : String} {nL fr lo : Nat} {rt : Option FieldType} {σ : Sg} {pc n : Nat} {L : List (Nat × Value)} {st : List Value} {body : Option β} {x y : Int32} (hd : decode cc pc = .ok (.idiv, 1)) (hn : pc + 1 = n) (kk : VC l fo al ek cc own mn nL fr lo rt σ n L (.int (x / y) :: st) body) : VC l fo al ek cc own mn nL fr lo rt σ pc L (.int y :: .int x :: st) (if y = 0 then none else body) := by
  by_cases h : y = 0
  · rw [if_pos h]; exact VC.non
  · rw [if_neg h]; exact VC.go (fun hM hL _ k => by subst hn; exact lv_idiv hM.1 hM.2.1 hd h k) kk
theorem vv_idivC {β : Type} {l : Launch} {fo al : Bool} {ek : β → Option Value × Sg} {cc : ByteArray} {own mn : String} {nL fr lo : Nat} {rt : Option FieldType} {σ : Sg} {pc n : Nat} {L : List (Nat × Value)} {st : List Value} {body : Option β} {x y : Int32} (hd : decode cc pc = .ok (.idiv, 1)) (hn : pc + 1 = n) (h : ¬ y = 0) (kk : VC l fo al ek cc own mn nL fr lo rt σ n L (.int (x / y) :: st) body) : VC l fo al ek cc own mn nL fr lo rt σ pc L (.int y :: .int x :: st) body :=
  VC.go (fun hM hL _ k => by subst hn; exact lv_idiv hM.1 hM.2.1 hd h k) kk
theorem vv_irem {β : Type} {l : Launch} {fo al : Bool} {ek : β → Option Value × Sg} {cc : ByteArray} {own mn : String} {nL fr lo : Nat} {rt : Option FieldType} {σ : Sg} {pc n : Nat} {L : List (Nat × Value)} {st : List Value} {body : Option β} {x y : Int32} (hd : decode cc pc = .ok (.irem, 1)) (hn : pc + 1 = n) (kk : VC l fo al ek cc own mn nL fr lo rt σ n L (.int (x - x / y * y) :: st) body) : VC l fo al ek cc own mn nL fr lo rt σ pc L (.int y :: .int x :: st) (if y = 0 then none else body) := by
  by_cases h : y = 0
  · rw [if_pos h]; exact VC.non
  · rw [if_neg h]; exact VC.go (fun hM hL _ k => by subst hn; exact lv_irem hM.1 hM.2.1 hd h k) kk
theorem vv_iremC {β : Type} {l : Launch} {fo al : Bool} {ek : β → Option Value × Sg} {cc : ByteArray} {own mn : String} {nL fr lo : Nat} {rt : Option FieldType} {σ : Sg} {pc n : Nat} {L : List (Nat × Value)} {st : List Value} {body : Option β} {x y : Int32} (hd : decode cc pc = .ok (.irem, 1)) (hn : pc + 1 = n) (h : ¬ y = 0) (kk : VC l fo al ek cc own mn nL fr lo rt σ n L (.int (x - x / y * y) :: st) body) : VC l fo al ek cc own mn nL fr lo rt σ pc L (.int y :: .int x :: st) body :=
  VC.go (fun hM hL _ k => by subst hn; exact lv_irem hM.1 hM.2.1 hd h k) kk
theorem vv_ldiv {β : Type} {l : Launch} {fo al : Bool} {ek : β → Option Value × Sg} {cc : ByteArray} {own mn : String} {nL fr lo : Nat} {rt : Option FieldType} {σ : Sg} {pc n : Nat} {L : List (Nat × Value)} {st : List Value} {body : Option β} {x y : Int64} (hd : decode cc pc = .ok (.ldiv, 1)) (hn : pc + 1 = n) (kk : VC l fo al ek cc own mn nL fr lo rt σ n L (.long (x / y) :: st) body) : VC l fo al ek cc own mn nL fr lo rt σ pc L (.long y :: .long x :: st) (if y = 0 then none else body) := by
  by_cases h : y = 0
  · rw [if_pos h]; exact VC.non
  · rw [if_neg h]; exact VC.go (fun hM hL _ k => by subst hn; exact lv_ldiv hM.1 hM.2.1 hd h k) kk
theorem vv_ldivC {β : Type} {l : Launch} {fo al : Bool} {ek : β → Option Value × Sg} {cc : ByteArray} {own mn : String} {nL fr lo : Nat} {rt : Option FieldType} {σ : Sg} {pc n : Nat} {L : List (Nat × Value)} {st : List Value} {body : Option β} {x y : Int64} (hd : decode cc pc = .ok (.ldiv, 1)) (hn : pc + 1 = n) (h : ¬ y = 0) (kk : VC l fo al ek cc own mn nL fr lo rt σ n L (.long (x / y) :: st) body) : VC l fo al ek cc own mn nL fr lo rt σ pc L (.long y :: .long x :: st) body :=
  VC.go (fun hM hL _ k => by subst hn; exact lv_ldiv hM.1 hM.2.1 hd h k) kk
theorem vv_lrem {β : Type} {l : Launch} {fo al : Bool} {ek : β → Option Value × Sg} {cc : ByteArray} {own mn : String} {nL fr lo : Nat} {rt : Option FieldType} {σ : Sg} {pc n : Nat} {L : List (Nat × Value)} {st : List Value} {body : Option β} {x y : Int64} (hd : decode cc pc = .ok (.lrem, 1)) (hn : pc + 1 = n) (kk : VC l fo al ek cc own mn nL fr lo rt σ n L (.long (x - x / y * y) :: st) body) : VC l fo al ek cc own mn nL fr lo rt σ pc L (.long y :: .long x :: st) (if y = 0 then none else body) := by
  by_cases h : y = 0
  · rw [if_pos h]; exact VC.non
  · rw [if_neg h]; exact VC.go (fun hM hL _ k => by subst hn; exact lv_lrem hM.1 hM.2.1 hd h k) kk
theorem vv_lremC {β : Type} {l : Launch} {fo al : Bool} {ek : β → Option Value × Sg} {cc : ByteArray} {own mn : String} {nL fr lo : Nat} {rt : Option FieldType} {σ : Sg} {pc n : Nat} {L : List (Nat × Value)} {st : List Value} {body : Option β} {x y : Int64} (hd : decode cc pc = .ok (.lrem, 1)) (hn : pc + 1 = n) (h : ¬ y = 0) (kk : VC l fo al ek cc own mn nL fr lo rt σ n L (.long (x - x / y * y) :: st) body) : VC l fo al ek cc own mn nL fr lo rt σ pc L (.long y :: .long x :: st) body :=
  VC.go (fun hM hL _ k => by subst hn; exact lv_lrem hM.1 hM.2.1 hd h k) kk
theorem vv_if_eq {β : Type} {l : Launch} {fo al : Bool} {ek : β → Option Value × Sg} {cc : ByteArray} {own mn : String} {nL fr lo : Nat} {rt : Option FieldType} {σ : Sg} {pc n : Nat} {L : List (Nat × Value)} {st : List Value} {bt bf : Option β} {x : Int32} {off : Int} {tgt : Nat} (hd : decode cc pc = .ok (.ifCond .eq off, 3)) (ht : (pc : Int) + off = (tgt : Int)) (hn : pc + 3 = n) (kt : VC l fo al ek cc own mn nL fr lo rt σ tgt L st bt) (kf : VC l fo al ek cc own mn nL fr lo rt σ n L st bf) : VC l fo al ek cc own mn nL fr lo rt σ pc L (.int x :: st) (if x = 0 then bt else bf) := by
  by_cases h : x = 0
  · rw [if_pos h]; exact VC.go (fun hM hL _ k => by subst hn; exact lv_if_eq hM.1 hM.2.1 hd ht (fun _ => k) (fun q => absurd h q)) kt
  · rw [if_neg h]; exact VC.go (fun hM hL _ k => by subst hn; exact lv_if_eq hM.1 hM.2.1 hd ht (fun q => absurd q h) (fun _ => k)) kf
theorem vv_icmp_eq {β : Type} {l : Launch} {fo al : Bool} {ek : β → Option Value × Sg} {cc : ByteArray} {own mn : String} {nL fr lo : Nat} {rt : Option FieldType} {σ : Sg} {pc n : Nat} {L : List (Nat × Value)} {st : List Value} {bt bf : Option β} {x y : Int32} {off : Int} {tgt : Nat} (hd : decode cc pc = .ok (.if_icmp .eq off, 3)) (ht : (pc : Int) + off = (tgt : Int)) (hn : pc + 3 = n) (kt : VC l fo al ek cc own mn nL fr lo rt σ tgt L st bt) (kf : VC l fo al ek cc own mn nL fr lo rt σ n L st bf) : VC l fo al ek cc own mn nL fr lo rt σ pc L (.int y :: .int x :: st) (if x = y then bt else bf) := by
  by_cases h : x = y
  · rw [if_pos h]; exact VC.go (fun hM hL _ k => by subst hn; exact lv_icmp_eq hM.1 hM.2.1 hd ht (fun _ => k) (fun q => absurd h q)) kt
  · rw [if_neg h]; exact VC.go (fun hM hL _ k => by subst hn; exact lv_icmp_eq hM.1 hM.2.1 hd ht (fun q => absurd q h) (fun _ => k)) kf
theorem vv_if_ne {β : Type} {l : Launch} {fo al : Bool} {ek : β → Option Value × Sg} {cc : ByteArray} {own mn : String} {nL fr lo : Nat} {rt : Option FieldType} {σ : Sg} {pc n : Nat} {L : List (Nat × Value)} {st : List Value} {bt bf : Option β} {x : Int32} {off : Int} {tgt : Nat} (hd : decode cc pc = .ok (.ifCond .ne off, 3)) (ht : (pc : Int) + off = (tgt : Int)) (hn : pc + 3 = n) (kt : VC l fo al ek cc own mn nL fr lo rt σ tgt L st bt) (kf : VC l fo al ek cc own mn nL fr lo rt σ n L st bf) : VC l fo al ek cc own mn nL fr lo rt σ pc L (.int x :: st) (if x = 0 then bf else bt) := by
  by_cases h : x = 0
  · rw [if_pos h]; exact VC.go (fun hM hL _ k => by subst hn; exact lv_if_ne hM.1 hM.2.1 hd ht (fun q => absurd h q) (fun _ => k)) kf
  · rw [if_neg h]; exact VC.go (fun hM hL _ k => by subst hn; exact lv_if_ne hM.1 hM.2.1 hd ht (fun _ => k) (fun q => absurd q h)) kt
theorem vv_icmp_ne {β : Type} {l : Launch} {fo al : Bool} {ek : β → Option Value × Sg} {cc : ByteArray} {own mn : String} {nL fr lo : Nat} {rt : Option FieldType} {σ : Sg} {pc n : Nat} {L : List (Nat × Value)} {st : List Value} {bt bf : Option β} {x y : Int32} {off : Int} {tgt : Nat} (hd : decode cc pc = .ok (.if_icmp .ne off, 3)) (ht : (pc : Int) + off = (tgt : Int)) (hn : pc + 3 = n) (kt : VC l fo al ek cc own mn nL fr lo rt σ tgt L st bt) (kf : VC l fo al ek cc own mn nL fr lo rt σ n L st bf) : VC l fo al ek cc own mn nL fr lo rt σ pc L (.int y :: .int x :: st) (if x = y then bf else bt) := by
  by_cases h : x = y
  · rw [if_pos h]; exact VC.go (fun hM hL _ k => by subst hn; exact lv_icmp_ne hM.1 hM.2.1 hd ht (fun q => absurd h q) (fun _ => k)) kf
  · rw [if_neg h]; exact VC.go (fun hM hL _ k => by subst hn; exact lv_icmp_ne hM.1 hM.2.1 hd ht (fun _ => k) (fun q => absurd q h)) kt
theorem vv_if_lt {β : Type} {l : Launch} {fo al : Bool} {ek : β → Option Value × Sg} {cc : ByteArray} {own mn : String} {nL fr lo : Nat} {rt : Option FieldType} {σ : Sg} {pc n : Nat} {L : List (Nat × Value)} {st : List Value} {bt bf : Option β} {x : Int32} {off : Int} {tgt : Nat} (hd : decode cc pc = .ok (.ifCond .lt off, 3)) (ht : (pc : Int) + off = (tgt : Int)) (hn : pc + 3 = n) (kt : VC l fo al ek cc own mn nL fr lo rt σ tgt L st bt) (kf : VC l fo al ek cc own mn nL fr lo rt σ n L st bf) : VC l fo al ek cc own mn nL fr lo rt σ pc L (.int x :: st) (if x < 0 then bt else bf) := by
  by_cases h : x < 0
  · rw [if_pos h]; exact VC.go (fun hM hL _ k => by subst hn; exact lv_if_lt hM.1 hM.2.1 hd ht (fun _ => k) (fun q => absurd h q)) kt
  · rw [if_neg h]; exact VC.go (fun hM hL _ k => by subst hn; exact lv_if_lt hM.1 hM.2.1 hd ht (fun q => absurd q h) (fun _ => k)) kf
theorem vv_icmp_lt {β : Type} {l : Launch} {fo al : Bool} {ek : β → Option Value × Sg} {cc : ByteArray} {own mn : String} {nL fr lo : Nat} {rt : Option FieldType} {σ : Sg} {pc n : Nat} {L : List (Nat × Value)} {st : List Value} {bt bf : Option β} {x y : Int32} {off : Int} {tgt : Nat} (hd : decode cc pc = .ok (.if_icmp .lt off, 3)) (ht : (pc : Int) + off = (tgt : Int)) (hn : pc + 3 = n) (kt : VC l fo al ek cc own mn nL fr lo rt σ tgt L st bt) (kf : VC l fo al ek cc own mn nL fr lo rt σ n L st bf) : VC l fo al ek cc own mn nL fr lo rt σ pc L (.int y :: .int x :: st) (if x < y then bt else bf) := by
  by_cases h : x < y
  · rw [if_pos h]; exact VC.go (fun hM hL _ k => by subst hn; exact lv_icmp_lt hM.1 hM.2.1 hd ht (fun _ => k) (fun q => absurd h q)) kt
  · rw [if_neg h]; exact VC.go (fun hM hL _ k => by subst hn; exact lv_icmp_lt hM.1 hM.2.1 hd ht (fun q => absurd q h) (fun _ => k)) kf
theorem vv_if_ge {β : Type} {l : Launch} {fo al : Bool} {ek : β → Option Value × Sg} {cc : ByteArray} {own mn : String} {nL fr lo : Nat} {rt : Option FieldType} {σ : Sg} {pc n : Nat} {L : List (Nat × Value)} {st : List Value} {bt bf : Option β} {x : Int32} {off : Int} {tgt : Nat} (hd : decode cc pc = .ok (.ifCond .ge off, 3)) (ht : (pc : Int) + off = (tgt : Int)) (hn : pc + 3 = n) (kt : VC l fo al ek cc own mn nL fr lo rt σ tgt L st bt) (kf : VC l fo al ek cc own mn nL fr lo rt σ n L st bf) : VC l fo al ek cc own mn nL fr lo rt σ pc L (.int x :: st) (if 0 ≤ x then bt else bf) := by
  by_cases h : 0 ≤ x
  · rw [if_pos h]; exact VC.go (fun hM hL _ k => by subst hn; exact lv_if_ge hM.1 hM.2.1 hd ht (fun _ => k) (fun q => absurd h q)) kt
  · rw [if_neg h]; exact VC.go (fun hM hL _ k => by subst hn; exact lv_if_ge hM.1 hM.2.1 hd ht (fun q => absurd q h) (fun _ => k)) kf
theorem vv_icmp_ge {β : Type} {l : Launch} {fo al : Bool} {ek : β → Option Value × Sg} {cc : ByteArray} {own mn : String} {nL fr lo : Nat} {rt : Option FieldType} {σ : Sg} {pc n : Nat} {L : List (Nat × Value)} {st : List Value} {bt bf : Option β} {x y : Int32} {off : Int} {tgt : Nat} (hd : decode cc pc = .ok (.if_icmp .ge off, 3)) (ht : (pc : Int) + off = (tgt : Int)) (hn : pc + 3 = n) (kt : VC l fo al ek cc own mn nL fr lo rt σ tgt L st bt) (kf : VC l fo al ek cc own mn nL fr lo rt σ n L st bf) : VC l fo al ek cc own mn nL fr lo rt σ pc L (.int y :: .int x :: st) (if y ≤ x then bt else bf) := by
  by_cases h : y ≤ x
  · rw [if_pos h]; exact VC.go (fun hM hL _ k => by subst hn; exact lv_icmp_ge hM.1 hM.2.1 hd ht (fun _ => k) (fun q => absurd h q)) kt
  · rw [if_neg h]; exact VC.go (fun hM hL _ k => by subst hn; exact lv_icmp_ge hM.1 hM.2.1 hd ht (fun q => absurd q h) (fun _ => k)) kf
theorem vv_if_gt {β : Type} {l : Launch} {fo al : Bool} {ek : β → Option Value × Sg} {cc : ByteArray} {own mn : String} {nL fr lo : Nat} {rt : Option FieldType} {σ : Sg} {pc n : Nat} {L : List (Nat × Value)} {st : List Value} {bt bf : Option β} {x : Int32} {off : Int} {tgt : Nat} (hd : decode cc pc = .ok (.ifCond .gt off, 3)) (ht : (pc : Int) + off = (tgt : Int)) (hn : pc + 3 = n) (kt : VC l fo al ek cc own mn nL fr lo rt σ tgt L st bt) (kf : VC l fo al ek cc own mn nL fr lo rt σ n L st bf) : VC l fo al ek cc own mn nL fr lo rt σ pc L (.int x :: st) (if 0 < x then bt else bf) := by
  by_cases h : 0 < x
  · rw [if_pos h]; exact VC.go (fun hM hL _ k => by subst hn; exact lv_if_gt hM.1 hM.2.1 hd ht (fun _ => k) (fun q => absurd h q)) kt
  · rw [if_neg h]; exact VC.go (fun hM hL _ k => by subst hn; exact lv_if_gt hM.1 hM.2.1 hd ht (fun q => absurd q h) (fun _ => k)) kf
theorem vv_icmp_gt {β : Type} {l : Launch} {fo al : Bool} {ek : β → Option Value × Sg} {cc : ByteArray} {own mn : String} {nL fr lo : Nat} {rt : Option FieldType} {σ : Sg} {pc n : Nat} {L : List (Nat × Value)} {st : List Value} {bt bf : Option β} {x y : Int32} {off : Int} {tgt : Nat} (hd : decode cc pc = .ok (.if_icmp .gt off, 3)) (ht : (pc : Int) + off = (tgt : Int)) (hn : pc + 3 = n) (kt : VC l fo al ek cc own mn nL fr lo rt σ tgt L st bt) (kf : VC l fo al ek cc own mn nL fr lo rt σ n L st bf) : VC l fo al ek cc own mn nL fr lo rt σ pc L (.int y :: .int x :: st) (if y < x then bt else bf) := by
  by_cases h : y < x
  · rw [if_pos h]; exact VC.go (fun hM hL _ k => by subst hn; exact lv_icmp_gt hM.1 hM.2.1 hd ht (fun _ => k) (fun q => absurd h q)) kt
  · rw [if_neg h]; exact VC.go (fun hM hL _ k => by subst hn; exact lv_icmp_gt hM.1 hM.2.1 hd ht (fun q => absurd q h) (fun _ => k)) kf
theorem vv_if_le {β : Type} {l : Launch} {fo al : Bool} {ek : β → Option Value × Sg} {cc : ByteArray} {own mn : String} {nL fr lo : Nat} {rt : Option FieldType} {σ : Sg} {pc n : Nat} {L : List (Nat × Value)} {st : List Value} {bt bf : Option β} {x : Int32} {off : Int} {tgt : Nat} (hd : decode cc pc = .ok (.ifCond .le off, 3)) (ht : (pc : Int) + off = (tgt : Int)) (hn : pc + 3 = n) (kt : VC l fo al ek cc own mn nL fr lo rt σ tgt L st bt) (kf : VC l fo al ek cc own mn nL fr lo rt σ n L st bf) : VC l fo al ek cc own mn nL fr lo rt σ pc L (.int x :: st) (if x ≤ 0 then bt else bf) := by
  by_cases h : x ≤ 0
  · rw [if_pos h]; exact VC.go (fun hM hL _ k => by subst hn; exact lv_if_le hM.1 hM.2.1 hd ht (fun _ => k) (fun q => absurd h q)) kt
  · rw [if_neg h]; exact VC.go (fun hM hL _ k => by subst hn; exact lv_if_le hM.1 hM.2.1 hd ht (fun q => absurd q h) (fun _ => k)) kf
theorem vv_icmp_le {β : Type} {l : Launch} {fo al : Bool} {ek : β → Option Value × Sg} {cc : ByteArray} {own mn : String} {nL fr lo : Nat} {rt : Option FieldType} {σ : Sg} {pc n : Nat} {L : List (Nat × Value)} {st : List Value} {bt bf : Option β} {x y : Int32} {off : Int} {tgt : Nat} (hd : decode cc pc = .ok (.if_icmp .le off, 3)) (ht : (pc : Int) + off = (tgt : Int)) (hn : pc + 3 = n) (kt : VC l fo al ek cc own mn nL fr lo rt σ tgt L st bt) (kf : VC l fo al ek cc own mn nL fr lo rt σ n L st bf) : VC l fo al ek cc own mn nL fr lo rt σ pc L (.int y :: .int x :: st) (if x ≤ y then bt else bf) := by
  by_cases h : x ≤ y
  · rw [if_pos h]; exact VC.go (fun hM hL _ k => by subst hn; exact lv_icmp_le hM.1 hM.2.1 hd ht (fun _ => k) (fun q => absurd h q)) kt
  · rw [if_neg h]; exact VC.go (fun hM hL _ k => by subst hn; exact lv_icmp_le hM.1 hM.2.1 hd ht (fun q => absurd q h) (fun _ => k)) kf
theorem vv_istore_n {β : Type} {l : Launch} {fo al : Bool} {ek : β → Option Value × Sg} {cc : ByteArray} {own mn : String} {nL fr lo : Nat} {rt : Option FieldType} {σ : Sg} {pc n : Nat} {L L' : List (Nat × Value)} {st : List Value} {body : Option β} {i : Fin 4} {x : Int32} (hd : decode cc pc = .ok (.istore_n i, 1)) (hn : pc + 1 = n) (hi : (i : Nat) < nL) (hl : ((i : Nat), Value.int x) :: L.filter (fun q => !(q.1 == (i : Nat)) && !(q.1 + 1 == (i : Nat) && q.2.category == 2)) = L') (kk : VC l fo al ek cc own mn nL fr lo rt σ n L' st body) : VC l fo al ek cc own mn nL fr lo rt σ pc L (.int x :: st) body :=
  VC.loc (fun hM hL _ k => by subst hn; exact lv_istore_n hM.1 hM.2.1 hd rfl hL hi (Lm_st1 hl) (fun ls' h => k ls' h)) kk
theorem vv_istore {β : Type} {l : Launch} {fo al : Bool} {ek : β → Option Value × Sg} {cc : ByteArray} {own mn : String} {nL fr lo : Nat} {rt : Option FieldType} {σ : Sg} {pc n : Nat} {L L' : List (Nat × Value)} {st : List Value} {body : Option β} {i : Nat} {x : Int32} (hd : decode cc pc = .ok (.istore i, 2)) (hn : pc + 2 = n) (hi : (i : Nat) < nL) (hl : ((i : Nat), Value.int x) :: L.filter (fun q => !(q.1 == (i : Nat)) && !(q.1 + 1 == (i : Nat) && q.2.category == 2)) = L') (kk : VC l fo al ek cc own mn nL fr lo rt σ n L' st body) : VC l fo al ek cc own mn nL fr lo rt σ pc L (.int x :: st) body :=
  VC.loc (fun hM hL _ k => by subst hn; exact lv_istore hM.1 hM.2.1 hd hL hi (Lm_st1 hl) (fun ls' h => k ls' h)) kk
theorem vv_lstore_n {β : Type} {l : Launch} {fo al : Bool} {ek : β → Option Value × Sg} {cc : ByteArray} {own mn : String} {nL fr lo : Nat} {rt : Option FieldType} {σ : Sg} {pc n : Nat} {L L' : List (Nat × Value)} {st : List Value} {body : Option β} {i : Fin 4} {x : Int64} (hd : decode cc pc = .ok (.lstore_n i, 1)) (hn : pc + 1 = n) (hi : (i : Nat) + 1 < nL) (hl : ((i : Nat), Value.long x) :: L.filter (fun q => !(q.1 == (i : Nat)) && (!(q.1 == (i : Nat) + 1) && !(q.1 + 1 == (i : Nat) && q.2.category == 2))) = L') (kk : VC l fo al ek cc own mn nL fr lo rt σ n L' st body) : VC l fo al ek cc own mn nL fr lo rt σ pc L (.long x :: st) body :=
  VC.loc (fun hM hL _ k => by subst hn; exact lv_lstore_n hM.1 hM.2.1 hd rfl hL hi (Lm_st2 hl) (fun ls' h => k ls' h)) kk
theorem vv_lstore {β : Type} {l : Launch} {fo al : Bool} {ek : β → Option Value × Sg} {cc : ByteArray} {own mn : String} {nL fr lo : Nat} {rt : Option FieldType} {σ : Sg} {pc n : Nat} {L L' : List (Nat × Value)} {st : List Value} {body : Option β} {i : Nat} {x : Int64} (hd : decode cc pc = .ok (.lstore i, 2)) (hn : pc + 2 = n) (hi : (i : Nat) + 1 < nL) (hl : ((i : Nat), Value.long x) :: L.filter (fun q => !(q.1 == (i : Nat)) && (!(q.1 == (i : Nat) + 1) && !(q.1 + 1 == (i : Nat) && q.2.category == 2))) = L') (kk : VC l fo al ek cc own mn nL fr lo rt σ n L' st body) : VC l fo al ek cc own mn nL fr lo rt σ pc L (.long x :: st) body :=
  VC.loc (fun hM hL _ k => by subst hn; exact lv_lstore hM.1 hM.2.1 hd hL hi (Lm_st2 hl) (fun ls' h => k ls' h)) kk
theorem vv_astore_n {β : Type} {l : Launch} {fo al : Bool} {ek : β → Option Value × Sg} {cc : ByteArray} {own mn : String} {nL fr lo : Nat} {rt : Option FieldType} {σ : Sg} {pc n : Nat} {L L' : List (Nat × Value)} {st : List Value} {body : Option β} {i : Fin 4} {x : Nat} (hd : decode cc pc = .ok (.astore_n i, 1)) (hn : pc + 1 = n) (hi : (i : Nat) < nL) (hl : ((i : Nat), Value.ref x) :: L.filter (fun q => !(q.1 == (i : Nat)) && !(q.1 + 1 == (i : Nat) && q.2.category == 2)) = L') (kk : VC l fo al ek cc own mn nL fr lo rt σ n L' st body) : VC l fo al ek cc own mn nL fr lo rt σ pc L (.ref x :: st) body :=
  VC.loc (fun hM hL _ k => by subst hn; exact lv_astore_n hM.1 hM.2.1 hd rfl hL hi (Lm_st1 hl) (fun ls' h => k ls' h)) kk
theorem vv_astore {β : Type} {l : Launch} {fo al : Bool} {ek : β → Option Value × Sg} {cc : ByteArray} {own mn : String} {nL fr lo : Nat} {rt : Option FieldType} {σ : Sg} {pc n : Nat} {L L' : List (Nat × Value)} {st : List Value} {body : Option β} {i : Nat} {x : Nat} (hd : decode cc pc = .ok (.astore i, 2)) (hn : pc + 2 = n) (hi : (i : Nat) < nL) (hl : ((i : Nat), Value.ref x) :: L.filter (fun q => !(q.1 == (i : Nat)) && !(q.1 + 1 == (i : Nat) && q.2.category == 2)) = L') (kk : VC l fo al ek cc own mn nL fr lo rt σ n L' st body) : VC l fo al ek cc own mn nL fr lo rt σ pc L (.ref x :: st) body :=
  VC.loc (fun hM hL _ k => by subst hn; exact lv_astore hM.1 hM.2.1 hd hL hi (Lm_st1 hl) (fun ls' h => k ls' h)) kk
theorem vv_astore_nN {β : Type} {l : Launch} {fo al : Bool} {ek : β → Option Value × Sg} {cc : ByteArray} {own mn : String} {nL fr lo : Nat} {rt : Option FieldType} {σ : Sg} {pc n : Nat} {L L' : List (Nat × Value)} {st : List Value} {body : Option β} {i : Fin 4} (hd : decode cc pc = .ok (.astore_n i, 1)) (hn : pc + 1 = n) (hi : (i : Nat) < nL) (hl : ((i : Nat), Value.null) :: L.filter (fun q => !(q.1 == (i : Nat)) && !(q.1 + 1 == (i : Nat) && q.2.category == 2)) = L') (kk : VC l fo al ek cc own mn nL fr lo rt σ n L' st body) : VC l fo al ek cc own mn nL fr lo rt σ pc L (.null :: st) body :=
  VC.loc (fun hM hL _ k => by subst hn; exact lv_astore_nN hM.1 hM.2.1 hd rfl hL hi (Lm_st1 hl) (fun ls' h => k ls' h)) kk
theorem vv_astoreN {β : Type} {l : Launch} {fo al : Bool} {ek : β → Option Value × Sg} {cc : ByteArray} {own mn : String} {nL fr lo : Nat} {rt : Option FieldType} {σ : Sg} {pc n : Nat} {L L' : List (Nat × Value)} {st : List Value} {body : Option β} {i : Nat} (hd : decode cc pc = .ok (.astore i, 2)) (hn : pc + 2 = n) (hi : (i : Nat) < nL) (hl : ((i : Nat), Value.null) :: L.filter (fun q => !(q.1 == (i : Nat)) && !(q.1 + 1 == (i : Nat) && q.2.category == 2)) = L') (kk : VC l fo al ek cc own mn nL fr lo rt σ n L' st body) : VC l fo al ek cc own mn nL fr lo rt σ pc L (.null :: st) body :=
  VC.loc (fun hM hL _ k => by subst hn; exact lv_astoreN hM.1 hM.2.1 hd hL hi (Lm_st1 hl) (fun ls' h => k ls' h)) kk
theorem vv_iinc {β : Type} {l : Launch} {fo al : Bool} {ek : β → Option Value × Sg} {cc : ByteArray} {own mn : String} {nL fr lo : Nat} {rt : Option FieldType} {σ : Sg} {pc n : Nat} {L L' : List (Nat × Value)} {st : List Value} {body : Option β} {i : Nat} {d : Int} {x v : Int32} (hd : decode cc pc = .ok (.iinc i d, 3)) (hn : pc + 3 = n) (j : Nat) (hj : L[j]? = some (i, .int x)) (hv : Int32.ofInt d = v) (hi : i < nL) (hl : (i, Value.int (x + v)) :: L.filter (fun q => !(q.1 == (i : Nat)) && !(q.1 + 1 == (i : Nat) && q.2.category == 2)) = L') (kk : VC l fo al ek cc own mn nL fr lo rt σ n L' st body) : VC l fo al ek cc own mn nL fr lo rt σ pc L st body :=
  VC.loc (fun hM hL _ k => by subst hn; subst hv; exact lv_iinc hM.1 hM.2.1 hd hL (k := j) (Lm_get hj) rfl hi (Lm_st1 hl) (fun ls' h => k ls' h)) kk
/-- the body names a value -/
theorem vv_let {β γ : Type} {l : Launch} {fo al : Bool} {ek : β → Option Value × Sg} {cc : ByteArray} {own mn : String} {nL fr lo : Nat} {rt : Option FieldType} {σ : Sg} {pc : Nat} {L : γ → List (Nat × Value)} {st : γ → List Value} {e : γ} {f : γ → Option β}
    (kk : ∀ x, VC l fo al ek cc own mn nL fr lo rt σ pc (L x) (st x) (f x)) : VC l fo al ek cc own mn nL fr lo rt σ pc (L e) (st e) (lt_ e f) := kk e
/-- a reference that may be null is asked not to be -/
theorem vv_nn {β γ : Type} {l : Launch} {fo al : Bool} {ek : β → Option Value × Sg} {cc : ByteArray} {own mn : String} {nL fr lo : Nat} {rt : Option FieldType} {σ : Sg} {pc : Nat} {L : List (Nat × Value)} {st : List Value} {r : Option γ} {f : γ → Option β}
    (kk : ∀ i, r = some i → VC l fo al ek cc own mn nL fr lo rt σ pc L st (f i)) : VC l fo al ek cc own mn nL fr lo rt σ pc L st (r.bind f) := by
  cases r with
  | none => exact VC.non
  | some i => exact kk i rfl
/-- the body asks a condition -/
theorem vv_ask {β : Type} {l : Launch} {fo al : Bool} {ek : β → Option Value × Sg} {cc : ByteArray} {own mn : String} {nL fr lo : Nat} {rt : Option FieldType} {σ : Sg} {pc : Nat} {L : List (Nat × Value)} {st : List Value} {P : Prop} [Decidable P] {body : Option β}
    (kk : P → VC l fo al ek cc own mn nL fr lo rt σ pc L st body) : VC l fo al ek cc own mn nL fr lo rt σ pc L st (if P then body else none) := by
  by_cases h : P
  · rw [if_pos h]; exact kk h
  · rw [if_neg h]; exact VC.non
/-- ifnull, ifnonnull on a reference that may be null -/
def ox {β : Type} (r : Option Nat) (a : β) (f : Nat → β) : β := match r with
  | none => a
  | some i => f i
theorem vv_ifnull {β : Type} {l : Launch} {fo al : Bool} {ek : β → Option Value × Sg} {cc : ByteArray} {own mn : String} {nL fr lo : Nat} {rt : Option FieldType} {σ : Sg} {pc n tgt : Nat} {L : List (Nat × Value)} {st : List Value} {r : Option Nat} {bt : Option β} {bf : Nat → Option β} {off : Int}
    (hd : decode cc pc = .ok (.ifnull off, 3)) (ht : (pc : Int) + off = (tgt : Int)) (hn : pc + 3 = n) (kt : r = none → VC l fo al ek cc own mn nL fr lo rt σ tgt L st bt) (kf : ∀ i, r = some i → VC l fo al ek cc own mn nL fr lo rt σ n L st (bf i)) : VC l fo al ek cc own mn nL fr lo rt σ pc L (va_rf r :: st) (ox r bt bf) := by
  cases r with
  | none => exact VC.go (fun hM hL _ k => lv_ifnullN hM.1 hM.2.1 hd ht k) (kt rfl)
  | some i => exact VC.go (fun hM hL _ k => by subst hn; exact lv_ifnull hM.1 hM.2.1 hd k) (kf i rfl)
theorem vv_ifnonnull {β : Type} {l : Launch} {fo al : Bool} {ek : β → Option Value × Sg} {cc : ByteArray} {own mn : String} {nL fr lo : Nat} {rt : Option FieldType} {σ : Sg} {pc n tgt : Nat} {L : List (Nat × Value)} {st : List Value} {r : Option Nat} {bf : Option β} {bt : Nat → Option β} {off : Int}
    (hd : decode cc pc = .ok (.ifnonnull off, 3)) (ht : (pc : Int) + off = (tgt : Int)) (hn : pc + 3 = n) (kf : r = none → VC l fo al ek cc own mn nL fr lo rt σ n L st bf) (kt : ∀ i, r = some i → VC l fo al ek cc own mn nL fr lo rt σ tgt L st (bt i)) : VC l fo al ek cc own mn nL fr lo rt σ pc L (va_rf r :: st) (ox r bf bt) := by
  cases r with
  | none => exact VC.go (fun hM hL _ k => by subst hn; exact lv_ifnonnullN hM.1 hM.2.1 hd k) (kf rfl)
  | some i => exact VC.go (fun hM hL _ k => lv_ifnonnull hM.1 hM.2.1 hd ht k) (kt i rfl)
theorem vv_aloadq_n {β : Type} {l : Launch} {fo al : Bool} {ek : β → Option Value × Sg} {cc : ByteArray} {own mn : String} {nL fr lo : Nat} {rt : Option FieldType} {σ : Sg} {pc n : Nat} {L : List (Nat × Value)} {st : List Value} {body : Option β} {i : Fin 4} {r : Option Nat}
    (hd : decode cc pc = .ok (.aload_n i, 1)) (hn : pc + 1 = n) (j : Nat) (hl : L[j]? = some ((i : Nat), va_rf r)) (kk : VC l fo al ek cc own mn nL fr lo rt σ n L (va_rf r :: st) body) : VC l fo al ek cc own mn nL fr lo rt σ pc L st body := by
  cases r with
  | none => exact VC.go (fun hM hL _ k => by subst hn; exact lv_aload_nN hM.1 hM.2.1 hd rfl (Lm_at hL hl) k) kk
  | some x => exact VC.go (fun hM hL _ k => by subst hn; exact lv_aload_n hM.1 hM.2.1 hd rfl (Lm_at hL hl) k) kk
theorem vv_aloadq {β : Type} {l : Launch} {fo al : Bool} {ek : β → Option Value × Sg} {cc : ByteArray} {own mn : String} {nL fr lo : Nat} {rt : Option FieldType} {σ : Sg} {pc n : Nat} {L : List (Nat × Value)} {st : List Value} {body : Option β} {i : Nat} {r : Option Nat}
    (hd : decode cc pc = .ok (.aload i, 2)) (hn : pc + 2 = n) (j : Nat) (hl : L[j]? = some (i, va_rf r)) (kk : VC l fo al ek cc own mn nL fr lo rt σ n L (va_rf r :: st) body) : VC l fo al ek cc own mn nL fr lo rt σ pc L st body := by
  cases r with
  | none => exact VC.go (fun hM hL _ k => by subst hn; exact lv_aloadN hM.1 hM.2.1 hd (Lm_at hL hl) k) kk
  | some x => exact VC.go (fun hM hL _ k => by subst hn; exact lv_aload hM.1 hM.2.1 hd (Lm_at hL hl) k) kk
theorem vv_astoreq_n {β : Type} {l : Launch} {fo al : Bool} {ek : β → Option Value × Sg} {cc : ByteArray} {own mn : String} {nL fr lo : Nat} {rt : Option FieldType} {σ : Sg} {pc n : Nat} {L L' : List (Nat × Value)} {st : List Value} {body : Option β} {i : Fin 4} {r : Option Nat}
    (hd : decode cc pc = .ok (.astore_n i, 1)) (hn : pc + 1 = n) (hi : (i : Nat) < nL) (hl : ((i : Nat), va_rf r) :: L.filter (fun q => !(q.1 == (i : Nat)) && !(q.1 + 1 == (i : Nat) && q.2.category == 2)) = L') (kk : VC l fo al ek cc own mn nL fr lo rt σ n L' st body) : VC l fo al ek cc own mn nL fr lo rt σ pc L (va_rf r :: st) body := by
  cases r with
  | none => exact vv_astore_nN hd hn hi hl kk
  | some x => exact vv_astore_n hd hn hi hl kk
theorem vv_astoreq {β : Type} {l : Launch} {fo al : Bool} {ek : β → Option Value × Sg} {cc : ByteArray} {own mn : String} {nL fr lo : Nat} {rt : Option FieldType} {σ : Sg} {pc n : Nat} {L L' : List (Nat × Value)} {st : List Value} {body : Option β} {i : Nat} {r : Option Nat}
    (hd : decode cc pc = .ok (.astore i, 2)) (hn : pc + 2 = n) (hi : i < nL) (hl : (i, va_rf r) :: L.filter (fun q => !(q.1 == i) && !(q.1 + 1 == i && q.2.category == 2)) = L') (kk : VC l fo al ek cc own mn nL fr lo rt σ n L' st body) : VC l fo al ek cc own mn nL fr lo rt σ pc L (va_rf r :: st) body := by
  cases r with
  | none => exact vv_astoreN hd hn hi hl kk
  | some x => exact vv_astore hd hn hi hl kk
/-- the end of a method -/
theorem vv_ret {β : Type} {l : Launch} {fo al : Bool} {ek : β → Option Value × Sg} {cc : ByteArray} {own mn : String} {nL fr lo : Nat} {rt : Option FieldType} {σ : Sg} {pc : Nat} {L : List (Nat × Value)} {r : Option Value} {b : β}
    (hd : rtD cc pc r) (hb : ek b = (r, σ)) (hr : rtOk rt r) : VC l fo al ek cc own mn nL fr lo rt σ pc L (rtS r) (some b) := by
  intro b' e hok
  cases e
  rw [hb]
  refine ⟨⟨hok, Up.rf _, fun _ => rfl⟩, ?_⟩
  intro D cA E A p e R s m args below meth c Q c0 z0 ad0 n0 hM hgs hc hz hret ad H locs cells slots ls hW hcc hzz hL
  exact hret ad pc ls H locs cells slots hL.1 hd hr hW hcc hzz
/-- a throw: the `new` of entry k -/
theorem vv_thr {β : Type} {l : Launch} {fo al : Bool} {ek : β → Option Value × Sg} {cc : ByteArray} {own mn : String} {nL fr lo : Nat} {rt : Option FieldType} {σ : Sg} {pc : Nat} {L : List (Nat × Value)} {k : UInt32} {b : β}
    (hd : decode cc pc = .ok (.new k.toNat, 3)) (d3 : decode cc (pc + 3) = .ok (.dup, 1)) (d4 : decode cc (pc + 4) = .ok (.invokespecial 303, 3)) (d7 : decode cc (pc + 7) = .ok (.athrow, 1)) (hb : ek b = (some (.float k), σ)) : VC l fo al ek cc own mn nL fr lo rt σ pc L [] (some b) := vv_ret (r := some (.float k)) ⟨hd, d3, d4, d7⟩ hb trivial
theorem vv_iret {β : Type} {l : Launch} {fo al : Bool} {ek : β → Option Value × Sg} {cc : ByteArray} {own mn : String} {nL fr lo : Nat} {σ : Sg} {pc : Nat} {L : List (Nat × Value)} {v : Int32} {b : β}
    (hd : decode cc pc = .ok (.ireturn, 1)) (hb : ek b = (some (.int v), σ)) : VC l fo al ek cc own mn nL fr lo (some .int) σ pc L [.int v] (some b) := vv_ret (r := some (.int v)) hd hb ⟨.int, rfl, rfl⟩
/-- a boolean answer: the body asks that it is 0 or 1 -/
def zr {β : Type} (v : Int32) (b : β) : Option β := if v = 0 ∨ v = 1 then some b else none
theorem vv_zret {β : Type} {l : Launch} {fo al : Bool} {ek : β → Option Value × Sg} {cc : ByteArray} {own mn : String} {nL fr lo : Nat} {σ : Sg} {pc : Nat} {L : List (Nat × Value)} {v : Int32} {b : β}
    (hd : decode cc pc = .ok (.ireturn, 1)) (hb : ek b = (some (.int v), σ)) : VC l fo al ek cc own mn nL fr lo (some .boolean) σ pc L [.int v] (zr v b) := by
  refine vv_ask (fun h => vv_ret (r := some (.int v)) hd hb ⟨.boolean, rfl, ?_⟩)
  rcases h with h | h <;> rw [h] <;> rfl
theorem vv_zret1 {β : Type} {l : Launch} {fo al : Bool} {ek : β → Option Value × Sg} {cc : ByteArray} {own mn : String} {nL fr lo : Nat} {σ : Sg} {pc : Nat} {L : List (Nat × Value)} {v : Int32} {b : β}
    (hd : decode cc pc = .ok (.ireturn, 1)) (hb : ek b = (some (.int v), σ)) (hv : narrow .boolean (.int v) = .int v) : VC l fo al ek cc own mn nL fr lo (some .boolean) σ pc L [.int v] (some b) := vv_ret (r := some (.int v)) hd hb ⟨.boolean, rfl, hv⟩
theorem vv_lret {β : Type} {l : Launch} {fo al : Bool} {ek : β → Option Value × Sg} {cc : ByteArray} {own mn : String} {nL fr lo : Nat} {σ : Sg} {pc : Nat} {L : List (Nat × Value)} {v : Int64} {b : β}
    (hd : decode cc pc = .ok (.lreturn, 1)) (hb : ek b = (some (.long v), σ)) : VC l fo al ek cc own mn nL fr lo (some .long) σ pc L [.long v] (some b) := vv_ret (r := some (.long v)) hd hb rfl
theorem vv_vret {β : Type} {l : Launch} {fo al : Bool} {ek : β → Option Value × Sg} {cc : ByteArray} {own mn : String} {nL fr lo : Nat} {σ : Sg} {pc : Nat} {L : List (Nat × Value)} {b : β}
    (hd : decode cc pc = .ok (.return_, 1)) (hb : ek b = (none, σ)) : VC l fo al ek cc own mn nL fr lo none σ pc L [] (some b) := vv_ret (r := none) hd hb rfl
theorem vv_aretq {β : Type} {l : Launch} {fo al : Bool} {ek : β → Option Value × Sg} {cc : ByteArray} {own mn : String} {nL fr lo : Nat} {σ : Sg} {pc : Nat} {L : List (Nat × Value)} {r : Option Nat} {C : String} {b : β}
    (hd : decode cc pc = .ok (.areturn, 1)) (hb : ek b = (some (va_rf r), σ)) : VC l fo al ek cc own mn nL fr lo (some (.object C)) σ pc L [va_rf r] (some b) := by
  cases r with
  | none => exact vv_ret (r := some .null) hd hb ⟨_, rfl, Or.inl ⟨C, rfl⟩⟩
  | some i => exact vv_ret (r := some (.ref i)) hd hb ⟨_, rfl, Or.inl ⟨C, rfl⟩⟩
theorem vv_nn0 {β : Type} {l : Launch} {fo al : Bool} {ek : β → Option Value × Sg} {cc : ByteArray} {own mn : String} {nL fr lo : Nat} {rt : Option FieldType} {σ : Sg} {pc : Nat} {L : List (Nat × Value)} {st : List Value} {r : Option Nat} {f : Nat → Option β}
    (kk : ∀ i, r = some i → VC l fo al ek cc own mn nL fr lo rt σ pc L (.ref i :: st) (f i)) : VC l fo al ek cc own mn nL fr lo rt σ pc L (va_rf r :: st) (r.bind f) := by
  cases r with
  | none => exact VC.non
  | some i => exact kk i rfl
theorem vv_nn1 {β : Type} {l : Launch} {fo al : Bool} {ek : β → Option Value × Sg} {cc : ByteArray} {own mn : String} {nL fr lo : Nat} {rt : Option FieldType} {σ : Sg} {pc : Nat} {L : List (Nat × Value)} {a : Value} {st : List Value} {r : Option Nat} {f : Nat → Option β}
    (kk : ∀ i, r = some i → VC l fo al ek cc own mn nL fr lo rt σ pc L (a :: .ref i :: st) (f i)) : VC l fo al ek cc own mn nL fr lo rt σ pc L (a :: va_rf r :: st) (r.bind f) := by
  cases r with
  | none => exact VC.non
  | some i => exact kk i rfl
theorem vv_nn2 {β : Type} {l : Launch} {fo al : Bool} {ek : β → Option Value × Sg} {cc : ByteArray} {own mn : String} {nL fr lo : Nat} {rt : Option FieldType} {σ : Sg} {pc : Nat} {L : List (Nat × Value)} {a b : Value} {st : List Value} {r : Option Nat} {f : Nat → Option β}
    (kk : ∀ i, r = some i → VC l fo al ek cc own mn nL fr lo rt σ pc L (a :: b :: .ref i :: st) (f i)) : VC l fo al ek cc own mn nL fr lo rt σ pc L (a :: b :: va_rf r :: st) (r.bind f) := by
  cases r with
  | none => exact VC.non
  | some i => exact kk i rfl
theorem vv_nn3 {β : Type} {l : Launch} {fo al : Bool} {ek : β → Option Value × Sg} {cc : ByteArray} {own mn : String} {nL fr lo : Nat} {rt : Option FieldType} {σ : Sg} {pc : Nat} {L : List (Nat × Value)} {a b c : Value} {st : List Value} {r : Option Nat} {f : Nat → Option β}
    (kk : ∀ i, r = some i → VC l fo al ek cc own mn nL fr lo rt σ pc L (a :: b :: c :: .ref i :: st) (f i)) : VC l fo al ek cc own mn nL fr lo rt σ pc L (a :: b :: c :: va_rf r :: st) (r.bind f) := by
  cases r with
  | none => exact VC.non
  | some i => exact kk i rfl
theorem vv_nn4 {β : Type} {l : Launch} {fo al : Bool} {ek : β → Option Value × Sg} {cc : ByteArray} {own mn : String} {nL fr lo : Nat} {rt : Option FieldType} {σ : Sg} {pc : Nat} {L : List (Nat × Value)} {a b c d : Value} {st : List Value} {r : Option Nat} {f : Nat → Option β}
    (kk : ∀ i, r = some i → VC l fo al ek cc own mn nL fr lo rt σ pc L (a :: b :: c :: d :: .ref i :: st) (f i)) : VC l fo al ek cc own mn nL fr lo rt σ pc L (a :: b :: c :: d :: va_rf r :: st) (r.bind f) := by
  cases r with
  | none => exact VC.non
  | some i => exact kk i rfl
/-! fields -/
def fdv (c : Nat) (ad : Nat → Nat) (fI : Nat → Int32) (fR : Nat → Option Nat) (j : Nat) : Value := if rfk c j then va_rf ((fR j).map ad) else .int (fI j)
theorem cel_obj {cA : Nat → ClassId} {ad : Nat → Nat} {σ : Sg} {i c N : Nat} (h : gK σ i = (c + 5, N)) : celE cA ad σ i = .inr (c, (List.range N).map (fdv c ad (gI σ i) (gR σ i))) := by
  unfold celE
  rw [h]
  rfl
theorem rmap_at {α : Type} {f : Nat → α} {N k : Nat} (h : k < N) : ((List.range N).map f)[k]? = some (f k) := by
  rw [List.getElem?_map, List.getElem?_range h]
  rfl
theorem rmap_set {α : Type} {f g : Nat → α} {N k : Nat} (ho : ∀ j, j ≠ k → g j = f j) : ((List.range N).map f).set k (g k) = (List.range N).map g := by
  apply List.ext_getElem?
  intro j
  rw [List.getElem?_set, List.length_map, List.length_range]
  by_cases h : k = j
  · subst h
    rw [if_pos rfl]
    by_cases hk : k < N
    · rw [if_pos hk, rmap_at hk]
    · rw [if_neg hk, List.getElem?_eq_none (by rw [List.length_map, List.length_range]; omega)]
  · rw [if_neg h, List.getElem?_map, List.getElem?_map]
    cases hr : (List.range N)[j]? with
    | none => rfl
    | some x =>
      have hx : x = j := by
        by_cases hj : j < N
        · rw [List.getElem?_range hj] at hr; exact (Option.some.inj hr).symm
        · rw [List.getElem?_eq_none (by rw [List.length_range]; omega)] at hr; cases hr
      subst hx
      show some (f x) = some (g x)
      rw [ho x (fun q => h q.symm)]
def CD (ci : Nat) (C : String) (T : u_T) (N : Nat) : Prop := vwCl[ci]? = some (C, T, N) ∧ ∀ w ∈ u_ws C T N, w ∈ lw_all
def CP (T : u_T) (N : Nat) (ty : Nat → FieldType) : Prop := (∀ k, k < N → parseFieldDescriptor (T k).2.2.1 = some (ty k)) ∧ ∀ a, a < N → ∀ b, b < N → a ≠ b → (T a).2.1 ≠ (T b).2.1
/-- a field's link: its own class's, or a nest mate's -/
def FL (own : String) (idx : Nat) (O n d : String) : Prop := Cond.fieldLink own idx O n d ∈ lw_all ∨ ∃ host, Cond.fieldLinkNest own idx O n d host ∈ lw_tbl
section VCF
variable {β : Type} {l : Launch} {fo al : Bool} {ek : β → Option Value × Sg} {cc : ByteArray} {own mn : String} {nL fr lo : Nat} {rt : Option FieldType} {σ : Sg} {pc n : Nat} {L : List (Nat × Value)} {st : List Value} {body : Option β}
theorem VC.rd {v : Value} {ci i k N idx : Nat} {C : String} {T : u_T} (hcd : CD ci C T N) (hk : k < N) (hK : Ok fo σ → gK σ i = (ci + 5, N) ∧ i < gN σ) (hl : FL own idx (T k).1 (T k).2.1 (T k).2.2.1)
    (hd : decode cc pc = .ok (.getfield idx, 3)) (hn : pc + 3 = n) (hv : Ok fo σ → ∀ (E : Ex) (ad : Nat → Nat), iv E ad v = fdv ci ad (gI σ i) (gR σ i) k) (kk : VC l fo al ek cc own mn nL fr lo rt σ n L (v :: st) body) : VC l fo al ek cc own mn nL fr lo rt σ pc L (.ref i :: st) body := by
  intro b hb hok
  obtain ⟨h1, h2⟩ := kk b hb hok
  refine ⟨h1, ?_⟩
  intro D cA E A p e R s m args below meth c Q c0 z0 ad0 n0 hM hgs hc hz hret ad H locs cells slots ls hW hcc hzz hL
  have k2 := h2 D cA E A p e R s m args below meth c Q c0 z0 ad0 n0 hM hgs hc hz hret ad H locs cells slots ls hW hcc hzz hL
  obtain ⟨hx, hb2, hml, hown, hts, hlk, hKK, hN, -⟩ := hM
  obtain ⟨kk1, kk2⟩ := hK hok
  have he : (wsE cA ad σ)[i]? = some (ad i, .inr (ci, (List.range N).map (fdv ci ad (gI σ i) (gR σ i)))) := by rw [wsE_at kk2, cel_obj kk1]
  have hv2 : ((List.range N).map (fdv ci ad (gI σ i) (gR σ i)))[k]? = some (iv E ad v) := by rw [rmap_at hk, hv hok E ad]
  subst hn
  rcases hl with hl | ⟨host, hl⟩
  · exact va_get hx hb2 hts hcd.2 hown hKK hW.1 i he hcd.1 k hk (hts _ hl) (fun _ h9 => h9) hv2 hd k2
  · exact va_getN hx hb2 hts hcd.2 hown hKK hW.1 i he hcd.1 k hk (va_Nw.use rfl (hN.1 _ hl rfl)) (fun _ h9 => h9) hv2 hd k2
theorem vv_getI {ci i k N idx : Nat} {C : String} {T : u_T} (hcd : CD ci C T N) (hk : k < N) (hf : rfk ci k = false) (hK : Ok fo σ → gK σ i = (ci + 5, N) ∧ i < gN σ) (hl : FL own idx (T k).1 (T k).2.1 (T k).2.2.1)
    (hd : decode cc pc = .ok (.getfield idx, 3)) (hn : pc + 3 = n) (kk : VC l fo al ek cc own mn nL fr lo rt σ n L (.int (gI σ i k) :: st) body) : VC l fo al ek cc own mn nL fr lo rt σ pc L (.ref i :: st) body :=
  VC.rd hcd hk hK hl hd hn (fun _ _ ad => by unfold fdv; rw [hf]; rfl) kk
theorem vv_getR {ci i k N idx : Nat} {C : String} {T : u_T} (hcd : CD ci C T N) (hk : k < N) (hf : rfk ci k = true) (hK : Ok fo σ → gK σ i = (ci + 5, N) ∧ i < gN σ) (hl : FL own idx (T k).1 (T k).2.1 (T k).2.2.1)
    (hd : decode cc pc = .ok (.getfield idx, 3)) (hn : pc + 3 = n) (kk : VC l fo al ek cc own mn nL fr lo rt σ n L (va_rf (gR σ i k) :: st) body) : VC l fo al ek cc own mn nL fr lo rt σ pc L (.ref i :: st) body :=
  VC.rd hcd hk hK hl hd hn (fun _ _ ad => by unfold fdv; rw [hf, iv_rf]; rfl) kk
theorem vv_getS {ci i k N idx r : Nat} {C : String} {T : u_T} (hcd : CD ci C T N) (hk : k < N) (hf : rfk ci k = true) (hK : Ok fo σ → gK σ i = (ci + 5, N) ∧ i < gN σ) (hr : Ok fo σ → gR σ i k = some r) (hl : FL own idx (T k).1 (T k).2.1 (T k).2.2.1)
    (hd : decode cc pc = .ok (.getfield idx, 3)) (hn : pc + 3 = n) (kk : VC l fo al ek cc own mn nL fr lo rt σ n L (.ref r :: st) body) : VC l fo al ek cc own mn nL fr lo rt σ pc L (.ref i :: st) body :=
  VC.rd hcd hk hK hl hd hn (fun hok _ ad => by unfold fdv; rw [hf, hr hok]; rfl) kk
/-- a step that changes one cell -/
theorem VC.wr {τ : Sg} {ci i k N idx : Nat} {C : String} {T : u_T} {ty : Nat → FieldType} {v : Value} {fty : FieldType} (hcd : CD ci C T N) (hcp : CP T N ty) (hk : k < N) (hK : Ok fo σ → gK σ i = (ci + 5, N) ∧ i < gN σ) (hl : FL own idx (T k).1 (T k).2.1 (T k).2.2.1)
    (hfin : (T k).2.2.2 = false ∨ ((T k).2.2.2 = true ∧ mn = "<init>" ∧ (T k).1 = own ∧ Cond.fieldLink own idx (T k).1 (T k).2.1 (T k).2.2.1 ∈ lw_all)) (hp : parseFieldDescriptor (T k).2.2.1 = some fty) (hnw : ∀ (E : Ex) (ad : Nat → Nat), narrow fty (iv E ad v) = iv E ad v) (hft : ∀ (E : Ex) (ad : Nat → Nat), fits fty (iv E ad v) = true)
    (hτ : Ok fo σ → Ok fo τ) (hup : gC τ = gC σ ∧ gZ τ = gZ σ ∧ gN τ = gN σ ∧ gS τ = gS σ) (hself : ∀ (E : Ex) cA ad, gK σ i = (ci + 5, N) → celE cA ad τ i = .inr (ci, ((List.range N).map (fdv ci ad (gI σ i) (gR σ i))).set k (iv E ad v))) (hoth : ∀ cA ad j, j ≠ i → celE cA ad τ j = celE cA ad σ j)
    (hd : decode cc pc = .ok (.putfield idx, 3)) (hn : pc + 3 = n) (kk : VC l fo al ek cc own mn nL fr lo rt τ n L st body) : VC l fo al ek cc own mn nL fr lo rt σ pc L (v :: .ref i :: st) body := by
  intro b hb hok
  obtain ⟨⟨h1, u1, u2⟩, h2⟩ := kk b hb (hτ hok)
  obtain ⟨e1, e2, e3, e4⟩ := hup
  refine ⟨⟨h1, ⟨by rw [← e1]; exact u1.1, by rw [← e2]; exact u1.2.1, by rw [← e3]; exact u1.2.2.1, u1.2.2.2.trans e4⟩, fun h => (u2 h).trans e3⟩, ?_⟩
  intro D cA E A p e R s m args below meth c Q c0 z0 ad0 n0 hM hgs hc hz hret ad H locs cells slots ls hW hcc hzz hL
  have k2 := fun H1 locs1 w => h2 D cA E A p e R s m args below meth c Q c0 z0 ad0 n0 hM (e4.trans hgs) hc hz hret ad H1 locs1 cells slots ls w (e1.trans hcc) (e2.trans hzz) hL
  obtain ⟨hx, hb2, hml, hown, hts, hlk, hKK, hN, -, -, -, -, -, -, hmn, -⟩ := hM
  obtain ⟨kk1, kk2⟩ := hK hok
  obtain ⟨w1, w2, w3, w4, w5⟩ := hW
  have he : (wsE cA ad σ)[i]? = some (ad i, .inr (ci, (List.range N).map (fdv ci ad (gI σ i) (gR σ i)))) := by rw [wsE_at kk2, cel_obj kk1]
  have hlen : k < ((List.range N).map (fdv ci ad (gI σ i) (gR σ i))).length := by rw [List.length_map, List.length_range]; exact hk
  have hset : (wsE cA ad σ).set i (ad i, .inr (ci, ((List.range N).map (fdv ci ad (gI σ i) (gR σ i))).set k (iv E ad v))) = wsE cA ad τ := wsE_set kk2 e3 (hself E cA ad kk1) (hoth cA ad)
  subst hn
  have fin : ∀ (H1 : Heap) (locs1 : List Loc), va_P D vwCl ((wsE cA ad σ).set i (ad i, .inr (ci, ((List.range N).map (fdv ci ad (gI σ i) (gR σ i))).set k (iv E ad v)))) H1 → va_D A ((wsE cA ad σ).set i (ad i, .inr (ci, ((List.range N).map (fdv ci ad (gI σ i) (gR σ i))).set k (iv E ad v)))) → va_S A s.heap H1 locs1 → W p l e R s m args below meth c H1 locs1 cells slots Q (F0 m (pc + 3) ls (st.map (iv E ad))) := by
    intro H1 locs1 a1 a2 a3
    rw [hset] at a1 a2
    exact k2 H1 locs1 ⟨a1, a2, a3, w4, by rw [e3]; exact w5⟩
  rcases hfin with hfin | ⟨hfin, hmn2, hdecl, hl2⟩
  · rcases hl with hl | ⟨host, hl⟩
    · exact va_put hx hb2 hts hcd.2 ty hcp.1 hcp.2 hown hKK w1 w2 w3 i he hcd.1 k hk (hts _ hl) (fun _ h9 => h9) hfin hp (hnw E ad) (hft E ad) hlen hd fin
    · exact va_putN hx hb2 hts hcd.2 ty hcp.1 hcp.2 hown hKK w1 w2 w3 i he hcd.1 k hk (va_Nw.use rfl (hN.1 _ hl rfl)) (fun _ h9 => h9) hfin hp (hnw E ad) (hft E ad) hlen hd fin
  · exact va_putF hx hb2 hts hcd.2 ty hcp.1 hcp.2 hown hKK w1 w2 w3 i he hcd.1 k hk (hts _ hl2) (fun _ h9 => h9) hfin (hmn.trans hmn2) hdecl hp (hnw E ad) (hft E ad) hlen hd fin
theorem pI_self {cA : Nat → ClassId} {ad : Nat → Nat} {i k ci N : Nat} {v : Int32} (hf : rfk ci k = false) (h : gK σ i = (ci + 5, N)) : celE cA ad (pI σ i k v) i = .inr (ci, ((List.range N).map (fdv ci ad (gI σ i) (gR σ i))).set k (.int v)) := by
  show celE cA ad (cI σ i (upd (gI σ i) k v)) i = _
  rw [celE_cI_s, h]
  show Sum.inr (ci, (List.range N).map (fdv ci ad (upd (gI σ i) k v) (gR σ i))) = _
  rw [← rmap_set (f := fdv ci ad (gI σ i) (gR σ i)) (k := k)]
  · congr 3
    unfold fdv
    rw [hf]
    simp [upd]
  · intro j hj
    unfold fdv
    simp [upd, hj]
theorem pR_self {E : Ex} {cA : Nat → ClassId} {ad : Nat → Nat} {i k ci N : Nat} {v : Option Nat} (hf : rfk ci k = true) (h : gK σ i = (ci + 5, N)) : celE cA ad (pR σ i k v) i = .inr (ci, ((List.range N).map (fdv ci ad (gI σ i) (gR σ i))).set k (iv E ad (va_rf v))) := by
  show celE cA ad (cR σ i (va_up (gR σ i) k v)) i = _
  rw [celE_cR_s, h]
  show Sum.inr (ci, (List.range N).map (fdv ci ad (gI σ i) (va_up (gR σ i) k v))) = _
  rw [← rmap_set (f := fdv ci ad (gI σ i) (gR σ i)) (k := k)]
  · congr 3
    unfold fdv
    rw [hf, va_up_self, iv_rf]
    rfl
  · intro j hj
    unfold fdv
    rw [va_up_ne _ _ hj]
theorem vv_putI {ci i k N idx : Nat} {C : String} {T : u_T} {ty : Nat → FieldType} {v : Int32} {fty : FieldType} {f : Sg → Option β} (hcd : CD ci C T N) (hcp : CP T N ty) (hk : k < N) (hf : rfk ci k = false) (hK : Ok fo σ → gK σ i = (ci + 5, N) ∧ i < gN σ) (hl : FL own idx (T k).1 (T k).2.1 (T k).2.2.1)
    (hfin : (T k).2.2.2 = false ∨ ((T k).2.2.2 = true ∧ mn = "<init>" ∧ (T k).1 = own ∧ Cond.fieldLink own idx (T k).1 (T k).2.1 (T k).2.2.1 ∈ lw_all)) (hp : parseFieldDescriptor (T k).2.2.1 = some fty) (hnw : narrow fty (.int v) = .int v) (hft : fits fty (.int v) = true)
    (hd : decode cc pc = .ok (.putfield idx, 3)) (hn : pc + 3 = n) (kk : ∀ τ, VC l fo al ek cc own mn nL fr lo rt τ n L st (f τ)) : VC l fo al ek cc own mn nL fr lo rt σ pc L (.int v :: .ref i :: st) (lt_ (pI σ i k v) f) :=
  VC.wr (τ := pI σ i k v) hcd hcp hk hK hl hfin hp (fun _ _ => hnw) (fun _ _ => hft) Ok.cI ⟨rfl, rfl, rfl, rfl⟩ (fun _ _ _ h => pI_self hf h) (fun _ _ _ h => celE_cI h) hd hn (kk _)
theorem fits_rf (fty : FieldType) (h : (∃ C, fty = .object C) ∨ ∃ t, fty = .array t) (r : Option Nat) : narrow fty (va_rf r) = va_rf r ∧ fits fty (va_rf r) = true := by
  rcases h with ⟨C, rfl⟩ | ⟨t, rfl⟩ <;> cases r <;> exact ⟨rfl, rfl⟩
theorem vv_putR {ci i k N idx : Nat} {C : String} {T : u_T} {ty : Nat → FieldType} {r : Option Nat} {fty : FieldType} {f : Sg → Option β} (hcd : CD ci C T N) (hcp : CP T N ty) (hk : k < N) (hf : rfk ci k = true) (hK : Ok fo σ → gK σ i = (ci + 5, N) ∧ i < gN σ) (hl : FL own idx (T k).1 (T k).2.1 (T k).2.2.1)
    (hfin : (T k).2.2.2 = false ∨ ((T k).2.2.2 = true ∧ mn = "<init>" ∧ (T k).1 = own ∧ Cond.fieldLink own idx (T k).1 (T k).2.1 (T k).2.2.1 ∈ lw_all)) (hp : parseFieldDescriptor (T k).2.2.1 = some fty) (hft : (∃ C, fty = .object C) ∨ ∃ t, fty = .array t)
    (hr : Ok fo σ → ∀ a, r = some a → a < gN σ) (hs : fo = true → (stR.getD i []).getD k 0 = 0)
    (hd : decode cc pc = .ok (.putfield idx, 3)) (hn : pc + 3 = n) (kk : ∀ τ, VC l fo al ek cc own mn nL fr lo rt τ n L st (f τ)) : VC l fo al ek cc own mn nL fr lo rt σ pc L (va_rf r :: .ref i :: st) (lt_ (pR σ i k r) f) :=
  VC.wr (τ := pR σ i k r) hcd hcp hk hK hl hfin hp (fun _ ad => by rw [iv_rf]; exact (fits_rf fty hft _).1) (fun _ ad => by rw [iv_rf]; exact (fits_rf fty hft _).2) (fun hok => Ok.pR hok (hr hok) hs) ⟨rfl, rfl, rfl, rfl⟩ (fun _ _ _ h => pR_self hf h) (fun _ _ _ h => celE_cR h) hd hn (kk _)
end VCF
/-! arrays, new cells -/
section VCA
variable {β : Type} {l : Launch} {fo al : Bool} {ek : β → Option Value × Sg} {cc : ByteArray} {own mn : String} {nL fr lo : Nat} {rt : Option FieldType} {σ : Sg} {pc n : Nat} {L : List (Nat × Value)} {st st' : List Value} {body : Option β}
/-- one step that reads the heap -/
theorem VC.gw (h : ∀ {D : va_G} {cA : Nat → ClassId} {E : Ex} {A : Nat → Prop} {p : Program} {e : Env} {R : Room} {s : State} {m : MethodId} {args : Array Value} {below : List Frame} {meth : Method} {c : Code} {Q : State → Prop} {ad0 : Nat → Nat} {n0 : Nat} {ad : Nat → Nat} {H : Heap} {locs : List Loc} {cells slots : Nat} {ls : Array Slot},
      Ok fo σ → MC l D cA E A cc own mn nL fr lo p R s m args meth c → WD D cA A s al ad0 n0 ad σ H locs → lv_has ls nL (Lm E ad L) → cells ≤ R.cells ∧ slots ≤ R.slots → W p l e R s m args below meth c H locs cells slots Q (F0 m n ls (st'.map (iv E ad))) → W p l e R s m args below meth c H locs cells slots Q (F0 m pc ls (st.map (iv E ad))))
    (kk : VC l fo al ek cc own mn nL fr lo rt σ n L st' body) : VC l fo al ek cc own mn nL fr lo rt σ pc L st body := by
  intro b hb hok
  obtain ⟨h1, h2⟩ := kk b hb hok
  refine ⟨h1, ?_⟩
  intro D cA E A p e R s m args below meth c Q c0 z0 ad0 n0 hM hgs hc hz hret ad H locs cells slots ls hW hcc hzz hL
  have u1 := h1.2.1.1
  have u2 := h1.2.1.2.1
  exact h hok hM hW hL ⟨by omega, by omega⟩ (h2 D cA E A p e R s m args below meth c Q c0 z0 ad0 n0 hM hgs hc hz hret ad H locs cells slots ls hW hcc hzz hL)
/-- one step that changes the store, no cell made -/
theorem VC.sto {τ : Sg} (hτ : Ok fo σ → Ok fo τ) (hup : gC τ = gC σ ∧ gZ τ = gZ σ ∧ gN τ = gN σ ∧ gS τ = gS σ)
    (h : ∀ {D : va_G} {cA : Nat → ClassId} {E : Ex} {A : Nat → Prop} {p : Program} {e : Env} {R : Room} {s : State} {m : MethodId} {args : Array Value} {below : List Frame} {meth : Method} {c : Code} {Q : State → Prop} {ad0 : Nat → Nat} {n0 : Nat} {ad : Nat → Nat} {H : Heap} {locs : List Loc} {cells slots : Nat} {ls : Array Slot},
      Ok fo σ → MC l D cA E A cc own mn nL fr lo p R s m args meth c → WD D cA A s al ad0 n0 ad σ H locs → lv_has ls nL (Lm E ad L) → cells ≤ R.cells ∧ slots ≤ R.slots →
      (∀ (H1 : Heap) (locs1 : List Loc), va_P D vwCl (wsE cA ad τ) H1 → va_D A (wsE cA ad τ) → va_S A s.heap H1 locs1 → W p l e R s m args below meth c H1 locs1 cells slots Q (F0 m n ls (st'.map (iv E ad)))) → W p l e R s m args below meth c H locs cells slots Q (F0 m pc ls (st.map (iv E ad))))
    (kk : VC l fo al ek cc own mn nL fr lo rt τ n L st' body) : VC l fo al ek cc own mn nL fr lo rt σ pc L st body := by
  intro b hb hok
  obtain ⟨⟨h1, v1, v2⟩, h2⟩ := kk b hb (hτ hok)
  obtain ⟨e1, e2, e3, e4⟩ := hup
  refine ⟨⟨h1, ⟨by rw [← e1]; exact v1.1, by rw [← e2]; exact v1.2.1, by rw [← e3]; exact v1.2.2.1, v1.2.2.2.trans e4⟩, fun h => (v2 h).trans e3⟩, ?_⟩
  intro D cA E A p e R s m args below meth c Q c0 z0 ad0 n0 hM hgs hc hz hret ad H locs cells slots ls hW hcc hzz hL
  have u1 := v1.1
  have u2 := v1.2.1
  refine h hok hM hW hL ⟨by omega, by omega⟩ (fun H1 locs1 a1 a2 a3 => ?_)
  exact h2 D cA E A p e R s m args below meth c Q c0 z0 ad0 n0 hM (e4.trans hgs) hc hz hret ad H1 locs1 cells slots ls ⟨a1, a2, a3, hW.2.2.2.1, by rw [e3]; exact hW.2.2.2.2⟩ (e1.trans hcc) (e2.trans hzz) hL
def aI (σ : Sg) (a N : Nat) (k : Int32) : Option Int32 := if inb k N = true then some (gI σ a k.toNatClampNeg) else none
def aJ (σ : Sg) (a N : Nat) (k : Int32) : Option Int64 := if inb k N = true then some (gJ σ a k.toNatClampNeg) else none
def aR (σ : Sg) (a N : Nat) (k : Int32) : Option (Option Nat) := if inb k N = true then some (gR σ a k.toNatClampNeg) else none
def tI (σ : Sg) (a N : Nat) (k v : Int32) : Option Sg := if inb k N = true then some (pI σ a k.toNatClampNeg v) else none
def tJ (σ : Sg) (a N : Nat) (k : Int32) (v : Int64) : Option Sg := if inb k N = true then some (pJ σ a k.toNatClampNeg v) else none
def tR (σ : Sg) (a N : Nat) (k : Int32) (v : Option Nat) : Option Sg := if inb k N = true then some (pR σ a k.toNatClampNeg v) else none
theorem at_0 {cA : Nat → ClassId} {ad : Nat → Nat} {a N : Nat} (h : gK σ a = (0, N) ∧ a < gN σ) : (wsE cA ad σ)[a]? = some (ad a, .inl (cA 0, N, .inl (gI σ a))) := by
  rw [wsE_at h.2]; unfold celE; rw [h.1]; rfl
theorem at_1 {cA : Nat → ClassId} {ad : Nat → Nat} {a N : Nat} (h : gK σ a = (1, N) ∧ a < gN σ) : (wsE cA ad σ)[a]? = some (ad a, .inl (cA 1, N, .inr (.inl (gJ σ a)))) := by
  rw [wsE_at h.2]; unfold celE; rw [h.1]; rfl
theorem at_2 {cA : Nat → ClassId} {ad : Nat → Nat} {a N : Nat} (h : gK σ a = (2, N) ∧ a < gN σ) : (wsE cA ad σ)[a]? = some (ad a, .inl (cA 2, N, .inl (gI σ a))) := by
  rw [wsE_at h.2]; unfold celE; rw [h.1]; rfl
theorem at_3 {cA : Nat → ClassId} {ad : Nat → Nat} {a N : Nat} (h : gK σ a = (3, N) ∧ a < gN σ) : (wsE cA ad σ)[a]? = some (ad a, .inl (cA 3, N, .inl (gI σ a))) := by
  rw [wsE_at h.2]; unfold celE; rw [h.1]; rfl
theorem at_4 {cA : Nat → ClassId} {ad : Nat → Nat} {a N : Nat} (h : gK σ a = (4, N) ∧ a < gN σ) : (wsE cA ad σ)[a]? = some (ad a, .inl (cA 4, N, .inr (.inr (.inr (.inr (fun j => (gR σ a j).map ad)))))) := by
  rw [wsE_at h.2]; unfold celE; rw [h.1]; rfl
theorem set_I {cA : Nat → ClassId} {ad : Nat → Nat} {a N : Nat} {f : Nat → Int32} (t : Nat) (h : gK σ a = (t, N) ∧ a < gN σ) (x : va_E) (hx : celF cA ad (t, N) f (gJ σ a) (gR σ a) = x) : (wsE cA ad σ).set a (ad a, x) = wsE cA ad (cI σ a f) :=
  wsE_set h.2 rfl (by rw [celE_cI_s, h.1]; exact hx) (fun j hj => celE_cI hj)
theorem set_J {cA : Nat → ClassId} {ad : Nat → Nat} {a N : Nat} {f : Nat → Int64} (t : Nat) (h : gK σ a = (t, N) ∧ a < gN σ) (x : va_E) (hx : celF cA ad (t, N) (gI σ a) f (gR σ a) = x) : (wsE cA ad σ).set a (ad a, x) = wsE cA ad (cJ σ a f) :=
  wsE_set h.2 rfl (by rw [celE_cJ_s, h.1]; exact hx) (fun j hj => celE_cJ hj)
theorem set_R {cA : Nat → ClassId} {ad : Nat → Nat} {a N : Nat} {f : Nat → Option Nat} (t : Nat) (h : gK σ a = (t, N) ∧ a < gN σ) (x : va_E) (hx : celF cA ad (t, N) (gI σ a) (gJ σ a) f = x) : (wsE cA ad σ).set a (ad a, x) = wsE cA ad (cR σ a f) :=
  wsE_set h.2 rfl (by rw [celE_cR_s, h.1]; exact hx) (fun j hj => celE_cR hj)
theorem set_0 {cA : Nat → ClassId} {ad : Nat → Nat} {a N : Nat} {f : Nat → Int32} (h : gK σ a = (0, N) ∧ a < gN σ) : (wsE cA ad σ).set a (ad a, .inl (cA 0, N, .inl f)) = wsE cA ad (cI σ a f) := set_I 0 h _ rfl
theorem set_2 {cA : Nat → ClassId} {ad : Nat → Nat} {a N : Nat} {f : Nat → Int32} (h : gK σ a = (2, N) ∧ a < gN σ) : (wsE cA ad σ).set a (ad a, .inl (cA 2, N, .inl f)) = wsE cA ad (cI σ a f) := set_I 2 h _ rfl
theorem set_3 {cA : Nat → ClassId} {ad : Nat → Nat} {a N : Nat} {f : Nat → Int32} (h : gK σ a = (3, N) ∧ a < gN σ) : (wsE cA ad σ).set a (ad a, .inl (cA 3, N, .inl f)) = wsE cA ad (cI σ a f) := set_I 3 h _ rfl
theorem set_1 {cA : Nat → ClassId} {ad : Nat → Nat} {a N : Nat} {f : Nat → Int64} (h : gK σ a = (1, N) ∧ a < gN σ) : (wsE cA ad σ).set a (ad a, .inl (cA 1, N, .inr (.inl f))) = wsE cA ad (cJ σ a f) := set_J 1 h _ rfl
theorem set_4 {cA : Nat → ClassId} {ad : Nat → Nat} {a N : Nat} {f : Nat → Option Nat} (h : gK σ a = (4, N) ∧ a < gN σ) : (wsE cA ad σ).set a (ad a, .inl (cA 4, N, .inr (.inr (.inr (.inr (fun j => (f j).map ad)))))) = wsE cA ad (cR σ a f) := set_R 4 h _ rfl
theorem MC.ex {D : va_G} {cA : Nat → ClassId} {E : Ex} {A : Nat → Prop} {p : Program} {R : Room} {s : State} {m : MethodId} {args : Array Value} {meth : Method} {c : Code} (h : MC l D cA E A cc own mn nL fr lo p R s m args meth c) : p.tables.exec = Jvm.exec := h.1
theorem MC.by_ {D : va_G} {cA : Nat → ClassId} {E : Ex} {A : Nat → Prop} {p : Program} {R : Room} {s : State} {m : MethodId} {args : Array Value} {meth : Method} {c : Code} (h : MC l D cA E A cc own mn nL fr lo p R s m args meth c) : c.code = cc := h.2.1
theorem MC.ml {D : va_G} {cA : Nat → ClassId} {E : Ex} {A : Nat → Prop} {p : Program} {R : Room} {s : State} {m : MethodId} {args : Array Value} {meth : Method} {c : Code} (h : MC l D cA E A cc own mn nL fr lo p R s m args meth c) : c.maxLocals = nL := h.2.2.1
theorem MC.ow {D : va_G} {cA : Nat → ClassId} {E : Ex} {A : Nat → Prop} {p : Program} {R : Room} {s : State} {m : MethodId} {args : Array Value} {meth : Method} {c : Code} (h : MC l D cA E A cc own mn nL fr lo p R s m args meth c) : s.vm.findClass own = some m.cls := h.2.2.2.1
theorem MC.ts {D : va_G} {cA : Nat → ClassId} {E : Ex} {A : Nat → Prop} {p : Program} {R : Room} {s : State} {m : MethodId} {args : Array Value} {meth : Method} {c : Code} (h : MC l D cA E A cc own mn nL fr lo p R s m args meth c) : ∀ w ∈ lw_all, w.before args s = true := h.2.2.2.2.1
theorem MC.kk {D : va_G} {cA : Nat → ClassId} {E : Ex} {A : Nat → Prop} {p : Program} {R : Room} {s : State} {m : MethodId} {args : Array Value} {meth : Method} {c : Code} (h : MC l D cA E A cc own mn nL fr lo p R s m args meth c) : va_K D vwCl (tyL cA) s := h.2.2.2.2.2.2.1
theorem MC.nw {D : va_G} {cA : Nat → ClassId} {E : Ex} {A : Nat → Prop} {p : Program} {R : Room} {s : State} {m : MethodId} {args : Array Value} {meth : Method} {c : Code} (h : MC l D cA E A cc own mn nL fr lo p R s m args meth c) : NW s := h.2.2.2.2.2.2.2.1
theorem MC.fr_ {D : va_G} {cA : Nat → ClassId} {E : Ex} {A : Nat → Prop} {p : Program} {R : Room} {s : State} {m : MethodId} {args : Array Value} {meth : Method} {c : Code} (h : MC l D cA E A cc own mn nL fr lo p R s m args meth c) : fr ≤ R.frames := h.2.2.2.2.2.2.2.2.1
theorem MC.lo_ {D : va_G} {cA : Nat → ClassId} {E : Ex} {A : Nat → Prop} {p : Program} {R : Room} {s : State} {m : MethodId} {args : Array Value} {meth : Method} {c : Code} (h : MC l D cA E A cc own mn nL fr lo p R s m args meth c) : lo ≤ R.locals := h.2.2.2.2.2.2.2.2.2.1
theorem MC.fa {D : va_G} {cA : Nat → ClassId} {E : Ex} {A : Nat → Prop} {p : Program} {R : Room} {s : State} {m : MethodId} {args : Array Value} {meth : Method} {c : Code} (h : MC l D cA E A cc own mn nL fr lo p R s m args meth c) : ∀ q, s.heap.size ≤ q → A q := h.2.2.2.2.2.2.2.2.2.2.1
theorem MC.xt {D : va_G} {cA : Nat → ClassId} {E : Ex} {A : Nat → Prop} {p : Program} {R : Room} {s : State} {m : MethodId} {args : Array Value} {meth : Method} {c : Code} (h : MC l D cA E A cc own mn nL fr lo p R s m args meth c) : EXT E A s s.heap := h.2.2.2.2.2.2.2.2.2.2.2.1
theorem MC.sr {D : va_G} {cA : Nat → ClassId} {E : Ex} {A : Nat → Prop} {p : Program} {R : Room} {s : State} {m : MethodId} {args : Array Value} {meth : Method} {c : Code} (h : MC l D cA E A cc own mn nL fr lo p R s m args meth c) : SR E s := h.2.2.2.2.2.2.2.2.2.2.2.2.1
theorem MC.tr {D : va_G} {cA : Nat → ClassId} {E : Ex} {A : Nat → Prop} {p : Program} {R : Room} {s : State} {m : MethodId} {args : Array Value} {meth : Method} {c : Code} (h : MC l D cA E A cc own mn nL fr lo p R s m args meth c) : l.stackTraces = false := h.2.2.2.2.2.2.2.2.2.2.2.2.2.1
theorem vv_iald {a N : Nat} {k : Int32} {f : Int32 → Option β} (hK : Ok fo σ → gK σ a = (0, N) ∧ a < gN σ) (hd : decode cc pc = .ok (.iaload, 1)) (hn : pc + 1 = n) (kk : ∀ v, VC l fo al ek cc own mn nL fr lo rt σ n L (.int v :: st) (f v)) : VC l fo al ek cc own mn nL fr lo rt σ pc L (.int k :: .ref a :: st) ((aI σ a N k).bind f) := by
  unfold aI
  by_cases h : inb k N = true
  · rw [if_pos h]
    exact VC.gw (fun hok hM hW hL _ k2 => by subst hn; exact va_iald hM.ex hM.by_ hM.kk hW.1 a 0 (at_0 (hK hok)) rfl (inb_in h) hd k2) (kk _)
  · rw [if_neg h]; exact VC.non
theorem vv_bald {a N : Nat} {k : Int32} {f : Int32 → Option β} (hK : Ok fo σ → gK σ a = (2, N) ∧ a < gN σ) (hd : decode cc pc = .ok (.baload, 1)) (hn : pc + 1 = n) (kk : ∀ v, VC l fo al ek cc own mn nL fr lo rt σ n L (.int v :: st) (f v)) : VC l fo al ek cc own mn nL fr lo rt σ pc L (.int k :: .ref a :: st) ((aI σ a N k).bind f) := by
  unfold aI
  by_cases h : inb k N = true
  · rw [if_pos h]
    exact VC.gw (fun hok hM hW hL _ k2 => by subst hn; exact va_bald hM.ex hM.by_ hM.kk hW.1 a 2 (at_2 (hK hok)) rfl (inb_in h) hd k2) (kk _)
  · rw [if_neg h]; exact VC.non
theorem vv_zald {a N : Nat} {k : Int32} {f : Int32 → Option β} (hK : Ok fo σ → gK σ a = (3, N) ∧ a < gN σ) (hd : decode cc pc = .ok (.baload, 1)) (hn : pc + 1 = n) (kk : ∀ v, VC l fo al ek cc own mn nL fr lo rt σ n L (.int v :: st) (f v)) : VC l fo al ek cc own mn nL fr lo rt σ pc L (.int k :: .ref a :: st) ((aI σ a N k).bind f) := by
  unfold aI
  by_cases h : inb k N = true
  · rw [if_pos h]
    exact VC.gw (fun hok hM hW hL _ k2 => by subst hn; exact va_zald hM.ex hM.by_ hM.kk hW.1 a 3 (at_3 (hK hok)) rfl (inb_in h) hd k2) (kk _)
  · rw [if_neg h]; exact VC.non
theorem vv_lald {a N : Nat} {k : Int32} {f : Int64 → Option β} (hK : Ok fo σ → gK σ a = (1, N) ∧ a < gN σ) (hd : decode cc pc = .ok (.laload, 1)) (hn : pc + 1 = n) (kk : ∀ v, VC l fo al ek cc own mn nL fr lo rt σ n L (.long v :: st) (f v)) : VC l fo al ek cc own mn nL fr lo rt σ pc L (.int k :: .ref a :: st) ((aJ σ a N k).bind f) := by
  unfold aJ
  by_cases h : inb k N = true
  · rw [if_pos h]
    exact VC.gw (fun hok hM hW hL _ k2 => by subst hn; exact va_lald hM.ex hM.by_ hM.kk hW.1 a 1 (at_1 (hK hok)) rfl (inb_in h) hd k2) (kk _)
  · rw [if_neg h]; exact VC.non
theorem vv_aald {a N : Nat} {k : Int32} {f : Option Nat → Option β} (hK : Ok fo σ → gK σ a = (4, N) ∧ a < gN σ) (hd : decode cc pc = .ok (.aaload, 1)) (hn : pc + 1 = n) (kk : ∀ v, (Ok fo σ → ∀ i, v = some i → i < gN σ) → VC l fo al ek cc own mn nL fr lo rt σ n L (va_rf v :: st) (f v)) : VC l fo al ek cc own mn nL fr lo rt σ pc L (.int k :: .ref a :: st) ((aR σ a N k).bind f) := by
  unfold aR
  by_cases h : inb k N = true
  · rw [if_pos h]
    exact VC.gw (fun hok hM hW hL _ k2 => by subst hn; exact va_aldq hM.ex hM.by_ hM.kk hW.1 a 4 (at_4 (hK hok)) rfl (inb_in h) hd (by rw [List.map_cons, iv_rf] at k2; exact k2)) (kk _ (fun hok i hi => hok.1 _ _ _ hi))
  · rw [if_neg h]; exact VC.non
theorem vv_iast {a N : Nat} {k v : Int32} {f : Sg → Option β} (hK : Ok fo σ → gK σ a = (0, N) ∧ a < gN σ) (hd : decode cc pc = .ok (.iastore, 1)) (hn : pc + 1 = n) (kk : ∀ τ, VC l fo al ek cc own mn nL fr lo rt τ n L st (f τ)) : VC l fo al ek cc own mn nL fr lo rt σ pc L (.int v :: .int k :: .ref a :: st) ((tI σ a N k v).bind f) := by
  unfold tI
  by_cases h : inb k N = true
  · rw [if_pos h]
    exact VC.sto (τ := pI σ a k.toNatClampNeg v) Ok.cI ⟨rfl, rfl, rfl, rfl⟩ (fun hok hM hW hL _ k2 => by subst hn; exact va_iast hM.ex hM.by_ hM.kk hW.1 hW.2.1 hW.2.2.1 a 0 (at_0 (hK hok)) rfl (inb_in h) hd (fun H1 locs1 a1 a2 a3 => by rw [set_0 (hK hok)] at a1 a2; exact k2 H1 locs1 a1 a2 a3)) (kk _)
  · rw [if_neg h]; exact VC.non
theorem vv_bast {a N : Nat} {k v : Int32} {f : Sg → Option β} (hK : Ok fo σ → gK σ a = (2, N) ∧ a < gN σ) (hd : decode cc pc = .ok (.bastore, 1)) (hn : pc + 1 = n) (kk : ∀ τ, VC l fo al ek cc own mn nL fr lo rt τ n L st (f τ)) : VC l fo al ek cc own mn nL fr lo rt σ pc L (.int v :: .int k :: .ref a :: st) ((tI σ a N k (vp_nar .byte v)).bind f) := by
  unfold tI
  by_cases h : inb k N = true
  · rw [if_pos h]
    exact VC.sto (τ := pI σ a k.toNatClampNeg (vp_nar .byte v)) Ok.cI ⟨rfl, rfl, rfl, rfl⟩ (fun hok hM hW hL _ k2 => by subst hn; exact va_bast hM.ex hM.by_ hM.kk hW.1 hW.2.1 hW.2.2.1 a 2 (at_2 (hK hok)) rfl (inb_in h) hd (fun H1 locs1 a1 a2 a3 => by rw [set_2 (hK hok)] at a1 a2; exact k2 H1 locs1 a1 a2 a3)) (kk _)
  · rw [if_neg h]; exact VC.non
theorem vv_zast {a N : Nat} {k v : Int32} {f : Sg → Option β} (hK : Ok fo σ → gK σ a = (3, N) ∧ a < gN σ) (hd : decode cc pc = .ok (.bastore, 1)) (hn : pc + 1 = n) (kk : ∀ τ, VC l fo al ek cc own mn nL fr lo rt τ n L st (f τ)) : VC l fo al ek cc own mn nL fr lo rt σ pc L (.int v :: .int k :: .ref a :: st) ((tI σ a N k (vp_nar .boolean v)).bind f) := by
  unfold tI
  by_cases h : inb k N = true
  · rw [if_pos h]
    exact VC.sto (τ := pI σ a k.toNatClampNeg (vp_nar .boolean v)) Ok.cI ⟨rfl, rfl, rfl, rfl⟩ (fun hok hM hW hL _ k2 => by subst hn; exact va_zast hM.ex hM.by_ hM.kk hW.1 hW.2.1 hW.2.2.1 a 3 (at_3 (hK hok)) rfl (inb_in h) hd (fun H1 locs1 a1 a2 a3 => by rw [set_3 (hK hok)] at a1 a2; exact k2 H1 locs1 a1 a2 a3)) (kk _)
  · rw [if_neg h]; exact VC.non
theorem vv_last {a N : Nat} {k : Int32} {v : Int64} {f : Sg → Option β} (hK : Ok fo σ → gK σ a = (1, N) ∧ a < gN σ) (hd : decode cc pc = .ok (.lastore, 1)) (hn : pc + 1 = n) (kk : ∀ τ, VC l fo al ek cc own mn nL fr lo rt τ n L st (f τ)) : VC l fo al ek cc own mn nL fr lo rt σ pc L (.long v :: .int k :: .ref a :: st) ((tJ σ a N k v).bind f) := by
  unfold tJ
  by_cases h : inb k N = true
  · rw [if_pos h]
    exact VC.sto (τ := pJ σ a k.toNatClampNeg v) Ok.cJ ⟨rfl, rfl, rfl, rfl⟩ (fun hok hM hW hL _ k2 => by subst hn; exact va_last hM.ex hM.by_ hM.kk hW.1 hW.2.1 hW.2.2.1 a 1 (at_1 (hK hok)) rfl (inb_in h) hd (fun H1 locs1 a1 a2 a3 => by rw [set_1 (hK hok)] at a1 a2; exact k2 H1 locs1 a1 a2 a3)) (kk _)
  · rw [if_neg h]; exact VC.non
end VCA
/-! new cells, calls -/
def vok (n : Nat) (v : Value) : Prop := match v with
  | .ref i => i < n
  | _ => True
theorem iv_ad {E : Ex} {n : Nat} {ad ad' : Nat → Nat} {v : Value} (h : vok n v) (ha : ∀ i, i < n → ad' i = ad i) : iv E ad' v = iv E ad v := by
  cases v with
  | ref i => exact congrArg Value.ref (ha i h)
  | _ => rfl
theorem Lm_ad {E : Ex} {n : Nat} {ad ad' : Nat → Nat} {L : List (Nat × Value)} (h : ∀ q ∈ L, vok n q.2) (ha : ∀ i, i < n → ad' i = ad i) : Lm E ad' L = Lm E ad L := by
  unfold Lm
  exact List.map_congr_left fun q hq => by rw [iv_ad (h q hq) ha]
theorem st_ad {E : Ex} {n : Nat} {ad ad' : Nat → Nat} {st : List Value} (h : ∀ v ∈ st, vok n v) (ha : ∀ i, i < n → ad' i = ad i) : st.map (iv E ad') = st.map (iv E ad) := List.map_congr_left fun v hv => iv_ad (h v hv) ha
theorem celE_ad {cA : Nat → ClassId} {ad ad' : Nat → Nat} {σ : Sg} (hw : WF σ) (ha : ∀ i, i < gN σ → ad' i = ad i) (i : Nat) : celE cA ad' σ i = celE cA ad σ i := by
  have h1 : ∀ j, (gR σ i j).map ad' = (gR σ i j).map ad := by
    intro j
    cases hr : gR σ i j with
    | none => rfl
    | some r => exact congrArg some (ha r (hw i j r hr))
  unfold celE celF
  simp only [h1]
theorem wsE_ad {cA : Nat → ClassId} {ad ad' : Nat → Nat} {σ : Sg} (hw : WF σ) (ha : ∀ i, i < gN σ → ad' i = ad i) : wsE cA ad' σ = wsE cA ad σ := by
  unfold wsE
  refine List.map_congr_left fun i hi => ?_
  rw [ha i (List.mem_range.mp hi), celE_ad hw ha]
theorem wsE_aw {cA : Nat → ClassId} {ad : Nat → Nat} {σ : Sg} {kd N z q : Nat} (hw : WF σ) : wsE cA (va_up ad (gN σ) q) (aw σ kd N z) = wsE cA ad σ ++ [(q, celF cA (va_up ad (gN σ) q) (kd, N) (fun _ => 0) (fun _ => 0) (fun _ => none))] := by
  have ha : ∀ i, i < gN σ → va_up ad (gN σ) q i = ad i := fun i hi => va_up_ne _ _ (by omega)
  unfold wsE
  rw [show gN (aw σ kd N z) = gN σ + 1 from rfl, List.range_succ, List.map_append]
  congr 1
  · refine List.map_congr_left fun i hi => ?_
    have hi := List.mem_range.mp hi
    rw [ha i hi, ← celE_ad hw ha]
    show (ad i, celF cA _ (va_up σ.2.2.2.1 (gN σ) (kd, N) i) (va_up σ.1 (gN σ) (fun _ => 0) i) (va_up σ.2.1 (gN σ) (fun _ => 0) i) (va_up σ.2.2.1 (gN σ) (fun _ => none) i)) = _
    rw [va_up_ne _ _ (by omega), va_up_ne _ _ (by omega), va_up_ne _ _ (by omega), va_up_ne _ _ (by omega)]
    rfl
  · show [(va_up ad (gN σ) q (gN σ), celF cA _ (va_up σ.2.2.2.1 (gN σ) (kd, N) (gN σ)) (va_up σ.1 (gN σ) (fun _ => 0) (gN σ)) (va_up σ.2.1 (gN σ) (fun _ => 0) (gN σ)) (va_up σ.2.2.1 (gN σ) (fun _ => none) (gN σ)))] = _
    rw [va_up_self, va_up_self, va_up_self, va_up_self, va_up_self]
section VCN
variable {β : Type} {l : Launch} {fo : Bool} {ek : β → Option Value × Sg} {cc : ByteArray} {own mn : String} {nL fr lo : Nat} {rt : Option FieldType} {σ : Sg} {pc n : Nat} {L : List (Nat × Value)} {st st' : List Value} {body : Option β}
/-- one step that makes a cell -/
theorem VC.nwc {kd N z : Nat} (hLk : Ok fo σ → ∀ q ∈ L, vok (gN σ) q.2) (hsk : Ok fo σ → ∀ v ∈ st', vok (gN σ) v)
    (h : ∀ {D : va_G} {cA : Nat → ClassId} {E : Ex} {A : Nat → Prop} {p : Program} {e : Env} {R : Room} {s : State} {m : MethodId} {args : Array Value} {below : List Frame} {meth : Method} {c : Code} {Q : State → Prop} {ad0 : Nat → Nat} {n0 : Nat} {ad : Nat → Nat} {H : Heap} {locs : List Loc} {cells slots : Nat} {ls : Array Slot},
      Ok fo σ → MC l D cA E A cc own mn nL fr lo p R s m args meth c → WD D cA A s true ad0 n0 ad σ H locs → lv_has ls nL (Lm E ad L) → cells + 1 ≤ R.cells ∧ slots + z ≤ R.slots →
      (∀ (q : Nat) (H1 : Heap), va_P D vwCl (wsE cA ad σ ++ [(q, celF cA (va_up ad (gN σ) q) (kd, N) (fun _ => 0) (fun _ => 0) (fun _ => none))]) H1 → va_D A (wsE cA ad σ ++ [(q, celF cA (va_up ad (gN σ) q) (kd, N) (fun _ => 0) (fun _ => 0) (fun _ => none))]) → va_S A s.heap H1 locs → W p l e R s m args below meth c H1 locs (cells + 1) (slots + z) Q (F0 m n ls (.ref q :: st'.map (iv E ad)))) → W p l e R s m args below meth c H locs cells slots Q (F0 m pc ls (st.map (iv E ad))))
    {f : Sg → Option β} (kk : ∀ τ, gN τ = gN σ + 1 → gK τ (gN σ) = (kd, N) → VC l fo true ek cc own mn nL fr lo rt τ n L (.ref (gN σ) :: st') (f τ)) : VC l fo true ek cc own mn nL fr lo rt σ pc L st (lt_ (aw σ kd N z) f) := by
  intro b hb hok
  obtain ⟨⟨h1, v1, v2⟩, h2⟩ := kk (aw σ kd N z) rfl (by show va_up σ.2.2.2.1 (gN σ) (kd, N) (gN σ) = _; rw [va_up_self]) b hb (hok.aw (fun _ => stKR))
  have v11 : gC σ + 1 ≤ gC (ek b).2 := v1.1
  have v12 : gZ σ + z ≤ gZ (ek b).2 := v1.2.1
  have v13 : gN σ + 1 ≤ gN (ek b).2 := v1.2.2.1
  have v14 : gS (ek b).2 = gS σ := v1.2.2.2
  refine ⟨⟨h1, ⟨by omega, by omega, by omega, v14⟩, fun h => by cases h⟩, ?_⟩
  intro D cA E A p e R s m args below meth c Q c0 z0 ad0 n0 hM hgs hc hz hret ad H locs cells slots ls hW hcc hzz hL
  refine h hok hM hW hL ⟨by omega, by omega⟩ (fun q H1 a1 a2 a3 => ?_)
  have ha : ∀ i, i < gN σ → va_up ad (gN σ) q i = ad i := fun i hi => va_up_ne _ _ (by omega)
  have k2 := h2 D cA E A p e R s m args below meth c Q c0 z0 ad0 n0 hM hgs hc hz hret (va_up ad (gN σ) q) H1 locs (cells + 1) (slots + z) ls
    ⟨by rw [wsE_aw hok.1]; exact a1, by rw [wsE_aw hok.1]; exact a2, a3, fun i hi => by
      rcases hi with hi | hi
      · cases hi
      · rw [ha i (Nat.lt_of_lt_of_le hi hW.2.2.2.2)]
        exact hW.2.2.2.1 i (Or.inr hi), Nat.le_succ_of_le hW.2.2.2.2⟩ (by show gC σ + 1 = _; omega) (by show gZ σ + z = _; omega) (by rw [Lm_ad (hLk hok) ha]; exact hL)
  rw [List.map_cons, st_ad (hsk hok) ha] at k2
  rw [show iv E (va_up ad (gN σ) q) (.ref (gN σ)) = .ref q from congrArg Value.ref (va_up_self _ _ _)] at k2
  exact k2
theorem vv_new {ci N idx : Nat} {C : String} {T : u_T} {ty : Nat → FieldType} {f : Sg → Option β} (hcd : CD ci C T N) (hty : ∀ k, k < N → parseFieldDescriptor (T k).2.2.1 = some (ty k)) (hdf : ∀ j, j < N → defaultValue (ty j) = fdv ci (fun j => j) (fun _ => 0) (fun _ => none) j)
    (q1 : Cond.classLink own idx C ∈ lw_all) (q2 : Cond.instantiable C N ∈ lw_all) (q3 : Cond.initialized C ∈ lw_all) (hLk : Ok fo σ → ∀ q ∈ L, vok (gN σ) q.2) (hsk : Ok fo σ → ∀ v ∈ st, vok (gN σ) v)
    (hd : decode cc pc = .ok (.new idx, 3)) (hn : pc + 3 = n) (kk : ∀ τ, gN τ = gN σ + 1 → gK τ (gN σ) = (ci + 5, N) → VC l fo true ek cc own mn nL fr lo rt τ n L (.ref (gN σ) :: st) (f τ)) : VC l fo true ek cc own mn nL fr lo rt σ pc L st (lt_ (aw σ (ci + 5) N N) f) := by
  refine VC.nwc hLk hsk (fun hok hM hW hL hr k => ?_) kk
  subst hn
  refine va_new hM.ex hM.by_ hM.ts hcd.2 ty hty hM.ow (hM.ts _ q1) (hM.ts _ q2) (hM.ts _ q3) hM.kk hW.1 hW.2.1 hW.2.2.1 hM.fa hcd.1 (fs := (List.range N).map (fdv ci (fun j => j) (fun _ => 0) (fun _ => none))) (fun j hj => ?_) hr.1 hr.2 hd (fun q H1 a1 a2 a3 => k q H1 a1 a2 a3)
  rw [hdf j hj]
  unfold vp_V
  rw [List.getD_eq_getElem?_getD, rmap_at hj]
  rfl
theorem arr_same {s : State} {D : va_G} {cA : Nat → ClassId} {c : ClassId} {ty : FieldType} {k : Nat} (hK : va_K D vwCl (tyL cA) s) (hk : (tyL cA)[k]? = some (cA k, ty)) (hr : ∀ C, ty ≠ .object C) (h : s.vm.findClass ("[" ++ ty.toString) = some c) : c = cA k := by
  have h2 := (hK.2 k _ hk).2
  have h3 : s.vm.findClass ("[" ++ ty.toString) = some (cA k) := by
    cases ty with
    | object C => exact absurd rfl (hr C)
    | _ => exact h2
  exact Option.some.inj (h.symm.trans h3)
theorem vv_newarr {atype : ArrayType} {ty : FieldType} {N kd : Nat} {v : Int32} {f : Sg → Option β} (a0 : vp_A) (hty : newarray.typeOf atype = ty) (harr : Cond.arrayClass (newarray.typeOf atype) ∈ lw_all) (hv : ¬ v < 0) (hN : v.toNatClampNeg = N) (hbytes : N * componentBytes ty ≤ 536870912)
    (hk : ∀ cA : Nat → ClassId, (tyL cA)[kd]? = some (cA kd, ty)) (hrf : ∀ C, ty ≠ .object C) (hc1 : ∀ (cA : Nat → ClassId) (ad : Nat → Nat), celF cA ad (kd, N) (fun _ => 0) (fun _ => 0) (fun _ => none) = .inl (cA kd, a0)) (hc2 : ∀ c : ClassId, vp_cell c a0 = arrV c N (fun _ => defaultValue ty))
    (hLk : Ok fo σ → ∀ q ∈ L, vok (gN σ) q.2) (hsk : Ok fo σ → ∀ v ∈ st, vok (gN σ) v)
    (hd : decode cc pc = .ok (.newarray atype, 2)) (hn : pc + 2 = n) (kk : ∀ τ, gN τ = gN σ + 1 → gK τ (gN σ) = (kd, N) → VC l fo true ek cc own mn nL fr lo rt τ n L (.ref (gN σ) :: st) (f τ)) : VC l fo true ek cc own mn nL fr lo rt σ pc L (.int v :: st) (lt_ (aw σ kd N N) f) := by
  refine VC.nwc hLk hsk (fun {D cA E A p e R s m args below meth c Q ad0 n0 ad H locs cells slots ls} hok hM hW hL hr k => ?_) kk
  subst hn
  refine va_newa (atype := atype) hM.ex hM.by_ (hM.ts _ harr) hty hM.kk hW.1 hW.2.1 hW.2.2.1 hM.fa (a0 := a0) hc2 hv hN hbytes hr.1 hr.2 hd (fun q c2 H1 hK2 a1 a2 a3 => ?_)
  have hc3 : c2 = cA kd := by
    have h5 := (hK2.2 5 (c2, ty) rfl).2
    refine arr_same hM.kk (hk cA) hrf ?_
    cases ty with
    | object C => exact absurd rfl (hrf C)
    | _ => exact h5
  subst hc3
  exact k q H1 (by rw [hc1]; exact a1) (by rw [hc1]; exact a2) a3
end VCN
/-! calls -/
theorem NW.same {s U : State} (hv : U.vm = s.vm) (h : NW s) : NW U := ⟨fun w hw hn => by
    refine va_tabs ?_ hv.symm (h.1 w hw hn)
    cases w <;> first | rfl | (cases hn; done), h.2.moved (by rw [hv]; exact Vm.Alike.refl _)⟩
theorem PcE_blind {l : Launch} {D : va_G} {cA : Nat → ClassId} {E : Ex} {av : List Value} {ad : Nat → Nat} {σ : Sg} {sz : Nat} : FrameBlind (PcE l D cA E av ad σ sz) := by
  intro a U g mk h
  obtain ⟨h0, h1, h2, h3, h4, h5, h6, h7, h8, h9⟩ := h
  exact ⟨h0, h1, h2, h3, va_K.moved (u := U) (U := U.calling g mk a) (Vm.Alike.refl U.vm) h4, NW.same (s := U) rfl h5, EXT.moved (u := U) (U := U.calling g mk a) (Vm.Alike.refl U.vm) h6, SR.same (s := U) rfl h7, h8, h9⟩
section VCC
variable {β γ : Type} {l : Launch} {fo al : Bool} {ek : β → Option Value × Sg} {cc : ByteArray} {own mn : String} {nL fr lo : Nat} {rt : Option FieldType} {σ : Sg} {pc n : Nat} {L : List (Nat × Value)} {st rest : List Value}
/-- behind a call -/
theorem W.callE {p : Program} {e : Env} {R : Room} {s : State} {m : MethodId} {args : Array Value} {below : List Frame} {meth : Method} {c : Code} {Q : State → Prop} {H : Heap} {locs : List Loc} {cells slots mc ms : Nat} {ls : Array Slot} {A : Nat → Prop} {D : va_G} {cA : Nat → ClassId} {E : Ex} {al : Bool} {ad : Nat → Nat} {r : Option Value × Sg} {a : Array Value} {st0 rs : List Value} {free : Nat → Prop}
    (hr : va_Run p l e R s m args below meth c H locs cells slots mc ms (F0 m pc ls st0) rs (QcE D cA E al ad σ H.size r a) free) (hP : va_P D vwCl (wsE cA ad σ) H) (hD : va_D A (wsE cA ad σ)) (hS : va_S A s.heap H locs) (hA : ∀ q, s.heap.size ≤ q → A q) (hf : ∀ q, free q → va_A (wsE cA ad σ) H.size q)
    (kk : ∀ (ad' : Nat → Nat) (H1 : Heap) (locs1 : List Loc), (∀ i, (al = false ∨ i < gN σ) → ad' i = ad i) → va_P D vwCl (wsE cA ad' r.2) H1 → va_D A (wsE cA ad' r.2) → va_S A s.heap H1 locs1 → W p l e R s m args below meth c H1 locs1 (cells + mc) (slots + ms) Q (F0 m (pc + 3) ls ((r.1.map (iv E ad')).toList ++ rs))) : W p l e R s m args below meth c H locs cells slots Q (F0 m pc ls st0) := by
  have hAA : ∀ q, va_A (wsE cA ad σ) H.size q → A q := by
    intro q hq
    rcases hq with ⟨k, x, hk⟩ | hq
    · exact hD.2 k _ hk
    · exact hA q (Nat.le_trans hS.1 hq)
  intro T hT X
  obtain ⟨v, st₀, t, T', L0, h0, X', hL, e1, e2, ⟨ad', hv, hag, hP1, hD1, hz, hk⟩, st⟩ := hr T hT X
  have hv2 : v = r.1.map (iv E ad') := by cases hv; rfl
  subst hv2
  rw [h0] at hz hk
  rw [← e1] at hP1
  obtain ⟨t2, a1, b1⟩ := kk ad' T'.heap (locs ++ L0) hag hP1 ⟨hD1.1, fun k q hq => hAA _ (hD1.2 k q hq)⟩
    ⟨Nat.le_trans hS.1 (by rw [e1]; exact hz), fun q h1 h2 => by rw [e1, hk q (Nat.lt_of_lt_of_le h1 hS.1) (fun z => h2 (hAA q z))]; exact hS.2.1 q h1 h2, fun q hq => by
      rcases List.mem_append.mp hq with h | h
      · exact hS.2.2 q h
      · exact hAA _ (hf _ (hL q h))⟩ T' rfl X'
  exact ⟨t2, st t2 a1, b1⟩
/-- a call, whatever its kind -/
theorem VC.call {fo' al' : Bool} {ek' : γ → Option Value × Sg} {y : MethodName} {cc' : ByteArray} {nL' fr' lo' : Nat} {rt' : Option FieldType} {av : List Value} {body' : Option γ} {f : γ → Option β} (hc : Con l fo' al' ek' y cc' nL' fr' lo' rt' σ av body') (hfo : fo = true → fo' = true) (hfo2 : fo' = true → fo = true)
    (hal : al' = true → al = true) (hLk : al' = true → Ok fo σ → (∀ q ∈ L, vok (gN σ) q.2) ∧ ∀ v ∈ rest, vok (gN σ) v) (hn : pc + 3 = n)
    (hrun : ∀ {D : va_G} {cA : Nat → ClassId} {E : Ex} {A : Nat → Prop} {p : Program} {e : Env} {R : Room} {s : State} {m : MethodId} {args : Array Value} {below : List Frame} {meth : Method} {c : Code} {ad : Nat → Nat} {H : Heap} {locs : List Loc} {cells slots mc ms : Nat} {ls : Array Slot} {Qc : Array Value → State → Outcome → State → Prop} {free : Nat → Prop},
      Ok fo σ → MC l D cA E A cc own mn nL fr lo p R s m args meth c → va_P D vwCl (wsE cA ad σ) H → va_S A s.heap H locs → lv_has ls nL (Lm E ad L) → Met l y (ws_ y cc' nL' rt') { frames := fr', cells := mc, slots := ms, locals := lo' } (PcE l D cA E av ad σ H.size) Qc mc ms free → (∀ U : State, U.heap = H → s.WarmedH U.vm → PcE l D cA E av ad σ H.size (av.map (iv E ad)).toArray U) → cells + mc ≤ R.cells ∧ slots + ms ≤ R.slots →
      va_Run p l e R s m args below meth c H locs cells slots mc ms (F0 m pc ls (st.map (iv E ad))) (rest.map (iv E ad)) (Qc (av.map (iv E ad)).toArray) free)
    (kk : ∀ b, body' = some b → Up σ (ek' b).2 → VC l fo al ek cc own mn nL fr lo rt (ek' b).2 n L ((ek' b).1.toList ++ rest) (f b)) : VC l fo al ek cc own mn nL fr lo rt σ pc L st (body'.bind f) := by
  intro b hb hok
  cases hbd : body' with
  | none => rw [hbd] at hb; cases hb
  | some b' =>
    rw [hbd] at hb
    have hok' : Ok fo' σ := ⟨hok.1, fun h => hok.2 (hfo2 h)⟩
    obtain ⟨⟨g1, g2, g3⟩, g4⟩ := hc b' hbd hok'
    obtain ⟨⟨h1, v1, v2⟩, h2⟩ := kk b' hbd g2 b hb ⟨g1.1, fun h => g1.2 (hfo h)⟩
    refine ⟨⟨h1, g2.tr v1, fun h => ?_⟩, ?_⟩
    · have h3 : al' = false := by
        cases ha : al' with
        | false => rfl
        | true => rw [hal ha] at h; cases h
      rw [v2 h, g3 h3]
    intro D cA E A p e R s m args below meth c Q c0 z0 ad0 n0 hM hgs hcc hzz hret ad H locs cells slots ls hW hc1 hz1 hL
    have hM0 := hM
    have hgs2 : gS (ek' b').2 = E.2.2 := g2.2.2.2.trans hgs
    obtain ⟨w1, w2, w3, w4, w5⟩ := hW
    have u1 := g2.1
    have u2 := g2.2.1
    have u3 := v1.1
    have u4 := v1.2.1
    have hAA : ∀ q, va_A (wsE cA ad σ) H.size q → A q := by
      intro q hq
      rcases hq with ⟨k, x, hk⟩ | hq
      · exact w2.2 k _ hk
      · exact hM.fa q (Nat.le_trans w3.1 hq)
    have hpre : ∀ U : State, U.heap = H → s.WarmedH U.vm → PcE l D cA E av ad σ H.size (av.map (iv E ad)).toArray U := fun U hU hWm =>
      ⟨rfl, by rw [hU], by rw [hU]; exact w1, ⟨w2.1, fun _ _ _ => trivial⟩, va_K.moved hWm.alike hM.kk, NW.warm hWm hM.nw, by
        rw [hU]
        exact EXT.moved hWm.alike ((hM.xt.kept w3.2.1).narrow hAA), SR.warm hWm hM.sr, hM.tr, hgs⟩
    have hr := hrun (e := e) (below := below) (locs := locs) (cells := cells) (slots := slots) (ls := ls) hok hM w1 w3 hL (g4 D cA E ad H.size) hpre ⟨by omega, by omega⟩
    subst hn
    refine W.callE hr w1 w2 w3 hM.fa (fun _ h => h) (fun ad' H1 locs1 hag a1 a2 a3 => ?_)
    have hag2 : ∀ i, i < gN σ → ad' i = ad i := fun i hi => hag i (Or.inr hi)
    have hw4 : ∀ i, (al = false ∨ i < n0) → ad' i = ad0 i := by
      intro i hi
      rw [← w4 i hi]
      rcases hi with hi | hi
      · have h3 : al' = false := by
          cases ha : al' with
          | false => rfl
          | true => rw [hal ha] at hi; cases hi
        exact hag i (Or.inl h3)
      · exact hag i (Or.inr (Nat.lt_of_lt_of_le hi w5))
    have hLL : Lm E ad' L = Lm E ad L ∧ rest.map (iv E ad') = rest.map (iv E ad) := by
      cases ha : al' with
      | false =>
        have : ad' = ad := funext fun i => hag i (Or.inl ha)
        rw [this]
        exact ⟨rfl, rfl⟩
      | true => exact ⟨Lm_ad (hLk ha hok).1 hag2, st_ad (hLk ha hok).2 hag2⟩
    have k2 := h2 D cA E A p e R s m args below meth c Q c0 z0 ad0 n0 hM0 hgs2 hcc hzz hret ad' H1 locs1 (cells + (gC (ek' b').2 - gC σ)) (slots + (gZ (ek' b').2 - gZ σ)) ls ⟨a1, a2, a3, hw4, Nat.le_trans w5 g2.2.2.1⟩ (by omega) (by omega) (by rw [hLL.1]; exact hL)
    rw [List.map_append, hLL.2] at k2
    have e5 : ((ek' b').1.map (iv E ad')).toList = (ek' b').1.toList.map (iv E ad') := by cases (ek' b').1 <;> rfl
    rw [e5]
    exact k2
theorem rest_cat {E : Ex} {ad : Nat → Nat} {m : MethodId} {pc : Nat} {ls : Array Slot} {st0 : List Value} (h : (rest.map fun v => v.category).sum ≤ 8) : 2 * (F0 m pc ls st0).monitorRoom + ((rest.map (iv E ad)).map fun v => v.category).sum ≤ 8 := lv_room (by rw [st_cat]; exact h)
/-- a static call -/
theorem vv_callS {fo' al' : Bool} {ek' : γ → Option Value × Sg} {y : MethodName} {cc' : ByteArray} {nL' fr' lo' idx : Nat} {rt' : Option FieldType} {av : List Value} {ar : Nat} {body' : Option γ} {f : γ → Option β} (hc : Con l fo' al' ek' y cc' nL' fr' lo' rt' σ av body') (hfo : fo = true → fo' = true) (hfo2 : fo' = true → fo = true)
    (hal : al' = true → al = true) (hLk : al' = true → Ok fo σ → (∀ q ∈ L, vok (gN σ) q.2) ∧ ∀ v ∈ rest, vok (gN σ) v) (hd : decode cc pc = .ok (.invokestatic idx, 3)) (hn : pc + 3 = n) (hst : st = av.reverse ++ rest) (hcat : (rest.map fun v => v.category).sum ≤ 8) (hroom : fr' + 1 ≤ fr ∧ 8 + (nL' + 11) + lo' ≤ lo)
    (hw : GoodIn lw_all (va_wsS own idx y (ws_ y cc' nL' rt'))) (har : av.length = ar) (ha : y.cls ≠ "java/lang/invoke/MethodHandle" ∧ y.cls ≠ "java/lang/invoke/VarHandle" ∧ (parseMethodDescriptor y.desc).map (fun d => d.parameters.length) = some ar)
    (kk : ∀ b, body' = some b → Up σ (ek' b).2 → VC l fo al ek cc own mn nL fr lo rt (ek' b).2 n L ((ek' b).1.toList ++ rest) (f b)) : VC l fo al ek cc own mn nL fr lo rt σ pc L st (body'.bind f) := by
  refine VC.call hc hfo hfo2 hal hLk hn (fun hok hM hP hS3 hL hMet hpre hf => ?_) kk
  subst har
  have h1 := hM.fr_
  have h2 := hM.lo_
  exact va_runS ⟨hM.ex, hM.by_, hM.ml, hM.ow, hM.ts⟩ hMet (va_cwS av.length hM.ts hw rfl rfl rfl ha ⟨Nat.le_trans hroom.1 h1, Nat.le_trans hroom.2 h2⟩) ⟨PcE_blind, hpre⟩ rfl (by rw [List.length_map]) hL.1 (by rw [hst, List.map_append, List.map_reverse]) (rest_cat hcat) hd hf
/-- a virtual call of a method of the receiver's own class -/
theorem vv_callV {fo' al' : Bool} {ek' : γ → Option Value × Sg} {y : MethodName} {cc' : ByteArray} {nL' fr' lo' idx i ci : Nat} {C : String} {T : u_T} {N : Nat} {rt' : Option FieldType} {av : List Value} {ar : Nat} {body' : Option γ} {f : γ → Option β} (hc : Con l fo' al' ek' y cc' nL' fr' lo' rt' σ (.ref i :: av) body') (hfo : fo = true → fo' = true) (hfo2 : fo' = true → fo = true)
    (hal : al' = true → al = true) (hLk : al' = true → Ok fo σ → (∀ q ∈ L, vok (gN σ) q.2) ∧ ∀ v ∈ rest, vok (gN σ) v) (hcl : vwCl[ci]? = some (C, T, N)) (hK : Ok fo σ → gK σ i = (ci + 5, N) ∧ i < gN σ) (hd : decode cc pc = .ok (.invokevirtual idx, 3)) (hn : pc + 3 = n) (hst : st = av.reverse ++ .ref i :: rest) (hcat : (rest.map fun v => v.category).sum ≤ 8) (hroom : fr' + 1 ≤ fr ∧ 8 + (nL' + 11) + lo' ≤ lo)
    (hw : GoodIn lw_all (wsV own idx C y (ws_ y cc' nL' rt'))) (har : av.length = ar) (ha : y.cls = C ∧ y.cls ≠ "java/lang/invoke/MethodHandle" ∧ y.cls ≠ "java/lang/invoke/VarHandle" ∧ (parseMethodDescriptor y.desc).map (fun d => d.parameters.length) = some ar)
    (kk : ∀ b, body' = some b → Up σ (ek' b).2 → VC l fo al ek cc own mn nL fr lo rt (ek' b).2 n L ((ek' b).1.toList ++ rest) (f b)) : VC l fo al ek cc own mn nL fr lo rt σ pc L st (body'.bind f) := by
  refine VC.call hc hfo hfo2 hal hLk hn (fun {D cA E A p e R s m args below meth c ad H locs cells slots mc ms ls Qc free} hok hM hP hS3 hL hMet hpre hf => ?_) kk
  subst har
  have h1 := hM.fr_
  have h2 := hM.lo_
  obtain ⟨k1, k2⟩ := hK hok
  have he : (wsE cA ad σ)[i]? = some (ad i, .inr (ci, (List.range N).map (fdv ci ad (gI σ i) (gR σ i)))) := by rw [wsE_at k2, cel_obj k1]
  exact va_runV ⟨hM.ex, hM.by_, hM.ml, hM.ow, hM.ts⟩ hMet (cwV av.length hM.ts hw rfl rfl rfl ha ⟨Nat.le_trans hroom.1 h1, Nat.le_trans hroom.2 h2⟩) ⟨PcE_blind, va_recv hM.kk hP hcl he, hpre⟩ rfl (by rw [List.length_map]) hL.1 (by rw [hst, List.map_append, List.map_reverse]; rfl) (rest_cat hcat) hd hf
/-- a nest mate's private constructor -/
theorem vv_callIN {fo' al' : Bool} {ek' : γ → Option Value × Sg} {y : MethodName} {cc' : ByteArray} {nL' fr' lo' idx i : Nat} {host : String} {av : List Value} {ar : Nat} {body' : Option γ} {f : γ → Option β} (hc : Con l fo' al' ek' y cc' nL' fr' lo' none σ (.ref i :: av) body') (hfo : fo = true → fo' = true) (hfo2 : fo' = true → fo = true)
    (hal : al' = true → al = true) (hLk : al' = true → Ok fo σ → (∀ q ∈ L, vok (gN σ) q.2) ∧ ∀ v ∈ rest, vok (gN σ) v) (hd : decode cc pc = .ok (.invokespecial idx, 3)) (hn : pc + 3 = n) (hst : st = av.reverse ++ .ref i :: rest) (hcat : (rest.map fun v => v.category).sum ≤ 8) (hroom : fr' + 1 ≤ fr ∧ 8 + (nL' + 11) + lo' ≤ lo)
    (hy : y.name = "<init>") (q1 : Cond.methodLinkNest own idx y host ∈ lw_tbl) (q2 : Cond.initialized y.cls ∈ lw_all) (q3 : Cond.instanceMethod y ∈ lw_all) (q4 : Cond.code y cc' nL' none ∈ lw_all) (har : av.length = ar) (ha : y.cls ≠ "java/lang/invoke/MethodHandle" ∧ y.cls ≠ "java/lang/invoke/VarHandle" ∧ (parseMethodDescriptor y.desc).map (fun d => d.parameters.length) = some ar)
    (kk : ∀ b, body' = some b → Up σ (ek' b).2 → VC l fo al ek cc own mn nL fr lo rt (ek' b).2 n L ((ek' b).1.toList ++ rest) (f b)) : VC l fo al ek cc own mn nL fr lo rt σ pc L st (body'.bind f) := by
  refine VC.call hc hfo hfo2 hal hLk hn (fun hok hM hP hS3 hL hMet hpre hf => ?_) kk
  subst har
  have h1 := hM.fr_
  have h2 := hM.lo_
  exact va_runIN ⟨hM.ex, hM.by_, hM.ml, hM.ow, hM.ts⟩ hMet ⟨va_cnB av.length hM.ts (lw_meth q4) rfl rfl rfl (hM.nw.1 _ q1 rfl) (hM.ts _ q2) ha ⟨Nat.le_trans hroom.1 h1, Nat.le_trans hroom.2 h2⟩, hy, hM.ts _ q3⟩ ⟨PcE_blind, hpre⟩ rfl (by rw [List.length_map]) hL.1 (by rw [hst, List.map_append, List.map_reverse]; rfl) (rest_cat hcat) hd hf
/-- a constructor -/
theorem vv_callI {fo' al' : Bool} {ek' : γ → Option Value × Sg} {y : MethodName} {cc' : ByteArray} {nL' fr' lo' idx i : Nat} {av : List Value} {ar : Nat} {body' : Option γ} {f : γ → Option β} (hc : Con l fo' al' ek' y cc' nL' fr' lo' none σ (.ref i :: av) body') (hfo : fo = true → fo' = true) (hfo2 : fo' = true → fo = true)
    (hal : al' = true → al = true) (hLk : al' = true → Ok fo σ → (∀ q ∈ L, vok (gN σ) q.2) ∧ ∀ v ∈ rest, vok (gN σ) v) (hd : decode cc pc = .ok (.invokespecial idx, 3)) (hn : pc + 3 = n) (hst : st = av.reverse ++ .ref i :: rest) (hcat : (rest.map fun v => v.category).sum ≤ 8) (hroom : fr' + 1 ≤ fr ∧ 8 + (nL' + 11) + lo' ≤ lo)
    (hy : y.name = "<init>") (q1 : Cond.methodLink own idx y ∈ lw_all) (q2 : Cond.initialized y.cls ∈ lw_all) (q3 : Cond.instanceMethod y ∈ lw_all) (q4 : Cond.code y cc' nL' none ∈ lw_all) (har : av.length = ar) (ha : y.cls ≠ "java/lang/invoke/MethodHandle" ∧ y.cls ≠ "java/lang/invoke/VarHandle" ∧ (parseMethodDescriptor y.desc).map (fun d => d.parameters.length) = some ar)
    (kk : ∀ b, body' = some b → Up σ (ek' b).2 → VC l fo al ek cc own mn nL fr lo rt (ek' b).2 n L ((ek' b).1.toList ++ rest) (f b)) : VC l fo al ek cc own mn nL fr lo rt σ pc L st (body'.bind f) := by
  refine VC.call hc hfo hfo2 hal hLk hn (fun hok hM hP hS3 hL hMet hpre hf => ?_) kk
  subst har
  have h1 := hM.fr_
  have h2 := hM.lo_
  exact va_runI ⟨hM.ex, hM.by_, hM.ml, hM.ow, hM.ts⟩ hMet (cwI av.length hM.ts (lw_meth q4) rfl rfl rfl (hM.ts _ q2) (hM.ts _ q1) (hM.ts _ q3) hy ha ⟨Nat.le_trans hroom.1 h1, Nat.le_trans hroom.2 h2⟩) ⟨PcE_blind, hpre⟩ rfl (by rw [List.length_map]) hL.1 (by rw [hst, List.map_append, List.map_reverse]; rfl) (rest_cat hcat) hd hf
end VCC
/-! Math, constants, switches, copies, the rest -/
def mx (x y : Int32) : Int32 := if x < y then y else x
def mi (x y : Int32) : Int32 := if y < x then y else x
def ab (x : Int32) : Int32 := if 0 ≤ x then x else 0 - x
theorem i32_of {x c : Int32} (h : x.toInt = c.toInt) : x = c := Int32.toInt_inj.mp h
section VCM
variable {β : Type} {l : Launch} {fo al : Bool} {ek : β → Option Value × Sg} {cc : ByteArray} {own mn : String} {nL fr lo : Nat} {rt : Option FieldType} {σ : Sg} {pc n : Nat} {L : List (Nat × Value)} {st : List Value} {body : Option β}
theorem vv_mmax {x y : Int32} {idx : Nat} (q1 : Cond.methodLink own idx Lib.Math.max.name ∈ lw_all) (q2 : Cond.static Lib.Math.max.name ∈ lw_all) (q3 : Cond.initialized "java/lang/Math" ∈ lw_all) (q4 : Cond.code Lib.Math.max.name Lib.Math.max.code 2 (some .int) ∈ lw_all) (hroom : 1 ≤ fr ∧ 21 ≤ lo) (hcat : (st.map fun v => v.category).sum ≤ 8)
    (hd : decode cc pc = .ok (.invokestatic idx, 3)) (hn : pc + 3 = n) (kk : VC l fo al ek cc own mn nL fr lo rt σ n L (.int (mx x y) :: st) body) : VC l fo al ek cc own mn nL fr lo rt σ pc L (.int y :: .int x :: st) body :=
  VC.go (fun hM hL hr k => by
    subst hn
    have h1 := hM.fr_
    have h2 := hM.lo_
    exact va_mmax hM.ex hM.by_ (by rw [hM.ml, hL.1]) hM.ow (hM.ts _ q1) (hM.ts _ q2) (hM.ts _ q3) (hM.ts _ q4) (by omega) (by rw [st_cat]; omega) hr.1 hr.2 hd k) kk
theorem vv_mmin {x y : Int32} {idx : Nat} (q1 : Cond.methodLink own idx Lib.Math.min.name ∈ lw_all) (q2 : Cond.static Lib.Math.min.name ∈ lw_all) (q3 : Cond.initialized "java/lang/Math" ∈ lw_all) (q4 : Cond.code Lib.Math.min.name Lib.Math.min.code 2 (some .int) ∈ lw_all) (hroom : 1 ≤ fr ∧ 21 ≤ lo) (hcat : (st.map fun v => v.category).sum ≤ 8)
    (hd : decode cc pc = .ok (.invokestatic idx, 3)) (hn : pc + 3 = n) (kk : VC l fo al ek cc own mn nL fr lo rt σ n L (.int (mi x y) :: st) body) : VC l fo al ek cc own mn nL fr lo rt σ pc L (.int y :: .int x :: st) body :=
  VC.go (fun hM hL hr k => by
    subst hn
    have h1 := hM.fr_
    have h2 := hM.lo_
    exact va_mmin hM.ex hM.by_ (by rw [hM.ml, hL.1]) hM.ow (hM.ts _ q1) (hM.ts _ q2) (hM.ts _ q3) (hM.ts _ q4) (by omega) (by rw [st_cat]; omega) hr.1 hr.2 hd k) kk
theorem vv_mabs {x : Int32} {idx : Nat} (q1 : Cond.methodLink own idx Lib.Math.abs.name ∈ lw_all) (q2 : Cond.static Lib.Math.abs.name ∈ lw_all) (q3 : Cond.initialized "java/lang/Math" ∈ lw_all) (q4 : Cond.code Lib.Math.abs.name Lib.Math.abs.code 1 (some .int) ∈ lw_all) (hroom : 1 ≤ fr ∧ 21 ≤ lo) (hcat : (st.map fun v => v.category).sum ≤ 8)
    (hd : decode cc pc = .ok (.invokestatic idx, 3)) (hn : pc + 3 = n) (kk : VC l fo al ek cc own mn nL fr lo rt σ n L (.int (ab x) :: st) body) : VC l fo al ek cc own mn nL fr lo rt σ pc L (.int x :: st) body :=
  VC.go (fun hM hL hr k => by
    subst hn
    have h1 := hM.fr_
    have h2 := hM.lo_
    exact va_mabs hM.ex hM.by_ (by rw [hM.ml, hL.1]) hM.ow (hM.ts _ q1) (hM.ts _ q2) (hM.ts _ q3) (hM.ts _ q4) (by omega) (by rw [st_cat]; omega) hr.1 hr.2 hd k) kk
theorem vv_ldc {idx : Nat} {v : Int32} (q1 : Cond.constant own idx v ∈ lw_all) (hd : decode cc pc = .ok (.ldc idx, 2)) (hn : pc + 2 = n) (kk : VC l fo al ek cc own mn nL fr lo rt σ n L (.int v :: st) body) : VC l fo al ek cc own mn nL fr lo rt σ pc L st body :=
  VC.go (fun hM hL _ k => by subst hn; exact lv_ldc hM.ex hM.by_ hM.ow (hM.ts _ q1) hd k) kk
theorem vv_ldcw {idx : Nat} {v : Int32} (q1 : Cond.constant own idx v ∈ lw_all) (hd : decode cc pc = .ok (.ldc_w idx, 3)) (hn : pc + 3 = n) (kk : VC l fo al ek cc own mn nL fr lo rt σ n L (.int v :: st) body) : VC l fo al ek cc own mn nL fr lo rt σ pc L st body :=
  VC.go (fun hM hL _ k => by subst hn; exact lv_ldcw hM.ex hM.by_ hM.ow (hM.ts _ q1) hd k) kk
theorem vv_ldc2 {idx : Nat} {v : Int64} (q1 : Cond.constantLong own idx v ∈ lw_all) (hd : decode cc pc = .ok (.ldc2_w idx, 3)) (hn : pc + 3 = n) (kk : VC l fo al ek cc own mn nL fr lo rt σ n L (.long v :: st) body) : VC l fo al ek cc own mn nL fr lo rt σ pc L st body :=
  VC.go (fun hM hL _ k => by subst hn; exact lv_ldc2 hM.ex hM.by_ hM.ow (hM.ts _ q1) hd k) kk
theorem vv_tabC {dflt lw hg : Int} {offs : Array Int} {len : Nat} {x c : Int32} {off : Int} {tgt : Nat} (hd : decode cc pc = .ok (.tableswitch dflt lw hg offs, len)) (hx : x = c) (h1 : ¬ c.toInt < lw) (h2 : ¬ hg < c.toInt) (ho : offs[(c.toInt - lw).toNat]? = some off) (ht : (pc : Int) + off = (tgt : Int))
    (kk : VC l fo al ek cc own mn nL fr lo rt σ tgt L st body) : VC l fo al ek cc own mn nL fr lo rt σ pc L (.int x :: st) body :=
  VC.go (fun hM hL _ k => by subst hx; exact lv_tableIn hM.ex hM.by_ hd h1 h2 ho ht k) kk
theorem vv_tabD {dflt lw hg : Int} {offs : Array Int} {len : Nat} {x : Int32} {tgt : Nat} (hd : decode cc pc = .ok (.tableswitch dflt lw hg offs, len)) (h : x.toInt < lw ∨ hg < x.toInt) (ht : (pc : Int) + dflt = (tgt : Int))
    (kk : VC l fo al ek cc own mn nL fr lo rt σ tgt L st body) : VC l fo al ek cc own mn nL fr lo rt σ pc L (.int x :: st) body :=
  VC.go (fun hM hL _ k => lv_tableOut hM.ex hM.by_ hd h ht k) kk
theorem vv_look {dflt : Int} {ps : Array (Int × Int)} {len : Nat} {x : Int32} {off : Int} {tgt : Nat} (hd : decode cc pc = .ok (.lookupswitch dflt ps, len)) (hp : (ps.toList.zip (ps.toList.drop 1)).all (fun (a, next) => a.1 < next.1) = true) (ho : Op.lookupswitch.offset ps.toList dflt x.toInt = off) (ht : (pc : Int) + off = (tgt : Int))
    (kk : VC l fo al ek cc own mn nL fr lo rt σ tgt L st body) : VC l fo al ek cc own mn nL fr lo rt σ pc L (.int x :: st) body :=
  VC.go (fun hM hL _ k => lv_lookup hM.ex hM.by_ hd hp ho ht k) kk
/-- the body asks whether x is c -/
theorem vv_case {P : Prop} [Decidable P] {bt bf : Option β} (kt : P → VC l fo al ek cc own mn nL fr lo rt σ pc L st bt) (kf : ¬ P → VC l fo al ek cc own mn nL fr lo rt σ pc L st bf) : VC l fo al ek cc own mn nL fr lo rt σ pc L st (if P then bt else bf) := by
  by_cases h : P
  · rw [if_pos h]; exact kt h
  · rw [if_neg h]; exact kf h
theorem vv_oinit {idx i : Nat} (q1 : Cond.methodLink own idx Lib.objectInit ∈ lw_all) (q2 : Cond.instanceMethod Lib.objectInit ∈ lw_all) (q3 : Cond.code Lib.objectInit ⟨#[0xb1]⟩ 1 none ∈ lw_all) (hroom : 1 ≤ fr ∧ 20 ≤ lo) (hcat : (st.map fun v => v.category).sum ≤ 8)
    (hd : decode cc pc = .ok (.invokespecial idx, 3)) (hn : pc + 3 = n) (kk : VC l fo al ek cc own mn nL fr lo rt σ n L st body) : VC l fo al ek cc own mn nL fr lo rt σ pc L (.ref i :: st) body :=
  VC.go (fun {D cA E A p e R s m args below meth c Q ad H locs cells slots ls} hM hL hr k => by
    subst hn
    have h1 := hM.fr_
    have h2 := hM.lo_
    have h3 : 2 * (F0 m pc ls (st.map (iv E ad))).monitorRoom + ((st.map (iv E ad)).map fun v => v.category).sum ≤ 8 := rest_cat hcat
    exact W.objInit hM.ex hM.by_ hM.ow (hM.ts _ q1) (hM.ts _ q2) (hM.ts _ q3) rfl (by rw [hM.ml]; exact hL.1) rfl hd (by omega) (by
      have h4 : 2 * (F0 m pc ls (List.map (iv E ad) (.ref i :: st))).monitorRoom + ((st.map (iv E ad)).map fun v => v.category).sum ≤ 8 := h3
      omega) k) kk
/-- System.arraycopy between arrays of ints -/
def cpI (σ : Sg) (a0 n0 : Nat) (sp : Int32) (a1 n1 : Nat) (dp n : Int32) : Option Sg := if (0 ≤ sp ∧ 0 ≤ dp ∧ 0 ≤ n) ∧ sp.toNatClampNeg + n.toNatClampNeg ≤ n0 ∧ dp.toNatClampNeg + n.toNatClampNeg ≤ n1 then some (cI σ a1 (va_cpy (gI σ a0) (gI σ a1) sp.toNatClampNeg dp.toNatClampNeg n.toNatClampNeg)) else none
def cpJ (σ : Sg) (a0 n0 : Nat) (sp : Int32) (a1 n1 : Nat) (dp n : Int32) : Option Sg := if (0 ≤ sp ∧ 0 ≤ dp ∧ 0 ≤ n) ∧ sp.toNatClampNeg + n.toNatClampNeg ≤ n0 ∧ dp.toNatClampNeg + n.toNatClampNeg ≤ n1 then some (cJ σ a1 (va_cpy (gJ σ a0) (gJ σ a1) sp.toNatClampNeg dp.toNatClampNeg n.toNatClampNeg)) else none
theorem nlt0 {x : Int32} (h : 0 ≤ x) : ¬ x < 0 := fun q => by
  have h1 := Int32.le_iff_toInt_le.mp h
  have h2 := Int32.lt_iff_toInt_lt.mp q
  omega
theorem vv_cpI {a0 n0 a1 n1 idx : Nat} {sp dp k : Int32} {f : Sg → Option β} (hK0 : Ok fo σ → gK σ a0 = (0, n0) ∧ a0 < gN σ) (hK1 : Ok fo σ → gK σ a1 = (0, n1) ∧ a1 < gN σ) (q1 : Cond.methodLink own idx arraycopyName ∈ lw_all) (hroom : 1 ≤ fr ∧ 32 ≤ lo) (hcat : (st.map fun v => v.category).sum ≤ 8)
    (hd : decode cc pc = .ok (.invokestatic idx, 3)) (hn : pc + 3 = n) (kk : ∀ τ, VC l fo al ek cc own mn nL fr lo rt τ n L st (f τ)) : VC l fo al ek cc own mn nL fr lo rt σ pc L (.int k :: .int dp :: .ref a1 :: .int sp :: .ref a0 :: st) ((cpI σ a0 n0 sp a1 n1 dp k).bind f) := by
  unfold cpI
  by_cases h : (0 ≤ sp ∧ 0 ≤ dp ∧ 0 ≤ k) ∧ sp.toNatClampNeg + k.toNatClampNeg ≤ n0 ∧ dp.toNatClampNeg + k.toNatClampNeg ≤ n1
  · rw [if_pos h]
    refine VC.sto (τ := cI σ a1 (va_cpy (gI σ a0) (gI σ a1) sp.toNatClampNeg dp.toNatClampNeg k.toNatClampNeg)) Ok.cI ⟨rfl, rfl, rfl, rfl⟩ (fun hok hM hW hL _ k2 => ?_) (kk _)
    subst hn
    have h1 := hM.fr_
    have h2 := hM.lo_
    exact va_copyi hM.ex hM.by_ (by rw [hM.ml, hL.1]) hM.ow (hM.ts _ q1) (hM.ts _ q490) (hM.ts _ q489) (hM.ts _ q107) hM.kk hW.1 hW.2.1 hW.2.2.1 a0 a1 0 0 (at_0 (hK0 hok)) (at_0 (hK1 hok)) rfl rfl rfl (nlt0 h.1.1) (nlt0 h.1.2.1) (nlt0 h.1.2.2) h.2.1 h.2.2 (fun _ _ => rfl) (by omega)
      (by rw [st_cat]; have hw : nativeFrameWords "java/lang/System" "arraycopy" 5 + 11 ≤ 24 := (by decide); omega) hd (fun H1 locs1 b1 b2 b3 => by rw [set_0 (hK1 hok)] at b1 b2; exact k2 H1 locs1 b1 b2 b3)
  · rw [if_neg h]; exact VC.non
theorem vv_cpJ {a0 n0 a1 n1 idx : Nat} {sp dp k : Int32} {f : Sg → Option β} (hK0 : Ok fo σ → gK σ a0 = (1, n0) ∧ a0 < gN σ) (hK1 : Ok fo σ → gK σ a1 = (1, n1) ∧ a1 < gN σ) (q1 : Cond.methodLink own idx arraycopyName ∈ lw_all) (hroom : 1 ≤ fr ∧ 32 ≤ lo) (hcat : (st.map fun v => v.category).sum ≤ 8)
    (hd : decode cc pc = .ok (.invokestatic idx, 3)) (hn : pc + 3 = n) (kk : ∀ τ, VC l fo al ek cc own mn nL fr lo rt τ n L st (f τ)) : VC l fo al ek cc own mn nL fr lo rt σ pc L (.int k :: .int dp :: .ref a1 :: .int sp :: .ref a0 :: st) ((cpJ σ a0 n0 sp a1 n1 dp k).bind f) := by
  unfold cpJ
  by_cases h : (0 ≤ sp ∧ 0 ≤ dp ∧ 0 ≤ k) ∧ sp.toNatClampNeg + k.toNatClampNeg ≤ n0 ∧ dp.toNatClampNeg + k.toNatClampNeg ≤ n1
  · rw [if_pos h]
    refine VC.sto (τ := cJ σ a1 (va_cpy (gJ σ a0) (gJ σ a1) sp.toNatClampNeg dp.toNatClampNeg k.toNatClampNeg)) Ok.cJ ⟨rfl, rfl, rfl, rfl⟩ (fun hok hM hW hL _ k2 => ?_) (kk _)
    subst hn
    have h1 := hM.fr_
    have h2 := hM.lo_
    exact va_copyl hM.ex hM.by_ (by rw [hM.ml, hL.1]) hM.ow (hM.ts _ q1) (hM.ts _ q490) (hM.ts _ q489) (hM.ts _ q107) hM.kk hW.1 hW.2.1 hW.2.2.1 a0 a1 1 1 (at_1 (hK0 hok)) (at_1 (hK1 hok)) rfl rfl rfl (nlt0 h.1.1) (nlt0 h.1.2.1) (nlt0 h.1.2.2) h.2.1 h.2.2 (fun _ _ => rfl) (by omega)
      (by rw [st_cat]; have hw : nativeFrameWords "java/lang/System" "arraycopy" 5 + 11 ≤ 24 := (by decide); omega) hd (fun H1 locs1 b1 b2 b3 => by rw [set_1 (hK1 hok)] at b1 b2; exact k2 H1 locs1 b1 b2 b3)
  · rw [if_neg h]; exact VC.non
theorem vv_aast {a N : Nat} {k : Int32} {v : Option Nat} {f : Sg → Option β} (hK : Ok fo σ → gK σ a = (4, N) ∧ a < gN σ) (hv : Ok fo σ → ∀ i, v = some i → gK σ i = (6, 8) ∧ i < gN σ) (hs : fo = true → (stR.getD a []) = []) (hd : decode cc pc = .ok (.aastore, 1)) (hn : pc + 1 = n) (kk : ∀ τ, VC l fo al ek cc own mn nL fr lo rt τ n L st (f τ)) : VC l fo al ek cc own mn nL fr lo rt σ pc L (va_rf v :: .int k :: .ref a :: st) ((tR σ a N k v).bind f) := by
  unfold tR
  by_cases h : inb k N = true
  · rw [if_pos h]
    refine VC.sto (τ := pR σ a k.toNatClampNeg v) (fun hok => Ok.pR hok (fun r hr => (hv hok r hr).2) (fun h => by rw [hs h]; rfl)) ⟨rfl, rfl, rfl, rfl⟩ (fun {D cA E A p e R s m args below meth c Q ad0 n0 ad H locs cells slots ls} hok hM hW hL _ k2 => ?_) (kk _)
    subst hn
    have hfun : ∀ (w : Option Nat), (fun j => (va_up (gR σ a) k.toNatClampNeg w j).map ad) = va_up (fun j => (gR σ a j).map ad) k.toNatClampNeg (w.map ad) := by
      intro w
      funext j
      by_cases hj : j = k.toNatClampNeg
      · subst hj; rw [va_up_self, va_up_self]
      · rw [va_up_ne _ _ hj, va_up_ne _ _ hj]
    cases v with
    | none =>
      refine va_astqN hM.ex hM.by_ hM.kk hW.1 hW.2.1 hW.2.2.1 a 4 (at_4 (hK hok)) rfl (inb_in h) hd (fun H1 locs1 b1 b2 b3 => ?_)
      have hs2 := set_4 (cA := cA) (ad := ad) (f := va_up (gR σ a) k.toNatClampNeg none) (hK hok)
      rw [hfun none] at hs2
      exact k2 H1 locs1 (by show va_P D vwCl (wsE cA ad (cR σ a (va_up (gR σ a) k.toNatClampNeg none))) H1; rw [← hs2]; exact b1) (by show va_D A (wsE cA ad (cR σ a (va_up (gR σ a) k.toNatClampNeg none))); rw [← hs2]; exact b2) b3
    | some i =>
      obtain ⟨i1, i2⟩ := hv hok i rfl
      have he : (wsE cA ad σ)[i]? = some (ad i, .inr (1, (List.range 8).map (fdv 1 ad (gI σ i) (gR σ i)))) := by rw [wsE_at i2, cel_obj (c := 1) i1]
      refine va_astq hM.ex hM.by_ hM.kk hW.1 hW.2.1 hW.2.2.1 a 4 i 1 (r := (RX2, TX2, 8)) (at_4 (hK hok)) rfl he rfl (inb_in h) hd (fun H1 locs1 b1 b2 b3 => ?_)
      have hs2 := set_4 (cA := cA) (ad := ad) (f := va_up (gR σ a) k.toNatClampNeg (some i)) (hK hok)
      rw [hfun (some i)] at hs2
      exact k2 H1 locs1 (by show va_P D vwCl (wsE cA ad (cR σ a (va_up (gR σ a) k.toNatClampNeg (some i)))) H1; rw [← hs2]; exact b1) (by show va_D A (wsE cA ad (cR σ a (va_up (gR σ a) k.toNatClampNeg (some i)))); rw [← hs2]; exact b2) b3
  · rw [if_neg h]; exact VC.non
end VCM
/-! what the printed walks use -/
theorem stk {s : Sg} (h : Ok true s) (i : Nat) {k N : Nat} (e : stK.getD i (0, 0) = (k, N)) (hi : i < stK.length) : gK s i = (k, N) ∧ i < gN s := ⟨((h.2 rfl).2.1 i hi).trans e, Nat.lt_of_lt_of_le hi (h.2 rfl).1⟩
theorem str {s : Sg} (h : Ok true s) (i k c : Nat) (e : (stR.getD i []).getD k 0 = c + 1) : gR s i k = some c := (h.2 rfl).2.2 i k c e
abbrev Wst (w : Nat) : Prop := w = 1 ∨ w = 6 ∨ w = 21
abbrev Ai (a : Nat) : Prop := a < stK.length ∧ (stK.getD a (0, 0)).1 = 0
abbrev Ab (a : Nat) : Prop := a < stK.length ∧ (stK.getD a (0, 0)).1 = 2
def sln (a : Nat) : Nat := (stK.getD a (0, 0)).2
theorem skI {s : Sg} {a : Nat} (g : Ai a) (h : Ok true s) : gK s a = (0, sln a) ∧ a < gN s := stk h a (Prod.ext g.2 rfl) g.1
theorem skB {s : Sg} {a : Nat} (g : Ab a) (h : Ok true s) : gK s a = (2, sln a) ∧ a < gN s := stk h a (Prod.ext g.2 rfl) g.1
theorem skW {s : Sg} {w : Nat} (g : Wst w) (h : Ok true s) : gK s w = (1 + 5, 8) ∧ w < gN s := by
  rcases g with rfl | rfl | rfl
  · exact stk h 1 rfl (by decide)
  · exact stk h 6 rfl (by decide)
  · exact stk h 21 rfl (by decide)
theorem skA0 {s : Sg} {w : Nat} (g : Wst w) (h : Ok true s) : gK s (w + 1) = (0, 6) ∧ w + 1 < gN s := by
  rcases g with rfl | rfl | rfl
  · exact stk h 2 rfl (by decide)
  · exact stk h 7 rfl (by decide)
  · exact stk h 22 rfl (by decide)
theorem skA1 {s : Sg} {w : Nat} (g : Wst w) (h : Ok true s) : gK s (w + 2) = (0, 6) ∧ w + 2 < gN s := by
  rcases g with rfl | rfl | rfl
  · exact stk h 3 rfl (by decide)
  · exact stk h 8 rfl (by decide)
  · exact stk h 23 rfl (by decide)
theorem skA2 {s : Sg} {w : Nat} (g : Wst w) (h : Ok true s) : gK s (w + 3) = (0, 6) ∧ w + 3 < gN s := by
  rcases g with rfl | rfl | rfl
  · exact stk h 4 rfl (by decide)
  · exact stk h 9 rfl (by decide)
  · exact stk h 24 rfl (by decide)
theorem skA3 {s : Sg} {w : Nat} (g : Wst w) (h : Ok true s) : gK s (w + 4) = (0, 6) ∧ w + 4 < gN s := by
  rcases g with rfl | rfl | rfl
  · exact stk h 5 rfl (by decide)
  · exact stk h 10 rfl (by decide)
  · exact stk h 25 rfl (by decide)
theorem strW0 {s : Sg} {w : Nat} (g : Wst w) (h : Ok true s) : gR s w 0 = some (w + 1) := by
  rcases g with rfl | rfl | rfl <;> exact str h _ _ _ rfl
theorem strW1 {s : Sg} {w : Nat} (g : Wst w) (h : Ok true s) : gR s w 1 = some (w + 2) := by
  rcases g with rfl | rfl | rfl <;> exact str h _ _ _ rfl
theorem strW2 {s : Sg} {w : Nat} (g : Wst w) (h : Ok true s) : gR s w 2 = some (w + 3) := by
  rcases g with rfl | rfl | rfl <;> exact str h _ _ _ rfl
theorem strW3 {s : Sg} {w : Nat} (g : Wst w) (h : Ok true s) : gR s w 3 = some (w + 4) := by
  rcases g with rfl | rfl | rfl <;> exact str h _ _ _ rfl
theorem cd0 : CD 0 RX1 TX1 49 := ⟨rfl, in_X1⟩
theorem cd1 : CD 1 RX2 TX2 8 := ⟨rfl, in_X2⟩
theorem cd2 : CD 2 RX3 TX3 43 := ⟨rfl, in_X3⟩
theorem cp0 : CP TX1 49 tyX1 := ⟨tyX1_ok, nmX1⟩
theorem cp1 : CP TX2 8 tyX2 := ⟨tyX2_ok, nmX2⟩
theorem cp2 : CP TX3 43 tyX3 := ⟨tyX3_ok, nmX3⟩
theorem ble2 {a b c d : Nat} (h : (Nat.ble a b && Nat.ble c d) = true) : a ≤ b ∧ c ≤ d := ⟨Nat.le_of_ble_eq_true (Bool.and_eq_true _ _ ▸ h).1, Nat.le_of_ble_eq_true (Bool.and_eq_true _ _ ▸ h).2⟩
def eRI (s : Sg) (v : Int32) : Option Value × Sg := (some (.int v), s)
def eRL (s : Sg) (v : Int64) : Option Value × Sg := (some (.long v), s)
def eSI (r : Int32 × Sg) : Option Value × Sg := (some (.int r.1), r.2)
def eSL (r : Int64 × Sg) : Option Value × Sg := (some (.long r.1), r.2)
def eSV (s : Sg) : Option Value × Sg := (none, s)
def eSR (r : Option Nat × Sg) : Option Value × Sg := (some (va_rf r.1), r.2)
def b2 {α β : Type} (o : Option (α × Sg)) (f : α → Sg → Option β) : Option β := o.bind fun r => f r.1 r.2
def itN {α : Type} (B : α → α) (z : α) : Nat → α
  | 0 => z
  | n + 1 => B (itN B z n)
theorem vv_leti {β : Type} {l : Launch} {fo al : Bool} {ek : β → Option Value × Sg} {cc : ByteArray} {own mn : String} {nL fr lo : Nat} {rt : Option FieldType} {σ : Sg} {pc : Nat} {L : List (Nat × Value)} {st : List Value} {e : Int32} {f : Int32 → Option β} (kk : ∀ x, VC l fo al ek cc own mn nL fr lo rt σ pc L (.int x :: st) (f x)) : VC l fo al ek cc own mn nL fr lo rt σ pc L (.int e :: st) (lt_ e f) := kk e
theorem vv_letj {β : Type} {l : Launch} {fo al : Bool} {ek : β → Option Value × Sg} {cc : ByteArray} {own mn : String} {nL fr lo : Nat} {rt : Option FieldType} {σ : Sg} {pc : Nat} {L : List (Nat × Value)} {st : List Value} {e : Int64} {f : Int64 → Option β} (kk : ∀ x, VC l fo al ek cc own mn nL fr lo rt σ pc L (.long x :: st) (f x)) : VC l fo al ek cc own mn nL fr lo rt σ pc L (.long e :: st) (lt_ e f) := kk e
theorem Con.non {β : Type} {l : Launch} {fo al : Bool} {ek : β → Option Value × Sg} {y : MethodName} {cc : ByteArray} {nL fr lo : Nat} {rt : Option FieldType} {σ : Sg} {av : List Value} : Con l fo al ek y cc nL fr lo rt σ av none := fun b hb => by cases hb
/-- the room of a recursion of depth d -/
def frG : Nat → Nat
  | 0 => 0
  | d + 1 => frG d + 12
def loG : Nat → Nat
  | 0 => 0
  | d + 1 => loG d + 400
theorem cat_rf (r : Option Nat) : (va_rf r).category = 1 := by cases r <;> rfl
/-- a call of an abstract method, by the receiver's own class -/
theorem vv_callU {β γ : Type} {l : Launch} {fo al : Bool} {ek : β → Option Value × Sg} {cc : ByteArray} {own mn : String} {nL fr lo : Nat} {rt : Option FieldType} {σ : Sg} {pc n : Nat} {L : List (Nat × Value)} {rest : List Value} {fo' al' : Bool} {ek' : γ → Option Value × Sg} {y x : MethodName} {cc' : ByteArray} {nL' fr' lo' idx i ci : Nat} {C owner : String} {T : u_T} {N : Nat} {rt' : Option FieldType} {body' : Option γ} {f : γ → Option β} (hc : Con l fo' al' ek' y cc' nL' fr' lo' rt' σ [.ref i] body') (hfo : fo = true → fo' = true) (hfo2 : fo' = true → fo = true)
    (hal : al' = true → al = true) (hLk : al' = true → Ok fo σ → (∀ q ∈ L, vok (gN σ) q.2) ∧ ∀ v ∈ rest, vok (gN σ) v) (hcl : vwCl[ci]? = some (C, T, N)) (hK : Ok fo σ → gK σ i = (ci + 5, N) ∧ i < gN σ) (hd : decode cc pc = .ok (.invokevirtual idx, 3)) (hn : pc + 3 = n) (hcat : (rest.map fun v => v.category).sum ≤ 8) (hroom : fr' + 1 ≤ fr ∧ 8 + (nL' + 11) + lo' ≤ lo)
    (hw : GoodIn lw_all (va_wsU own idx C owner x y (ws_ y cc' nL' rt'))) (qd : Cond.declares ⟨owner, x.name, x.desc⟩ ∈ lw_tbl) (ha : owner ≠ "java/lang/invoke/MethodHandle" ∧ owner ≠ "java/lang/invoke/VarHandle" ∧ (parseMethodDescriptor x.desc).map (fun d => d.parameters.length) = some 0)
    (kk : ∀ b, body' = some b → Up σ (ek' b).2 → VC l fo al ek cc own mn nL fr lo rt (ek' b).2 n L ((ek' b).1.toList ++ rest) (f b)) : VC l fo al ek cc own mn nL fr lo rt σ pc L (.ref i :: rest) (body'.bind f) := by
  refine VC.call hc hfo hfo2 hal hLk hn (fun {D cA E A p e R s m args below meth c ad H locs cells slots mc ms ls Qc free} hok hM hP hS3 hL hMet hpre hf => ?_) kk
  have h1 := hM.fr_
  have h2 := hM.lo_
  obtain ⟨k1, k2⟩ := hK hok
  have he : (wsE cA ad σ)[i]? = some (ad i, .inr (ci, (List.range N).map (fdv ci ad (gI σ i) (gR σ i)))) := by rw [wsE_at k2, cel_obj k1]
  exact va_runU ⟨hM.ex, hM.by_, hM.ml, hM.ow, hM.ts⟩ hMet (va_cwA 0 hM.ts hw rfl rfl rfl (hM.nw.1 _ qd rfl) ha ⟨Nat.le_trans hroom.1 h1, Nat.le_trans hroom.2 h2⟩) ⟨PcE_blind, va_recv hM.kk hP hcl he, hpre⟩ rfl rfl hL.1 rfl (rest_cat hcat) hd hf
theorem cd3 : CD 3 RX6 TX6 3 := ⟨rfl, in_X6⟩
theorem cd4 : CD 4 RX7 TX7 3 := ⟨rfl, in_X7⟩
theorem cd5 : CD 5 RX5 TX5 3 := ⟨rfl, in_X5⟩
theorem cd6 : CD 6 RX8 TX8 5 := ⟨rfl, in_X8⟩
/-- an object of class c (with N fields) at i -/
abbrev Db (c N : Nat) (s : Sg) (i : Nat) : Prop := gK s i = (c + 5, N) ∧ i < gN s
/-- an array of six ints -/
abbrev Da (s : Sg) (i : Nat) : Prop := gK s i = (0, 6) ∧ i < gN s
theorem lw_U {own : String} {idx : Nat} {C owner : String} {x y : MethodName} {b : ByteArray} {L : Nat} {r : Option FieldType} (h1 : Cond.methodLink own idx x ∈ lw_all) (h2 : Cond.sameMethod x.cls owner x.name x.desc ∈ lw_all) (h3 : Cond.selects C x y ∈ lw_all) (h4 : Cond.instanceMethod y ∈ lw_all) (h5 : Cond.initialized y.cls ∈ lw_all) (h6 : Cond.code y b L r ∈ lw_all) : GoodIn lw_all (va_wsU own idx C owner x y (ws_ y b L r)) := by
  refine lw_app ?_ (lw_meth h6)
  intro w hw
  simp only [List.mem_cons, List.not_mem_nil, or_false] at hw
  rcases hw with e | e | e | e | e
  · rw [e]; exact h1
  · rw [e]; exact h2
  · rw [e]; exact h3
  · rw [e]; exact h4
  · rw [e]; exact h5
abbrev yNv : MethodName := ⟨"PullThePlug$Node", "value", "()I"⟩
/-- a node's value, whatever its class -/
def VN (l : Launch) (frc loc : Nat) (F : Sg → Nat → Option Int32) : Prop := ∀ (s : Sg) (i : Nat),
  ((gK s i = (3 + 5, 3) ∧ i < gN s) ∧ Con l true false (eRI s) yX6_value cX6_value 1 frc loc (some .int) s [.ref i] (F s i)) ∨
  ((gK s i = (4 + 5, 3) ∧ i < gN s) ∧ Con l true false (eRI s) yX7_value cX7_value 1 frc loc (some .int) s [.ref i] (F s i)) ∨
  ((gK s i = (5 + 5, 3) ∧ i < gN s) ∧ Con l true false (eRI s) yX5_value cX5_value 1 frc loc (some .int) s [.ref i] (F s i)) ∨
  ((gK s i = (6 + 5, 5) ∧ i < gN s) ∧ Con l true false (eRI s) yX8_value cX8_value 3 frc loc (some .int) s [.ref i] (F s i)) ∨ F s i = none
theorem vv_val {β : Type} {l : Launch} {al : Bool} {ek : β → Option Value × Sg} {cc : ByteArray} {own mn : String} {nL fr lo : Nat} {rt : Option FieldType} {s : Sg} {pc n idx i : Nat} {L : List (Nat × Value)} {st : List Value} {frc loc : Nat} {F : Sg → Nat → Option Int32} {f : Int32 → Option β} (hF : VN l frc loc F) (ql : Cond.methodLink own idx yNv ∈ lw_all) (hd : decode cc pc = .ok (.invokevirtual idx, 3)) (hn : pc + 3 = n) (hc : Nat.ble (st.map fun v => v.category).sum 8 = true) (hr : frc + 1 ≤ fr ∧ 8 + (3 + 11) + loc ≤ lo)
    (kk : ∀ v, VC l true al ek cc own mn nL fr lo rt s n L (.int v :: st) (f v)) : VC l true al ek cc own mn nL fr lo rt s pc L (.ref i :: st) ((F s i).bind f) := by
  rcases hF s i with ⟨hk, h⟩ | ⟨hk, h⟩ | ⟨hk, h⟩ | ⟨hk, h⟩ | h
  · exact vv_callU (ci := 3) (C := RX6) (T := TX6) (N := 3) (x := yNv) (owner := "PullThePlug$Node") h (fun h => h) (fun h => h) (fun h => by cases h) (fun h => by cases h) rfl (fun _ => hk) hd hn (Nat.le_of_ble_eq_true hc) ⟨hr.1, by omega⟩ (lw_U ql q699 q718 q707 q110 q708) q698 (by decide +kernel) (fun b _ _ => kk b)
  · exact vv_callU (ci := 4) (C := RX7) (T := TX7) (N := 3) (x := yNv) (owner := "PullThePlug$Node") h (fun h => h) (fun h => h) (fun h => by cases h) (fun h => by cases h) rfl (fun _ => hk) hd hn (Nat.le_of_ble_eq_true hc) ⟨hr.1, by omega⟩ (lw_U ql q699 q719 q709 q111 q710) q698 (by decide +kernel) (fun b _ _ => kk b)
  · exact vv_callU (ci := 5) (C := RX5) (T := TX5) (N := 3) (x := yNv) (owner := "PullThePlug$Node") h (fun h => h) (fun h => h) (fun h => by cases h) (fun h => by cases h) rfl (fun _ => hk) hd hn (Nat.le_of_ble_eq_true hc) ⟨hr.1, by omega⟩ (lw_U ql q699 q717 q704 q109 q705) q698 (by decide +kernel) (fun b _ _ => kk b)
  · exact vv_callU (ci := 6) (C := RX8) (T := TX8) (N := 5) (x := yNv) (owner := "PullThePlug$Node") h (fun h => h) (fun h => h) (fun h => by cases h) (fun h => by cases h) rfl (fun _ => hk) hd hn (Nat.le_of_ble_eq_true hc) ⟨hr.1, by omega⟩ (lw_U ql q699 q700 q701 q112 q702) q698 (by decide +kernel) (fun b _ _ => kk b)
  · rw [h]; exact VC.non
theorem sk0 {s : Sg} (h : Ok true s) : gK s 0 = (0 + 5, 49) ∧ 0 < gN s := stk h 0 rfl (by decide)
theorem sk1 {s : Sg} (h : Ok true s) : gK s 1 = (1 + 5, 8) ∧ 1 < gN s := stk h 1 rfl (by decide)
theorem sk2 {s : Sg} (h : Ok true s) : gK s 2 = (0, 6) ∧ 2 < gN s := stk h 2 rfl (by decide)
theorem sk3 {s : Sg} (h : Ok true s) : gK s 3 = (0, 6) ∧ 3 < gN s := stk h 3 rfl (by decide)
theorem sk4 {s : Sg} (h : Ok true s) : gK s 4 = (0, 6) ∧ 4 < gN s := stk h 4 rfl (by decide)
theorem sk5 {s : Sg} (h : Ok true s) : gK s 5 = (0, 6) ∧ 5 < gN s := stk h 5 rfl (by decide)
theorem sk6 {s : Sg} (h : Ok true s) : gK s 6 = (1 + 5, 8) ∧ 6 < gN s := stk h 6 rfl (by decide)
theorem sk7 {s : Sg} (h : Ok true s) : gK s 7 = (0, 6) ∧ 7 < gN s := stk h 7 rfl (by decide)
theorem sk8 {s : Sg} (h : Ok true s) : gK s 8 = (0, 6) ∧ 8 < gN s := stk h 8 rfl (by decide)
theorem sk9 {s : Sg} (h : Ok true s) : gK s 9 = (0, 6) ∧ 9 < gN s := stk h 9 rfl (by decide)
theorem sk10 {s : Sg} (h : Ok true s) : gK s 10 = (0, 6) ∧ 10 < gN s := stk h 10 rfl (by decide)
theorem sk11 {s : Sg} (h : Ok true s) : gK s 11 = (0, 6) ∧ 11 < gN s := stk h 11 rfl (by decide)
theorem sk12 {s : Sg} (h : Ok true s) : gK s 12 = (0, 6) ∧ 12 < gN s := stk h 12 rfl (by decide)
theorem sk13 {s : Sg} (h : Ok true s) : gK s 13 = (0, 6) ∧ 13 < gN s := stk h 13 rfl (by decide)
theorem sk14 {s : Sg} (h : Ok true s) : gK s 14 = (0, 80) ∧ 14 < gN s := stk h 14 rfl (by decide)
theorem sk15 {s : Sg} (h : Ok true s) : gK s 15 = (0, 6) ∧ 15 < gN s := stk h 15 rfl (by decide)
theorem sk16 {s : Sg} (h : Ok true s) : gK s 16 = (0, 6) ∧ 16 < gN s := stk h 16 rfl (by decide)
theorem sk17 {s : Sg} (h : Ok true s) : gK s 17 = (0, 6) ∧ 17 < gN s := stk h 17 rfl (by decide)
theorem sk18 {s : Sg} (h : Ok true s) : gK s 18 = (0, 6) ∧ 18 < gN s := stk h 18 rfl (by decide)
theorem sk19 {s : Sg} (h : Ok true s) : gK s 19 = (0, 6) ∧ 19 < gN s := stk h 19 rfl (by decide)
theorem sk20 {s : Sg} (h : Ok true s) : gK s 20 = (4, 12) ∧ 20 < gN s := stk h 20 rfl (by decide)
theorem sk21 {s : Sg} (h : Ok true s) : gK s 21 = (1 + 5, 8) ∧ 21 < gN s := stk h 21 rfl (by decide)
theorem sk22 {s : Sg} (h : Ok true s) : gK s 22 = (0, 6) ∧ 22 < gN s := stk h 22 rfl (by decide)
theorem sk23 {s : Sg} (h : Ok true s) : gK s 23 = (0, 6) ∧ 23 < gN s := stk h 23 rfl (by decide)
theorem sk24 {s : Sg} (h : Ok true s) : gK s 24 = (0, 6) ∧ 24 < gN s := stk h 24 rfl (by decide)
theorem sk25 {s : Sg} (h : Ok true s) : gK s 25 = (0, 6) ∧ 25 < gN s := stk h 25 rfl (by decide)
theorem sk26 {s : Sg} (h : Ok true s) : gK s 26 = (0, 6) ∧ 26 < gN s := stk h 26 rfl (by decide)
theorem sk27 {s : Sg} (h : Ok true s) : gK s 27 = (0, 6) ∧ 27 < gN s := stk h 27 rfl (by decide)
theorem sk28 {s : Sg} (h : Ok true s) : gK s 28 = (0, 60) ∧ 28 < gN s := stk h 28 rfl (by decide)
theorem sk29 {s : Sg} (h : Ok true s) : gK s 29 = (0, 60) ∧ 29 < gN s := stk h 29 rfl (by decide)
theorem sk30 {s : Sg} (h : Ok true s) : gK s 30 = (0, 60) ∧ 30 < gN s := stk h 30 rfl (by decide)
theorem sk31 {s : Sg} (h : Ok true s) : gK s 31 = (0, 10) ∧ 31 < gN s := stk h 31 rfl (by decide)
theorem sk32 {s : Sg} (h : Ok true s) : gK s 32 = (0, 10) ∧ 32 < gN s := stk h 32 rfl (by decide)
theorem sk33 {s : Sg} (h : Ok true s) : gK s 33 = (0, 10) ∧ 33 < gN s := stk h 33 rfl (by decide)
theorem sk34 {s : Sg} (h : Ok true s) : gK s 34 = (3, 55) ∧ 34 < gN s := stk h 34 rfl (by decide)
theorem sk35 {s : Sg} (h : Ok true s) : gK s 35 = (0, 6930) ∧ 35 < gN s := stk h 35 rfl (by decide)
theorem sk36 {s : Sg} (h : Ok true s) : gK s 36 = (0, 100) ∧ 36 < gN s := stk h 36 rfl (by decide)
theorem sk37 {s : Sg} (h : Ok true s) : gK s 37 = (0, 6) ∧ 37 < gN s := stk h 37 rfl (by decide)
theorem sk38 {s : Sg} (h : Ok true s) : gK s 38 = (0, 6) ∧ 38 < gN s := stk h 38 rfl (by decide)
theorem sk39 {s : Sg} (h : Ok true s) : gK s 39 = (0, 6) ∧ 39 < gN s := stk h 39 rfl (by decide)
theorem sk40 {s : Sg} (h : Ok true s) : gK s 40 = (1, 6) ∧ 40 < gN s := stk h 40 rfl (by decide)
theorem sk41 {s : Sg} (h : Ok true s) : gK s 41 = (1, 6) ∧ 41 < gN s := stk h 41 rfl (by decide)
theorem sk42 {s : Sg} (h : Ok true s) : gK s 42 = (4, 2) ∧ 42 < gN s := stk h 42 rfl (by decide)
theorem sk43 {s : Sg} (h : Ok true s) : gK s 43 = (0, 2) ∧ 43 < gN s := stk h 43 rfl (by decide)
theorem sk44 {s : Sg} (h : Ok true s) : gK s 44 = (1, 16) ∧ 44 < gN s := stk h 44 rfl (by decide)
theorem sk45 {s : Sg} (h : Ok true s) : gK s 45 = (2 + 5, 43) ∧ 45 < gN s := stk h 45 rfl (by decide)
theorem sk46 {s : Sg} (h : Ok true s) : gK s 46 = (0, 33) ∧ 46 < gN s := stk h 46 rfl (by decide)
theorem sk47 {s : Sg} (h : Ok true s) : gK s 47 = (0, 6) ∧ 47 < gN s := stk h 47 rfl (by decide)
theorem sk48 {s : Sg} (h : Ok true s) : gK s 48 = (0, 6) ∧ 48 < gN s := stk h 48 rfl (by decide)
theorem sk49 {s : Sg} (h : Ok true s) : gK s 49 = (0, 6) ∧ 49 < gN s := stk h 49 rfl (by decide)
theorem sk50 {s : Sg} (h : Ok true s) : gK s 50 = (2, 80) ∧ 50 < gN s := stk h 50 rfl (by decide)
theorem sk51 {s : Sg} (h : Ok true s) : gK s 51 = (1, 16) ∧ 51 < gN s := stk h 51 rfl (by decide)
theorem sk52 {s : Sg} (h : Ok true s) : gK s 52 = (0, 30) ∧ 52 < gN s := stk h 52 rfl (by decide)
theorem sk53 {s : Sg} (h : Ok true s) : gK s 53 = (2, 40) ∧ 53 < gN s := stk h 53 rfl (by decide)
theorem sk54 {s : Sg} (h : Ok true s) : gK s 54 = (2, 40) ∧ 54 < gN s := stk h 54 rfl (by decide)
theorem sk55 {s : Sg} (h : Ok true s) : gK s 55 = (0, 6) ∧ 55 < gN s := stk h 55 rfl (by decide)
theorem sk56 {s : Sg} (h : Ok true s) : gK s 56 = (0, 396) ∧ 56 < gN s := stk h 56 rfl (by decide)
theorem sk57 {s : Sg} (h : Ok true s) : gK s 57 = (0, 33) ∧ 57 < gN s := stk h 57 rfl (by decide)
theorem sk58 {s : Sg} (h : Ok true s) : gK s 58 = (0, 33) ∧ 58 < gN s := stk h 58 rfl (by decide)
theorem sk59 {s : Sg} (h : Ok true s) : gK s 59 = (0, 6) ∧ 59 < gN s := stk h 59 rfl (by decide)
theorem sk60 {s : Sg} (h : Ok true s) : gK s 60 = (0, 6) ∧ 60 < gN s := stk h 60 rfl (by decide)
theorem sk61 {s : Sg} (h : Ok true s) : gK s 61 = (0, 240) ∧ 61 < gN s := stk h 61 rfl (by decide)
theorem sk62 {s : Sg} (h : Ok true s) : gK s 62 = (0, 10) ∧ 62 < gN s := stk h 62 rfl (by decide)
theorem sk63 {s : Sg} (h : Ok true s) : gK s 63 = (0, 10) ∧ 63 < gN s := stk h 63 rfl (by decide)
theorem sk64 {s : Sg} (h : Ok true s) : gK s 64 = (0, 10) ∧ 64 < gN s := stk h 64 rfl (by decide)
theorem sk65 {s : Sg} (h : Ok true s) : gK s 65 = (0, 12600) ∧ 65 < gN s := stk h 65 rfl (by decide)
theorem sk66 {s : Sg} (h : Ok true s) : gK s 66 = (0, 448) ∧ 66 < gN s := stk h 66 rfl (by decide)
theorem sk67 {s : Sg} (h : Ok true s) : gK s 67 = (1, 6) ∧ 67 < gN s := stk h 67 rfl (by decide)
theorem sk68 {s : Sg} (h : Ok true s) : gK s 68 = (1, 6) ∧ 68 < gN s := stk h 68 rfl (by decide)
theorem sk69 {s : Sg} (h : Ok true s) : gK s 69 = (0, 66) ∧ 69 < gN s := stk h 69 rfl (by decide)
theorem sk70 {s : Sg} (h : Ok true s) : gK s 70 = (3, 2) ∧ 70 < gN s := stk h 70 rfl (by decide)
theorem sk71 {s : Sg} (h : Ok true s) : gK s 71 = (0, 2) ∧ 71 < gN s := stk h 71 rfl (by decide)
theorem sk72 {s : Sg} (h : Ok true s) : gK s 72 = (1, 1) ∧ 72 < gN s := stk h 72 rfl (by decide)
