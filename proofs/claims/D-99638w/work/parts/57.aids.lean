/-! LAW: aids for operations that look ahead -/
set_option maxRecDepth 100000
theorem X_env {A : AS} {s t : Sg} (hX : XI A s) (f : Fr dXr s t) : XEn (aG A) (aRu A) t ∧ XW (gn (aG A)) t 1 (aW A) := ⟨hX.1.fr f ⟨fun k => ⟨by omega, by omega, by omega⟩, by omega, by omega, fun i k hi => by omega, fun w hw j hj => by omega⟩, hX.2.1.mv (fun i k h1 h2 => f.I (by omega))⟩
theorem X_try {A : AS} {s : Sg} {c : Nat} (hX : XI A s) (hG : GI c A) : Tt (W_becomes s 6 1) (fun t => Fr dXr s t ∧ XW (gn (aG A)) t 6 (aW A)) :=
  Tt_mono (W_becomes_ok (DWb_st hX.1 (by omega)) (DWb_st hX.1 (by omega)) (by omega)) (fun t h => ⟨h.1.mono (fun i k q => by omega), h.2 _ _ hG.1.1 hX.2.1⟩)
/-- tried.becomes(now) anywhere in an operation -/
theorem X_try' {A : AS} {s t : Sg} {c : Nat} (hX : XI A s) (hG : GI c A) (f : Fr dXr s t) : Tt (W_becomes t 6 1) (fun t' => Fr dXr s t' ∧ XW (gn (aG A)) t' 6 (aW A) ∧ Fr dSX t t') := by
  obtain ⟨hE, hW⟩ := X_env hX f
  refine Tt_mono (W_becomes_ok (DWb_st hE (by omega)) (DWb_st hE (by omega)) (by omega)) (fun t' h => ⟨f.trans (h.1.mono (fun i k q => by omega)), h.2 _ _ hG.1.1 hW, h.1.mono (fun i k q => by omega)⟩)
theorem X_tday {A : AS} {s t : Sg} {c u : Nat} {W : Wt} (hu : 20000 ≤ u) (hX : XI A s) (hG : GI c A) (f : Fr dXr s t) (hW : XW (gn (aG A)) t 6 W) (hg : GoodW (aG A) W) : Tt (X_dayGoes u t 6) (fun t' => Fr dXr s t' ∧ XW (gn (aG A)) t' 6 (dyS (aG A) (aRu A) W) ∧ Fr dSX t t') :=
  Tt_mono (X_day_ok hu hG.1 (X_env hX f).1 hg hW (by omega)) (fun t' h => ⟨f.trans (h.1.mono (fun i k q => by omega)), h.2, h.1.mono (fun i k q => by omega)⟩)
theorem X_tdays {A : AS} {s t : Sg} {c u m : Nat} {W : Wt} (hu : 20000 ≤ u) (hX : XI A s) (hG : GI c A) (f : Fr dXr s t) (hW : XW (gn (aG A)) t 6 W) (hg : GoodW (aG A) W) (hm : m ≤ 10000) : Tt (X_daysGo u t 6 (nI m)) (fun t' => Fr dXr s t' ∧ XW (gn (aG A)) t' 6 (dyN (aG A) (aRu A) m W) ∧ Fr dSX t t') :=
  Tt_mono (X_daysGo_ok hu hG.1 (X_env hX f).1 hg hW (by omega) hm) (fun t' h => ⟨f.trans (h.1.mono (fun i k q => by omega)), h.2, h.1.mono (fun i k q => by omega)⟩)
theorem X_tell' {s t : Sg} {r : List Int64} (v : Int64) (f : Fr dXr s t) (hr : XRow r t) (hl : r.length < 16) : Tt (X_tells t v) (fun t' => Fr dXr s t' ∧ XRow (r ++ [v]) t' ∧ ∀ i k, i ≠ 0 → i ≠ 44 → gI t' i k = gI t i k) :=
  Tt_mono (X_tells_ok v hr hl) (fun t' h => ⟨f.trans (h.2.mono (fun i k q => by omega)), h.1, fun i k q1 q2 => h.2.I (by omega)⟩)
theorem XW.g {n : Nat} {s t : Sg} {w : Nat} {W : Wt} (h : XW n s w W) (hw : 0 < w ∧ w < 40) (e : ∀ i k, i ≠ 0 → i ≠ 44 → gI t i k = gI s i k) : XW n t w W := h.mv (fun i k h1 h2 => e i k (by omega) (by omega))
theorem XW.r0 {n : Nat} {s : Sg} {w : Nat} {W : Wt} (h : XW n s w W) (hw : w ≠ 0) : XW n (pI s 0 48 0) w W := h.mv (fun i k h1 h2 => gI_pI_i (by omega))
/-! the Model -/
theorem M_env {u : Nat} {A : AS} {s t : Sg} (hM : MI u A s) (f : Fr dMr s t) : MB u (aG A) (aRu A) t ∧ MW (gn (aG A)) t 46 0 (aW A) := ⟨hM.1.fr f ⟨fun k => ⟨by omega, by omega, by omega, by omega, by omega⟩, by omega, by omega, by omega⟩ (by omega) (by omega), hM.2.1.mv (fun k => f.I (by omega))⟩
theorem M_try' {u : Nat} {A : AS} {s t : Sg} {c : Nat} (hu : 20000 ≤ u) (hM : MI u A s) (hG : GI c A) (f : Fr dMr s t) : Tt (M_lay u t 46 58 0) (fun t' => Fr dMr s t' ∧ MW (gn (aG A)) t' 58 0 (aW A) ∧ Fr dSM t t') := by
  obtain ⟨hE, hW⟩ := M_env hM f
  refine Tt_mono (M_lay_ok (o := 0) hu (by decide) (by decide) rfl (by decide) (by decide) (by decide)) (fun t' h => ⟨f.trans (h.1.mono (fun i k q => by omega)), lay_MW hG.1.1 h.2 hW, h.1.mono (fun i k q => by omega)⟩)
theorem M_tday {u : Nat} {A : AS} {s t : Sg} {c : Nat} {W : Wt} (hu : 20000 ≤ u) (hM : MI u A s) (hG : GI c A) (f : Fr dMr s t) (hW : MW (gn (aG A)) t 58 0 W) (hg : GoodW (aG A) W) : Tt (M_goDay u t 58) (fun t' => Fr dMr s t' ∧ MW (gn (aG A)) t' 58 0 (dyS (aG A) (aRu A) W) ∧ Fr dSM t t') :=
  Tt_mono (M_day_ok hu hG.1 (M_env hM f).1 hG.2.2.2.2.2.2.1 hg hW (by omega)) (fun t' h => ⟨f.trans (h.1.mono (fun i k q => by omega)), h.2, h.1.mono (fun i k q => by omega)⟩)
theorem M_tdays {u : Nat} {A : AS} {s t : Sg} {c m : Nat} {W : Wt} (hu : 20000 ≤ u) (hM : MI u A s) (hG : GI c A) (f : Fr dMr s t) (hW : MW (gn (aG A)) t 58 0 W) (hg : GoodW (aG A) W) (hm : m ≤ 10000) : Tt (M_goDays u t 58 (nI m)) (fun t' => Fr dMr s t' ∧ MW (gn (aG A)) t' 58 0 (dyN (aG A) (aRu A) m W) ∧ Fr dSM t t') :=
  Tt_mono (M_days_ok hu hG.1 (M_env hM f).1 hG.2.2.2.2.2.2.1 hg hW (by omega) hm) (fun t' h => ⟨f.trans (h.1.mono (fun i k q => by omega)), h.2, h.1.mono (fun i k q => by omega)⟩)
theorem M_tell' {s t : Sg} {r : List Int64} (v : Int64) (f : Fr dMr s t) (hr : MRw r t) (hl : r.length < 16) : Tt (M_tell t v) (fun t' => Fr dMr s t' ∧ MRw (r ++ [v]) t' ∧ ∀ i k, i ≠ 45 → i ≠ 51 → gI t' i k = gI t i k) :=
  Tt_mono (M_tell_ok v hr hl) (fun t' h => ⟨f.trans (h.2.mono (fun i k q => by omega)), h.1, fun i k q1 q2 => h.2.I (by omega)⟩)
theorem MW.g {n : Nat} {s t : Sg} {a o : Nat} {W : Wt} (h : MW n s a o W) (ha : a ≠ 45 ∧ a ≠ 51) (e : ∀ i k, i ≠ 45 → i ≠ 51 → gI t i k = gI s i k) : MW n t a o W := h.mv (fun k => e a k ha.1 ha.2)
theorem MW.r0 {n : Nat} {s : Sg} {a o j : Nat} {v : Int32} {W : Wt} (h : MW n s a o W) (ha : a ≠ 45) : MW n (pI s 45 j v) a o W := h.mv (fun k => gI_pI_i ha)
/-! ### rows made by a loop -/
def rwN (f : Nat → Int64) (n : Nat) : List Int64 := (List.range n).map f
theorem rwN_s (f : Nat → Int64) (n : Nat) : rwN f (n + 1) = rwN f n ++ [f n] := by
  unfold rwN
  rw [List.range_succ, List.map_append]
  rfl
theorem rwN_len (f : Nat → Int64) (n : Nat) : (rwN f n).length = n := by
  unfold rwN
  rw [List.length_map, List.length_range]
/-! ### the first one -/
def fs (p : Nat → Bool) : Nat → Nat → Option Nat
  | 0, _ => none
  | m + 1, j => if p j then some j else fs p m (j + 1)
theorem fs_s (p : Nat → Bool) {m j : Nat} (h : j < m) : fs p (m - j) j = if p j then some j else fs p (m - (j + 1)) (j + 1) := by
  have e : m - j = (m - (j + 1)) + 1 := by omega
  rw [e]
  rfl
theorem in_or2 (x : Int32) (a c : Nat) (hc : c < 2 ^ 31) (ha : a < 2 ^ 31) : (∃ j, a ≤ j ∧ j ≤ c ∧ x = nI j) ∨ ¬ (nI a ≤ x ∧ x ≤ nI c) := by
  by_cases h : nI a ≤ x ∧ x ≤ nI c
  · left
    obtain ⟨j, hj, e⟩ := nI_of (x := x) (fun q => by
      have h1 := Int32.le_iff_toInt_le.mp h.1
      have h2 := Int32.lt_iff_toInt_lt.mp q
      have h3 := nI_toInt ha
      have h4 : (0 : Int32).toInt = 0 := rfl
      omega)
    subst e
    exact ⟨j, (nI_leI ha hj).mp h.1, (nI_leI hj hc).mp h.2, rfl⟩
  · exact Or.inr h
theorem in_yes2 {j a c : Nat} (h0 : a ≤ j) (h : j ≤ c) (hc : c < 2 ^ 31) : nI a ≤ nI j ∧ nI j ≤ nI c := ⟨nI_le h0 (by omega), nI_le h hc⟩
theorem X_isL {A : AS} {s : Sg} (h : XI A s) (x : Int32) : X_isLake s x = some (if 0 ≤ x ∧ x ≤ nI (gn (aG A)) - 1 then 1 else 0) := X_isLake_ok h.1.2.1 x
theorem M_th {s : Sg} : Fr dMr s (pI s 45 9 0) := (Fr.refl _ _).pI (by omega)
theorem M_isL {u : Nat} {A : AS} {s : Sg} (h : MI u A s) (x : Int32) : M_isLake (pI s 45 9 0) x = some (if 0 ≤ x ∧ x ≤ nI (gn (aG A)) - 1 then 1 else 0) := M_isLake_ok (M_env h M_th).1.1.1 x
theorem M_then {u : Nat} {A : AS} {s t : Sg} {c m : Nat} (hu : 20000 ≤ u) (hM : MI u A s) (hG : GI c A) (f : Fr dMr s t) (hm : m ≤ 10000) : Tt (M_goThen u t (nI m)) (fun t' => Fr dMr s t' ∧ MW (gn (aG A)) t' 58 0 (dyN (aG A) (aRu A) m (aW A))) := by
  unfold M_goThen
  exact TtT (M_try' hu hM hG f) (fun t1 h1 => TtT (M_tdays hu hM hG h1.1 h1.2.1 hG.2.1 hm) (fun t2 h2 => Tt_some ⟨h2.1, h2.2.1⟩))
