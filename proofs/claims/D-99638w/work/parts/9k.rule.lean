/-! LAW: rule -/
set_option maxRecDepth 100000
def sRu (A : AS) (ru : Ru) : AS := (A.1, A.2.1, A.2.2.1, A.2.2.2.1, A.2.2.2.2.1, A.2.2.2.2.2.1, A.2.2.2.2.2.2.1, ru, A.2.2.2.2.2.2.2.2)
theorem XI_ru {A : AS} {s t : Sg} {c : Nat} {ru : Ru} (h : XI A s) (hG : GI c A) (f : Fr (fun i k => i = 0 ∧ k = 20) s t) (hr : XRul ru t) : XI (sRu A ru) t := by
  obtain ⟨h1, h2, h3, h4, h5, h6, h7, h8⟩ := h
  exact ⟨⟨h1.1.fr f, h1.2.1.fr f ⟨by omega, fun k => ⟨by omega, by omega, by omega⟩⟩, hr, fun w hw j hj => (f.R (by omega)).trans (h1.2.2.2 w hw j hj)⟩, (h2.mv (fun i k q1 q2 => f.I (by omega))), (h3.mv (f.I (by omega)) (fun k => f.J (by omega))), (h4.mv hG.2.2.1.1 h8 (f.I (by omega)) (fun k => f.R (by omega)) (fun i k q _ => f.I (by omega))), (h5.mv h8 (f.I (by omega)) (fun k => f.I (by omega)) (fun k => f.R (by omega)) (fun i k q _ => f.I (by omega))), (h6.mv (f.I (by omega)) (fun i k q1 q2 => f.I (by omega))), (h7.mv (f.I (by omega)) (fun k => f.I (by omega))), (h8.mv (fun k => f.R (by omega)) (fun k => f.R (by omega)) (fun b k q _ => f.R (by omega)) (fun i _ => by rw [f.K]) (by rw [f.N]; exact Nat.le_refl _))⟩
abbrev dRu (i k : Nat) : Prop := i = 53 ∨ i = 54 ∨ (i = 45 ∧ k = 18)
theorem MI_ru {u : Nat} {A : AS} {s t : Sg} {ru : Ru} (h : MI u A s) (f : Fr dRu s t) (hr : MRul u ru t) : MI u (sRu A ru) t := by
  obtain ⟨h1, h2, h3, h4, h5, h6, h7, h8⟩ := h
  obtain ⟨⟨g1, _⟩, b1, mo, b2, b3⟩ := h1
  exact ⟨⟨⟨g1.fr f ⟨by omega, fun k => ⟨by omega, by omega, by omega⟩⟩, hr⟩, (f.I (by omega)).trans b1, mo, b2, (f.I (by omega)).trans b3⟩, (h2.mv (fun k => f.I (by omega))), (h3.mv (f.I (by omega)) (fun k => f.J (by omega))), (h4.mv (f.I (by omega)) (fun k => f.I (by omega))), (h5.mv (f.I (by omega)) (fun i k q1 q2 => f.I (by omega))), (h6.mv (f.I (by omega)) (fun i k q1 q2 => f.I (by omega))), (h7.mv (f.I (by omega)) (fun k => f.I (by omega))), (⟨(f.R (by omega)).trans h8.1, (f.R (by omega)).trans h8.2⟩)⟩
theorem GI_ru {c : Nat} {A : AS} {ru : Ru} (h : GI c A) (hr : RuOK ru) : GI c (sRu A ru) := ⟨h.1, h.2.1, h.2.2.1, h.2.2.2.1, h.2.2.2.2.1, h.2.2.2.2.2.1, hr, h.2.2.2.2.2.2.2⟩
def R21 (ru : Ru) (t : Sg) : Prop := match ru with
  | none => gR t 0 21 = none
  | some g => ∃ i, gR t 0 21 = some i ∧ TrH t i g 100
theorem R21.rul {ru : Ru} {s t : Sg} (h : R21 ru s) (hn : NdS s t) (e : gR t 0 20 = gR s 0 21) : XRul ru t := by
  cases ru with
  | none => exact e.trans h
  | some g =>
    obtain ⟨i, hi, ht⟩ := h
    exact ⟨i, e.trans hi, fun r hr w k a hw hk ha => (ht.nd hn).2 r hr w k a hw hk ha 100 (by omega)⟩
/-- a rule that was read, as the Model keeps it -/
def RdM (u : Nat) (f : Nat → Nat) (n : Nat) (ru : Ru) : Prop := n ≤ 40 ∧ RuOK ru ∧ ((n = 0 ∧ ru = none) ∨ (0 < n ∧ ∃ g, ru = some g ∧ ∀ r s, (r = 53 ∨ r = 54) → (∀ k, k < n → gI s r k = (nI (f k)).toInt8.toInt32) → MEv u r n g s))
theorem RdM.rul {u n r : Nat} {f : Nat → Nat} {ru : Ru} {t : Sg} (h : RdM u f n ru) (hr : r = 53 ∨ r = 54) (e16 : gR t 45 16 = some r) (e18 : gI t 45 18 = nI n) (hb : ∀ k, k < n → gI t r k = (nI (f k)).toInt8.toInt32) : MRul u ru t := by
  obtain ⟨h1, h2, h3⟩ := h
  refine ⟨r, e16, hr, ?_⟩
  rcases h3 with ⟨h3, rfl⟩ | ⟨h3, g, rfl, h4⟩
  · show gI t 45 18 = nI 0
    rw [e18, h3]
  · exact ⟨n, h3, h1, e18, h4 r t hr hb⟩
theorem m1_ne {z : Nat} (hz : z < 2 ^ 29) : ¬ (-1 - nI z : Int32) = 0 := fun h => m1_neg hz (by rw [h]; decide)
theorem read_rule {u c : Nat} {A : AS} {n : Nat} {f : Nat → Nat} (hu : 20000 ≤ u) (hG : GI c A) (hnf : aT A = (n, f)) (hn80 : n ≤ 80) : ∃ (res : Option Ru) (z : Nat), z ≤ 80 ∧ (∀ ru, res = some ru → RdM u f n ru) ∧ (∀ s, XI A s → Tp (X_readsRule u s) (fun v t => Fa dXd s t ∧ gC t ≤ gC s + 40 ∧ gZ t ≤ gZ s + 200 ∧ gI t 0 8 = nI 0 ∧ XRow (aRow A) t ∧ ((∃ ru, res = some ru ∧ v = 0 ∧ R21 ru t) ∨ (res = none ∧ v = -1 - nI z)))) ∧ (∀ t, MI u A t → Tp (M_readRule u (pI t 45 9 0)) (fun v t' => Fr dMd t t' ∧ gI t' 45 6 = nI 0 ∧ MRw (aRow A) t' ∧ ((∃ ru, res = some ru ∧ v = 1) ∨ (res = none ∧ v = 0 ∧ gI t' 45 14 = nI z)))) := by
  have hf256 : ∀ k, f k < 256 := by have := hG.2.2.2.2.2.1.2; rw [hnf] at this; exact this
  obtain ⟨e, he⟩ : ∃ e, e = min n 40 := ⟨_, rfl⟩
  -- how both begin
  have hX0 : ∀ s, XI A s → ∀ P : Int32 → Sg → Prop, (∀ t, Fr (fun i k => i = 0 ∧ (8 ≤ k ∧ k ≤ 11)) s t → XRd f e 0 t → gI t 0 8 = nI 0 → gI t 0 11 = nI 0 → XRow (aRow A) t → KS t → Tp (if nI n = 0 then (X_readsRule_21 u t (nI n) none) else (b2 (X_parses u t 0) fun v3 s4 => X_readsRule_21 u s4 (nI n) v3)) P) → Tp (X_readsRule u s) P := by
    intro s hX P hP
    unfold X_readsRule
    refine TpP (X_begins_ok (m := 40) hX hG (by omega) rfl) (fun v t1 ⟨e1, f1, r1, g8, g11⟩ => ?_)
    rw [hnf, show min (n, f).1 40 = e from he.symm] at r1
    rw [hnf] at e1
    rw [e1]
    exact hP t1 f1 r1 g8 g11 (hX.2.2.1.mv (f1.I (by omega)) (fun k => f1.J (by omega))) (hX.1.1.fr f1)
  have hM0 : ∀ t, MI u A t → ∀ P : Int32 → Sg → Prop, (∀ t', Fr dMd t t' → MRd 50 f n 40 0 none t' → gI t' 45 6 = nI 0 → MRw (aRow A) t' → Tp (if nI n ≤ 0 then M_readRule_24 u t' else (b2 (M_held u t' 0) fun v3 s4 => M_readRule_24 u s4)) P) → Tp (M_readRule u (pI t 45 9 0)) P := by
    intro t ht P hP
    have hth := MI_th ht
    unfold M_readRule
    refine TtP (M_beginText_ok (m := 40) hth.2.2.2.2.2.2.1 hG (by omega) rfl) (fun t1 ⟨f1, r1, g6⟩ => ?_)
    rw [hnf] at r1
    rw [lt_e, gI_pI_k (by omega), r1.2.1]
    exact hP _ ((((Fr.refl _ _).pI (by omega)).trans (f1.mono (fun i k h => by omega))).pI (by omega)) (r1.mv rfl (fun k _ _ => gI_pI_k (by omega)) (fun k => gI_pI_i (by omega))) ((gI_pI_k (by omega)).trans g6) (ht.2.2.1.mv ((gI_pI_k (by omega)).trans ((f1.I (by omega)).trans (gI_pI_k (by omega)))) (fun k => f1.J (by omega)))
  by_cases hn0 : n = 0
  · refine ⟨some none, 0, by omega, fun ru hr => ?_, fun s hX => hX0 s hX _ (fun t f1 r1 g8 g11 w1 hk => ?_), fun t ht => hM0 t ht _ (fun t' f1 r1 g6 w1 => ?_)⟩
    · cases hr
      exact ⟨by omega, fun g hg => (by cases hg), Or.inl ⟨hn0, rfl⟩⟩
    · have hN := hk.1
      rw [if_pos (by rw [hn0]; exact nI_0)]
      unfold X_readsRule_21
      rw [bd_some, if_pos (show 0 < gN t by omega), lt_e, if_pos (by rw [hn0]; exact nI_0)]
      refine Tp_some ⟨((f1.mono (fun i k h => by omega)).pR (by omega)).fa, ?_, ?_, g8, w1, Or.inl ⟨none, rfl, rfl, ?_⟩⟩
      · show gC t ≤ _
        rw [f1.C]; omega
      · show gZ t ≤ _
        rw [f1.Z]; omega
      · show gR _ 0 21 = none
        rw [gR_pR, if_pos ⟨rfl, rfl⟩]
    · rw [if_pos (by rw [hn0]; decide)]
      unfold M_readRule_24
      rw [M_wasRight_y r1, if_pos (by omega), b2_some]
      exact ⟨1, t', rfl, f1, g6, w1, Or.inl ⟨none, rfl, rfl⟩⟩
  obtain ⟨p2, D, gd, hx, hm⟩ := parse_all f (u := u) hu he
  have gd1 := gd.1
  have gd2 := gd.2.1
  have hnd : nd_ e 0 0 + (4 - 0) ≤ 100 := by unfold nd_; omega
  have hne : ¬ nI n = 0 := nI_ne0 (by omega) (by omega)
  -- the class, to its end
  have hX : ∀ s, XI A s → ∀ P : Int32 → Sg → Prop, (∀ o t, Fa dXd s t → gC t ≤ gC s + 40 → gZ t ≤ gZ s + 200 → gI t 0 8 = nI 0 → XRow (aRow A) t → XRd f e p2 t → ((∃ g i, D = some g ∧ o = some i ∧ gR t 0 21 = some i ∧ TrH t i g 100) ∨ (D = none ∧ o = none)) → Tp (ox o (X_readsRule_46 u t (nI n) 0) (fun i3 => X_readsRule_46 u t (nI n) 1)) P) → Tp (X_readsRule u s) P := by
    intro s hX P hP
    refine hX0 s hX P (fun t f1 r1 g8 g11 w1 hk => ?_)
    have hN := hk.1
    rw [if_neg hne]
    unfold X_parses
    refine TpP (hx 100 t hnd hk r1 g11) (fun o t2 h2 => ?_)
    obtain ⟨F2, c2, z2, r2, h2⟩ := h2
    have hk2 := hk.fa F2
    have hN2 := hk2.1
    have hrok : rok t2 o := by
      rcases h2 with ⟨g, i, _, ho, ht, _⟩ | ⟨_, ho⟩
      · rw [ho]
        exact ht.1.1
      · rw [ho]
        show 0 < gN t2
        omega
    unfold X_readsRule_21
    rw [bd_some, if_pos hrok, lt_e, if_neg hne, show gR (pR t2 0 21 o) 0 21 = o from by rw [gR_pR, if_pos ⟨rfl, rfl⟩]]
    have f3 : Fr (fun i k => i = 0 ∧ k = 21) t2 (pR t2 0 21 o) := (Fr.refl _ _).pR ⟨rfl, rfl⟩
    rw [f1.C] at c2
    rw [f1.Z] at z2
    refine hP o _ (((f1.mono (fun i k h => by omega)).fa.trans (F2.mono (fun i k h => by omega))).trans (f3.mono (fun i k h => by omega)).fa) (by show gC t2 ≤ _; omega) (by show gZ t2 ≤ _; omega) ((F2.I (by omega) (by omega)).trans g8) (w1.mv (F2.I (by omega) (by omega)) (fun k => F2.J (by omega) (by omega))) (r2.mv rfl rfl (fun _ => rfl)) ?_
    rcases h2 with ⟨g, i, hg, ho, ht, _⟩ | h2
    · refine Or.inl ⟨g, i, hg, ho, by rw [gR_pR, if_pos ⟨rfl, rfl⟩]; exact ho, (ht.nd (f3.nd hk2 (fun i k hi q => by omega))).up (by omega)⟩
    · exact Or.inr h2
  have hM : ∀ t, MI u A t → ∀ P : Int32 → Sg → Prop, (∀ t', Fr dMd t t' → gI t' 45 6 = nI 0 → MRw (aRow A) t' → ((∃ g, D = some g ∧ MRd 50 f n 40 p2 none t') ∨ (D = none ∧ ∃ p3, MRd 50 f n 40 p3 (some p2) t')) → Tp (M_readRule_24 u t') P) → Tp (M_readRule u (pI t 45 9 0)) P := by
    intro t ht P hP
    refine hM0 t ht P (fun t' f1 r1 g6 w1 => ?_)
    rw [if_neg (nI_nle (by omega) (by omega))]
    unfold M_held
    refine TpP (hm 100 50 t' hnd r1) (fun v t2 h2 => ?_)
    obtain ⟨F2, h2⟩ := h2
    refine hP t2 (f1.trans (F2.mono (fun i k h => by omega))) ((F2.I (by omega)).trans g6) (w1.mv (F2.I (by omega)) (fun k => F2.J (by omega))) ?_
    rcases h2 with ⟨g, hg, r2, _⟩ | h2
    · exact Or.inl ⟨g, hg, r2⟩
    · exact Or.inr h2
  by_cases good : (∃ g, D = some g) ∧ p2 = e ∧ n ≤ e
  · obtain ⟨⟨g, hg⟩, hp2, hne2⟩ := good
    subst hg
    refine ⟨some (some g), 0, by omega, fun ru hr => ?_, fun s hXs => hX s hXs _ (fun o t F c1 z1 g8 w1 r1 h1 => ?_), fun t ht => hM t ht _ (fun t' f1 g6 w1 h1 => ?_)⟩
    · cases hr
      refine ⟨by omega, fun g' hg' => (by cases hg'; exact (gd.2.2 g rfl).2), Or.inr ⟨by omega, g, rfl, fun r s hr hs t ht e10 e11 e12 e13 e14 e19 => ?_⟩⟩
      have hAb : Ab r ∧ sln r = 40 := by
        rcases hr with rfl | rfl
        · exact ⟨by decide, rfl⟩
        · exact ⟨by decide, rfl⟩
      have r1 : MRd r f n 40 0 none t := ⟨e10, e11, e12, e13, e14, fun k hk => ⟨(ht k hk).trans (hs k hk), hf256 k⟩, ⟨hAb.1, by rw [hAb.2]; omega⟩, by rw [hAb.2]; omega, by omega, Nat.zero_le _, Nat.zero_le _, fun q hq => (by cases hq)⟩
      unfold M_held
      refine Tp_mono (hm 100 r t hnd r1) (fun v q h => ?_)
      obtain ⟨F, h⟩ := h
      rcases h with ⟨g', hg', _, hv⟩ | ⟨hg', _⟩
      · cases hg'
        exact ⟨hv e19, F⟩
      · cases hg'
    · rcases h1 with ⟨g', i, hg', ho, h21, ht⟩ | ⟨hg', _⟩
      · cases hg'
        unfold X_readsRule_46
        rw [ho, ox_some, X_faultOf_y r1 hn80, if_pos ⟨hp2, hne2⟩, bd_some]
        exact Tp_some ⟨F, c1, z1, g8, w1, Or.inl ⟨_, rfl, rfl, i, h21, ht⟩⟩
      · cases hg'
    · rcases h1 with ⟨g', hg', r1⟩ | ⟨hg', _⟩
      · unfold M_readRule_24
        rw [M_wasRight_y r1, if_pos (by omega), b2_some]
        exact ⟨1, t', rfl, f1, g6, w1, Or.inl ⟨_, rfl, rfl⟩⟩
      · cases hg'
  · refine ⟨none, p2, by omega, fun ru hr => (by cases hr), fun s hXs => hX s hXs _ (fun o t F c1 z1 g8 w1 r1 h1 => ?_), fun t ht => hM t ht _ (fun t' f1 g6 w1 h1 => ?_)⟩
    · unfold X_readsRule_46
      rcases h1 with ⟨g, i, hg, ho, _⟩ | ⟨_, ho⟩
      · rw [ho, ox_some, X_faultOf_y r1 hn80, if_neg (fun h => good ⟨⟨g, hg⟩, h⟩), bd_some]
        exact Tp_some ⟨F, c1, z1, g8, w1, Or.inr ⟨rfl, rfl⟩⟩
      · rw [ho, ox_none, X_faultOf_n r1 hn80, bd_some]
        exact Tp_some ⟨F, c1, z1, g8, w1, Or.inr ⟨rfl, rfl⟩⟩
    · unfold M_readRule_24
      rcases h1 with ⟨g, hg, r1⟩ | ⟨_, p3, r1⟩
      · rw [M_wasRight_y r1, if_neg (fun h => good ⟨⟨g, hg⟩, by omega, by omega⟩), b2_some]
        exact ⟨0, _, rfl, f1.pI (by omega), (gI_pI_k (by omega)).trans g6, w1.mv (gI_pI_k (by omega)) (fun k => rfl), Or.inr ⟨rfl, rfl, gI_pI_s⟩⟩
      · rw [M_wasRight_n r1, b2_some]
        exact ⟨0, _, rfl, f1, g6, w1, Or.inr ⟨rfl, rfl, r1.2.2.2.2.1⟩⟩
theorem by_by (x : Int32) : vp_nar .byte x.toInt8.toInt32 = x.toInt8.toInt32 := by
  rw [vp_nar_byte, Int8.toInt8_toInt32]
theorem op_rule {u c : Nat} {s : Sg} {A : AS} (hu : 20000 ≤ u) (hX : XI A s) (hM : MI u A s) (hG : GI c A) : Bth u c s (X_rule u s) (fun t => M_rule u t) := by
  have h73 := hX.1.1.1
  have h80 := hG.2.2.2.2.2.1.1
  obtain ⟨n, f, hnf⟩ : ∃ n f, aT A = (n, f) := ⟨_, _, rfl⟩
  have hn80 : n ≤ 80 := by rw [hnf] at h80; exact h80
  obtain ⟨res, z, hz, hrd, hx, hm⟩ := read_rule hu hG hnf hn80
  cases res with
  | none =>
    refine both_txtA (-1 - nI z) (aRow A) hX hM hG ?_ (fun t ht => ?_)
    · unfold X_rule
      refine TpP (hx s hX) (fun v t ⟨F, c1, z1, g8, w1, h1⟩ => ?_)
      rcases h1 with ⟨ru, hr, _⟩ | ⟨_, hv⟩
      · cases hr
      · rw [hv, if_neg (m1_ne (by omega))]
        exact Tp_some ⟨rfl, F, w1, g8, by omega, by omega⟩
    · unfold M_rule
      rw [lt_e, lt_e]
      refine TpP (hm t ht) (fun v t' ⟨F, g6, w1, h1⟩ => ?_)
      rcases h1 with ⟨ru, hr, _⟩ | ⟨_, hv, h14⟩
      · cases hr
      · rw [hv, if_pos rfl, h14]
        exact Tp_some ⟨rfl, F, w1, g6⟩
  | some ru =>
    have hR := hrd ru rfl
    have hn40 := hR.1
    have hG1 : GI (c + 1) (sTr A (aRow A)) := GI_tr _ hG
    have hG' : GI (c + 1) (sRu (sTr A (aRow A)) ru) := GI_ru hG1 hR.2.1
    refine both_gen (A := A) 0 _ ?_ (fun t hXt ht => ?_) hG'
    · unfold X_rule
      refine TpP (hx s hX) (fun v t ⟨F, c1, z1, g8, w1, h1⟩ => ?_)
      rcases h1 with ⟨ru', hr, hv, h21⟩ | ⟨hr, _⟩
      · cases hr
        have x1 : XI (sTr A (aRow A)) t := XI_trA hX hG F w1 g8
        have f2 : Fr (fun i k => i = 0 ∧ k = 20) t (pR t 0 20 (gR t 0 21)) := (Fr.refl _ _).pR ⟨rfl, rfl⟩
        have hr : XRul ru (pR t 0 20 (gR t 0 21)) := h21.rul (f2.nd x1.1.1 (fun i k hi q => by omega)) (by rw [gR_pR, if_pos ⟨rfl, rfl⟩])
        rw [hv, if_pos rfl, lt_e]
        refine Tp_some ⟨rfl, XI_ru x1 hG1 f2 hr, (hM.fa h73 F (fun i k a b => by omega)).fr f2 (fun i k a b => by omega), F.S, ?_, ?_⟩
        · show gC t ≤ _
          omega
        · show gZ t ≤ _
          omega
      · cases hr
    · have e6 : gI (pI t 45 9 0) 45 6 = nI n := (gI_pI_k (by omega)).trans (by rw [ht.2.2.2.2.2.2.1.1, hnf])
      unfold M_rule
      rw [lt_e, lt_e, e6]
      refine TpP (hm t ht) (fun v t' ⟨F, g6, w1, h1⟩ => ?_)
      rcases h1 with ⟨ru', hr, hv⟩ | ⟨hr, _⟩
      · cases hr
        have m1 : MI u (sTr A (aRow A)) t' := MI_tr ht F w1 g6
        have e50 : ∀ k, k < n → gI t' 50 k = (nI (f k)).toInt8.toInt32 := fun k hk => by
          have := ht.2.2.2.2.2.2.1.2 k (by rw [hnf]; exact hk)
          rw [hnf] at this
          exact (F.I (by omega)).trans this
        rw [hv, if_neg (by decide)]
        refine loop_i (W := fun w k t2 => Tp (M_rule_26 u w t2 (nI n) (nI k)) _)
          (I := fun k t2 => Fr (fun i _ => i = 53) t' t2 ∧ ∀ j, j < k → gI t2 53 j = (nI (f j)).toInt8.toInt32) n ?_ ?_ u 0 t' (by omega) (by omega) ⟨Fr.refl _ _, fun j hj => absurd hj (Nat.not_lt_zero _)⟩
        · intro w t2 ⟨f2, b2⟩
          have e16 : gR t2 45 16 = some 53 := (f2.R (by omega)).trans m1.2.2.2.2.2.2.2.1
          rw [M_rule_26_s]
          unfold M_rule_26b
          rw [if_pos (nI_le (Nat.le_refl _) (by omega)), lt_e]
          have f3 : Fr dRu t' (pI t2 45 18 (nI n)) := (f2.mono (fun i k h => by omega)).pI (by omega)
          refine Tp_some ⟨rfl, gm (D := fun i k => dMd i k ∨ dRu i k) hXt hG' ((F.mono (fun i k h => Or.inl h)).trans (f3.mono (fun i k h => Or.inr h))) (fun i k h => by omega) (MI_ru m1 f3 (hR.rul (r := 53) (Or.inl rfl) e16 gI_pI_s (fun k hk => (gI_pI_i (by omega)).trans (b2 k hk))))⟩
        · intro w k t2 hk ⟨f2, b2⟩ ih
          have e16 : gR t2 45 16 = some 53 := (f2.R (by omega)).trans m1.2.2.2.2.2.2.2.1
          rw [M_rule_26_s]
          unfold M_rule_26b
          rw [if_neg (nI_ge hk (by omega)), aI_n (by omega) (by omega), bd_some, e16, bd_some, if_pos (by decide), show sln 53 = 40 from rfl, tI_n (by omega) (by omega), bd_some, nI_1]
          refine ih _ ⟨f2.pI rfl, fun j hj => ?_⟩
          by_cases e : j = k
          · rw [e, gI_pI_s, f2.I (by omega), e50 k hk, by_by]
          · rw [gI_pI_k e]
            exact b2 j (by omega)
      · cases hr
