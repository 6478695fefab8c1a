/-! LAW: keep, again -/
set_option maxRecDepth 100000
def kpX (n : Nat) (o : Option Wt) (c : Nat) (s : Sg) (i : Nat) : Prop := match o with
  | some W => gI s 43 i = nI c ∧ ∃ b, gR s 42 i = some b ∧ XW n s b W
  | none => gR s 42 i = none ∨ ∃ d, d < c ∧ gI s 43 i = nI d
theorem kpX.mv {n : Nat} {o : Option Wt} {c : Nat} {s t : Sg} {i : Nat} (h : kpX n o c s i) (e1 : gI t 43 i = gI s 43 i) (e2 : gR t 42 i = gR s 42 i) (e3 : ∀ b, gR s 42 i = some b → ∀ j k, b ≤ j → j ≤ b + 4 → gI t j k = gI s j k) : kpX n o c t i := by
  cases o with
  | none =>
    show gR t 42 i = none ∨ ∃ d, d < c ∧ gI t 43 i = nI d
    rw [e1, e2]
    exact h
  | some W =>
    obtain ⟨q1, b, hb, hw⟩ := h
    exact ⟨e1.trans q1, b, e2.trans hb, hw.mv (fun j k a1 a2 => e3 b hb j k a1 a2)⟩
def sK (A : AS) (K : Nat → Option Wt) : AS := (A.1, A.2.1, A.2.2.1, A.2.2.2.1, K, A.2.2.2.2.2)
def upK (K : Nat → Option Wt) (i : Nat) (W : Wt) : Nat → Option Wt := fun j => if j = i then some W else K j
theorem X_k34 {A : AS} {s : Sg} {c i b : Nat} (hG : GI c A) (hi : i < 2) (h1 : XEn (aG A) (aRu A) s) (h2 : XW (gn (aG A)) s 1 (aW A)) (h3 : XRow (aRow A) s) (h4 : XUn (gn (aG A)) (aU A) s) (h50 : gI s 0 6 = nI (aC A)) (h5 : ∀ j, j < 2 → j ≠ i → kpX (gn (aG A)) (aK A j) (aC A) s j) (h6 : XRg (aRg A) s) (h7 : XTx (aT A) s) (h8 : SL s) (hb : gR s 42 i = some b) : Tp (X_keep_34 s (nI i)) (fun v t => v = 1 ∧ Fr (fun j _ => (b ≤ j ∧ j ≤ b + 4) ∨ j = 43) s t ∧ 73 ≤ b ∧ XI (sK A (upK (aK A) i (aW A))) t) := by
  obtain ⟨h73, hdb⟩ := h8.b42 hi hb
  have hsi : slt s (12 + i) = some b := by rw [slt_42]; exact hb
  have hl12 := hG.2.2.1.1
  have hs := h1.1.1
  unfold X_keep_34
  rw [aR_n (by omega) (by omega), bd_some, hb, bd_some, if_pos ⟨hdb.1, by have := hdb.2.1; omega⟩]
  refine TtP (W_becomes_ok hdb (DWb_st h1 (w := 1) (by omega)) (by omega)) (fun t ht => ?_)
  obtain ⟨f, hx⟩ := ht
  have e6 : gI t 0 6 = nI (aC A) := (f.I (by omega)).trans h50
  rw [e6, tI_n (by omega) (by omega), bd_some]
  have f2 : Fr (fun j k => dWa b j k ∨ j = 43) s (pI t 43 i (nI (aC A))) := (f.mono (fun i k q => Or.inl q)).pI (Or.inr rfl)
  have hdis : ∀ p c, p < 14 → p ≠ 12 + i → slt s p = some c → b + 5 ≤ c ∨ c + 5 ≤ b := fun p c hp e hc => h8.2 (12 + i) p b c (by omega) hp (fun q => e q.symm) hsi hc
  have hR : ∀ j k, j < 4 → ∀ p, p < 14 → slt s p = some k → gR (pI t 43 i (nI (aC A))) k j = gR s k j := fun j k hj p hp hk => by
    obtain ⟨h73k, _⟩ := h8.1 p k hp hk
    refine f2.R (fun q => ?_)
    by_cases e : p = 12 + i
    · subst e
      rw [hsi] at hk
      cases hk
      rcases q with q | q <;> omega
    · have := hdis p k hp e hk
      rcases q with q | q <;> omega
  have hnd : NdS s (pI t 43 i (nI (aC A))) := ⟨by rw [f2.N]; exact Nat.le_refl _, fun j hj a1 a2 => by
    have h73j := h1.1.node a1 a2
    have hno : ¬ ∀ m, dWa b j m ∨ j = 43 := fun q => by
      rcases q 0 with q | q
      · exact h8.nd (by omega) hsi a1 (by omega) (by omega)
      · omega
    have hno2 : ∀ m, ¬ (dWa b j m ∨ j = 43) := fun m q => by
      rcases q with q | q
      · exact h8.nd (by omega) hsi a1 (by omega) (by omega)
      · omega
    exact ⟨by rw [f2.K], fun m => f2.I (hno2 m), fun m => f2.R (hno2 m)⟩⟩
  refine Tp_some ⟨rfl, f2.mono (fun j k q => by rcases q with q | q <;> omega), h73, ⟨h1.1.fr f2, h1.2.1.fr f2 ⟨fun q => by omega, fun k => ⟨fun q => by omega, fun q => by omega, fun q => by omega⟩⟩, h1.2.2.1.nd hnd (f2.R (fun q => by omega)), fun w hw j hj => (f2.R (fun q => by omega)).trans (h1.2.2.2 w hw j hj)⟩, h2.mv (fun j k a1 a2 => f2.I (fun q => by omega)), h3.mv (f2.I (fun q => by omega)) (fun k => f2.J (fun q => by omega)), ⟨(f2.I (fun q => by omega)).trans h4.1, fun k hk => ?_⟩, ⟨(f2.I (fun q => by omega)).trans h50, fun j hj => ?_⟩, h6.mv (f2.I (fun q => by omega)) (fun j k a1 a2 => f2.I (fun q => by omega)), h7.mv (f2.I (fun q => by omega)) (fun k => f2.I (fun q => by omega)), h8.mv2 (fun k => f2.R (fun q => by omega)) (fun k => f2.R (fun q => by omega)) (fun p k j hp hk hj => hR j k hj p hp hk) (fun j _ => by rw [f2.K]) (by rw [f2.N]; exact Nat.le_refl _)⟩
  · have hk : k < (aU A).length := hk
    obtain ⟨bk, hbk, hwk⟩ := h4.2 k hk
    have hd := hdis k bk (by omega) (by omega) (by rw [slt_20 (by omega)]; exact hbk)
    obtain ⟨h73k, _⟩ := h8.b20 (by omega) hbk
    exact ⟨bk, (f2.R (fun q => by omega)).trans hbk, hwk.mv (fun j m a1 a2 => f2.I (fun q => by rcases q with q | q <;> omega))⟩
  · show kpX (gn (aG A)) (upK (aK A) i (aW A) j) (aC A) (pI t 43 i (nI (aC A))) j
    unfold upK
    by_cases e : j = i
    · subst e
      rw [if_pos rfl]
      exact ⟨gI_pI_s, b, (f2.R (fun q => by omega)).trans hb, (hx _ _ hG.1.1 h2).mv (fun m k a1 a2 => gI_pI_i (by omega))⟩
    · rw [if_neg e]
      refine (h5 j hj e).mv ?_ (f2.R (fun q => by omega)) (fun bj hbj m k a1 a2 => f2.I (fun q => ?_))
      · rw [gI_pI_k e]
        exact f.I (by omega)
      · have hd := hdis (12 + j) bj (by omega) (by omega) (by rw [slt_42]; exact hbj)
        obtain ⟨h73k, _⟩ := h8.b42 hj hbj
        rcases q with q | q <;> omega
theorem nar1 : vp_nar .boolean 1 = 1 := by decide
theorem op_keep {u c : Nat} {s : Sg} {A : AS} (hu : 20000 ≤ u) (hX : XI A s) (hM : MI u A s) (hG : GI c A) (x : Int32) : Bth u c s (X_keep s x) (fun t => M_keep u t x) := by
  have h6 := hG.1.1
  rcases in_or2 x 0 1 (by omega) (by omega) with ⟨i, hi0, hi, e⟩ | hno
  rotate_left
  · refine both_no 0 hX hM hG ?_ (fun t ht => ?_)
    · unfold X_keep
      rw [Xin_0_1, gd_e, if_neg hno]
    · unfold M_keep
      rw [lt_e, Min_0_1, gd_e, if_neg hno]
  subst e
  have hG' : GI (c + 1) (sK A (upK (aK A) i (aW A))) := ⟨hG.1, hG.2.1, hG.2.2.1, fun j W hW => by
    have hW : upK (aK A) i (aW A) j = some W := hW
    unfold upK at hW
    by_cases e : j = i
    · rw [if_pos e] at hW
      cases hW
      exact hG.2.1
    · rw [if_neg e] at hW
      exact hG.2.2.2.1 j W hW, hG.2.2.2.2.1, hG.2.2.2.2.2.1, hG.2.2.2.2.2.2.1, hG.up.2.2.2.2.2.2.2⟩
  refine both_gen (A := A) 1 (sK A (upK (aK A) i (aW A))) ?_ (fun t hXt ht => ?_) hG'
  · obtain ⟨h1, h2, h3, h4, h5, h6', h7, h8⟩ := hX
    have hs := h1.1.1
    unfold X_keep
    rw [Xin_0_1, gd_e, if_pos (in_yes2 hi0 hi (by omega)), aR_n (by omega) (by omega), bd_some]
    cases hb : gR s 42 i with
    | some b =>
      rw [ox_some]
      refine Tp_mono (X_k34 (c := c) hG (by omega) h1 h2 h3 h4 h5.1 (fun j hj _ => h5.2 j hj) h6' h7 h8 hb) (fun v t h => ?_)
      obtain ⟨hv, f, h73, hXt⟩ := h
      exact ⟨hv, gx (c := c) hM f (fun i k a1 a2 => by omega) hXt⟩
    | none =>
      rw [ox_none, lt_e]
      refine TtP (o := some ()) (Tt_some (P := fun _ => True) trivial) (fun _ _ => ?_)
      rw [if_pos (show stR.length ≤ gN s from hs)]
      refine TtP (o := some ()) (Tt_some (P := fun _ => True) trivial) (fun _ _ => ?_)
      rw [if_pos (show gN s < gN (aw s (1 + 5) 8 8) from Nat.lt_succ_self _)]
      refine TtP W_new (fun t1 ht1 => ?_)
      obtain ⟨fa, nN, dN, cC, zZ⟩ := ht1
      refine TtP (o := some ()) (Tt_some (P := fun _ => True) trivial) (fun _ _ => ?_)
      rw [if_pos (show Db 1 8 t1 (gN s) from ⟨dN.1, by omega⟩), tR_n (by omega) (by omega), bd_some]
      have fa2 : Fa (fun j m => j = 42 ∧ m = i) s (pR t1 42 i (some (gN s))) := ⟨fun j m h _ => fa.I h (fun q => q), fun j m h _ => fa.J h (fun q => q), fun j m h d => by rw [gR_pR, if_neg d]; exact fa.R h (fun q => q), fun j h => fa.K h, fa.N, fa.S⟩
      have hR42 : gR (pR t1 42 i (some (gN s))) 42 i = some (gN s) := by rw [gR_pR, if_pos ⟨rfl, rfl⟩]
      have hn2 : gN (pR t1 42 i (some (gN s))) = gN s + 5 := nN
      have c2 : gC (pR t1 42 i (some (gN s))) = gC s + 5 := cC
      have z2 : gZ (pR t1 42 i (some (gN s))) = gZ s + 32 := zZ
      have dN2 : DWb (pR t1 42 i (some (gN s))) (gN s) := ⟨dN.1, dN.2.1, fun j hj => ⟨by rw [gR_pR, if_neg (by omega)]; exact (dN.2.2 j hj).1, (dN.2.2 j hj).2⟩⟩
      generalize pR t1 42 i (some (gN s)) = t2 at fa2 hR42 hn2 c2 z2 dN2 ⊢
      have hks2 : KS t2 := h1.1.fa fa2
      have hnd2 : NdS s t2 := fa2.nd h1.1 (fun j m hj => by omega)
      have hslt : ∀ p, p < 14 → p ≠ 12 + i → slt t2 p = slt s p := fun p hp e => by
        unfold slt
        by_cases q : p < 12
        · rw [if_pos q, if_pos q]
          exact fa2.R (by omega) (by omega)
        · rw [if_neg q, if_neg q]
          exact fa2.R (by omega) (by omega)
      have hsltk : slt t2 (12 + i) = some (gN s) := by rw [slt_42]; exact hR42
      have hsl2 : SL t2 := by
        refine ⟨fun p b hp e => ?_, fun p q b c hp hq hpq eb ec => ?_⟩
        · by_cases ep : p = 12 + i
          · subst ep
            rw [hsltk] at e
            cases e
            exact ⟨hs, dN2⟩
          · rw [hslt p hp ep] at e
            obtain ⟨hb73, k1, k2, k3⟩ := h8.1 p b hp e
            exact ⟨hb73, (fa2.K (by omega)).trans k1, by omega, fun j hj => ⟨(fa2.R (by omega) (by omega)).trans (k3 j hj).1, (fa2.K (by omega)).trans (k3 j hj).2⟩⟩
        · by_cases ep : p = 12 + i
          · subst ep
            rw [hsltk] at eb
            cases eb
            rw [hslt q hq (fun q => hpq q.symm)] at ec
            obtain ⟨_, _, k2, _⟩ := h8.1 q c hq ec
            omega
          · rw [hslt p hp ep] at eb
            by_cases eq : q = 12 + i
            · subst eq
              rw [hsltk] at ec
              cases ec
              obtain ⟨_, _, k2, _⟩ := h8.1 p b hp eb
              omega
            · rw [hslt q hq eq] at ec
              exact h8.2 p q b c hp hq hpq eb ec
      have g2 : XEn (aG A) (aRu A) t2 := ⟨hks2, ⟨(fa2.I (by omega) (by omega)).trans h1.2.1.1, fun k hk => ⟨(fa2.I (by omega) (by omega)).trans (h1.2.1.2 k hk).1, (fa2.I (by omega) (by omega)).trans (h1.2.1.2 k hk).2.1, (fa2.I (by omega) (by omega)).trans (h1.2.1.2 k hk).2.2⟩⟩, h1.2.2.1.nd hnd2 (fa2.R (by omega) (by omega)), fun w hw j hj => (fa2.R (by omega) (by omega)).trans (h1.2.2.2 w hw j hj)⟩
      have hl12 := hG.2.2.1.1
      refine Tp_mono (X_k34 (c := c) hG (by omega) g2 (h2.mv (fun j k a1 a2 => fa2.I (by omega) (by omega))) (h3.mv (fa2.I (by omega) (by omega)) (fun k => fa2.J (by omega) (by omega))) ⟨(fa2.I (by omega) (by omega)).trans h4.1, fun k hk => ?_⟩ ((fa2.I (by omega) (by omega)).trans h5.1) (fun j hj e => ?_) (h6'.mv (fa2.I (by omega) (by omega)) (fun j k a1 a2 => fa2.I (by omega) (by omega))) (h7.mv (fa2.I (by omega) (by omega)) (fun k => fa2.I (by omega) (by omega))) hsl2 hR42) (fun v t h => ?_)
      · have hk : k < (aU A).length := hk
        obtain ⟨bk, hbk, hwk⟩ := h4.2 k hk
        obtain ⟨h73k, _, hNk, _⟩ := h8.b20 (by omega) hbk
        exact ⟨bk, (fa2.R (by omega) (by omega)).trans hbk, hwk.mv (fun j m a1 a2 => fa2.I (by omega) (by omega))⟩
      · have hj5 : kpX (gn (aG A)) (aK A j) (aC A) s j := h5.2 j hj
        refine hj5.mv (fa2.I (by omega) (by omega)) (fa2.R (by omega) (by omega)) (fun bj hbj m k a1 a2 => ?_)
        obtain ⟨_, _, hNk, _⟩ := h8.b42 hj hbj
        exact fa2.I (by omega) (by omega)
      · obtain ⟨hv, f, h73, hXt⟩ := h
        refine ⟨hv, hXt, (hM.fa hs fa2 (fun j k a1 a2 => by omega)).fr f (fun j k a1 a2 => by omega), ?_, ?_, ?_⟩
        · rw [f.S, fa2.S]
        · rw [f.C]; omega
        · rw [f.Z]; omega
  · have hM1 := MI_th ht
    obtain ⟨h1, h2, h3, h4, h5, h6', h7, h8⟩ := hM1
    unfold M_keep
    have e39 : gI (pI (pI t 45 9 0) 70 i 1) 45 39 = nI (aC A) := (gI_pI_i (by decide)).trans h5.1
    rw [lt_e, Min_0_1, gd_e, if_pos (in_yes2 hi0 hi (by omega)), nar1, tI_n (by omega) (by omega), bd_some, e39, tI_n (by omega) (by omega), bd_some, mu_33]
    refine TtP (M_lay_ok hu (by decide) (by decide) rfl (show 33 * i + 33 ≤ 66 by omega) (by decide) (by decide)) (fun t1 ht1 => ?_)
    obtain ⟨f1, hx⟩ := ht1
    have f : Fr (fun j k => j = 70 ∨ j = 71 ∨ j = 69) (pI t 45 9 0) t1 := (((Fr.refl _ _).pI (by omega)).pI (by omega)).trans (f1.mono (fun j k q => by show _ ∨ _ ∨ _; omega))
    have fm : Fr dMr t (pI t 45 9 0) := M_th
    have hMt : MI u (sK A (upK (aK A) i (aW A))) t1 := by
      refine ⟨(h1.fr f ⟨fun k => ⟨by omega, by omega, by omega, by omega, by omega⟩, by omega, by omega, by omega⟩ (by omega) (by omega)), (h2.mv (fun k => f.I (by omega))), (h3.mv (f.I (by omega)) (fun k => f.J (by omega))), (h4.mv (f.I (by omega)) (fun k => f.I (by omega))), ⟨(f.I (by omega)).trans h5.1, fun j hj => ?_⟩, h6'.mv (f.I (by omega)) (fun i k q1 q2 => f.I (by omega)), (h7.mv (f.I (by omega)) (fun k => f.I (by omega))), (⟨(f.R (by omega)).trans h8.1, (f.R (by omega)).trans h8.2⟩)⟩
      show match upK (aK A) i (aW A) j with
        | some W => gI t1 70 j = 1 ∧ gI t1 71 j = nI (aC A) ∧ MW (gn (aG A)) t1 69 (33 * j) W
        | none => gI t1 70 j = 0 ∨ ∃ d, d < aC A ∧ gI t1 71 j = nI d
      unfold upK
      by_cases e : j = i
      · subst e
        rw [if_pos rfl]
        refine ⟨(f1.I (by omega)).trans ((gI_pI_i (by decide)).trans gI_pI_s), (f1.I (by omega)).trans gI_pI_s, lay_MW h6 hx (h2.mv (fun k => (gI_pI_i (by decide)).trans (gI_pI_i (by decide))))⟩
      · rw [if_neg e]
        have e70 : gI t1 70 j = gI (pI t 45 9 0) 70 j := (f1.I (by omega)).trans ((gI_pI_i (by decide)).trans (gI_pI_k e))
        have e71 : gI t1 71 j = gI (pI t 45 9 0) 71 j := (f1.I (by omega)).trans ((gI_pI_k e).trans (gI_pI_i (by decide)))
        have h52 := h5.2 j hj
        cases hk : aK A j with
        | none =>
          rw [hk] at h52
          show gI t1 70 j = 0 ∨ ∃ d, d < aC A ∧ gI t1 71 j = nI d
          rw [e70, e71]
          exact h52
        | some V =>
          rw [hk] at h52
          refine ⟨e70.trans h52.1, e71.trans h52.2.1, MW.off h6 (fun x hx => ?_) h52.2.2⟩
          rw [f1.I (by omega), gI_pI_i (by decide), gI_pI_i (by decide)]
    exact Tp_some ⟨rfl, gm (D := fun j k => (j = 70 ∨ j = 71 ∨ j = 69) ∨ dMr j k) hXt hG' ((fm.mono (fun j k q => Or.inr q)).trans (f.mono (fun j k q => Or.inl q))) (fun j k h q => by rcases q with q | q <;> omega) hMt⟩
/-! ### again -/
theorem op_again {u c : Nat} {s : Sg} {A : AS} (hu : 20000 ≤ u) (hc : c ≤ 1000) (hX : XI A s) (hM : MI u A s) (hG : GI c A) (x : Int32) : Bth u c s (X_again s x) (fun t => M_again u t x) := by
  have h6 := hG.1.1
  have hcA := hG.2.2.2.2.2.2.2
  rcases in_or2 x 0 1 (by omega) (by omega) with ⟨i, hi0, hi, e⟩ | hno
  rotate_left
  · refine both_no 0 hX hM hG ?_ (fun t ht => ?_)
    · unfold X_again
      rw [Xin_0_1, gd_e, if_neg hno]
    · unfold M_again
      rw [lt_e, Min_0_1, gd_e, if_neg hno]
  subst e
  have hkx : kpX (gn (aG A)) (aK A i) (aC A) s i := hX.2.2.2.2.1.2 i (by omega)
  cases hk : aK A i with
  | none =>
    rw [hk] at hkx
    refine both_no 0 hX hM hG ?_ (fun t ht => ?_)
    · unfold X_again
      rw [Xin_0_1, gd_e, if_pos (in_yes2 hi0 hi (by omega)), aR_n (by omega) (by omega), bd_some]
      rcases hkx with e | ⟨d, hd, e⟩
      · rw [e, ox_none]
      · cases hb : gR s 42 i with
        | none => rw [ox_none]
        | some b =>
          rw [ox_some, aI_n (by omega) (by omega), bd_some, e, hX.2.2.2.2.1.1, if_neg (fun h => by have := (nI_eq (by omega) (by omega)).mp h; omega)]
    · have hkm := (MI_th ht).2.2.2.2.1.2 i (by omega)
      rw [hk] at hkm
      unfold M_again
      rw [lt_e, Min_0_1, gd_e, if_pos (in_yes2 hi0 hi (by omega)), aI_n (by omega) (by omega), bd_some]
      rcases hkm with e | ⟨d, hd, e⟩
      · rw [if_pos e]
      · by_cases e0 : gI (pI t 45 9 0) 70 i = 0
        · rw [if_pos e0]
        · rw [if_neg e0, aI_n (by omega) (by omega), bd_some, e, (MI_th ht).2.2.2.2.1.1, if_neg (fun h => by have := (nI_eq (by omega) (by omega)).mp h; omega)]
  | some W =>
    rw [hk] at hkx
    have hgW := hG.2.2.2.1 i W hk
    have hGn := GI_now (r := aRow A) hG hgW
    have hG' : GI (c + 1) (sU (sN A W (aRow A)) []) := ⟨hGn.1, hGn.2.1, ⟨Nat.zero_le _, fun V hV => by cases hV⟩, hGn.2.2.2⟩
    refine both_gen (A := A) 1 (sU (sN A W (aRow A)) []) ?_ (fun t hXt ht => ?_) hG'
    · obtain ⟨h1, h2, h3, h4, h5, h6', h7, h8⟩ := hX
      obtain ⟨e43, b, hb, hwb⟩ := hkx
      obtain ⟨h73, hdb⟩ := h8.b42 (by omega) hb
      unfold X_again
      rw [Xin_0_1, gd_e, if_pos (in_yes2 hi0 hi (by omega)), aR_n (by omega) (by omega), bd_some, hb, ox_some, aI_n (by omega) (by omega), bd_some, e43, h5.1, if_pos rfl, bd_some, bd_some]
      refine TtP (W_becomes_ok (DWb_st h1 (w := 1) (by omega)) hdb (by omega)) (fun t ht => ?_)
      obtain ⟨f2, hx⟩ := ht
      rw [lt_e]
      have f : Fr (fun i k => (i = 0 ∧ k = 24) ∨ (i = 1 ∧ 4 ≤ k) ∨ (2 ≤ i ∧ i ≤ 5)) s (pI t 0 24 0) := (f2.mono (fun i k q => by show _ ∨ _ ∨ _; omega)).pI (by omega)
      refine Tp_some ⟨rfl, gx (c := c) hM f (fun i k h1 h2 => by omega) ⟨(h1.fr f ⟨fun k => ⟨by omega, by omega, by omega⟩, by omega, by omega, fun i k hi => by omega, fun w hw j hj => by omega⟩), (hx _ _ h6 hwb).mv (fun i k a b => gI_pI_i (by omega)), (h3.mv (f.I (by omega)) (fun k => f.J (by omega))), ⟨by rw [gI_pI_s]; rfl, fun k hk2 => absurd hk2 (Nat.not_lt_zero _)⟩, (h5.mv h8 (f.I (by omega)) (fun k => f.I (by omega)) (fun k => f.R (by omega)) (fun i k q _ => f.I (by omega))), h6'.mv (f.I (by omega)) (fun i k q1 q2 => f.I (by omega)), (h7.mv (f.I (by omega)) (fun k => f.I (by omega))), (h8.mv (fun k => f.R (by omega)) (fun k => f.R (by omega)) (fun b k q _ => f.R (by omega)) (fun i _ => by rw [f.K]) (by rw [f.N]; exact Nat.le_refl _))⟩⟩
    · have hM1 := MI_th ht
      have hkm := hM1.2.2.2.2.1.2 i (by omega)
      rw [hk] at hkm
      obtain ⟨e70, e71, hwm⟩ := hkm
      obtain ⟨h1, h2, h3, h4, h5, h6', h7, h8⟩ := hM1
      unfold M_again
      rw [lt_e, Min_0_1, gd_e, if_pos (in_yes2 hi0 hi (by omega)), aI_n (by omega) (by omega), bd_some, e70, if_neg (by decide), aI_n (by omega) (by omega), bd_some, e71, h5.1, if_pos rfl]
      refine loop_i (W := fun f j t' => Tp (M_again_40 u f t' (nI i) (nI j)) _)
        (I := fun j t' => Fr (fun i k => i = 46) (pI t 45 9 0) t' ∧ ∀ k, k < j → gI t' 46 k = gI (pI t 45 9 0) 69 (33 * i + k)) 33 ?_ ?_ u 0 _ (by omega) (by omega) ⟨Fr.refl _ _, fun k hk => absurd hk (Nat.not_lt_zero _)⟩
      · intro f' t' ⟨f1, hr⟩
        rw [M_again_40_s]
        unfold M_again_40b
        rw [if_pos (by decide), lt_e]
        have f : Fr (fun i k => i = 46 ∨ (i = 45 ∧ k = 22)) (pI t 45 9 0) (pI t' 45 22 0) := (f1.mono (fun i k q => Or.inl q)).pI (by omega)
        have hWt : MW (gn (aG A)) (pI t' 45 22 0) 46 0 W := MW.off h6 (fun x hx => by rw [Nat.zero_add, gI_pI_i (by decide)]; exact hr x hx) hwm
        refine Tp_some ⟨rfl, gm (D := fun j k => (j = 46 ∨ (j = 45 ∧ k = 22)) ∨ dMr j k) hXt hG' ((M_th.mono (fun j k q => Or.inr q)).trans (f.mono (fun j k q => Or.inl q))) (fun j k h q => by rcases q with q | q <;> omega) ⟨(h1.fr f ⟨fun k => ⟨by omega, by omega, by omega, by omega, by omega⟩, by omega, by omega, by omega⟩ (by omega) (by omega)), hWt, (h3.mv (f.I (by omega)) (fun k => f.J (by omega))), ⟨by rw [gI_pI_s]; rfl, fun k hk2 => absurd hk2 (Nat.not_lt_zero _)⟩, (h5.mv (f.I (by omega)) (fun i k q1 q2 => f.I (by omega))), h6'.mv (f.I (by omega)) (fun i k q1 q2 => f.I (by omega)), (h7.mv (f.I (by omega)) (fun k => f.I (by omega))), (⟨(f.R (by omega)).trans h8.1, (f.R (by omega)).trans h8.2⟩)⟩⟩
      · intro f' j t' hj ⟨f1, hr⟩ ih
        rw [M_again_40_s]
        unfold M_again_40b
        rw [show (33 : Int32) = nI 33 from rfl, if_neg (nI_ge hj (by omega)), pk_mul, nI_add, aI_n (by omega) (by omega), bd_some, f1.I (by omega), tI_n (by omega) (by omega), bd_some, nI_1]
        refine ih _ ⟨f1.pI rfl, fun k hk => ?_⟩
        by_cases e : k = j
        · subst e
          exact gI_pI_s
        · exact (gI_pI_k e).trans (hr k (by omega))
