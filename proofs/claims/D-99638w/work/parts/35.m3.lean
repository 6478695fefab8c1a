def X_among_39 (s : Sg) (a1 : Nat) : Option Int32 := some (-1)
theorem vc_X_among_39 (l : Launch) (s : Sg) (a1 : Nat)  : VC l true false (eRI s) cX1_among RX1 "among" 2 4 131 (some .int) s 39 [] [] (X_among_39 s a1) := by
  unfold X_among_39
  refine vv_iconst (n := 40) (v := (-1)) dX1_among_39 rfl (by decide) ?_
  exact vv_iret dX1_among_40 rfl
def X_among  (s : Sg) (a1 : Nat) : Option Int32 := if (gI s 0 10) ≤ (gI s 0 9) then (X_among_39 s a1) else ((aI s 14 80 (gI s 0 9)).bind fun v1 => if v1 ≤ 0 then (X_among_39 s a1) else ((aI s 14 80 (gI s 0 9)).bind fun v2 => (some ()).bind fun _ => if okS s a1 then some (ixB (sLen s a1) (sByt s a1) v2) else none))
theorem con_X_among (l : Launch) (s : Sg) (a1 : Nat) : Con l true false (eRI s) yX1_among cX1_among 2 4 131 (some .int) s [.ref 0, sV a1] (X_among s a1) := by
  refine con_of (own := RX1) (mn := "among") (L := [(0, .ref 0), (1, sV a1)]) (by decide) rfl rfl (fun E ad => by obtain ⟨a, ha⟩ := isR_s a1 E ad; simp only [List.map_cons, List.map_nil, ha]; exact Nat.le_of_ble_eq_true rfl) (fun E ad => by obtain ⟨a, ha⟩ := isR_s a1 E ad; simp only [Lm, List.map_cons, List.map_nil, ha]; rfl) ?_
  unfold X_among
  refine vv_aload_n (n := 1) dX1_among_0 rfl 0 rfl ?_
  refine g1_146 (n := 4) dX1_among_1 rfl ?_
  refine vv_aload_n (n := 5) dX1_among_4 rfl 0 rfl ?_
  refine g1_158 (n := 8) dX1_among_5 rfl ?_
  refine vv_icmp_ge (tgt := 39) (n := 11) dX1_among_8 (by decide) rfl ?_ ?_
  · exact VC.sub [] rfl (vc_X_among_39 l s a1)
  · refine vv_aload_n (n := 12) dX1_among_11 rfl 0 rfl ?_
    refine g1_29 (n := 15) dX1_among_12 rfl ?_
    refine vv_aload_n (n := 16) dX1_among_15 rfl 0 rfl ?_
    refine g1_146 (n := 19) dX1_among_16 rfl ?_
    refine vv_iald (n := 20) sk14 dX1_among_19 rfl (fun v1 => ?_)
    refine vv_if_le (tgt := 39) (n := 23) dX1_among_20 (by decide) rfl ?_ ?_
    · exact VC.sub [] rfl (vc_X_among_39 l s a1)
    · refine vv_aloadv_n (n := 24) (isR_s a1) dX1_among_23 rfl 1 rfl ?_
      refine vv_aload_n (n := 25) dX1_among_24 rfl 0 rfl ?_
      refine g1_29 (n := 28) dX1_among_25 rfl ?_
      refine vv_aload_n (n := 29) dX1_among_28 rfl 0 rfl ?_
      refine g1_146 (n := 32) dX1_among_29 rfl ?_
      refine vv_iald (n := 33) sk14 dX1_among_32 rfl (fun v2 => ?_)
      refine vv_ask (fun hs3 => ?_)
      refine k1_165 (n := 36) hs3 dX1_among_33 rfl rfl rfl ?_
      refine vv_goto (n := 40) dX1_among_36 (by decide) ?_
      exact vv_iret dX1_among_40 rfl
def X_takesOf_20 (a1 : Nat) (s : Sg) (x2 : Int32) (t1 : Int32) (t2 : Int32) : Option (Int32 × Sg) := lt_ (pI s 0 9 (t1 + t2)) fun s1 => some (x2, s1)
theorem vc_X_takesOf_20 (l : Launch) (a1 : Nat)  (s : Sg) (x2 : Int32) (t1 : Int32) (t2 : Int32) : VC l true false eSI cX1_takesOf RX1 "takesOf" 3 5 152 (some .int) s 20 [(2, .int x2)] [.int t2, .int t1, .ref 0] (X_takesOf_20 a1 s x2 t1 t2) := by
  unfold X_takesOf_20
  refine vv_iadd (n := 21) dX1_takesOf_20 rfl ?_
  refine p1_146 (n := 24) dX1_takesOf_21 rfl (fun s1 => ?_)
  refine vv_iload_n (n := 25) dX1_takesOf_24 rfl 0 rfl ?_
  exact vv_iret dX1_takesOf_25 rfl
theorem k1_171 {β : Type} {l : Launch} {al : Bool} {ek : β → Option Value × Sg} {cc : ByteArray} {mn : String} {nL fr lo : Nat} {rt : Option FieldType} {s : Sg} {pc n : Nat} {L : List (Nat × Value)} {st : List Value} {p0 : Nat} {f : Int32 → Option β} (hd : decode cc pc = .ok (.invokevirtual 171, 3)) (hn : pc + 3 = n) (hc : Nat.ble (st.map fun v => v.category).sum 8 = true) (hr : (Nat.ble (4 + 1) fr && Nat.ble (8 + (2 + 11) + 131) lo) = true) (kk : ∀ v, VC l true al ek cc RX1 mn nL fr lo rt s n L (.int v :: st) (f v)) : VC l true al ek cc RX1 mn nL fr lo rt s pc L (sV p0 :: .ref 0 :: st) ((X_among s p0).bind f) := vv_callV (ci := 0) (C := RX1) (T := TX1) (N := 49) (ar := 1) (av := [sV p0]) (con_X_among l s p0) (fun h => h) (fun h => h) (fun h => by cases h) (fun h => by cases h) rfl sk0 hd hn rfl (Nat.le_of_ble_eq_true hc) (ble2 hr) (lw_V q370 q372 qs6 q97 q373) rfl (by decide +kernel) (fun b _ _ => kk b)
def X_takesOf  (s : Sg) (a1 : Nat) : Option (Int32 × Sg) := (X_among s a1).bind fun v1 => if v1 < 0 then (X_takesOf_20 a1 s v1 (gI s 0 9) 0) else (X_takesOf_20 a1 s v1 (gI s 0 9) 1)
theorem con_X_takesOf (l : Launch) (s : Sg) (a1 : Nat) : Con l true false eSI yX1_takesOf cX1_takesOf 3 5 152 (some .int) s [.ref 0, sV a1] (X_takesOf s a1) := by
  refine con_of (own := RX1) (mn := "takesOf") (L := [(0, .ref 0), (1, sV a1)]) (by decide) rfl rfl (fun E ad => by obtain ⟨a, ha⟩ := isR_s a1 E ad; simp only [List.map_cons, List.map_nil, ha]; exact Nat.le_of_ble_eq_true rfl) (fun E ad => by obtain ⟨a, ha⟩ := isR_s a1 E ad; simp only [Lm, List.map_cons, List.map_nil, ha]; rfl) ?_
  unfold X_takesOf
  refine vv_aload_n (n := 1) dX1_takesOf_0 rfl 0 rfl ?_
  refine vv_aloadv_n (n := 2) (isR_s a1) dX1_takesOf_1 rfl 1 rfl ?_
  refine k1_171 (n := 5) (p0 := a1) dX1_takesOf_2 rfl rfl rfl (fun v1 => ?_)
  refine VC.sub [0] rfl ?_
  refine vv_istore_n (n := 6) (L' := [(2, .int v1), (0, .ref 0)]) dX1_takesOf_5 rfl (Nat.le_of_ble_eq_true rfl) rfl ?_
  refine vv_aload_n (n := 7) dX1_takesOf_6 rfl 1 rfl ?_
  refine vv_dup (n := 8) dX1_takesOf_7 rfl rfl ?_
  refine g1_146 (n := 11) dX1_takesOf_8 rfl ?_
  refine vv_iload_n (n := 12) dX1_takesOf_11 rfl 0 rfl ?_
  refine vv_if_lt (tgt := 19) (n := 15) dX1_takesOf_12 (by decide) rfl ?_ ?_
  · refine vv_iconst (n := 20) (v := 0) dX1_takesOf_19 rfl (by decide) ?_
    exact VC.sub [0] rfl (vc_X_takesOf_20 l a1 s v1 (gI s 0 9) 0)
  · refine vv_iconst (n := 16) (v := 1) dX1_takesOf_15 rfl (by decide) ?_
    refine vv_goto (n := 20) dX1_takesOf_16 (by decide) ?_
    exact VC.sub [0] rfl (vc_X_takesOf_20 l a1 s v1 (gI s 0 9) 1)
def X_acts  (x0 : Int32) : Option Nat := if x0 = 0 then (some 3) else (if x0 = 1 then (some 4) else (some 5))
theorem con_X_acts (l : Launch) (s : Sg) (x0 : Int32) : Con l true false (eRS s) yX1_acts cX1_acts 1 0 0 (some (.object "java/lang/String")) s [.int x0] (X_acts x0) := by
  refine con_of (hnf := fun b => nf_s _) (own := RX1) (mn := "acts") (L := [(0, .int x0)]) (by decide) rfl rfl (fun _ _ => Nat.le_of_ble_eq_true rfl) (fun _ _ => rfl) ?_
  unfold X_acts
  refine vv_iload_n (n := 1) dX1_acts_0 rfl 0 rfl ?_
  refine vv_if_ne (tgt := 9) (n := 4) dX1_acts_1 (by decide) rfl ?_ ?_
  · refine vv_iload_n (n := 10) dX1_acts_9 rfl 0 rfl ?_
    refine vv_iconst (n := 11) (v := 1) dX1_acts_10 rfl (by decide) ?_
    refine vv_icmp_ne (tgt := 20) (n := 14) dX1_acts_11 (by decide) rfl ?_ ?_
    · refine vs_ldcw (n := 23) (c := 5) (by decide) (fun E U h => h.2.2.2.2.2.1) dX1_acts_20 rfl ?_
      exact vv_ret (r := some (.retAddr 5)) dX1_acts_23 rfl ⟨_, rfl, Or.inl ⟨_, rfl⟩⟩
    · refine vs_ldcw (n := 17) (c := 4) (by decide) (fun E U h => h.2.2.2.2.1) dX1_acts_14 rfl ?_
      refine vv_goto (n := 23) dX1_acts_17 (by decide) ?_
      exact vv_ret (r := some (.retAddr 4)) dX1_acts_23 rfl ⟨_, rfl, Or.inl ⟨_, rfl⟩⟩
  · refine vs_ldc (n := 6) (c := 3) (by decide) (fun E U h => h.2.2.2.1) dX1_acts_4 rfl ?_
    refine vv_goto (n := 23) dX1_acts_6 (by decide) ?_
    exact vv_ret (r := some (.retAddr 3)) dX1_acts_23 rfl ⟨_, rfl, Or.inl ⟨_, rfl⟩⟩
def X_readsAct_126 (u : Nat) (s : Sg) (x1 : Int32) (t1 : Int32) (t2 : Int32) : Option (Int32 × Sg) := (tI s 30 60 t1 t2).bind fun s1 => (aI s1 30 60 x1).bind fun v2 => if v2 < 0 then (some (0, s1)) else (some (1, s1))
theorem vc_X_readsAct_126 (l : Launch) (u : Nat)  (s : Sg) (x1 : Int32) (t1 : Int32) (t2 : Int32) : VC l true false eSI cX1_readsAct RX1 "readsAct" 3 6 174 (some .boolean) s 126 [(0, .ref 0), (1, .int x1)] [.int t2, .int t1, .ref 30] (X_readsAct_126 u s x1 t1 t2) := by
  unfold X_readsAct_126
  refine vv_iast (n := 127) sk30 dX1_readsAct_126 rfl (fun s1 => ?_)
  refine vv_aload_n (n := 128) dX1_readsAct_127 rfl 0 rfl ?_
  refine g1_66 (n := 131) dX1_readsAct_128 rfl ?_
  refine vv_iload_n (n := 132) dX1_readsAct_131 rfl 1 rfl ?_
  refine vv_iald (n := 133) sk30 dX1_readsAct_132 rfl (fun v2 => ?_)
  refine vv_if_lt (tgt := 140) (n := 136) dX1_readsAct_133 (by decide) rfl ?_ ?_
  · refine vv_iconst (n := 141) (v := 0) dX1_readsAct_140 rfl (by decide) ?_
    exact vv_zret1 dX1_readsAct_141 rfl rfl
  · refine vv_iconst (n := 137) (v := 1) dX1_readsAct_136 rfl (by decide) ?_
    refine vv_goto (n := 141) dX1_readsAct_137 (by decide) ?_
    exact vv_zret1 dX1_readsAct_141 rfl rfl
theorem k1_194 {β : Type} {l : Launch} {al : Bool} {ek : β → Option Value × Sg} {cc : ByteArray} {mn : String} {nL fr lo : Nat} {rt : Option FieldType} {s : Sg} {pc n : Nat} {L : List (Nat × Value)} {st : List Value} {p0 : Nat} {f : Int32 → Sg → Option β} (hd : decode cc pc = .ok (.invokevirtual 194, 3)) (hn : pc + 3 = n) (hc : Nat.ble (st.map fun v => v.category).sum 8 = true) (hr : (Nat.ble (5 + 1) fr && Nat.ble (8 + (3 + 11) + 152) lo) = true) (kk : ∀ v τ, VC l true al ek cc RX1 mn nL fr lo rt τ n L (.int v :: st) (f v τ)) : VC l true al ek cc RX1 mn nL fr lo rt s pc L (sV p0 :: .ref 0 :: st) (b2 (X_takesOf s p0) f) := vv_callV (ci := 0) (C := RX1) (T := TX1) (N := 49) (ar := 1) (av := [sV p0]) (con_X_takesOf l s p0) (fun h => h) (fun h => h) (fun h => by cases h) (fun h => by cases h) rfl sk0 hd hn rfl (Nat.le_of_ble_eq_true hc) (ble2 hr) (lw_V q366 q368 qs5 q97 q369) rfl (by decide +kernel) (fun b _ _ => kk b.1 b.2)
def X_readsAct_101 (u : Nat) (s : Sg) (x1 : Int32) (x2 : Int32) : Option (Int32 × Sg) := if x2 = 116 then (b2 (X_number u s 1) fun v3 s4 => X_readsAct_126 u s4 x1 x1 v3) else (b2 (X_takesOf s 0) fun v1 s2 => X_readsAct_126 u s2 x1 x1 v1)
theorem vc_X_readsAct_101 (l : Launch) (u : Nat)  (s : Sg) (x1 : Int32) (x2 : Int32) : VC l true false eSI cX1_readsAct RX1 "readsAct" 3 6 174 (some .boolean) s 101 [(0, .ref 0), (1, .int x1), (2, .int x2)] [] (X_readsAct_101 u s x1 x2) := by
  unfold X_readsAct_101
  refine vv_aload_n (n := 102) dX1_readsAct_101 rfl 0 rfl ?_
  refine g1_66 (n := 105) dX1_readsAct_102 rfl ?_
  refine vv_iload_n (n := 106) dX1_readsAct_105 rfl 1 rfl ?_
  refine vv_iload_n (n := 107) dX1_readsAct_106 rfl 2 rfl ?_
  refine vv_bipush (n := 109) (v := 116) dX1_readsAct_107 rfl (by decide) ?_
  refine vv_icmp_ne (tgt := 120) (n := 112) dX1_readsAct_109 (by decide) rfl ?_ ?_
  · refine vv_aload_n (n := 121) dX1_readsAct_120 rfl 0 rfl ?_
    refine vs_ldc (n := 123) (c := 0) (by decide) (fun E U h => h.1) dX1_readsAct_121 rfl ?_
    refine k1_194 (n := 126) (p0 := 0) dX1_readsAct_123 rfl rfl rfl (fun v1 s2 => ?_)
    exact VC.sub [0, 1] rfl (vc_X_readsAct_126 l u s2 x1 x1 v1)
  · refine vv_aload_n (n := 113) dX1_readsAct_112 rfl 0 rfl ?_
    refine vv_iconst (n := 114) (v := 1) dX1_readsAct_113 rfl (by decide) ?_
    refine k1_183 (n := 117) dX1_readsAct_114 rfl rfl rfl (fun v3 s4 => ?_)
    refine vv_goto (n := 126) dX1_readsAct_117 (by decide) ?_
    exact VC.sub [0, 1] rfl (vc_X_readsAct_126 l u s4 x1 x1 v3)
def X_readsAct_86 (u : Nat) (s : Sg) (x1 : Int32) : Option (Int32 × Sg) := (aI s 29 60 x1).bind fun v1 => if v1 < 0 then (some (0, s)) else (some (1, s))
theorem vc_X_readsAct_86 (l : Launch) (u : Nat)  (s : Sg) (x1 : Int32) : VC l true false eSI cX1_readsAct RX1 "readsAct" 3 6 174 (some .boolean) s 86 [(0, .ref 0), (1, .int x1)] [] (X_readsAct_86 u s x1) := by
  unfold X_readsAct_86
  refine vv_aload_n (n := 87) dX1_readsAct_86 rfl 0 rfl ?_
  refine g1_63 (n := 90) dX1_readsAct_87 rfl ?_
  refine vv_iload_n (n := 91) dX1_readsAct_90 rfl 1 rfl ?_
  refine vv_iald (n := 92) sk29 dX1_readsAct_91 rfl (fun v1 => ?_)
  refine vv_if_lt (tgt := 99) (n := 95) dX1_readsAct_92 (by decide) rfl ?_ ?_
  · refine vv_iconst (n := 100) (v := 0) dX1_readsAct_99 rfl (by decide) ?_
    exact vv_zret1 dX1_readsAct_100 rfl rfl
  · refine vv_iconst (n := 96) (v := 1) dX1_readsAct_95 rfl (by decide) ?_
    refine vv_goto (n := 100) dX1_readsAct_96 (by decide) ?_
    exact vv_zret1 dX1_readsAct_100 rfl rfl
theorem g1_374 {β : Type} {l : Launch} {al : Bool} {ek : β → Option Value × Sg} {cc : ByteArray} {mn : String} {nL fr lo : Nat} {rt : Option FieldType} {s : Sg} {pc n : Nat} {L : List (Nat × Value)} {st : List Value} {body : Option β} (hd : decode cc pc = .ok (.getfield 374, 3)) (hn : pc + 3 = n) (kk : VC l true al ek cc RX1 mn nL fr lo rt s n L (.int (gI s 0 30) :: st) body) : VC l true al ek cc RX1 mn nL fr lo rt s pc L (.ref 0 :: st) body := vv_getI (ci := 0) (k := 30) (T := TX1) cd0 (by decide) rfl sk0 (Or.inl q205) hd hn kk
theorem p1_374 {β : Type} {l : Launch} {al : Bool} {ek : β → Option Value × Sg} {cc : ByteArray} {mn : String} {nL fr lo : Nat} {rt : Option FieldType} {s : Sg} {pc n : Nat} {L : List (Nat × Value)} {st : List Value} {v : Int32} {f : Sg → Option β} (hd : decode cc pc = .ok (.putfield 374, 3)) (hn : pc + 3 = n) (kk : ∀ τ, VC l true al ek cc RX1 mn nL fr lo rt τ n L st (f τ)) : VC l true al ek cc RX1 mn nL fr lo rt s pc L (.int v :: .ref 0 :: st) (lt_ (pI s 0 30 v) f) := vv_putI (ci := 0) (k := 30) (T := TX1) (ty := tyX1) (fty := .int) cd0 cp0 (by decide) rfl sk0 (Or.inl q205) (Or.inl rfl) (by decide +kernel) rfl rfl hd hn kk
def X_readsAct  (u : Nat) (s : Sg) : Option (Int32 × Sg) := lt_ (gI s 0 30) fun c1 => (X_among s 6).bind fun v2 => if 0 ≤ v2 then ((aI s 14 80 (gI s 0 9)).bind fun v3 => (tI s 28 60 c1 v3).bind fun s4 => lt_ (pI s4 0 9 ((gI s4 0 9) + 1)) fun s5 => lt_ (pI s5 0 30 ((gI s5 0 30) + 1)) fun s6 => b2 (X_number u s6 1) fun v7 s8 => (tI s8 29 60 c1 v7).bind fun s9 => (aI s9 29 60 c1).bind fun v10 => if v10 < 0 then (X_readsAct_86 u s9 c1) else (if v3 = 116 then (X_readsAct_101 u s9 c1 v3) else (if v3 = 103 then (X_readsAct_101 u s9 c1 v3) else (X_readsAct_86 u s9 c1)))) else (some (0, s))
theorem con_X_readsAct (l : Launch) (u : Nat) (s : Sg) : Con l true false eSI yX1_readsAct cX1_readsAct 3 6 174 (some .boolean) s [.ref 0] (X_readsAct u s) := by
  refine con_of (own := RX1) (mn := "readsAct") (L := [(0, .ref 0)]) (by decide) rfl rfl (fun _ _ => Nat.le_of_ble_eq_true rfl) (fun _ _ => rfl) ?_
  unfold X_readsAct
  refine vv_aload_n (n := 1) dX1_readsAct_0 rfl 0 rfl ?_
  refine g1_374 (n := 4) dX1_readsAct_1 rfl ?_
  refine vv_leti (fun c1 => ?_)
  refine vv_istore_n (n := 5) (L' := [(1, .int c1), (0, .ref 0)]) dX1_readsAct_4 rfl (Nat.le_of_ble_eq_true rfl) rfl ?_
  refine vv_aload_n (n := 6) dX1_readsAct_5 rfl 1 rfl ?_
  refine vs_ldcw (n := 9) (c := 6) (by decide) (fun E U h => h.2.2.2.2.2.2.1) dX1_readsAct_6 rfl ?_
  refine k1_171 (n := 12) (p0 := 6) dX1_readsAct_9 rfl rfl rfl (fun v2 => ?_)
  refine vv_if_ge (tgt := 17) (n := 15) dX1_readsAct_12 (by decide) rfl ?_ ?_
  · refine vv_aload_n (n := 18) dX1_readsAct_17 rfl 1 rfl ?_
    refine g1_29 (n := 21) dX1_readsAct_18 rfl ?_
    refine vv_aload_n (n := 22) dX1_readsAct_21 rfl 1 rfl ?_
    refine g1_146 (n := 25) dX1_readsAct_22 rfl ?_
    refine vv_iald (n := 26) sk14 dX1_readsAct_25 rfl (fun v3 => ?_)
    refine vv_istore_n (n := 27) (L' := [(2, .int v3), (1, .int c1), (0, .ref 0)]) dX1_readsAct_26 rfl (Nat.le_of_ble_eq_true rfl) rfl ?_
    refine vv_aload_n (n := 28) dX1_readsAct_27 rfl 2 rfl ?_
    refine g1_60 (n := 31) dX1_readsAct_28 rfl ?_
    refine vv_iload_n (n := 32) dX1_readsAct_31 rfl 1 rfl ?_
    refine vv_iload_n (n := 33) dX1_readsAct_32 rfl 0 rfl ?_
    refine vv_iast (n := 34) sk28 dX1_readsAct_33 rfl (fun s4 => ?_)
    refine vv_aload_n (n := 35) dX1_readsAct_34 rfl 2 rfl ?_
    refine vv_dup (n := 36) dX1_readsAct_35 rfl rfl ?_
    refine g1_146 (n := 39) dX1_readsAct_36 rfl ?_
    refine vv_iconst (n := 40) (v := 1) dX1_readsAct_39 rfl (by decide) ?_
    refine vv_iadd (n := 41) dX1_readsAct_40 rfl ?_
    refine p1_146 (n := 44) dX1_readsAct_41 rfl (fun s5 => ?_)
    refine vv_aload_n (n := 45) dX1_readsAct_44 rfl 2 rfl ?_
    refine vv_dup (n := 46) dX1_readsAct_45 rfl rfl ?_
    refine g1_374 (n := 49) dX1_readsAct_46 rfl ?_
    refine vv_iconst (n := 50) (v := 1) dX1_readsAct_49 rfl (by decide) ?_
    refine vv_iadd (n := 51) dX1_readsAct_50 rfl ?_
    refine p1_374 (n := 54) dX1_readsAct_51 rfl (fun s6 => ?_)
    refine vv_aload_n (n := 55) dX1_readsAct_54 rfl 2 rfl ?_
    refine g1_63 (n := 58) dX1_readsAct_55 rfl ?_
    refine vv_iload_n (n := 59) dX1_readsAct_58 rfl 1 rfl ?_
    refine vv_aload_n (n := 60) dX1_readsAct_59 rfl 2 rfl ?_
    refine vv_iconst (n := 61) (v := 1) dX1_readsAct_60 rfl (by decide) ?_
    refine k1_183 (n := 64) dX1_readsAct_61 rfl rfl rfl (fun v7 s8 => ?_)
    refine vv_iast (n := 65) sk29 dX1_readsAct_64 rfl (fun s9 => ?_)
    refine vv_aload_n (n := 66) dX1_readsAct_65 rfl 2 rfl ?_
    refine g1_63 (n := 69) dX1_readsAct_66 rfl ?_
    refine vv_iload_n (n := 70) dX1_readsAct_69 rfl 1 rfl ?_
    refine vv_iald (n := 71) sk29 dX1_readsAct_70 rfl (fun v10 => ?_)
    refine vv_if_lt (tgt := 86) (n := 74) dX1_readsAct_71 (by decide) rfl ?_ ?_
    · exact VC.sub [2, 1] rfl (vc_X_readsAct_86 l u s9 c1)
    · refine vv_iload_n (n := 75) dX1_readsAct_74 rfl 0 rfl ?_
      refine vv_bipush (n := 77) (v := 116) dX1_readsAct_75 rfl (by decide) ?_
      refine vv_icmp_eq (tgt := 101) (n := 80) dX1_readsAct_77 (by decide) rfl ?_ ?_
      · exact VC.sub [2, 1, 0] rfl (vc_X_readsAct_101 l u s9 c1 v3)
      · refine vv_iload_n (n := 81) dX1_readsAct_80 rfl 0 rfl ?_
        refine vv_bipush (n := 83) (v := 103) dX1_readsAct_81 rfl (by decide) ?_
        refine vv_icmp_eq (tgt := 101) (n := 86) dX1_readsAct_83 (by decide) rfl ?_ ?_
        · exact VC.sub [2, 1, 0] rfl (vc_X_readsAct_101 l u s9 c1 v3)
        · exact VC.sub [2, 1] rfl (vc_X_readsAct_86 l u s9 c1)
  · refine vv_iconst (n := 16) (v := 0) dX1_readsAct_15 rfl (by decide) ?_
    exact vv_zret1 dX1_readsAct_16 rfl rfl
def X_year_121 (u : Nat) (s : Sg) (x4 : Int32) (t1 : Int64) : Option (Int32 × Sg) := (X_tells s t1).bind fun s1 => (X_water u s1 1).bind fun v2 => (X_tells s1 ((v2 : Int32).toInt64)).bind fun s3 => some (x4, s3)
theorem vc_X_year_121 (l : Launch) (u : Nat)  (s : Sg) (x4 : Int32) (t1 : Int64) : VC l true true eSI cX1_year RX1 "year" 5 1206 40144 (some .int) s 121 [(0, .ref 0), (4, .int x4)] [.long t1, .ref 0] (X_year_121 u s x4 t1) := by
  unfold X_year_121
  refine k1_353 (n := 124) dX1_year_121 rfl rfl rfl (fun s1 => ?_)
  refine vv_aload_n (n := 125) dX1_year_124 rfl 0 rfl ?_
  refine vv_aload_n (n := 126) dX1_year_125 rfl 0 rfl ?_
  refine vv_aload_n (n := 127) dX1_year_126 rfl 0 rfl ?_
  refine g1_12 (n := 130) dX1_year_127 rfl ?_
  refine k1_310 (n := 133) dX1_year_130 rfl rfl rfl (fun v2 => ?_)
  refine vv_i2l (n := 134) dX1_year_133 rfl ?_
  refine k1_353 (n := 137) dX1_year_134 rfl rfl rfl (fun s3 => ?_)
  refine vv_iload (n := 139) dX1_year_137 rfl 1 rfl ?_
  exact vv_iret dX1_year_139 rfl
def X_year_101 (u : Nat) (s : Sg) (x4 : Int32) : Option (Int32 × Sg) := lt_ (pI s 0 48 0) fun s1 => if (gI s1 0 30) ≤ x4 then (X_year_121 u s1 x4 0) else (X_year_121 u s1 x4 1)
theorem vc_X_year_101 (l : Launch) (u : Nat)  (s : Sg) (x4 : Int32) : VC l true true eSI cX1_year RX1 "year" 5 1206 40144 (some .int) s 101 [(0, .ref 0), (4, .int x4)] [] (X_year_101 u s x4) := by
  unfold X_year_101
  refine vv_aload_n (n := 102) dX1_year_101 rfl 0 rfl ?_
  refine vv_iconst (n := 103) (v := 0) dX1_year_102 rfl (by decide) ?_
  refine p1_350 (n := 106) dX1_year_103 rfl (fun s1 => ?_)
  refine vv_aload_n (n := 107) dX1_year_106 rfl 0 rfl ?_
  refine vv_iload (n := 109) dX1_year_107 rfl 1 rfl ?_
  refine vv_aload_n (n := 110) dX1_year_109 rfl 0 rfl ?_
  refine g1_374 (n := 113) dX1_year_110 rfl ?_
  refine vv_icmp_ge (tgt := 120) (n := 116) dX1_year_113 (by decide) rfl ?_ ?_
  · refine vv_lconst (n := 121) (v := 0) dX1_year_120 rfl (by decide) ?_
    exact VC.sub [0, 1] rfl (vc_X_year_121 l u s1 x4 0)
  · refine vv_lconst (n := 117) (v := 1) dX1_year_116 rfl (by decide) ?_
    refine vv_goto (n := 121) dX1_year_117 (by decide) ?_
    exact VC.sub [0, 1] rfl (vc_X_year_121 l u s1 x4 1)
def X_year_88 (u : Nat) (s : Sg) (x4 : Int32) : Option (Int32 × Sg) := if x4 ≤ 0 then (X_year_101 u s x4) else ((X_putsBy u s 21).bind fun s1 => X_year_101 u s1 x4)
theorem vc_X_year_88 (l : Launch) (u : Nat)  (s : Sg) (x4 : Int32) : VC l true true eSI cX1_year RX1 "year" 5 1206 40144 (some .int) s 88 [(0, .ref 0), (4, .int x4)] [] (X_year_88 u s x4) := by
  unfold X_year_88
  refine vv_iload (n := 90) dX1_year_88 rfl 1 rfl ?_
  refine vv_if_le (tgt := 101) (n := 93) dX1_year_90 (by decide) rfl ?_ ?_
  · exact VC.sub [0, 1] rfl (vc_X_year_101 l u s x4)
  · refine vv_aload_n (n := 94) dX1_year_93 rfl 0 rfl ?_
    refine vv_aload_n (n := 95) dX1_year_94 rfl 0 rfl ?_
    refine g1_51 (n := 98) dX1_year_95 rfl ?_
    refine k1_318 (n := 101) (fun h => ⟨(vlc (sk0 h).2 (vlc trivial vl0)), vs0⟩) dX1_year_98 rfl rfl rfl (fun s1 _ => ?_)
    exact VC.sub [0, 1] rfl (vc_X_year_101 l u s1 x4)
theorem k1_382 {β : Type} {l : Launch} {al : Bool} {ek : β → Option Value × Sg} {cc : ByteArray} {mn : String} {nL fr lo : Nat} {rt : Option FieldType} {s : Sg} {pc n : Nat} {L : List (Nat × Value)} {st : List Value} {u : Nat} {p0 : Int32} {f : Int32 → Sg → Option β} (hd : decode cc pc = .ok (.invokevirtual 382, 3)) (hn : pc + 3 = n) (hc : Nat.ble (st.map fun v => v.category).sum 8 = true) (hr : (Nat.ble (1205 + 1) fr && Nat.ble (8 + (3 + 11) + 40122) lo) = true) (kk : ∀ v τ, VC l true al ek cc RX1 mn nL fr lo rt τ n L (.int v :: st) (f v τ)) : VC l true al ek cc RX1 mn nL fr lo rt s pc L (.int p0 :: .ref 0 :: st) (b2 (X_does u s p0) f) := vv_callV (ci := 0) (C := RX1) (T := TX1) (N := 49) (ar := 1) (av := [.int p0]) (con_X_does l u s p0) (fun h => h) (fun h => h) (fun h => by cases h) (fun h => by cases h) rfl sk0 hd hn rfl (Nat.le_of_ble_eq_true hc) (ble2 hr) (lw_V q779 q781 qs30 q97 q782) rfl (by decide +kernel) (fun b _ _ => kk b.1 b.2)
def X_year_64b (u : Nat) (K64 : Sg → Int32 → Option (Int32 × Sg)) (s : Sg) (x4 : Int32) : Option (Int32 × Sg) := if (gI s 0 30) ≤ x4 then (X_year_88 u s x4) else (b2 (X_does u s x4) fun v1 s2 => if v1 = 0 then (X_year_88 u s2 x4) else (K64 s2 (x4 + 1)))
theorem vc_X_year_64b (l : Launch) (u : Nat) (K64 : Sg → Int32 → Option (Int32 × Sg)) (hK64 : ∀ (s : Sg) (x4 : Int32), VC l true true eSI cX1_year RX1 "year" 5 1206 40144 (some .int) s 64 [(0, .ref 0), (4, .int x4)] [] (K64 s x4)) (s : Sg) (x4 : Int32) : VC l true true eSI cX1_year RX1 "year" 5 1206 40144 (some .int) s 64 [(0, .ref 0), (4, .int x4)] [] (X_year_64b u K64 s x4) := by
  unfold X_year_64b
  refine vv_iload (n := 66) dX1_year_64 rfl 1 rfl ?_
  refine vv_aload_n (n := 67) dX1_year_66 rfl 0 rfl ?_
  refine g1_374 (n := 70) dX1_year_67 rfl ?_
  refine vv_icmp_ge (tgt := 88) (n := 73) dX1_year_70 (by decide) rfl ?_ ?_
  · exact VC.sub [0, 1] rfl (vc_X_year_88 l u s x4)
  · refine vv_aload_n (n := 74) dX1_year_73 rfl 0 rfl ?_
    refine vv_iload (n := 76) dX1_year_74 rfl 1 rfl ?_
    refine k1_382 (n := 79) dX1_year_76 rfl rfl rfl (fun v1 s2 => ?_)
    refine vv_if_eq (tgt := 88) (n := 82) dX1_year_79 (by decide) rfl ?_ ?_
    · exact VC.sub [0, 1] rfl (vc_X_year_88 l u s2 x4)
    · refine vv_iinc (n := 85) (v := 1) (L' := [(4, .int (x4 + 1)), (0, .ref 0)]) dX1_year_82 rfl 1 rfl (by decide) (Nat.le_of_ble_eq_true rfl) rfl ?_
      refine vv_goto (n := 64) dX1_year_85 (by decide) ?_
      exact VC.sub [1, 0] rfl (hK64 s2 (x4 + 1))
def X_year_64 (u : Nat) (w : Nat) : Sg → Int32 → Option (Int32 × Sg) := itN (fun K => X_year_64b u K) (fun _ _ => none) w
theorem vc_X_year_64 (l : Launch) (u : Nat)  (w : Nat) : ∀ (s : Sg) (x4 : Int32), VC l true true eSI cX1_year RX1 "year" 5 1206 40144 (some .int) s 64 [(0, .ref 0), (4, .int x4)] [] (X_year_64 u w s x4) := by
  induction w with
  | zero => intro s x4; exact VC.non
  | succ w ih => intro s x4; exact vc_X_year_64b l u _ ih s x4
theorem k1_218 {β : Type} {l : Launch} {al : Bool} {ek : β → Option Value × Sg} {cc : ByteArray} {mn : String} {nL fr lo : Nat} {rt : Option FieldType} {s : Sg} {pc n : Nat} {L : List (Nat × Value)} {st : List Value} {p0 : Int32} {p1 : Int32} {f : Int32 → Option β} (hd : decode cc pc = .ok (.invokevirtual 218, 3)) (hn : pc + 3 = n) (hc : Nat.ble (st.map fun v => v.category).sum 8 = true) (hr : (Nat.ble (0 + 1) fr && Nat.ble (8 + (4 + 11) + 0) lo) = true) (kk : ∀ v, VC l true al ek cc RX1 mn nL fr lo rt s n L (.int v :: st) (f v)) : VC l true al ek cc RX1 mn nL fr lo rt s pc L (.int p1 :: .int p0 :: .ref 0 :: st) ((X_faultOf s p0 p1).bind f) := vv_callV (ci := 0) (C := RX1) (T := TX1) (N := 49) (ar := 2) (av := [.int p0, .int p1]) (con_X_faultOf l s p0 p1) (fun h => h) (fun h => h) (fun h => by cases h) (fun h => by cases h) rfl sk0 hd hn rfl (Nat.le_of_ble_eq_true hc) (ble2 hr) (lw_V q544 q546 qs9 q97 q547) rfl (by decide +kernel) (fun b _ _ => kk b)
def X_year_37 (u : Nat) (s : Sg) (x1 : Int32) (x2 : Int32) : Option (Int32 × Sg) := (X_faultOf s x1 x2).bind fun v1 => if 0 ≤ v1 then ((W_becomes s 21 1).bind fun s2 => X_year_64 u u s2 0) else (some (v1, s))
theorem vc_X_year_37 (l : Launch) (u : Nat)  (s : Sg) (x1 : Int32) (x2 : Int32) : VC l true true eSI cX1_year RX1 "year" 5 1206 40144 (some .int) s 37 [(0, .ref 0), (1, .int x1), (2, .int x2)] [] (X_year_37 u s x1 x2) := by
  unfold X_year_37
  refine vv_aload_n (n := 38) dX1_year_37 rfl 0 rfl ?_
  refine vv_iload_n (n := 39) dX1_year_38 rfl 1 rfl ?_
  refine vv_iload_n (n := 40) dX1_year_39 rfl 2 rfl ?_
  refine k1_218 (n := 43) dX1_year_40 rfl rfl rfl (fun v1 => ?_)
  refine vv_istore_n (n := 44) (L' := [(3, .int v1), (0, .ref 0), (1, .int x1), (2, .int x2)]) dX1_year_43 rfl (Nat.le_of_ble_eq_true rfl) rfl ?_
  refine vv_iload_n (n := 45) dX1_year_44 rfl 0 rfl ?_
  refine vv_if_ge (tgt := 50) (n := 48) dX1_year_45 (by decide) rfl ?_ ?_
  · refine vv_aload_n (n := 51) dX1_year_50 rfl 1 rfl ?_
    refine g1_51 (n := 54) dX1_year_51 rfl ?_
    refine vv_aload_n (n := 55) dX1_year_54 rfl 1 rfl ?_
    refine g1_12 (n := 58) dX1_year_55 rfl ?_
    refine k1_314 (n := 61) (skW (Or.inr (Or.inr rfl))) dX1_year_58 rfl rfl rfl (fun s2 => ?_)
    refine vv_iconst (n := 62) (v := 0) dX1_year_61 rfl (by decide) ?_
    refine vv_istore (n := 64) (L' := [(4, .int 0), (3, .int v1), (0, .ref 0), (1, .int x1), (2, .int x2)]) dX1_year_62 rfl (Nat.le_of_ble_eq_true rfl) rfl ?_
    exact VC.sub [2, 0] rfl (vc_X_year_64 l u u s2 0)
  · refine vv_iload_n (n := 49) dX1_year_48 rfl 0 rfl ?_
    exact vv_iret dX1_year_49 rfl
theorem k1_379 {β : Type} {l : Launch} {al : Bool} {ek : β → Option Value × Sg} {cc : ByteArray} {mn : String} {nL fr lo : Nat} {rt : Option FieldType} {s : Sg} {pc n : Nat} {L : List (Nat × Value)} {st : List Value} {u : Nat}  {f : Int32 → Sg → Option β} (hd : decode cc pc = .ok (.invokevirtual 379, 3)) (hn : pc + 3 = n) (hc : Nat.ble (st.map fun v => v.category).sum 8 = true) (hr : (Nat.ble (6 + 1) fr && Nat.ble (8 + (3 + 11) + 174) lo) = true) (kk : ∀ v τ, VC l true al ek cc RX1 mn nL fr lo rt τ n L (.int v :: st) (f v τ)) : VC l true al ek cc RX1 mn nL fr lo rt s pc L (.ref 0 :: st) (b2 (X_readsAct u s) f) := vv_callV (ci := 0) (C := RX1) (T := TX1) (N := 49) (ar := 0) (av := []) (con_X_readsAct l u s) (fun h => h) (fun h => h) (fun h => by cases h) (fun h => by cases h) rfl sk0 hd hn rfl (Nat.le_of_ble_eq_true hc) (ble2 hr) (lw_V q774 q776 qs29 q97 q777) rfl (by decide +kernel) (fun b _ _ => kk b.1 b.2)
def X_year_14b (u : Nat) (K14 : Sg → Int32 → Int32 → Option (Int32 × Sg)) (s : Sg) (x1 : Int32) (x2 : Int32) : Option (Int32 × Sg) := if x2 = 0 then (X_year_37 u s x1 x2) else (if (gI s 0 10) ≤ (gI s 0 9) then (X_year_37 u s x1 x2) else (b2 (X_readsAct u s) fun v1 s2 => K14 s2 x1 v1))
theorem vc_X_year_14b (l : Launch) (u : Nat) (K14 : Sg → Int32 → Int32 → Option (Int32 × Sg)) (hK14 : ∀ (s : Sg) (x1 : Int32) (x2 : Int32), VC l true true eSI cX1_year RX1 "year" 5 1206 40144 (some .int) s 14 [(0, .ref 0), (1, .int x1), (2, .int x2)] [] (K14 s x1 x2)) (s : Sg) (x1 : Int32) (x2 : Int32) : VC l true true eSI cX1_year RX1 "year" 5 1206 40144 (some .int) s 14 [(0, .ref 0), (1, .int x1), (2, .int x2)] [] (X_year_14b u K14 s x1 x2) := by
  unfold X_year_14b
  refine vv_iload_n (n := 15) dX1_year_14 rfl 2 rfl ?_
  refine vv_if_eq (tgt := 37) (n := 18) dX1_year_15 (by decide) rfl ?_ ?_
  · exact VC.sub [0, 1, 2] rfl (vc_X_year_37 l u s x1 x2)
  · refine vv_aload_n (n := 19) dX1_year_18 rfl 0 rfl ?_
    refine g1_146 (n := 22) dX1_year_19 rfl ?_
    refine vv_aload_n (n := 23) dX1_year_22 rfl 0 rfl ?_
    refine g1_158 (n := 26) dX1_year_23 rfl ?_
    refine vv_icmp_ge (tgt := 37) (n := 29) dX1_year_26 (by decide) rfl ?_ ?_
    · exact VC.sub [0, 1, 2] rfl (vc_X_year_37 l u s x1 x2)
    · refine vv_aload_n (n := 30) dX1_year_29 rfl 0 rfl ?_
      refine k1_379 (n := 33) dX1_year_30 rfl rfl rfl (fun v1 s2 => ?_)
      refine vv_istore_n (n := 34) (L' := [(2, .int v1), (0, .ref 0), (1, .int x1)]) dX1_year_33 rfl (Nat.le_of_ble_eq_true rfl) rfl ?_
      refine vv_goto (n := 14) dX1_year_34 (by decide) ?_
      exact VC.sub [1, 2, 0] rfl (hK14 s2 x1 v1)
def X_year_14 (u : Nat) (w : Nat) : Sg → Int32 → Int32 → Option (Int32 × Sg) := itN (fun K => X_year_14b u K) (fun _ _ _ => none) w
theorem vc_X_year_14 (l : Launch) (u : Nat)  (w : Nat) : ∀ (s : Sg) (x1 : Int32) (x2 : Int32), VC l true true eSI cX1_year RX1 "year" 5 1206 40144 (some .int) s 14 [(0, .ref 0), (1, .int x1), (2, .int x2)] [] (X_year_14 u w s x1 x2) := by
  induction w with
  | zero => intro s x1 x2; exact VC.non
  | succ w ih => intro s x1 x2; exact vc_X_year_14b l u _ ih s x1 x2
theorem k1_212 {β : Type} {l : Launch} {al : Bool} {ek : β → Option Value × Sg} {cc : ByteArray} {mn : String} {nL fr lo : Nat} {rt : Option FieldType} {s : Sg} {pc n : Nat} {L : List (Nat × Value)} {st : List Value} {p0 : Int32} {f : Int32 → Sg → Option β} (hd : decode cc pc = .ok (.invokevirtual 212, 3)) (hn : pc + 3 = n) (hc : Nat.ble (st.map fun v => v.category).sum 8 = true) (hr : (Nat.ble (1 + 1) fr && Nat.ble (8 + (3 + 11) + 21) lo) = true) (kk : ∀ v τ, VC l true al ek cc RX1 mn nL fr lo rt τ n L (.int v :: st) (f v τ)) : VC l true al ek cc RX1 mn nL fr lo rt s pc L (.int p0 :: .ref 0 :: st) (b2 (X_begins s p0) f) := vv_callV (ci := 0) (C := RX1) (T := TX1) (N := 49) (ar := 1) (av := [.int p0]) (con_X_begins l s p0) (fun h => h) (fun h => h) (fun h => by cases h) (fun h => by cases h) rfl sk0 hd hn rfl (Nat.le_of_ble_eq_true hc) (ble2 hr) (lw_V q340 q342 qs0 q97 q343) rfl (by decide +kernel) (fun b _ _ => kk b.1 b.2)
def X_year  (u : Nat) (s : Sg) : Option (Int32 × Sg) := b2 (X_begins s 60) fun v1 s2 => lt_ (pI s2 0 30 0) fun s3 => X_year_14 u u s3 v1 1
theorem con_X_year (l : Launch) (u : Nat) (s : Sg) : Con l true true eSI yX1_year cX1_year 5 1206 40144 (some .int) s [.ref 0] (X_year u s) := by
  refine con_of (own := RX1) (mn := "year") (L := [(0, .ref 0)]) (by decide) rfl rfl (fun _ _ => Nat.le_of_ble_eq_true rfl) (fun _ _ => rfl) ?_
  unfold X_year
  refine vv_aload_n (n := 1) dX1_year_0 rfl 0 rfl ?_
  refine vv_bipush (n := 3) (v := 60) dX1_year_1 rfl (by decide) ?_
  refine k1_212 (n := 6) dX1_year_3 rfl rfl rfl (fun v1 s2 => ?_)
  refine vv_istore_n (n := 7) (L' := [(1, .int v1), (0, .ref 0)]) dX1_year_6 rfl (Nat.le_of_ble_eq_true rfl) rfl ?_
  refine vv_aload_n (n := 8) dX1_year_7 rfl 1 rfl ?_
  refine vv_iconst (n := 9) (v := 0) dX1_year_8 rfl (by decide) ?_
  refine p1_374 (n := 12) dX1_year_9 rfl (fun s3 => ?_)
  refine vv_iconst (n := 13) (v := 1) dX1_year_12 rfl (by decide) ?_
  refine vv_istore_n (n := 14) (L' := [(2, .int 1), (1, .int v1), (0, .ref 0)]) dX1_year_13 rfl (Nat.le_of_ble_eq_true rfl) rfl ?_
  exact VC.sub [2, 1, 0] rfl (vc_X_year_14 l u u s3 v1 1)
def X_heirs_84b (u : Nat) (K84 : Sg → Int32 → Int32 → Option (Int32 × Sg)) (s : Sg) (x1 : Int32) (x2 : Int32) : Option (Int32 × Sg) := if x1 ≤ x2 then (some ((gI s 0 41), s)) else ((aI s 39 6 x2).bind fun v1 => (X_tells s ((v1 : Int32).toInt64)).bind fun s2 => K84 s2 x1 (x2 + 1))
theorem vc_X_heirs_84b (l : Launch) (u : Nat) (K84 : Sg → Int32 → Int32 → Option (Int32 × Sg)) (hK84 : ∀ (s : Sg) (x1 : Int32) (x2 : Int32), VC l true false eSI cX1_heirs RX1 "heirs" 3 1201 40025 (some .int) s 84 [(0, .ref 0), (1, .int x1), (2, .int x2)] [] (K84 s x1 x2)) (s : Sg) (x1 : Int32) (x2 : Int32) : VC l true false eSI cX1_heirs RX1 "heirs" 3 1201 40025 (some .int) s 84 [(0, .ref 0), (1, .int x1), (2, .int x2)] [] (X_heirs_84b u K84 s x1 x2) := by
  unfold X_heirs_84b
  refine vv_iload_n (n := 85) dX1_heirs_84 rfl 2 rfl ?_
  refine vv_iload_n (n := 86) dX1_heirs_85 rfl 1 rfl ?_
  refine vv_icmp_ge (tgt := 106) (n := 89) dX1_heirs_86 (by decide) rfl ?_ ?_
  · refine vv_aload_n (n := 107) dX1_heirs_106 rfl 0 rfl ?_
    refine g1_444 (n := 110) dX1_heirs_107 rfl ?_
    exact vv_iret dX1_heirs_110 rfl
  · refine vv_aload_n (n := 90) dX1_heirs_89 rfl 0 rfl ?_
    refine vv_aload_n (n := 91) dX1_heirs_90 rfl 0 rfl ?_
    refine g1_94 (n := 94) dX1_heirs_91 rfl ?_
    refine vv_iload_n (n := 95) dX1_heirs_94 rfl 2 rfl ?_
    refine vv_iald (n := 96) sk39 dX1_heirs_95 rfl (fun v1 => ?_)
    refine vv_i2l (n := 97) dX1_heirs_96 rfl ?_
    refine k1_353 (n := 100) dX1_heirs_97 rfl rfl rfl (fun s2 => ?_)
    refine vv_iinc (n := 103) (v := 1) (L' := [(2, .int (x2 + 1)), (0, .ref 0), (1, .int x1)]) dX1_heirs_100 rfl 2 rfl (by decide) (Nat.le_of_ble_eq_true rfl) rfl ?_
    refine vv_goto (n := 84) dX1_heirs_103 (by decide) ?_
    exact VC.sub [1, 2, 0] rfl (hK84 s2 x1 (x2 + 1))
def X_heirs_84 (u : Nat) (w : Nat) : Sg → Int32 → Int32 → Option (Int32 × Sg) := itN (fun K => X_heirs_84b u K) (fun _ _ _ => none) w
theorem vc_X_heirs_84 (l : Launch) (u : Nat)  (w : Nat) : ∀ (s : Sg) (x1 : Int32) (x2 : Int32), VC l true false eSI cX1_heirs RX1 "heirs" 3 1201 40025 (some .int) s 84 [(0, .ref 0), (1, .int x1), (2, .int x2)] [] (X_heirs_84 u w s x1 x2) := by
  induction w with
  | zero => intro s x1 x2; exact VC.non
  | succ w ih => intro s x1 x2; exact vc_X_heirs_84b l u _ ih s x1 x2
def X_heirs_57 (u : Nat) (s : Sg) : Option (Int32 × Sg) := some ((((-1) : Int32) - (gI s 0 9)), s)
theorem vc_X_heirs_57 (l : Launch) (u : Nat)  (s : Sg) : VC l true false eSI cX1_heirs RX1 "heirs" 3 1201 40025 (some .int) s 57 [(0, .ref 0)] [] (X_heirs_57 u s) := by
  unfold X_heirs_57
  refine vv_iconst (n := 58) (v := (-1)) dX1_heirs_57 rfl (by decide) ?_
  refine vv_aload_n (n := 59) dX1_heirs_58 rfl 0 rfl ?_
  refine g1_146 (n := 62) dX1_heirs_59 rfl ?_
  refine vv_isub (n := 63) dX1_heirs_62 rfl ?_
  exact vv_iret dX1_heirs_63 rfl
theorem k1_453 {β : Type} {l : Launch} {al : Bool} {ek : β → Option Value × Sg} {cc : ByteArray} {mn : String} {nL fr lo : Nat} {rt : Option FieldType} {s : Sg} {pc n : Nat} {L : List (Nat × Value)} {st : List Value} {u : Nat} {p0 : Int32} {p1 : Int32} {p2 : Int32} {p3 : Int32} {f : Sg → Option β} (hd : decode cc pc = .ok (.invokevirtual 453, 3)) (hn : pc + 3 = n) (hc : Nat.ble (st.map fun v => v.category).sum 8 = true) (hr : (Nat.ble (1200 + 1) fr && Nat.ble (8 + (6 + 11) + 40000) lo) = true) (kk : ∀ τ, VC l true al ek cc RX1 mn nL fr lo rt τ n L st (f τ)) : VC l true al ek cc RX1 mn nL fr lo rt s pc L (.int p3 :: .int p2 :: .int p1 :: .int p0 :: .ref 0 :: st) ((X_givesFrom u s p0 p1 p2 p3).bind f) := vv_callV (ci := 0) (C := RX1) (T := TX1) (N := 49) (ar := 4) (av := [.int p0, .int p1, .int p2, .int p3]) (con_X_givesFrom l u s p0 p1 p2 p3) (fun h => h) (fun h => h) (fun h => by cases h) (fun h => by cases h) rfl sk0 hd hn rfl (Nat.le_of_ble_eq_true hc) (ble2 hr) (lw_V q947 q949 qs42 q97 q950) rfl (by decide +kernel) (fun b _ _ => kk b)
def X_heirs_42 (u : Nat) (s : Sg) (x1 : Int32) : Option (Int32 × Sg) := if x1 = 0 then (X_heirs_57 u s) else (if (gI s 0 10) ≤ (gI s 0 9) then (lt_ (pI s 0 41 (-1)) fun s1 => (X_givesFrom u s1 0 x1 0 0).bind fun s2 => lt_ (pI s2 0 48 0) fun s3 => X_heirs_84 u u s3 x1 0) else (X_heirs_57 u s))
theorem vc_X_heirs_42 (l : Launch) (u : Nat)  (s : Sg) (x1 : Int32) : VC l true false eSI cX1_heirs RX1 "heirs" 3 1201 40025 (some .int) s 42 [(0, .ref 0), (1, .int x1)] [] (X_heirs_42 u s x1) := by
  unfold X_heirs_42
  refine vv_iload_n (n := 43) dX1_heirs_42 rfl 1 rfl ?_
  refine vv_if_eq (tgt := 57) (n := 46) dX1_heirs_43 (by decide) rfl ?_ ?_
  · exact VC.sub [0] rfl (vc_X_heirs_57 l u s)
  · refine vv_aload_n (n := 47) dX1_heirs_46 rfl 0 rfl ?_
    refine g1_146 (n := 50) dX1_heirs_47 rfl ?_
    refine vv_aload_n (n := 51) dX1_heirs_50 rfl 0 rfl ?_
    refine g1_158 (n := 54) dX1_heirs_51 rfl ?_
    refine vv_icmp_ge (tgt := 64) (n := 57) dX1_heirs_54 (by decide) rfl ?_ ?_
    · refine vv_aload_n (n := 65) dX1_heirs_64 rfl 0 rfl ?_
      refine vv_iconst (n := 66) (v := (-1)) dX1_heirs_65 rfl (by decide) ?_
      refine p1_444 (n := 69) dX1_heirs_66 rfl (fun s1 => ?_)
      refine vv_aload_n (n := 70) dX1_heirs_69 rfl 0 rfl ?_
      refine vv_iconst (n := 71) (v := 0) dX1_heirs_70 rfl (by decide) ?_
      refine vv_iload_n (n := 72) dX1_heirs_71 rfl 1 rfl ?_
      refine vv_iconst (n := 73) (v := 0) dX1_heirs_72 rfl (by decide) ?_
      refine vv_iconst (n := 74) (v := 0) dX1_heirs_73 rfl (by decide) ?_
      refine k1_453 (n := 77) dX1_heirs_74 rfl rfl rfl (fun s2 => ?_)
      refine vv_aload_n (n := 78) dX1_heirs_77 rfl 0 rfl ?_
      refine vv_iconst (n := 79) (v := 0) dX1_heirs_78 rfl (by decide) ?_
      refine p1_350 (n := 82) dX1_heirs_79 rfl (fun s3 => ?_)
      refine vv_iconst (n := 83) (v := 0) dX1_heirs_82 rfl (by decide) ?_
      refine vv_istore_n (n := 84) (L' := [(2, .int 0), (0, .ref 0), (1, .int x1)]) dX1_heirs_83 rfl (Nat.le_of_ble_eq_true rfl) rfl ?_
      exact VC.sub [1, 2, 0] rfl (vc_X_heirs_84 l u u s3 x1 0)
    · exact VC.sub [0] rfl (vc_X_heirs_57 l u s)
def X_heirs_9b (u : Nat) (K9 : Sg → Int32 → Option (Int32 × Sg)) (s : Sg) (x1 : Int32) : Option (Int32 × Sg) := if 6 ≤ x1 then (X_heirs_42 u s x1) else ((X_among s 0).bind fun v1 => if v1 < 0 then (X_heirs_42 u s x1) else (b2 (X_takesOf s 0) fun v2 s3 => (tI s3 37 6 x1 v2).bind fun s4 => K9 s4 (x1 + 1)))
theorem vc_X_heirs_9b (l : Launch) (u : Nat) (K9 : Sg → Int32 → Option (Int32 × Sg)) (hK9 : ∀ (s : Sg) (x1 : Int32), VC l true false eSI cX1_heirs RX1 "heirs" 3 1201 40025 (some .int) s 9 [(0, .ref 0), (1, .int x1)] [] (K9 s x1)) (s : Sg) (x1 : Int32) : VC l true false eSI cX1_heirs RX1 "heirs" 3 1201 40025 (some .int) s 9 [(0, .ref 0), (1, .int x1)] [] (X_heirs_9b u K9 s x1) := by
  unfold X_heirs_9b
  refine vv_iload_n (n := 10) dX1_heirs_9 rfl 1 rfl ?_
  refine vv_bipush (n := 12) (v := 6) dX1_heirs_10 rfl (by decide) ?_
  refine vv_icmp_ge (tgt := 42) (n := 15) dX1_heirs_12 (by decide) rfl ?_ ?_
  · exact VC.sub [0, 1] rfl (vc_X_heirs_42 l u s x1)
  · refine vv_aload_n (n := 16) dX1_heirs_15 rfl 0 rfl ?_
    refine vs_ldc (n := 18) (c := 0) (by decide) (fun E U h => h.1) dX1_heirs_16 rfl ?_
    refine k1_171 (n := 21) (p0 := 0) dX1_heirs_18 rfl rfl rfl (fun v1 => ?_)
    refine vv_if_lt (tgt := 42) (n := 24) dX1_heirs_21 (by decide) rfl ?_ ?_
    · exact VC.sub [0, 1] rfl (vc_X_heirs_42 l u s x1)
    · refine vv_aload_n (n := 25) dX1_heirs_24 rfl 0 rfl ?_
      refine g1_88 (n := 28) dX1_heirs_25 rfl ?_
      refine vv_iload_n (n := 29) dX1_heirs_28 rfl 1 rfl ?_
      refine vv_aload_n (n := 30) dX1_heirs_29 rfl 0 rfl ?_
      refine vs_ldc (n := 32) (c := 0) (by decide) (fun E U h => h.1) dX1_heirs_30 rfl ?_
      refine k1_194 (n := 35) (p0 := 0) dX1_heirs_32 rfl rfl rfl (fun v2 s3 => ?_)
      refine vv_iast (n := 36) sk37 dX1_heirs_35 rfl (fun s4 => ?_)
      refine vv_iinc (n := 39) (v := 1) (L' := [(1, .int (x1 + 1)), (0, .ref 0)]) dX1_heirs_36 rfl 1 rfl (by decide) (Nat.le_of_ble_eq_true rfl) rfl ?_
      refine vv_goto (n := 9) dX1_heirs_39 (by decide) ?_
      exact VC.sub [1, 0] rfl (hK9 s4 (x1 + 1))
def X_heirs_9 (u : Nat) (w : Nat) : Sg → Int32 → Option (Int32 × Sg) := itN (fun K => X_heirs_9b u K) (fun _ _ => none) w
theorem vc_X_heirs_9 (l : Launch) (u : Nat)  (w : Nat) : ∀ (s : Sg) (x1 : Int32), VC l true false eSI cX1_heirs RX1 "heirs" 3 1201 40025 (some .int) s 9 [(0, .ref 0), (1, .int x1)] [] (X_heirs_9 u w s x1) := by
  induction w with
  | zero => intro s x1; exact VC.non
  | succ w ih => intro s x1; exact vc_X_heirs_9b l u _ ih s x1
def X_heirs  (u : Nat) (s : Sg) : Option (Int32 × Sg) := b2 (X_begins s 80) fun v1 s2 => X_heirs_9 u u s2 0
theorem con_X_heirs (l : Launch) (u : Nat) (s : Sg) : Con l true false eSI yX1_heirs cX1_heirs 3 1201 40025 (some .int) s [.ref 0] (X_heirs u s) := by
  refine con_of (own := RX1) (mn := "heirs") (L := [(0, .ref 0)]) (by decide) rfl rfl (fun _ _ => Nat.le_of_ble_eq_true rfl) (fun _ _ => rfl) ?_
  unfold X_heirs
  refine vv_aload_n (n := 1) dX1_heirs_0 rfl 0 rfl ?_
  refine vv_bipush (n := 3) (v := 80) dX1_heirs_1 rfl (by decide) ?_
  refine k1_212 (n := 6) dX1_heirs_3 rfl rfl rfl (fun v1 s2 => ?_)
  refine vv_pop (n := 7) dX1_heirs_6 rfl rfl ?_
  refine vv_iconst (n := 8) (v := 0) dX1_heirs_7 rfl (by decide) ?_
  refine vv_istore_n (n := 9) (L' := [(1, .int 0), (0, .ref 0)]) dX1_heirs_8 rfl (Nat.le_of_ble_eq_true rfl) rfl ?_
  exact VC.sub [1, 0] rfl (vc_X_heirs_9 l u u s2 0)
