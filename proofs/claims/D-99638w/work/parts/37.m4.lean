theorem g1_186 {β : Type} {l : Launch} {al : Bool} {ek : β → Option Value × Sg} {cc : ByteArray} {mn : String} {nL fr lo : Nat} {rt : Option FieldType} {s : Sg} {pc n : Nat} {L : List (Nat × Value)} {st : List Value} {body : Option β} (hd : decode cc pc = .ok (.getfield 186, 3)) (hn : pc + 3 = n) (kk : VC l true al ek cc RX1 mn nL fr lo rt s n L (.int (gI s 0 17) :: st) body) : VC l true al ek cc RX1 mn nL fr lo rt s pc L (.ref 0 :: st) body := vv_getI (ci := 0) (k := 17) (T := TX1) cd0 (by decide) rfl sk0 (Or.inl q190) hd hn kk
theorem p1_186 {β : Type} {l : Launch} {al : Bool} {ek : β → Option Value × Sg} {cc : ByteArray} {mn : String} {nL fr lo : Nat} {rt : Option FieldType} {s : Sg} {pc n : Nat} {L : List (Nat × Value)} {st : List Value} {v : Int32} {f : Sg → Option β} (hd : decode cc pc = .ok (.putfield 186, 3)) (hn : pc + 3 = n) (kk : ∀ τ, VC l true al ek cc RX1 mn nL fr lo rt τ n L st (f τ)) : VC l true al ek cc RX1 mn nL fr lo rt s pc L (.int v :: .ref 0 :: st) (lt_ (pI s 0 17 v) f) := vv_putI (ci := 0) (k := 17) (T := TX1) (ty := tyX1) (fty := .int) cd0 cp0 (by decide) rfl sk0 (Or.inl q190) (Or.inl rfl) (by decide +kernel) rfl rfl hd hn kk
def X_readsLake_158 (u : Nat) (s : Sg) : Option (Int32 × Sg) := lt_ (pI s 0 17 ((gI s 0 17) + 1)) fun s1 => some (1, s1)
theorem vc_X_readsLake_158 (l : Launch) (u : Nat)  (s : Sg) : VC l true true eSI cX1_readsLake RX1 "readsLake" 3 6 174 (some .boolean) s 158 [(0, .ref 0)] [] (X_readsLake_158 u s) := by
  unfold X_readsLake_158
  refine vv_aload_n (n := 159) dX1_readsLake_158 rfl 0 rfl ?_
  refine vv_dup (n := 160) dX1_readsLake_159 rfl rfl ?_
  refine g1_186 (n := 163) dX1_readsLake_160 rfl ?_
  refine vv_iconst (n := 164) (v := 1) dX1_readsLake_163 rfl (by decide) ?_
  refine vv_iadd (n := 165) dX1_readsLake_164 rfl ?_
  refine p1_186 (n := 168) dX1_readsLake_165 rfl (fun s1 => ?_)
  refine vv_iconst (n := 169) (v := 1) dX1_readsLake_168 rfl (by decide) ?_
  exact vv_zret1 dX1_readsLake_169 rfl rfl
def X_readsLake_142 (u : Nat) (s : Sg) (x1 : Int32) (x2 : Int32) (t1 : Int32) (t2 : Int32) : Option (Int32 × Sg) := (tI s 19 6 t1 t2).bind fun s1 => if x2 = 0 then ((aI s1 19 6 x1).bind fun v2 => if 0 ≤ v2 then (X_readsLake_158 u s1) else (some (0, s1))) else (X_readsLake_158 u s1)
theorem vc_X_readsLake_142 (l : Launch) (u : Nat)  (s : Sg) (x1 : Int32) (x2 : Int32) (t1 : Int32) (t2 : Int32) : VC l true true eSI cX1_readsLake RX1 "readsLake" 3 6 174 (some .boolean) s 142 [(0, .ref 0), (1, .int x1), (2, .int x2)] [.int t2, .int t1, .ref 19] (X_readsLake_142 u s x1 x2 t1 t2) := by
  unfold X_readsLake_142
  refine vv_iast (n := 143) sk19 dX1_readsLake_142 rfl (fun s1 => ?_)
  refine vv_iload_n (n := 144) dX1_readsLake_143 rfl 2 rfl ?_
  refine vv_if_ne (tgt := 158) (n := 147) dX1_readsLake_144 (by decide) rfl ?_ ?_
  · exact VC.sub [0] rfl (vc_X_readsLake_158 l u s1)
  · refine vv_aload_n (n := 148) dX1_readsLake_147 rfl 0 rfl ?_
    refine g1_44 (n := 151) dX1_readsLake_148 rfl ?_
    refine vv_iload_n (n := 152) dX1_readsLake_151 rfl 1 rfl ?_
    refine vv_iald (n := 153) sk19 dX1_readsLake_152 rfl (fun v2 => ?_)
    refine vv_if_ge (tgt := 158) (n := 156) dX1_readsLake_153 (by decide) rfl ?_ ?_
    · exact VC.sub [0] rfl (vc_X_readsLake_158 l u s1)
    · refine vv_iconst (n := 157) (v := 0) dX1_readsLake_156 rfl (by decide) ?_
      exact vv_zret1 dX1_readsLake_157 rfl rfl
theorem k1_189 {β : Type} {l : Launch} {al : Bool} {ek : β → Option Value × Sg} {cc : ByteArray} {mn : String} {nL fr lo : Nat} {rt : Option FieldType} {s : Sg} {pc n : Nat} {L : List (Nat × Value)} {st : List Value} {u : Nat}  {f : Int32 → Sg → Option β} (hd : decode cc pc = .ok (.invokevirtual 189, 3)) (hn : pc + 3 = n) (hc : Nat.ble (st.map fun v => v.category).sum 8 = true) (hr : (Nat.ble (3 + 1) fr && Nat.ble (8 + (3 + 11) + 68) lo) = true) (kk : ∀ v τ, VC l true al ek cc RX1 mn nL fr lo rt τ n L (.int v :: st) (f v τ)) : VC l true al ek cc RX1 mn nL fr lo rt s pc L (.ref 0 :: st) (b2 (X_readsBrim u s) f) := vv_callV (ci := 0) (C := RX1) (T := TX1) (N := 49) (ar := 0) (av := []) (con_X_readsBrim l u s) (fun h => h) (fun h => h) (fun h => by cases h) (fun h => by cases h) rfl sk0 hd hn rfl (Nat.le_of_ble_eq_true hc) (ble2 hr) (lw_V q351 q353 qs2 q97 q354) rfl (by decide +kernel) (fun b _ _ => kk b.1 b.2)
theorem k1_197 {β : Type} {l : Launch} {al : Bool} {ek : β → Option Value × Sg} {cc : ByteArray} {mn : String} {nL fr lo : Nat} {rt : Option FieldType} {s : Sg} {pc n : Nat} {L : List (Nat × Value)} {st : List Value} {p0 : Int32} {f : Int32 → Sg → Option β} (hd : decode cc pc = .ok (.invokevirtual 197, 3)) (hn : pc + 3 = n) (hc : Nat.ble (st.map fun v => v.category).sum 8 = true) (hr : (Nat.ble (1 + 1) fr && Nat.ble (8 + (3 + 11) + 21) lo) = true) (kk : ∀ v τ, VC l true al ek cc RX1 mn nL fr lo rt τ n L (.int v :: st) (f v τ)) : VC l true al ek cc RX1 mn nL fr lo rt s pc L (.int p0 :: .ref 0 :: st) (b2 (X_takes s p0) f) := vv_callV (ci := 0) (C := RX1) (T := TX1) (N := 49) (ar := 1) (av := [.int p0]) (con_X_takes l s p0) (fun h => h) (fun h => h) (fun h => by cases h) (fun h => by cases h) rfl sk0 hd hn rfl (Nat.le_of_ble_eq_true hc) (ble2 hr) (lw_V q458 q460 qs7 q97 q461) rfl (by decide +kernel) (fun b _ _ => kk b.1 b.2)
def X_readsLake  (u : Nat) (s : Sg) : Option (Int32 × Sg) := lt_ (gI s 0 17) fun c1 => if ((gI s 0 5) + c1) = 6 then (some (0, s)) else (b2 (X_readsBrim u s) fun v2 s3 => (tI s3 15 6 c1 v2).bind fun s4 => (aI s4 15 6 c1).bind fun v5 => if 0 ≤ v5 then (b2 (X_number u s4 1) fun v6 s7 => (tI s7 16 6 c1 v6).bind fun s8 => (aI s8 16 6 c1).bind fun v9 => if 0 ≤ v9 then (b2 (X_number u s8 1) fun v10 s11 => (tI s11 17 6 c1 v10).bind fun s12 => (aI s12 17 6 c1).bind fun v13 => if 0 ≤ v13 then (b2 (X_takesOf s12 0) fun v14 s15 => (tI s15 18 6 c1 v14).bind fun s16 => (aI s16 18 6 c1).bind fun v17 => if 0 ≤ v17 then (b2 (X_takes s16 45) fun v18 s19 => if v18 = 0 then (b2 (S_subX s19 ((gI s19 0 5) + c1)) fun v20 s21 => b2 (X_takesOf s21 v20) fun v22 s23 => X_readsLake_142 u s23 c1 v18 c1 v22) else (X_readsLake_142 u s19 c1 v18 c1 (-1))) else (some (0, s16))) else (some (0, s12))) else (some (0, s8))) else (some (0, s4)))
theorem con_X_readsLake (l : Launch) (u : Nat) (s : Sg) : Con l true true eSI yX1_readsLake cX1_readsLake 3 6 174 (some .boolean) s [.ref 0] (X_readsLake u s) := by
  refine con_of (own := RX1) (mn := "readsLake") (L := [(0, .ref 0)]) (by decide) rfl rfl (fun _ _ => Nat.le_of_ble_eq_true rfl) (fun _ _ => rfl) ?_
  unfold X_readsLake
  refine vv_aload_n (n := 1) dX1_readsLake_0 rfl 0 rfl ?_
  refine g1_186 (n := 4) dX1_readsLake_1 rfl ?_
  refine vv_leti (fun c1 => ?_)
  refine vv_istore_n (n := 5) (L' := [(1, .int c1), (0, .ref 0)]) dX1_readsLake_4 rfl (Nat.le_of_ble_eq_true rfl) rfl ?_
  refine vv_aload_n (n := 6) dX1_readsLake_5 rfl 1 rfl ?_
  refine g1_117 (n := 9) dX1_readsLake_6 rfl ?_
  refine vv_iload_n (n := 10) dX1_readsLake_9 rfl 0 rfl ?_
  refine vv_iadd (n := 11) dX1_readsLake_10 rfl ?_
  refine vv_bipush (n := 13) (v := 6) dX1_readsLake_11 rfl (by decide) ?_
  refine vv_icmp_ne (tgt := 18) (n := 16) dX1_readsLake_13 (by decide) rfl ?_ ?_
  · refine vv_aload_n (n := 19) dX1_readsLake_18 rfl 1 rfl ?_
    refine g1_32 (n := 22) dX1_readsLake_19 rfl ?_
    refine vv_iload_n (n := 23) dX1_readsLake_22 rfl 0 rfl ?_
    refine vv_aload_n (n := 24) dX1_readsLake_23 rfl 1 rfl ?_
    refine k1_189 (n := 27) dX1_readsLake_24 rfl rfl rfl (fun v2 s3 => ?_)
    refine vv_iast (n := 28) sk15 dX1_readsLake_27 rfl (fun s4 => ?_)
    refine vv_aload_n (n := 29) dX1_readsLake_28 rfl 1 rfl ?_
    refine g1_32 (n := 32) dX1_readsLake_29 rfl ?_
    refine vv_iload_n (n := 33) dX1_readsLake_32 rfl 0 rfl ?_
    refine vv_iald (n := 34) sk15 dX1_readsLake_33 rfl (fun v5 => ?_)
    refine vv_if_ge (tgt := 39) (n := 37) dX1_readsLake_34 (by decide) rfl ?_ ?_
    · refine vv_aload_n (n := 40) dX1_readsLake_39 rfl 1 rfl ?_
      refine g1_35 (n := 43) dX1_readsLake_40 rfl ?_
      refine vv_iload_n (n := 44) dX1_readsLake_43 rfl 0 rfl ?_
      refine vv_aload_n (n := 45) dX1_readsLake_44 rfl 1 rfl ?_
      refine vv_iconst (n := 46) (v := 1) dX1_readsLake_45 rfl (by decide) ?_
      refine k1_183 (n := 49) dX1_readsLake_46 rfl rfl rfl (fun v6 s7 => ?_)
      refine vv_iast (n := 50) sk16 dX1_readsLake_49 rfl (fun s8 => ?_)
      refine vv_aload_n (n := 51) dX1_readsLake_50 rfl 1 rfl ?_
      refine g1_35 (n := 54) dX1_readsLake_51 rfl ?_
      refine vv_iload_n (n := 55) dX1_readsLake_54 rfl 0 rfl ?_
      refine vv_iald (n := 56) sk16 dX1_readsLake_55 rfl (fun v9 => ?_)
      refine vv_if_ge (tgt := 61) (n := 59) dX1_readsLake_56 (by decide) rfl ?_ ?_
      · refine vv_aload_n (n := 62) dX1_readsLake_61 rfl 1 rfl ?_
        refine g1_38 (n := 65) dX1_readsLake_62 rfl ?_
        refine vv_iload_n (n := 66) dX1_readsLake_65 rfl 0 rfl ?_
        refine vv_aload_n (n := 67) dX1_readsLake_66 rfl 1 rfl ?_
        refine vv_iconst (n := 68) (v := 1) dX1_readsLake_67 rfl (by decide) ?_
        refine k1_183 (n := 71) dX1_readsLake_68 rfl rfl rfl (fun v10 s11 => ?_)
        refine vv_iast (n := 72) sk17 dX1_readsLake_71 rfl (fun s12 => ?_)
        refine vv_aload_n (n := 73) dX1_readsLake_72 rfl 1 rfl ?_
        refine g1_38 (n := 76) dX1_readsLake_73 rfl ?_
        refine vv_iload_n (n := 77) dX1_readsLake_76 rfl 0 rfl ?_
        refine vv_iald (n := 78) sk17 dX1_readsLake_77 rfl (fun v13 => ?_)
        refine vv_if_ge (tgt := 83) (n := 81) dX1_readsLake_78 (by decide) rfl ?_ ?_
        · refine vv_aload_n (n := 84) dX1_readsLake_83 rfl 1 rfl ?_
          refine g1_41 (n := 87) dX1_readsLake_84 rfl ?_
          refine vv_iload_n (n := 88) dX1_readsLake_87 rfl 0 rfl ?_
          refine vv_aload_n (n := 89) dX1_readsLake_88 rfl 1 rfl ?_
          refine vs_ldc (n := 91) (c := 0) (by decide) (fun E U h => h.1) dX1_readsLake_89 rfl ?_
          refine k1_194 (n := 94) (p0 := 0) dX1_readsLake_91 rfl rfl rfl (fun v14 s15 => ?_)
          refine vv_iast (n := 95) sk18 dX1_readsLake_94 rfl (fun s16 => ?_)
          refine vv_aload_n (n := 96) dX1_readsLake_95 rfl 1 rfl ?_
          refine g1_41 (n := 99) dX1_readsLake_96 rfl ?_
          refine vv_iload_n (n := 100) dX1_readsLake_99 rfl 0 rfl ?_
          refine vv_iald (n := 101) sk18 dX1_readsLake_100 rfl (fun v17 => ?_)
          refine vv_if_ge (tgt := 106) (n := 104) dX1_readsLake_101 (by decide) rfl ?_ ?_
          · refine vv_aload_n (n := 107) dX1_readsLake_106 rfl 1 rfl ?_
            refine vv_bipush (n := 109) (v := 45) dX1_readsLake_107 rfl (by decide) ?_
            refine k1_197 (n := 112) dX1_readsLake_109 rfl rfl rfl (fun v18 s19 => ?_)
            refine vv_istore_n (n := 113) (L' := [(2, .int v18), (1, .int c1), (0, .ref 0)]) dX1_readsLake_112 rfl (Nat.le_of_ble_eq_true rfl) rfl ?_
            refine vv_aload_n (n := 114) dX1_readsLake_113 rfl 2 rfl ?_
            refine g1_44 (n := 117) dX1_readsLake_114 rfl ?_
            refine vv_iload_n (n := 118) dX1_readsLake_117 rfl 1 rfl ?_
            refine vv_iload_n (n := 119) dX1_readsLake_118 rfl 0 rfl ?_
            refine vv_if_eq (tgt := 126) (n := 122) dX1_readsLake_119 (by decide) rfl ?_ ?_
            · refine vv_aload_n (n := 127) dX1_readsLake_126 rfl 2 rfl ?_
              refine vs_ldc (n := 129) (c := 1) (by decide) (fun E U h => h.2.1) dX1_readsLake_127 rfl ?_
              refine vv_iconst (n := 130) (v := 0) dX1_readsLake_129 rfl (by decide) ?_
              refine vv_aload_n (n := 131) dX1_readsLake_130 rfl 2 rfl ?_
              refine g1_117 (n := 134) dX1_readsLake_131 rfl ?_
              refine vv_iload_n (n := 135) dX1_readsLake_134 rfl 1 rfl ?_
              refine vv_iadd (n := 136) dX1_readsLake_135 rfl ?_
              refine k1_sub (n := 139) (fun h => ⟨(vlc trivial (vlc trivial (vlc (sk0 h).2 vl0))), (vsc (sk0 h).2 (vsc trivial (vsc (sk19 h).2 vs0)))⟩) q467 dX1_readsLake_136 rfl rfl rfl (fun v20 s21 _ => ?_)
              refine k1_194 (n := 142) (p0 := v20) dX1_readsLake_139 rfl rfl rfl (fun v22 s23 => ?_)
              exact VC.sub [2, 1, 0] rfl (vc_X_readsLake_142 l u s23 c1 v18 c1 v22)
            · refine vv_iconst (n := 123) (v := (-1)) dX1_readsLake_122 rfl (by decide) ?_
              refine vv_goto (n := 142) dX1_readsLake_123 (by decide) ?_
              exact VC.sub [2, 1, 0] rfl (vc_X_readsLake_142 l u s19 c1 v18 c1 (-1))
          · refine vv_iconst (n := 105) (v := 0) dX1_readsLake_104 rfl (by decide) ?_
            exact vv_zret1 dX1_readsLake_105 rfl rfl
        · refine vv_iconst (n := 82) (v := 0) dX1_readsLake_81 rfl (by decide) ?_
          exact vv_zret1 dX1_readsLake_82 rfl rfl
      · refine vv_iconst (n := 60) (v := 0) dX1_readsLake_59 rfl (by decide) ?_
        exact vv_zret1 dX1_readsLake_60 rfl rfl
    · refine vv_iconst (n := 38) (v := 0) dX1_readsLake_37 rfl (by decide) ?_
      exact vv_zret1 dX1_readsLake_38 rfl rfl
  · refine vv_iconst (n := 17) (v := 0) dX1_readsLake_16 rfl (by decide) ?_
    exact vv_zret1 dX1_readsLake_17 rfl rfl
theorem p1_229 {β : Type} {l : Launch} {al : Bool} {ek : β → Option Value × Sg} {cc : ByteArray} {mn : String} {nL fr lo : Nat} {rt : Option FieldType} {s : Sg} {pc n : Nat} {L : List (Nat × Value)} {st : List Value} {v : Int32} {f : Sg → Option β} (hd : decode cc pc = .ok (.putfield 229, 3)) (hn : pc + 3 = n) (kk : ∀ τ, VC l true al ek cc RX1 mn nL fr lo rt τ n L st (f τ)) : VC l true al ek cc RX1 mn nL fr lo rt s pc L (.int v :: .ref 0 :: st) (lt_ (pI s 0 6 v) f) := vv_putI (ci := 0) (k := 6) (T := TX1) (ty := tyX1) (fty := .int) cd0 cp0 (by decide) rfl sk0 (Or.inl q179) (Or.inl rfl) (by decide +kernel) rfl rfl hd hn kk
theorem k1_222 {β : Type} {l : Launch} {al : Bool} {ek : β → Option Value × Sg} {cc : ByteArray} {mn : String} {nL fr lo : Nat} {rt : Option FieldType} {s : Sg} {pc n : Nat} {L : List (Nat × Value)} {st : List Value} {p0 : Int32} {f : Sg → Option β} (hd : decode cc pc = .ok (.invokevirtual 222, 3)) (hn : pc + 3 = n) (hc : Nat.ble (st.map fun v => v.category).sum 8 = true) (hr : (Nat.ble (0 + 1) fr && Nat.ble (8 + (3 + 11) + 0) lo) = true) (kk : ∀ τ, VC l true al ek cc RX1 mn nL fr lo rt τ n L st (f τ)) : VC l true al ek cc RX1 mn nL fr lo rt s pc L (.int p0 :: .ref 0 :: st) ((X_comes s p0).bind f) := vv_callV (ci := 0) (C := RX1) (T := TX1) (N := 49) (ar := 1) (av := [.int p0]) (con_X_comes l s p0) (fun h => h) (fun h => h) (fun h => by cases h) (fun h => by cases h) rfl sk0 hd hn rfl (Nat.le_of_ble_eq_true hc) (ble2 hr) (lw_V q548 q550 qs10 q97 q551) rfl (by decide +kernel) (fun b _ _ => kk b)
def X_lakes_72b (u : Nat) (K72 : Sg → Int32 → Option (Int32 × Sg)) (s : Sg) (x5 : Int32) : Option (Int32 × Sg) := if (gI s 0 17) ≤ x5 then (lt_ (pI s 0 24 0) fun s1 => lt_ (pI s1 0 6 ((gI s1 0 6) + 1)) fun s2 => some ((gI s2 0 17), s2)) else ((X_comes s x5).bind fun s3 => K72 s3 (x5 + 1))
theorem vc_X_lakes_72b (l : Launch) (u : Nat) (K72 : Sg → Int32 → Option (Int32 × Sg)) (hK72 : ∀ (s : Sg) (x5 : Int32), VC l true true eSI cX1_lakes RX1 "lakes" 6 7 196 (some .int) s 72 [(0, .ref 0), (5, .int x5)] [] (K72 s x5)) (s : Sg) (x5 : Int32) : VC l true true eSI cX1_lakes RX1 "lakes" 6 7 196 (some .int) s 72 [(0, .ref 0), (5, .int x5)] [] (X_lakes_72b u K72 s x5) := by
  unfold X_lakes_72b
  refine vv_iload (n := 74) dX1_lakes_72 rfl 1 rfl ?_
  refine vv_aload_n (n := 75) dX1_lakes_74 rfl 0 rfl ?_
  refine g1_186 (n := 78) dX1_lakes_75 rfl ?_
  refine vv_icmp_ge (tgt := 93) (n := 81) dX1_lakes_78 (by decide) rfl ?_ ?_
  · refine vv_aload_n (n := 94) dX1_lakes_93 rfl 0 rfl ?_
    refine vv_iconst (n := 95) (v := 0) dX1_lakes_94 rfl (by decide) ?_
    refine p1_226 (n := 98) dX1_lakes_95 rfl (fun s1 => ?_)
    refine vv_aload_n (n := 99) dX1_lakes_98 rfl 0 rfl ?_
    refine vv_dup (n := 100) dX1_lakes_99 rfl rfl ?_
    refine g1_229 (n := 103) dX1_lakes_100 rfl ?_
    refine vv_iconst (n := 104) (v := 1) dX1_lakes_103 rfl (by decide) ?_
    refine vv_iadd (n := 105) dX1_lakes_104 rfl ?_
    refine p1_229 (n := 108) dX1_lakes_105 rfl (fun s2 => ?_)
    refine vv_aload_n (n := 109) dX1_lakes_108 rfl 0 rfl ?_
    refine g1_186 (n := 112) dX1_lakes_109 rfl ?_
    exact vv_iret dX1_lakes_112 rfl
  · refine vv_aload_n (n := 82) dX1_lakes_81 rfl 0 rfl ?_
    refine vv_iload (n := 84) dX1_lakes_82 rfl 1 rfl ?_
    refine k1_222 (n := 87) dX1_lakes_84 rfl rfl rfl (fun s3 => ?_)
    refine vv_iinc (n := 90) (v := 1) (L' := [(5, .int (x5 + 1)), (0, .ref 0)]) dX1_lakes_87 rfl 1 rfl (by decide) (Nat.le_of_ble_eq_true rfl) rfl ?_
    refine vv_goto (n := 72) dX1_lakes_90 (by decide) ?_
    exact VC.sub [1, 0] rfl (hK72 s3 (x5 + 1))
def X_lakes_72 (u : Nat) (w : Nat) : Sg → Int32 → Option (Int32 × Sg) := itN (fun K => X_lakes_72b u K) (fun _ _ => none) w
theorem vc_X_lakes_72 (l : Launch) (u : Nat)  (w : Nat) : ∀ (s : Sg) (x5 : Int32), VC l true true eSI cX1_lakes RX1 "lakes" 6 7 196 (some .int) s 72 [(0, .ref 0), (5, .int x5)] [] (X_lakes_72 u w s x5) := by
  induction w with
  | zero => intro s x5; exact VC.non
  | succ w ih => intro s x5; exact vc_X_lakes_72b l u _ ih s x5
def X_lakes_48 (u : Nat) (K22 : Sg → Int32 → Int32 → Int32 → Option (Int32 × Sg)) (s : Sg) (x1 : Int32) (x2 : Int32) : Option (Int32 × Sg) := K22 s x1 x2 0
theorem vc_X_lakes_48 (l : Launch) (u : Nat) (K22 : Sg → Int32 → Int32 → Int32 → Option (Int32 × Sg)) (hK22 : ∀ (s : Sg) (x1 : Int32) (x2 : Int32) (x3 : Int32), VC l true true eSI cX1_lakes RX1 "lakes" 6 7 196 (some .int) s 22 [(0, .ref 0), (1, .int x1), (2, .int x2), (3, .int x3)] [] (K22 s x1 x2 x3)) (s : Sg) (x1 : Int32) (x2 : Int32) : VC l true true eSI cX1_lakes RX1 "lakes" 6 7 196 (some .int) s 48 [(0, .ref 0), (1, .int x1), (2, .int x2)] [] (X_lakes_48 u K22 s x1 x2) := by
  unfold X_lakes_48
  refine vv_iconst (n := 49) (v := 0) dX1_lakes_48 rfl (by decide) ?_
  refine vv_istore_n (n := 50) (L' := [(3, .int 0), (0, .ref 0), (1, .int x1), (2, .int x2)]) dX1_lakes_49 rfl (Nat.le_of_ble_eq_true rfl) rfl ?_
  refine vv_goto (n := 22) dX1_lakes_50 (by decide) ?_
  exact VC.sub [1, 2, 3, 0] rfl (hK22 s x1 x2 0)
theorem k1_215 {β : Type} {l : Launch} {ek : β → Option Value × Sg} {cc : ByteArray} {mn : String} {nL fr lo : Nat} {rt : Option FieldType} {s : Sg} {pc n : Nat} {L : List (Nat × Value)} {st : List Value} {u : Nat}  {f : Int32 → Sg → Option β} (hLk : Ok true s → (∀ q ∈ L, vok (gN s) q.2) ∧ ∀ v ∈ st, vok (gN s) v) (hd : decode cc pc = .ok (.invokevirtual 215, 3)) (hn : pc + 3 = n) (hc : Nat.ble (st.map fun v => v.category).sum 8 = true) (hr : (Nat.ble (6 + 1) fr && Nat.ble (8 + (3 + 11) + 174) lo) = true) (kk : ∀ v τ, gN s ≤ gN τ → VC l true true ek cc RX1 mn nL fr lo rt τ n L (.int v :: st) (f v τ)) : VC l true true ek cc RX1 mn nL fr lo rt s pc L (.ref 0 :: st) (b2 (X_readsLake u s) f) := vv_callV (ci := 0) (C := RX1) (T := TX1) (N := 49) (ar := 0) (av := []) (con_X_readsLake l u s) (fun h => h) (fun h => h) (fun _ => rfl) (fun _ => hLk) rfl sk0 hd hn rfl (Nat.le_of_ble_eq_true hc) (ble2 hr) (lw_V q347 q349 qs1 q97 q350) rfl (by decide +kernel) (fun b _ h => kk b.1 b.2 h.2.2.1)
def X_lakes_22b (u : Nat) (K22 : Sg → Int32 → Int32 → Int32 → Option (Int32 × Sg)) (s : Sg) (x1 : Int32) (x2 : Int32) (x3 : Int32) : Option (Int32 × Sg) := if x3 = 0 then ((X_faultOf s x1 x2).bind fun v1 => if 0 ≤ v1 then (X_lakes_72 u u s 0) else (some (v1, s))) else (b2 (X_readsLake u s) fun v2 s3 => if v2 = 0 then (X_lakes_48 u K22 s3 x1 v2) else (b2 (X_takes s3 59) fun v4 s5 => if v4 = 0 then (X_lakes_48 u K22 s5 x1 v2) else (K22 s5 x1 v2 1)))
theorem vc_X_lakes_22b (l : Launch) (u : Nat) (K22 : Sg → Int32 → Int32 → Int32 → Option (Int32 × Sg)) (hK22 : ∀ (s : Sg) (x1 : Int32) (x2 : Int32) (x3 : Int32), VC l true true eSI cX1_lakes RX1 "lakes" 6 7 196 (some .int) s 22 [(0, .ref 0), (1, .int x1), (2, .int x2), (3, .int x3)] [] (K22 s x1 x2 x3)) (s : Sg) (x1 : Int32) (x2 : Int32) (x3 : Int32) : VC l true true eSI cX1_lakes RX1 "lakes" 6 7 196 (some .int) s 22 [(0, .ref 0), (1, .int x1), (2, .int x2), (3, .int x3)] [] (X_lakes_22b u K22 s x1 x2 x3) := by
  unfold X_lakes_22b
  refine vv_iload_n (n := 23) dX1_lakes_22 rfl 3 rfl ?_
  refine vv_if_eq (tgt := 53) (n := 26) dX1_lakes_23 (by decide) rfl ?_ ?_
  · refine vv_aload_n (n := 54) dX1_lakes_53 rfl 0 rfl ?_
    refine vv_iload_n (n := 55) dX1_lakes_54 rfl 1 rfl ?_
    refine vv_iload_n (n := 56) dX1_lakes_55 rfl 2 rfl ?_
    refine k1_218 (n := 59) dX1_lakes_56 rfl rfl rfl (fun v1 => ?_)
    refine vv_istore (n := 61) (L' := [(4, .int v1), (0, .ref 0), (1, .int x1), (2, .int x2), (3, .int x3)]) dX1_lakes_59 rfl (Nat.le_of_ble_eq_true rfl) rfl ?_
    refine vv_iload (n := 63) dX1_lakes_61 rfl 0 rfl ?_
    refine vv_if_ge (tgt := 69) (n := 66) dX1_lakes_63 (by decide) rfl ?_ ?_
    · refine vv_iconst (n := 70) (v := 0) dX1_lakes_69 rfl (by decide) ?_
      refine vv_istore (n := 72) (L' := [(5, .int 0), (4, .int v1), (0, .ref 0), (1, .int x1), (2, .int x2), (3, .int x3)]) dX1_lakes_70 rfl (Nat.le_of_ble_eq_true rfl) rfl ?_
      exact VC.sub [2, 0] rfl (vc_X_lakes_72 l u u s 0)
    · refine vv_iload (n := 68) dX1_lakes_66 rfl 0 rfl ?_
      exact vv_iret dX1_lakes_68 rfl
  · refine vv_aload_n (n := 27) dX1_lakes_26 rfl 0 rfl ?_
    refine k1_215 (n := 30) (fun h => ⟨(vlc (sk0 h).2 (vlc trivial (vlc trivial (vlc trivial vl0)))), vs0⟩) dX1_lakes_27 rfl rfl rfl (fun v2 s3 _ => ?_)
    refine vv_istore_n (n := 31) (L' := [(2, .int v2), (0, .ref 0), (1, .int x1), (3, .int x3)]) dX1_lakes_30 rfl (Nat.le_of_ble_eq_true rfl) rfl ?_
    refine vv_iload_n (n := 32) dX1_lakes_31 rfl 0 rfl ?_
    refine vv_if_eq (tgt := 48) (n := 35) dX1_lakes_32 (by decide) rfl ?_ ?_
    · exact VC.sub [1, 2, 0] rfl (vc_X_lakes_48 l u K22 hK22 s3 x1 v2)
    · refine vv_aload_n (n := 36) dX1_lakes_35 rfl 1 rfl ?_
      refine vv_bipush (n := 38) (v := 59) dX1_lakes_36 rfl (by decide) ?_
      refine k1_197 (n := 41) dX1_lakes_38 rfl rfl rfl (fun v4 s5 => ?_)
      refine vv_if_eq (tgt := 48) (n := 44) dX1_lakes_41 (by decide) rfl ?_ ?_
      · exact VC.sub [1, 2, 0] rfl (vc_X_lakes_48 l u K22 hK22 s5 x1 v2)
      · refine vv_iconst (n := 45) (v := 1) dX1_lakes_44 rfl (by decide) ?_
        refine vv_goto (n := 49) dX1_lakes_45 (by decide) ?_
        refine vv_istore_n (n := 50) (L' := [(3, .int 1), (2, .int v2), (0, .ref 0), (1, .int x1)]) dX1_lakes_49 rfl (Nat.le_of_ble_eq_true rfl) rfl ?_
        refine vv_goto (n := 22) dX1_lakes_50 (by decide) ?_
        exact VC.sub [2, 3, 1, 0] rfl (hK22 s5 x1 v2 1)
def X_lakes_22 (u : Nat) (w : Nat) : Sg → Int32 → Int32 → Int32 → Option (Int32 × Sg) := itN (fun K => X_lakes_22b u K) (fun _ _ _ _ => none) w
theorem vc_X_lakes_22 (l : Launch) (u : Nat)  (w : Nat) : ∀ (s : Sg) (x1 : Int32) (x2 : Int32) (x3 : Int32), VC l true true eSI cX1_lakes RX1 "lakes" 6 7 196 (some .int) s 22 [(0, .ref 0), (1, .int x1), (2, .int x2), (3, .int x3)] [] (X_lakes_22 u w s x1 x2 x3) := by
  induction w with
  | zero => intro s x1 x2 x3; exact VC.non
  | succ w ih => intro s x1 x2 x3; exact vc_X_lakes_22b l u _ ih s x1 x2 x3
def X_lakes  (u : Nat) (s : Sg) : Option (Int32 × Sg) := b2 (X_begins s 41) fun v1 s2 => if v1 = 0 then (some (0, s2)) else (lt_ (pI s2 0 17 0) fun s3 => X_lakes_22 u u s3 v1 1 1)
theorem con_X_lakes (l : Launch) (u : Nat) (s : Sg) : Con l true true eSI yX1_lakes cX1_lakes 6 7 196 (some .int) s [.ref 0] (X_lakes u s) := by
  refine con_of (own := RX1) (mn := "lakes") (L := [(0, .ref 0)]) (by decide) rfl rfl (fun _ _ => Nat.le_of_ble_eq_true rfl) (fun _ _ => rfl) ?_
  unfold X_lakes
  refine vv_aload_n (n := 1) dX1_lakes_0 rfl 0 rfl ?_
  refine vv_bipush (n := 3) (v := 41) dX1_lakes_1 rfl (by decide) ?_
  refine k1_212 (n := 6) dX1_lakes_3 rfl rfl rfl (fun v1 s2 => ?_)
  refine vv_istore_n (n := 7) (L' := [(1, .int v1), (0, .ref 0)]) dX1_lakes_6 rfl (Nat.le_of_ble_eq_true rfl) rfl ?_
  refine vv_iload_n (n := 8) dX1_lakes_7 rfl 0 rfl ?_
  refine vv_if_ne (tgt := 13) (n := 11) dX1_lakes_8 (by decide) rfl ?_ ?_
  · refine vv_aload_n (n := 14) dX1_lakes_13 rfl 1 rfl ?_
    refine vv_iconst (n := 15) (v := 0) dX1_lakes_14 rfl (by decide) ?_
    refine p1_186 (n := 18) dX1_lakes_15 rfl (fun s3 => ?_)
    refine vv_iconst (n := 19) (v := 1) dX1_lakes_18 rfl (by decide) ?_
    refine vv_istore_n (n := 20) (L' := [(2, .int 1), (1, .int v1), (0, .ref 0)]) dX1_lakes_19 rfl (Nat.le_of_ble_eq_true rfl) rfl ?_
    refine vv_iconst (n := 21) (v := 1) dX1_lakes_20 rfl (by decide) ?_
    refine vv_istore_n (n := 22) (L' := [(3, .int 1), (2, .int 1), (1, .int v1), (0, .ref 0)]) dX1_lakes_21 rfl (Nat.le_of_ble_eq_true rfl) rfl ?_
    exact VC.sub [3, 2, 1, 0] rfl (vc_X_lakes_22 l u u s3 v1 1 1)
  · refine vv_iconst (n := 12) (v := 0) dX1_lakes_11 rfl (by decide) ?_
    exact vv_iret dX1_lakes_12 rfl
