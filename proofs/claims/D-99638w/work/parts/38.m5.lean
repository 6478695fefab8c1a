theorem kr1_232 {β : Type} {l : Launch} {ek : β → Option Value × Sg} {cc : ByteArray} {mn : String} {nL fr lo : Nat} {rt : Option FieldType} {s : Sg} {pc n : Nat} {L : List (Nat × Value)} {st : List Value} {frc loc : Nat}  {F : Sg → Option (Option Nat × Sg)} {f : Option Nat → Sg → Option β} (hF : ∀ (s : Sg), Con l true true eSR yX1_readsThing cX1_readsThing 2 frc loc (some (.object "PullThePlug$Node")) s [.ref 0] (F s)) (hLk : Ok true s → (∀ q ∈ L, vok (gN s) q.2) ∧ ∀ v ∈ st, vok (gN s) v) (hd : decode cc pc = .ok (.invokevirtual 232, 3)) (hn : pc + 3 = n) (hc : Nat.ble (st.map fun v => v.category).sum 8 = true) (hr : frc + 1 ≤ fr ∧ 8 + (2 + 11) + loc ≤ lo) (kk : ∀ v τ, gN s ≤ gN τ → VC l true true ek cc RX1 mn nL fr lo rt τ n L (va_rf v :: st) (f v τ)) : VC l true true ek cc RX1 mn nL fr lo rt s pc L (.ref 0 :: st) (b2 (F s) f) := vv_callV (ci := 0) (C := RX1) (T := TX1) (N := 49) (ar := 0) (av := []) (hF s) (fun h => h) (fun h => h) (fun _ => rfl) (fun _ => hLk) rfl sk0 hd hn rfl (Nat.le_of_ble_eq_true hc) hr (lw_V q564 q566 qs13 q97 q567) rfl (by decide +kernel) (fun b _ h => kk b.1 b.2 h.2.2.1)
theorem kr1_251 {β : Type} {l : Launch} {ek : β → Option Value × Sg} {cc : ByteArray} {mn : String} {nL fr lo : Nat} {rt : Option FieldType} {s : Sg} {pc n : Nat} {L : List (Nat × Value)} {st : List Value} {frc loc : Nat} {p0 : Int32} {F : Sg → Int32 → Option (Option Nat × Sg)} {f : Option Nat → Sg → Option β} (hF : ∀ (s : Sg) (p0 : Int32), Con l true true eSR yX1_parses cX1_parses 6 frc loc (some (.object "PullThePlug$Node")) s [.ref 0, .int p0] (F s p0)) (hLk : Ok true s → (∀ q ∈ L, vok (gN s) q.2) ∧ ∀ v ∈ st, vok (gN s) v) (hd : decode cc pc = .ok (.invokevirtual 251, 3)) (hn : pc + 3 = n) (hc : Nat.ble (st.map fun v => v.category).sum 8 = true) (hr : frc + 1 ≤ fr ∧ 8 + (6 + 11) + loc ≤ lo) (kk : ∀ v τ, gN s ≤ gN τ → VC l true true ek cc RX1 mn nL fr lo rt τ n L (va_rf v :: st) (f v τ)) : VC l true true ek cc RX1 mn nL fr lo rt s pc L (.int p0 :: .ref 0 :: st) (b2 (F s p0) f) := vv_callV (ci := 0) (C := RX1) (T := TX1) (N := 49) (ar := 1) (av := [.int p0]) (hF s p0) (fun h => h) (fun h => h) (fun _ => rfl) (fun _ => hLk) rfl sk0 hd hn rfl (Nat.le_of_ble_eq_true hc) hr (lw_V q560 q562 qs12 q97 q563) rfl (by decide +kernel) (fun b _ h => kk b.1 b.2 h.2.2.1)
theorem g1_149 {β : Type} {l : Launch} {al : Bool} {ek : β → Option Value × Sg} {cc : ByteArray} {mn : String} {nL fr lo : Nat} {rt : Option FieldType} {s : Sg} {pc n : Nat} {L : List (Nat × Value)} {st : List Value} {body : Option β} (hd : decode cc pc = .ok (.getfield 149, 3)) (hn : pc + 3 = n) (kk : VC l true al ek cc RX1 mn nL fr lo rt s n L (.int (gI s 0 11) :: st) body) : VC l true al ek cc RX1 mn nL fr lo rt s pc L (.ref 0 :: st) body := vv_getI (ci := 0) (k := 11) (T := TX1) cd0 (by decide) rfl sk0 (Or.inl q184) hd hn kk
theorem nw1_248 {β : Type} {l : Launch} {ek : β → Option Value × Sg} {cc : ByteArray} {mn : String} {nL fr lo : Nat} {rt : Option FieldType} {s : Sg} {pc n : Nat} {L : List (Nat × Value)} {st : List Value} {f : Sg → Option β} (hLk : Ok true s → (∀ q ∈ L, vok (gN s) q.2) ∧ ∀ v ∈ st, vok (gN s) v) (hd : decode cc pc = .ok (.new 248, 3)) (hn : pc + 3 = n) (kk : ∀ τ, gN s < gN τ → VC l true true ek cc RX1 mn nL fr lo rt τ n L (.ref (gN s) :: st) (f τ)) : VC l true true ek cc RX1 mn nL fr lo rt s pc L st (lt_ (aw s (4 + 5) 3 3) f) := vv_new (ci := 4) (T := TX7) (ty := tyX7) cd4 tyX7_ok (by decide +kernel) q602 q603 q111 (fun h => (hLk h).1) (fun h => (hLk h).2) hd hn (fun τ h _ => kk τ (by omega))
theorem kc1_250 {β : Type} {l : Launch} {ek : β → Option Value × Sg} {cc : ByteArray} {mn : String} {nL fr lo : Nat} {rt : Option FieldType} {s : Sg} {pc n : Nat} {L : List (Nat × Value)} {st : List Value} {i : Nat} {p1 : Int32} {f : Sg → Option β} (hd : decode cc pc = .ok (.invokespecial 250, 3)) (hn : pc + 3 = n) (hc : Nat.ble (st.map fun v => v.category).sum 8 = true) (hr : (Nat.ble (2 + 1) fr && Nat.ble (8 + (3 + 11) + 41) lo) = true) (kk : ∀ τ, VC l true true ek cc RX1 mn nL fr lo rt τ n L st (f τ)) : VC l true true ek cc RX1 mn nL fr lo rt s pc L (.int p1 :: .ref 0 :: .ref i :: st) ((N7_init s i 0 p1).bind f) := vv_callI (ar := 2) (i := i) (av := [.ref 0, .int p1]) (con_N7_init l s i 0 p1) (fun h => h) (fun h => h) (fun h => by cases h) (fun h => by cases h) hd hn rfl (Nat.le_of_ble_eq_true hc) (ble2 hr) rfl q604 q111 q605 q606 rfl (by decide +kernel) (fun b _ _ => kk b)
theorem nw1_241 {β : Type} {l : Launch} {ek : β → Option Value × Sg} {cc : ByteArray} {mn : String} {nL fr lo : Nat} {rt : Option FieldType} {s : Sg} {pc n : Nat} {L : List (Nat × Value)} {st : List Value} {f : Sg → Option β} (hLk : Ok true s → (∀ q ∈ L, vok (gN s) q.2) ∧ ∀ v ∈ st, vok (gN s) v) (hd : decode cc pc = .ok (.new 241, 3)) (hn : pc + 3 = n) (kk : ∀ τ, gN s < gN τ → VC l true true ek cc RX1 mn nL fr lo rt τ n L (.ref (gN s) :: st) (f τ)) : VC l true true ek cc RX1 mn nL fr lo rt s pc L st (lt_ (aw s (3 + 5) 3 3) f) := vv_new (ci := 3) (T := TX6) (ty := tyX6) cd3 tyX6_ok (by decide +kernel) q587 q588 q110 (fun h => (hLk h).1) (fun h => (hLk h).2) hd hn (fun τ h _ => kk τ (by omega))
theorem kc1_243 {β : Type} {l : Launch} {ek : β → Option Value × Sg} {cc : ByteArray} {mn : String} {nL fr lo : Nat} {rt : Option FieldType} {s : Sg} {pc n : Nat} {L : List (Nat × Value)} {st : List Value} {i : Nat} {p1 : Int32} {f : Sg → Option β} (hd : decode cc pc = .ok (.invokespecial 243, 3)) (hn : pc + 3 = n) (hc : Nat.ble (st.map fun v => v.category).sum 8 = true) (hr : (Nat.ble (2 + 1) fr && Nat.ble (8 + (3 + 11) + 41) lo) = true) (kk : ∀ τ, VC l true true ek cc RX1 mn nL fr lo rt τ n L st (f τ)) : VC l true true ek cc RX1 mn nL fr lo rt s pc L (.int p1 :: .ref 0 :: .ref i :: st) ((N6_init s i 0 p1).bind f) := vv_callI (ar := 2) (i := i) (av := [.ref 0, .int p1]) (con_N6_init l s i 0 p1) (fun h => h) (fun h => h) (fun h => by cases h) (fun h => by cases h) hd hn rfl (Nat.le_of_ble_eq_true hc) (ble2 hr) rfl q589 q110 q590 q591 rfl (by decide +kernel) (fun b _ _ => kk b)
theorem nw1_236 {β : Type} {l : Launch} {ek : β → Option Value × Sg} {cc : ByteArray} {mn : String} {nL fr lo : Nat} {rt : Option FieldType} {s : Sg} {pc n : Nat} {L : List (Nat × Value)} {st : List Value} {f : Sg → Option β} (hLk : Ok true s → (∀ q ∈ L, vok (gN s) q.2) ∧ ∀ v ∈ st, vok (gN s) v) (hd : decode cc pc = .ok (.new 236, 3)) (hn : pc + 3 = n) (kk : ∀ τ, gN s < gN τ → VC l true true ek cc RX1 mn nL fr lo rt τ n L (.ref (gN s) :: st) (f τ)) : VC l true true ek cc RX1 mn nL fr lo rt s pc L st (lt_ (aw s (5 + 5) 3 3) f) := vv_new (ci := 5) (T := TX5) (ty := tyX5) cd5 tyX5_ok (by decide +kernel) q568 q569 q109 (fun h => (hLk h).1) (fun h => (hLk h).2) hd hn (fun τ h _ => kk τ (by omega))
theorem kc1_238 {β : Type} {l : Launch} {ek : β → Option Value × Sg} {cc : ByteArray} {mn : String} {nL fr lo : Nat} {rt : Option FieldType} {s : Sg} {pc n : Nat} {L : List (Nat × Value)} {st : List Value} {i : Nat} {p1 : Nat} {f : Sg → Option β} (hd : decode cc pc = .ok (.invokespecial 238, 3)) (hn : pc + 3 = n) (hc : Nat.ble (st.map fun v => v.category).sum 8 = true) (hr : (Nat.ble (2 + 1) fr && Nat.ble (8 + (3 + 11) + 41) lo) = true) (kk : ∀ τ, VC l true true ek cc RX1 mn nL fr lo rt τ n L st (f τ)) : VC l true true ek cc RX1 mn nL fr lo rt s pc L (.ref p1 :: .ref 0 :: .ref i :: st) ((N5_init s i 0 p1).bind f) := vv_callI (ar := 2) (i := i) (av := [.ref 0, .ref p1]) (con_N5_init l s i 0 p1) (fun h => h) (fun h => h) (fun h => by cases h) (fun h => by cases h) hd hn rfl (Nat.le_of_ble_eq_true hc) (ble2 hr) rfl q570 q109 q571 q572 rfl (by decide +kernel) (fun b _ _ => kk b)
def X_readsThingo  (Ft : Sg → Option (Option Nat × Sg)) (Fp : Sg → Int32 → Option (Option Nat × Sg)) (u : Nat) (s : Sg) : Option ((Option Nat) × Sg) := b2 (X_takes s 45) fun v1 s2 => if v1 = 0 then ((X_isDigit s2).bind fun v3 => if v3 = 0 then ((X_among s2 2).bind fun v4 => if v4 < 0 then ((X_isAt s2 40).bind fun v5 => if v5 = 0 then (some (none, s2)) else (if (gI s2 0 11) = 4 then (some (none, s2)) else (lt_ (pI s2 0 9 ((gI s2 0 9) + 1)) fun s6 => lt_ (pI s6 0 11 ((gI s6 0 11) + 1)) fun s7 => b2 (Fp s7 0) fun v8 s9 => ox v8 (some (none, s9)) (fun i10 => b2 (X_takes s9 41) fun v11 s12 => if v11 = 0 then (some (none, s12)) else (lt_ (pI s12 0 11 ((gI s12 0 11) - 1)) fun s13 => some ((some i10), s13)))))) else (lt_ (pI s2 0 9 ((gI s2 0 9) + 1)) fun s14 => lt_ (aw s14 (4 + 5) 3 3) fun s15 => (aI s15 14 80 ((gI s15 0 9) - 1)).bind fun v17 => (N7_init s15 (gN s14) 0 v17).bind fun s18 => some ((some (gN s14)), s18))) else (lt_ (aw s2 (3 + 5) 3 3) fun s19 => b2 (X_number u s19 3) fun v21 s22 => (N6_init s22 (gN s2) 0 v21).bind fun s23 => some ((some (gN s2)), s23))) else (b2 (Ft s2) fun v24 s25 => ox v24 (some (none, s25)) (fun i26 => (some ()).bind fun _ => if i26 < gN s25 then lt_ (aw s25 (5 + 5) 3 3) fun s28 => (N5_init s28 (gN s25) 0 i26).bind fun s30 => some ((some (gN s25)), s30) else none))
theorem con_X_readsThingo (l : Launch) {frc loc : Nat} (Ft : Sg → Option (Option Nat × Sg)) (Fp : Sg → Int32 → Option (Option Nat × Sg)) (u : Nat) (s : Sg) (hFt : ∀ (s : Sg), Con l true true eSR yX1_readsThing cX1_readsThing 2 frc loc (some (.object "PullThePlug$Node")) s [.ref 0] (Ft s)) (hFp : ∀ (s : Sg) (p0 : Int32), Con l true true eSR yX1_parses cX1_parses 6 frc loc (some (.object "PullThePlug$Node")) s [.ref 0, .int p0] (Fp s p0)) : Con l true true eSR yX1_readsThing cX1_readsThing 2 (frc + 12) (loc + 400) (some (.object "PullThePlug$Node")) s [.ref 0] (X_readsThingo Ft Fp u s) := by
  refine con_of (own := RX1) (mn := "readsThing") (L := [(0, .ref 0)]) (by decide) rfl rfl (fun _ _ => Nat.le_of_ble_eq_true rfl) (fun _ _ => rfl) ?_
  unfold X_readsThingo
  refine vv_aload_n (n := 1) dX1_readsThing_0 rfl 0 rfl ?_
  refine vv_bipush (n := 3) (v := 45) dX1_readsThing_1 rfl (by decide) ?_
  refine k1_197 (n := 6) dX1_readsThing_3 rfl rfl rfl (fun v1 s2 => ?_)
  refine vv_if_eq (tgt := 32) (n := 9) dX1_readsThing_6 (by decide) rfl ?_ ?_
  · refine vv_aload_n (n := 33) dX1_readsThing_32 rfl 0 rfl ?_
    refine k1_179 (n := 36) dX1_readsThing_33 rfl rfl rfl (fun v3 => ?_)
    refine vv_if_eq (tgt := 53) (n := 39) dX1_readsThing_36 (by decide) rfl ?_ ?_
    · refine vv_aload_n (n := 54) dX1_readsThing_53 rfl 0 rfl ?_
      refine vs_ldc (n := 56) (c := 2) (by decide) (fun E U h => h.2.2.1) dX1_readsThing_54 rfl ?_
      refine k1_171 (n := 59) (p0 := 2) dX1_readsThing_56 rfl rfl rfl (fun v4 => ?_)
      refine vv_if_lt (tgt := 92) (n := 62) dX1_readsThing_59 (by decide) rfl ?_ ?_
      · refine vv_aload_n (n := 93) dX1_readsThing_92 rfl 0 rfl ?_
        refine vv_bipush (n := 95) (v := 40) dX1_readsThing_93 rfl (by decide) ?_
        refine k1_161 (n := 98) dX1_readsThing_95 rfl rfl rfl (fun v5 => ?_)
        refine vv_if_eq (tgt := 109) (n := 101) dX1_readsThing_98 (by decide) rfl ?_ ?_
        · refine vv_null (n := 110) dX1_readsThing_109 rfl ?_
          exact vv_aretq (r := none) dX1_readsThing_110 rfl
        · refine vv_aload_n (n := 102) dX1_readsThing_101 rfl 0 rfl ?_
          refine g1_149 (n := 105) dX1_readsThing_102 rfl ?_
          refine vv_iconst (n := 106) (v := 4) dX1_readsThing_105 rfl (by decide) ?_
          refine vv_icmp_ne (tgt := 111) (n := 109) dX1_readsThing_106 (by decide) rfl ?_ ?_
          · refine vv_aload_n (n := 112) dX1_readsThing_111 rfl 0 rfl ?_
            refine vv_dup (n := 113) dX1_readsThing_112 rfl rfl ?_
            refine g1_146 (n := 116) dX1_readsThing_113 rfl ?_
            refine vv_iconst (n := 117) (v := 1) dX1_readsThing_116 rfl (by decide) ?_
            refine vv_iadd (n := 118) dX1_readsThing_117 rfl ?_
            refine p1_146 (n := 121) dX1_readsThing_118 rfl (fun s6 => ?_)
            refine vv_aload_n (n := 122) dX1_readsThing_121 rfl 0 rfl ?_
            refine vv_dup (n := 123) dX1_readsThing_122 rfl rfl ?_
            refine g1_149 (n := 126) dX1_readsThing_123 rfl ?_
            refine vv_iconst (n := 127) (v := 1) dX1_readsThing_126 rfl (by decide) ?_
            refine vv_iadd (n := 128) dX1_readsThing_127 rfl ?_
            refine p1_149 (n := 131) dX1_readsThing_128 rfl (fun s7 => ?_)
            refine vv_aload_n (n := 132) dX1_readsThing_131 rfl 0 rfl ?_
            refine vv_iconst (n := 133) (v := 0) dX1_readsThing_132 rfl (by decide) ?_
            refine kr1_251 (n := 136) hFp (fun h => ⟨(vlc (sk0 h).2 vl0), vs0⟩) dX1_readsThing_133 rfl rfl (by omega) (fun v8 s9 _ => ?_)
            refine vv_astoreq_n (n := 137) (L' := [(1, va_rf v8), (0, .ref 0)]) dX1_readsThing_136 rfl (Nat.le_of_ble_eq_true rfl) rfl ?_
            refine vv_aloadq_n (n := 138) dX1_readsThing_137 rfl 0 rfl ?_
            refine vv_ifnull (tgt := 150) (n := 141) dX1_readsThing_138 (by decide) rfl (fun hi10 => ?_) (fun i10 hi10 => ?_)
            · subst hi10
              refine vv_null (n := 151) dX1_readsThing_150 rfl ?_
              exact vv_aretq (r := none) dX1_readsThing_151 rfl
            · subst hi10
              refine vv_aload_n (n := 142) dX1_readsThing_141 rfl 1 rfl ?_
              refine vv_bipush (n := 144) (v := 41) dX1_readsThing_142 rfl (by decide) ?_
              refine k1_197 (n := 147) dX1_readsThing_144 rfl rfl rfl (fun v11 s12 => ?_)
              refine vv_if_ne (tgt := 152) (n := 150) dX1_readsThing_147 (by decide) rfl ?_ ?_
              · refine vv_aload_n (n := 153) dX1_readsThing_152 rfl 1 rfl ?_
                refine vv_dup (n := 154) dX1_readsThing_153 rfl rfl ?_
                refine g1_149 (n := 157) dX1_readsThing_154 rfl ?_
                refine vv_iconst (n := 158) (v := 1) dX1_readsThing_157 rfl (by decide) ?_
                refine vv_isub (n := 159) dX1_readsThing_158 rfl ?_
                refine p1_149 (n := 162) dX1_readsThing_159 rfl (fun s13 => ?_)
                refine vv_aload_n (n := 163) dX1_readsThing_162 rfl 0 rfl ?_
                exact vv_aretq (r := (some i10)) dX1_readsThing_163 rfl
              · refine vv_null (n := 151) dX1_readsThing_150 rfl ?_
                exact vv_aretq (r := none) dX1_readsThing_151 rfl
          · refine vv_null (n := 110) dX1_readsThing_109 rfl ?_
            exact vv_aretq (r := none) dX1_readsThing_110 rfl
      · refine vv_aload_n (n := 63) dX1_readsThing_62 rfl 0 rfl ?_
        refine vv_dup (n := 64) dX1_readsThing_63 rfl rfl ?_
        refine g1_146 (n := 67) dX1_readsThing_64 rfl ?_
        refine vv_iconst (n := 68) (v := 1) dX1_readsThing_67 rfl (by decide) ?_
        refine vv_iadd (n := 69) dX1_readsThing_68 rfl ?_
        refine p1_146 (n := 72) dX1_readsThing_69 rfl (fun s14 => ?_)
        refine nw1_248 (n := 75) (fun h => ⟨(vlc (sk0 h).2 vl0), vs0⟩) dX1_readsThing_72 rfl (fun s15 hN16 => ?_)
        refine vv_dup (n := 76) dX1_readsThing_75 rfl rfl ?_
        refine vv_aload_n (n := 77) dX1_readsThing_76 rfl 0 rfl ?_
        refine vv_aload_n (n := 78) dX1_readsThing_77 rfl 0 rfl ?_
        refine g1_29 (n := 81) dX1_readsThing_78 rfl ?_
        refine vv_aload_n (n := 82) dX1_readsThing_81 rfl 0 rfl ?_
        refine g1_146 (n := 85) dX1_readsThing_82 rfl ?_
        refine vv_iconst (n := 86) (v := 1) dX1_readsThing_85 rfl (by decide) ?_
        refine vv_isub (n := 87) dX1_readsThing_86 rfl ?_
        refine vv_iald (n := 88) sk14 dX1_readsThing_87 rfl (fun v17 => ?_)
        refine kc1_250 (n := 91) dX1_readsThing_88 rfl rfl rfl (fun s18 => ?_)
        exact vv_aretq (r := (some (gN s14))) dX1_readsThing_91 rfl
    · refine nw1_241 (n := 42) (fun h => ⟨(vlc (sk0 h).2 vl0), vs0⟩) dX1_readsThing_39 rfl (fun s19 hN20 => ?_)
      refine vv_dup (n := 43) dX1_readsThing_42 rfl rfl ?_
      refine vv_aload_n (n := 44) dX1_readsThing_43 rfl 0 rfl ?_
      refine vv_aload_n (n := 45) dX1_readsThing_44 rfl 0 rfl ?_
      refine vv_iconst (n := 46) (v := 3) dX1_readsThing_45 rfl (by decide) ?_
      refine k1_183 (n := 49) dX1_readsThing_46 rfl rfl rfl (fun v21 s22 => ?_)
      refine kc1_243 (n := 52) dX1_readsThing_49 rfl rfl rfl (fun s23 => ?_)
      exact vv_aretq (r := (some (gN s2))) dX1_readsThing_52 rfl
  · refine vv_aload_n (n := 10) dX1_readsThing_9 rfl 0 rfl ?_
    refine kr1_232 (n := 13) hFt (fun h => ⟨(vlc (sk0 h).2 vl0), vs0⟩) dX1_readsThing_10 rfl rfl (by omega) (fun v24 s25 _ => ?_)
    refine vv_astoreq_n (n := 14) (L' := [(1, va_rf v24), (0, .ref 0)]) dX1_readsThing_13 rfl (Nat.le_of_ble_eq_true rfl) rfl ?_
    refine vv_aloadq_n (n := 15) dX1_readsThing_14 rfl 0 rfl ?_
    refine vv_ifnonnull (tgt := 22) (n := 18) dX1_readsThing_15 (by decide) rfl (fun hi26 => ?_) (fun i26 hi26 => ?_)
    · subst hi26
      refine vv_null (n := 19) dX1_readsThing_18 rfl ?_
      refine vv_goto (n := 31) dX1_readsThing_19 (by decide) ?_
      exact vv_aretq (r := none) dX1_readsThing_31 rfl
    · subst hi26
      refine vv_ask (fun ho27 => ?_)
      refine nw1_236 (n := 25) (fun h => ⟨(vlc ho27 (vlc (sk0 h).2 vl0)), vs0⟩) dX1_readsThing_22 rfl (fun s28 hN29 => ?_)
      refine vv_dup (n := 26) dX1_readsThing_25 rfl rfl ?_
      refine vv_aload_n (n := 27) dX1_readsThing_26 rfl 1 rfl ?_
      refine vv_aload_n (n := 28) dX1_readsThing_27 rfl 0 rfl ?_
      refine kc1_238 (n := 31) dX1_readsThing_28 rfl rfl rfl (fun s30 => ?_)
      exact vv_aretq (r := (some (gN s25))) dX1_readsThing_31 rfl
def X_parseso_92 (Ft : Sg → Option (Option Nat × Sg)) (Fp : Sg → Int32 → Option (Option Nat × Sg)) (u : Nat) (K20 : Sg → Int32 → Option Nat → Int32 → Option ((Option Nat) × Sg)) (s : Sg) (x1 : Int32) (t0 : Option Nat) : Option ((Option Nat) × Sg) := if x1 ≤ 0 then (K20 s x1 t0 0) else (K20 s x1 t0 1)
theorem vc_X_parseso_92 (l : Launch) {frc loc : Nat} (Ft : Sg → Option (Option Nat × Sg)) (Fp : Sg → Int32 → Option (Option Nat × Sg)) (u : Nat) (hFt : ∀ (s : Sg), Con l true true eSR yX1_readsThing cX1_readsThing 2 frc loc (some (.object "PullThePlug$Node")) s [.ref 0] (Ft s)) (hFp : ∀ (s : Sg) (p0 : Int32), Con l true true eSR yX1_parses cX1_parses 6 frc loc (some (.object "PullThePlug$Node")) s [.ref 0, .int p0] (Fp s p0)) (K20 : Sg → Int32 → Option Nat → Int32 → Option ((Option Nat) × Sg)) (hK20 : ∀ (s : Sg) (x1 : Int32) (q2 : Option Nat) (x3 : Int32), VC l true true eSR cX1_parses RX1 "parses" 6 (frc + 12) (loc + 400) (some (.object "PullThePlug$Node")) s 20 [(0, .ref 0), (1, .int x1), (2, va_rf q2), (3, .int x3)] [] (K20 s x1 q2 x3)) (s : Sg) (x1 : Int32) (t0 : Option Nat) : VC l true true eSR cX1_parses RX1 "parses" 6 (frc + 12) (loc + 400) (some (.object "PullThePlug$Node")) s 92 [(0, .ref 0), (1, .int x1)] [va_rf t0] (X_parseso_92 Ft Fp u K20 s x1 t0) := by
  unfold X_parseso_92
  refine vv_astoreq_n (n := 93) (L' := [(2, va_rf t0), (0, .ref 0), (1, .int x1)]) dX1_parses_92 rfl (Nat.le_of_ble_eq_true rfl) rfl ?_
  refine vv_iload_n (n := 94) dX1_parses_93 rfl 2 rfl ?_
  refine vv_if_le (tgt := 101) (n := 97) dX1_parses_94 (by decide) rfl ?_ ?_
  · refine vv_iconst (n := 102) (v := 0) dX1_parses_101 rfl (by decide) ?_
    refine vv_istore_n (n := 103) (L' := [(3, .int 0), (2, va_rf t0), (0, .ref 0), (1, .int x1)]) dX1_parses_102 rfl (Nat.le_of_ble_eq_true rfl) (by cases t0 <;> rfl) ?_
    refine vv_goto (n := 20) dX1_parses_103 (by decide) ?_
    exact VC.sub [2, 3, 1, 0] rfl (hK20 s x1 t0 0)
  · refine vv_iconst (n := 98) (v := 1) dX1_parses_97 rfl (by decide) ?_
    refine vv_goto (n := 102) dX1_parses_98 (by decide) ?_
    refine vv_istore_n (n := 103) (L' := [(3, .int 1), (2, va_rf t0), (0, .ref 0), (1, .int x1)]) dX1_parses_102 rfl (Nat.le_of_ble_eq_true rfl) (by cases t0 <;> rfl) ?_
    refine vv_goto (n := 20) dX1_parses_103 (by decide) ?_
    exact VC.sub [2, 3, 1, 0] rfl (hK20 s x1 t0 1)
theorem k1_261 {β : Type} {l : Launch} {al : Bool} {ek : β → Option Value × Sg} {cc : ByteArray} {mn : String} {nL fr lo : Nat} {rt : Option FieldType} {s : Sg} {pc n : Nat} {L : List (Nat × Value)} {st : List Value} {p0 : Int32} {f : Nat → Option β} (hd : decode cc pc = .ok (.invokestatic 261, 3)) (hn : pc + 3 = n) (hc : Nat.ble (st.map fun v => v.category).sum 8 = true) (hr : (Nat.ble (0 + 1) fr && Nat.ble (8 + (1 + 11) + 0) lo) = true) (kk : ∀ v, VC l true al ek cc RX1 mn nL fr lo rt s n L (sV v :: st) (f v)) : VC l true al ek cc RX1 mn nL fr lo rt s pc L (.int p0 :: st) ((X_acts p0).bind f) := vv_callS (ar := 1) (av := [.int p0]) (con_X_acts l s p0) (fun h => h) (fun h => h) (fun h => by cases h) (fun h => by cases h) hd hn rfl (Nat.le_of_ble_eq_true hc) (ble2 hr) (lw_S q616 q617 q97 q618) rfl (by decide +kernel) (fun b _ _ => kk b)
theorem nw1_265 {β : Type} {l : Launch} {ek : β → Option Value × Sg} {cc : ByteArray} {mn : String} {nL fr lo : Nat} {rt : Option FieldType} {s : Sg} {pc n : Nat} {L : List (Nat × Value)} {st : List Value} {f : Sg → Option β} (hLk : Ok true s → (∀ q ∈ L, vok (gN s) q.2) ∧ ∀ v ∈ st, vok (gN s) v) (hd : decode cc pc = .ok (.new 265, 3)) (hn : pc + 3 = n) (kk : ∀ τ, gN s < gN τ → VC l true true ek cc RX1 mn nL fr lo rt τ n L (.ref (gN s) :: st) (f τ)) : VC l true true ek cc RX1 mn nL fr lo rt s pc L st (lt_ (aw s (6 + 5) 5 5) f) := vv_new (ci := 6) (T := TX8) (ty := tyX8) cd6 tyX8_ok (by decide +kernel) q622 q623 q112 (fun h => (hLk h).1) (fun h => (hLk h).2) hd hn (fun τ h _ => kk τ (by omega))
theorem kc1_267 {β : Type} {l : Launch} {ek : β → Option Value × Sg} {cc : ByteArray} {mn : String} {nL fr lo : Nat} {rt : Option FieldType} {s : Sg} {pc n : Nat} {L : List (Nat × Value)} {st : List Value} {i : Nat} {p1 : Int32} {p2 : Nat} {p3 : Nat} {f : Sg → Option β} (hd : decode cc pc = .ok (.invokespecial 267, 3)) (hn : pc + 3 = n) (hc : Nat.ble (st.map fun v => v.category).sum 8 = true) (hr : (Nat.ble (2 + 1) fr && Nat.ble (8 + (5 + 11) + 41) lo) = true) (kk : ∀ τ, VC l true true ek cc RX1 mn nL fr lo rt τ n L st (f τ)) : VC l true true ek cc RX1 mn nL fr lo rt s pc L (.ref p3 :: .ref p2 :: .int p1 :: .ref 0 :: .ref i :: st) ((N8_init s i 0 p1 p2 p3).bind f) := vv_callI (ar := 4) (i := i) (av := [.ref 0, .int p1, .ref p2, .ref p3]) (con_N8_init l s i 0 p1 p2 p3) (fun h => h) (fun h => h) (fun h => by cases h) (fun h => by cases h) hd hn rfl (Nat.le_of_ble_eq_true hc) (ble2 hr) rfl q624 q112 q625 q626 rfl (by decide +kernel) (fun b _ _ => kk b)
def X_parseso_20b (Ft : Sg → Option (Option Nat × Sg)) (Fp : Sg → Int32 → Option (Option Nat × Sg)) (u : Nat) (K20 : Sg → Int32 → Option Nat → Int32 → Option ((Option Nat) × Sg)) (s : Sg) (x1 : Int32) (q2 : Option Nat) (x3 : Int32) : Option ((Option Nat) × Sg) := ox q2 (some (none, s)) (fun i1 => if x3 = 0 then (some ((some i1), s)) else ((X_acts x1).bind fun v2 => (X_among s v2).bind fun v3 => if v3 < 0 then (some ((some i1), s)) else ((aI s 14 80 (gI s 0 9)).bind fun v4 => lt_ (((v4 : Int32).toUInt32 % 65536).toInt32) fun c5 => lt_ (pI s 0 9 ((gI s 0 9) + 1)) fun s6 => (some ()).bind fun _ => if i1 < gN s6 then b2 (Fp s6 (x1 + 1)) fun v8 s9 => ox v8 (X_parseso_92 Ft Fp u K20 s9 x1 none) (fun i10 => (some ()).bind fun _ => if i1 < gN s9 then (some ()).bind fun _ => if i10 < gN s9 then lt_ (aw s9 (6 + 5) 5 5) fun s13 => (N8_init s13 (gN s9) 0 c5 i1 i10).bind fun s15 => X_parseso_92 Ft Fp u K20 s15 x1 (some (gN s9)) else none else none) else none)))
theorem vc_X_parseso_20b (l : Launch) {frc loc : Nat} (Ft : Sg → Option (Option Nat × Sg)) (Fp : Sg → Int32 → Option (Option Nat × Sg)) (u : Nat) (hFt : ∀ (s : Sg), Con l true true eSR yX1_readsThing cX1_readsThing 2 frc loc (some (.object "PullThePlug$Node")) s [.ref 0] (Ft s)) (hFp : ∀ (s : Sg) (p0 : Int32), Con l true true eSR yX1_parses cX1_parses 6 frc loc (some (.object "PullThePlug$Node")) s [.ref 0, .int p0] (Fp s p0)) (K20 : Sg → Int32 → Option Nat → Int32 → Option ((Option Nat) × Sg)) (hK20 : ∀ (s : Sg) (x1 : Int32) (q2 : Option Nat) (x3 : Int32), VC l true true eSR cX1_parses RX1 "parses" 6 (frc + 12) (loc + 400) (some (.object "PullThePlug$Node")) s 20 [(0, .ref 0), (1, .int x1), (2, va_rf q2), (3, .int x3)] [] (K20 s x1 q2 x3)) (s : Sg) (x1 : Int32) (q2 : Option Nat) (x3 : Int32) : VC l true true eSR cX1_parses RX1 "parses" 6 (frc + 12) (loc + 400) (some (.object "PullThePlug$Node")) s 20 [(0, .ref 0), (1, .int x1), (2, va_rf q2), (3, .int x3)] [] (X_parseso_20b Ft Fp u K20 s x1 q2 x3) := by
  unfold X_parseso_20b
  refine vv_aloadq_n (n := 21) dX1_parses_20 rfl 2 rfl ?_
  refine vv_ifnull (tgt := 106) (n := 24) dX1_parses_21 (by decide) rfl (fun hi1 => ?_) (fun i1 hi1 => ?_)
  · subst hi1
    refine vv_aloadq_n (n := 107) (r := none) dX1_parses_106 rfl 2 rfl ?_
    exact vv_aretq (r := none) dX1_parses_107 rfl
  · subst hi1
    refine vv_iload_n (n := 25) dX1_parses_24 rfl 3 rfl ?_
    refine vv_if_eq (tgt := 106) (n := 28) dX1_parses_25 (by decide) rfl ?_ ?_
    · refine vv_aload_n (n := 107) dX1_parses_106 rfl 2 rfl ?_
      exact vv_aretq (r := (some i1)) dX1_parses_107 rfl
    · refine vv_aload_n (n := 29) dX1_parses_28 rfl 0 rfl ?_
      refine vv_iload_n (n := 30) dX1_parses_29 rfl 1 rfl ?_
      refine k1_261 (n := 33) dX1_parses_30 rfl rfl rfl (fun v2 => ?_)
      refine k1_171 (n := 36) (p0 := v2) dX1_parses_33 rfl rfl rfl (fun v3 => ?_)
      refine vv_if_lt (tgt := 106) (n := 39) dX1_parses_36 (by decide) rfl ?_ ?_
      · refine vv_aload_n (n := 107) dX1_parses_106 rfl 2 rfl ?_
        exact vv_aretq (r := (some i1)) dX1_parses_107 rfl
      · refine vv_aload_n (n := 40) dX1_parses_39 rfl 0 rfl ?_
        refine g1_29 (n := 43) dX1_parses_40 rfl ?_
        refine vv_aload_n (n := 44) dX1_parses_43 rfl 0 rfl ?_
        refine g1_146 (n := 47) dX1_parses_44 rfl ?_
        refine vv_iald (n := 48) sk14 dX1_parses_47 rfl (fun v4 => ?_)
        refine vv_i2c (n := 49) dX1_parses_48 rfl ?_
        refine vv_leti (fun c5 => ?_)
        refine vv_istore (n := 51) (L' := [(4, .int c5), (0, .ref 0), (1, .int x1), (2, .ref i1), (3, .int x3)]) dX1_parses_49 rfl (Nat.le_of_ble_eq_true rfl) rfl ?_
        refine vv_aload_n (n := 52) dX1_parses_51 rfl 1 rfl ?_
        refine vv_dup (n := 53) dX1_parses_52 rfl rfl ?_
        refine g1_146 (n := 56) dX1_parses_53 rfl ?_
        refine vv_iconst (n := 57) (v := 1) dX1_parses_56 rfl (by decide) ?_
        refine vv_iadd (n := 58) dX1_parses_57 rfl ?_
        refine p1_146 (n := 61) dX1_parses_58 rfl (fun s6 => ?_)
        refine vv_aload_n (n := 62) dX1_parses_61 rfl 1 rfl ?_
        refine vv_iload_n (n := 63) dX1_parses_62 rfl 2 rfl ?_
        refine vv_iconst (n := 64) (v := 1) dX1_parses_63 rfl (by decide) ?_
        refine vv_iadd (n := 65) dX1_parses_64 rfl ?_
        refine vv_ask (fun ho7 => ?_)
        refine kr1_251 (n := 68) hFp (fun h => ⟨(vlc trivial (vlc (sk0 h).2 (vlc trivial (vlc ho7 (vlc trivial vl0))))), vs0⟩) dX1_parses_65 rfl rfl (by omega) (fun v8 s9 _ => ?_)
        refine vv_astoreq (n := 70) (L' := [(5, va_rf v8), (4, .int c5), (0, .ref 0), (1, .int x1), (2, .ref i1), (3, .int x3)]) dX1_parses_68 rfl (Nat.le_of_ble_eq_true rfl) rfl ?_
        refine vv_aloadq (n := 72) dX1_parses_70 rfl 0 rfl ?_
        refine vv_ifnonnull (tgt := 79) (n := 75) dX1_parses_72 (by decide) rfl (fun hi10 => ?_) (fun i10 hi10 => ?_)
        · subst hi10
          refine vv_null (n := 76) dX1_parses_75 rfl ?_
          refine vv_goto (n := 92) dX1_parses_76 (by decide) ?_
          exact VC.sub [2, 3] rfl (vc_X_parseso_92 l Ft Fp u hFt hFp K20 hK20 s9 x1 none)
        · subst hi10
          refine vv_ask (fun ho11 => ?_)
          refine vv_ask (fun ho12 => ?_)
          refine nw1_265 (n := 82) (fun h => ⟨(vlc ho12 (vlc trivial (vlc (sk0 h).2 (vlc trivial (vlc ho11 (vlc trivial vl0)))))), vs0⟩) dX1_parses_79 rfl (fun s13 hN14 => ?_)
          refine vv_dup (n := 83) dX1_parses_82 rfl rfl ?_
          refine vv_aload_n (n := 84) dX1_parses_83 rfl 2 rfl ?_
          refine vv_iload (n := 86) dX1_parses_84 rfl 1 rfl ?_
          refine vv_aload_n (n := 87) dX1_parses_86 rfl 4 rfl ?_
          refine vv_aload (n := 89) dX1_parses_87 rfl 0 rfl ?_
          refine kc1_267 (n := 92) dX1_parses_89 rfl rfl rfl (fun s15 => ?_)
          exact VC.sub [2, 3] rfl (vc_X_parseso_92 l Ft Fp u hFt hFp K20 hK20 s15 x1 (some (gN s9)))
def X_parseso_20 (Ft : Sg → Option (Option Nat × Sg)) (Fp : Sg → Int32 → Option (Option Nat × Sg)) (u : Nat) (w : Nat) : Sg → Int32 → Option Nat → Int32 → Option ((Option Nat) × Sg) := itN (fun K => X_parseso_20b Ft Fp u K) (fun _ _ _ _ => none) w
theorem vc_X_parseso_20 (l : Launch) {frc loc : Nat} (Ft : Sg → Option (Option Nat × Sg)) (Fp : Sg → Int32 → Option (Option Nat × Sg)) (u : Nat) (hFt : ∀ (s : Sg), Con l true true eSR yX1_readsThing cX1_readsThing 2 frc loc (some (.object "PullThePlug$Node")) s [.ref 0] (Ft s)) (hFp : ∀ (s : Sg) (p0 : Int32), Con l true true eSR yX1_parses cX1_parses 6 frc loc (some (.object "PullThePlug$Node")) s [.ref 0, .int p0] (Fp s p0))  (w : Nat) : ∀ (s : Sg) (x1 : Int32) (q2 : Option Nat) (x3 : Int32), VC l true true eSR cX1_parses RX1 "parses" 6 (frc + 12) (loc + 400) (some (.object "PullThePlug$Node")) s 20 [(0, .ref 0), (1, .int x1), (2, va_rf q2), (3, .int x3)] [] (X_parseso_20 Ft Fp u w s x1 q2 x3) := by
  induction w with
  | zero => intro s x1 q2 x3; exact VC.non
  | succ w ih => intro s x1 q2 x3; exact vc_X_parseso_20b l Ft Fp u hFt hFp _ ih s x1 q2 x3
def X_parseso  (Ft : Sg → Option (Option Nat × Sg)) (Fp : Sg → Int32 → Option (Option Nat × Sg)) (u : Nat) (s : Sg) (x1 : Int32) : Option ((Option Nat) × Sg) := if x1 = 3 then (b2 (Ft s) fun v3 s4 => some (v3, s4)) else (b2 (Fp s (x1 + 1)) fun v1 s2 => X_parseso_20 Ft Fp u u s2 x1 v1 1)
theorem con_X_parseso (l : Launch) {frc loc : Nat} (Ft : Sg → Option (Option Nat × Sg)) (Fp : Sg → Int32 → Option (Option Nat × Sg)) (u : Nat) (s : Sg) (x1 : Int32) (hFt : ∀ (s : Sg), Con l true true eSR yX1_readsThing cX1_readsThing 2 frc loc (some (.object "PullThePlug$Node")) s [.ref 0] (Ft s)) (hFp : ∀ (s : Sg) (p0 : Int32), Con l true true eSR yX1_parses cX1_parses 6 frc loc (some (.object "PullThePlug$Node")) s [.ref 0, .int p0] (Fp s p0)) : Con l true true eSR yX1_parses cX1_parses 6 (frc + 12) (loc + 400) (some (.object "PullThePlug$Node")) s [.ref 0, .int x1] (X_parseso Ft Fp u s x1) := by
  refine con_of (own := RX1) (mn := "parses") (L := [(0, .ref 0), (1, .int x1)]) (by decide) rfl rfl (fun _ _ => Nat.le_of_ble_eq_true rfl) (fun _ _ => rfl) ?_
  unfold X_parseso
  refine vv_iload_n (n := 1) dX1_parses_0 rfl 1 rfl ?_
  refine vv_iconst (n := 2) (v := 3) dX1_parses_1 rfl (by decide) ?_
  refine vv_icmp_ne (tgt := 10) (n := 5) dX1_parses_2 (by decide) rfl ?_ ?_
  · refine vv_aload_n (n := 11) dX1_parses_10 rfl 0 rfl ?_
    refine vv_iload_n (n := 12) dX1_parses_11 rfl 1 rfl ?_
    refine vv_iconst (n := 13) (v := 1) dX1_parses_12 rfl (by decide) ?_
    refine vv_iadd (n := 14) dX1_parses_13 rfl ?_
    refine kr1_251 (n := 17) hFp (fun h => ⟨(vlc (sk0 h).2 (vlc trivial vl0)), vs0⟩) dX1_parses_14 rfl rfl (by omega) (fun v1 s2 _ => ?_)
    refine vv_astoreq_n (n := 18) (L' := [(2, va_rf v1), (0, .ref 0), (1, .int x1)]) dX1_parses_17 rfl (Nat.le_of_ble_eq_true rfl) rfl ?_
    refine vv_iconst (n := 19) (v := 1) dX1_parses_18 rfl (by decide) ?_
    refine vv_istore_n (n := 20) (L' := [(3, .int 1), (2, va_rf v1), (0, .ref 0), (1, .int x1)]) dX1_parses_19 rfl (Nat.le_of_ble_eq_true rfl) (by cases v1 <;> rfl) ?_
    exact VC.sub [2, 3, 1, 0] rfl (vc_X_parseso_20 l Ft Fp u hFt hFp u s2 x1 v1 1)
  · refine vv_aload_n (n := 6) dX1_parses_5 rfl 0 rfl ?_
    refine kr1_232 (n := 9) hFt (fun h => ⟨(vlc (sk0 h).2 (vlc trivial vl0)), vs0⟩) dX1_parses_6 rfl rfl (by omega) (fun v3 s4 _ => ?_)
    exact vv_aretq (r := v3) dX1_parses_9 rfl
def X_px (u : Nat) (d : Nat) : Nat → Sg → Int32 → Option (Option Nat × Sg) := itN (fun F k => match k with
  | 0 => X_parseso (fun s => F 1 s 0) (F 0) u
  | _ => fun s _ => X_readsThingo (fun s => F 1 s 0) (F 0) u s) (fun _ _ _ => none) d
theorem con_X_px (l : Launch) (u d : Nat) : (∀ (s : Sg) (x : Int32), Con l true true eSR yX1_parses cX1_parses 6 (frG d) (loG d) (some (.object "PullThePlug$Node")) s [.ref 0, .int x] (X_px u d 0 s x)) ∧ (∀ (s : Sg) (x : Int32), Con l true true eSR yX1_readsThing cX1_readsThing 2 (frG d) (loG d) (some (.object "PullThePlug$Node")) s [.ref 0] (X_px u d 1 s x)) := by
  induction d with
  | zero => exact ⟨fun _ _ => Con.non, fun _ _ => Con.non⟩
  | succ d ih =>
    obtain ⟨h0, h1⟩ := ih
    exact ⟨fun s x => con_X_parseso l (fun s => X_px u d 1 s 0) (X_px u d 0) u s x (fun s => h1 s 0) h0, fun s x => con_X_readsThingo l (fun s => X_px u d 1 s 0) (X_px u d 0) u s (fun s => h1 s 0) h0⟩
def X_parses (u : Nat) (s : Sg) (x1 : Int32) : Option (Option Nat × Sg) := X_px u 100 0 s x1
theorem con_X_parses (l : Launch) (u : Nat) (s : Sg) (x1 : Int32) : Con l true true eSR yX1_parses cX1_parses 6 1200 40000 (some (.object "PullThePlug$Node")) s [.ref 0, .int x1] (X_parses u s x1) := by
  have h := (con_X_px l u 100).1 s x1
  rw [show frG 100 = 1200 from rfl, show loG 100 = 40000 from rfl] at h
  exact h
def X_readsRule_46 (u : Nat) (s : Sg) (t1 : Int32) (t2 : Int32) : Option (Int32 × Sg) := (X_faultOf s t1 t2).bind fun v1 => some (v1, s)
theorem vc_X_readsRule_46 (l : Launch) (u : Nat)  (s : Sg) (t1 : Int32) (t2 : Int32) : VC l true true eSI cX1_readsRule RX1 "readsRule" 2 1201 40025 (some .int) s 46 [] [.int t2, .int t1, .ref 0] (X_readsRule_46 u s t1 t2) := by
  unfold X_readsRule_46
  refine k1_218 (n := 49) dX1_readsRule_46 rfl rfl rfl (fun v1 => ?_)
  exact vv_iret dX1_readsRule_49 rfl
theorem p1_270 {β : Type} {l : Launch} {al : Bool} {ek : β → Option Value × Sg} {cc : ByteArray} {mn : String} {nL fr lo : Nat} {rt : Option FieldType} {s : Sg} {pc n : Nat} {L : List (Nat × Value)} {st : List Value} {r : Option Nat} {f : Sg → Option β} (hr : Ok true s → ∀ a, r = some a → a < gN s) (hd : decode cc pc = .ok (.putfield 270, 3)) (hn : pc + 3 = n) (kk : ∀ τ, VC l true al ek cc RX1 mn nL fr lo rt τ n L st (f τ)) : VC l true al ek cc RX1 mn nL fr lo rt s pc L (va_rf r :: .ref 0 :: st) (lt_ (pR s 0 21 r) f) := vv_putR (ci := 0) (k := 21) (T := TX1) (ty := tyX1) (fty := .object "PullThePlug$Node") cd0 cp0 (by decide) rfl sk0 (Or.inl q196) (Or.inl rfl) (by decide +kernel) (Or.inl ⟨_, rfl⟩) hr (fun _ => rfl) hd hn kk
theorem g1_270 {β : Type} {l : Launch} {al : Bool} {ek : β → Option Value × Sg} {cc : ByteArray} {mn : String} {nL fr lo : Nat} {rt : Option FieldType} {s : Sg} {pc n : Nat} {L : List (Nat × Value)} {st : List Value} {body : Option β} (hd : decode cc pc = .ok (.getfield 270, 3)) (hn : pc + 3 = n) (kk : VC l true al ek cc RX1 mn nL fr lo rt s n L (va_rf (gR s 0 21) :: st) body) : VC l true al ek cc RX1 mn nL fr lo rt s pc L (.ref 0 :: st) body := vv_getR (ci := 0) (k := 21) (T := TX1) cd0 (by decide) rfl sk0 (Or.inl q196) hd hn kk
def X_readsRule_21 (u : Nat) (s : Sg) (x1 : Int32) (t1 : Option Nat) : Option (Int32 × Sg) := (some ()).bind fun _ => if rok s t1 then lt_ (pR s 0 21 t1) fun s2 => if x1 = 0 then (some (0, s2)) else (ox (gR s2 0 21) (X_readsRule_46 u s2 x1 0) (fun i3 => X_readsRule_46 u s2 x1 1)) else none
theorem vc_X_readsRule_21 (l : Launch) (u : Nat)  (s : Sg) (x1 : Int32) (t1 : Option Nat) : VC l true true eSI cX1_readsRule RX1 "readsRule" 2 1201 40025 (some .int) s 21 [(0, .ref 0), (1, .int x1)] [va_rf t1, .ref 0] (X_readsRule_21 u s x1 t1) := by
  unfold X_readsRule_21
  refine vv_ask (fun ho1 => ?_)
  refine p1_270 (n := 24) (r := t1) (fun _ a e => by rw [e] at ho1; exact ho1) dX1_readsRule_21 rfl (fun s2 => ?_)
  refine vv_iload_n (n := 25) dX1_readsRule_24 rfl 1 rfl ?_
  refine vv_if_ne (tgt := 32) (n := 28) dX1_readsRule_25 (by decide) rfl ?_ ?_
  · refine vv_aload_n (n := 33) dX1_readsRule_32 rfl 0 rfl ?_
    refine vv_iload_n (n := 34) dX1_readsRule_33 rfl 1 rfl ?_
    refine vv_aload_n (n := 35) dX1_readsRule_34 rfl 0 rfl ?_
    refine g1_270 (n := 38) dX1_readsRule_35 rfl ?_
    refine vv_ifnull (tgt := 45) (n := 41) dX1_readsRule_38 (by decide) rfl (fun hi3 => ?_) (fun i3 hi3 => ?_)
    · refine vv_iconst (n := 46) (v := 0) dX1_readsRule_45 rfl (by decide) ?_
      exact VC.sub [] rfl (vc_X_readsRule_46 l u s2 x1 0)
    · refine vv_iconst (n := 42) (v := 1) dX1_readsRule_41 rfl (by decide) ?_
      refine vv_goto (n := 46) dX1_readsRule_42 (by decide) ?_
      exact VC.sub [] rfl (vc_X_readsRule_46 l u s2 x1 1)
  · refine vv_iconst (n := 29) (v := 0) dX1_readsRule_28 rfl (by decide) ?_
    refine vv_goto (n := 49) dX1_readsRule_29 (by decide) ?_
    exact vv_iret dX1_readsRule_49 rfl
theorem k1_251 {β : Type} {l : Launch} {ek : β → Option Value × Sg} {cc : ByteArray} {mn : String} {nL fr lo : Nat} {rt : Option FieldType} {s : Sg} {pc n : Nat} {L : List (Nat × Value)} {st : List Value} {u : Nat} {p0 : Int32} {f : Option Nat → Sg → Option β} (hLk : Ok true s → (∀ q ∈ L, vok (gN s) q.2) ∧ ∀ v ∈ st, vok (gN s) v) (hd : decode cc pc = .ok (.invokevirtual 251, 3)) (hn : pc + 3 = n) (hc : Nat.ble (st.map fun v => v.category).sum 8 = true) (hr : (Nat.ble (1200 + 1) fr && Nat.ble (8 + (6 + 11) + 40000) lo) = true) (kk : ∀ v τ, gN s ≤ gN τ → VC l true true ek cc RX1 mn nL fr lo rt τ n L (va_rf v :: st) (f v τ)) : VC l true true ek cc RX1 mn nL fr lo rt s pc L (.int p0 :: .ref 0 :: st) (b2 (X_parses u s p0) f) := vv_callV (ci := 0) (C := RX1) (T := TX1) (N := 49) (ar := 1) (av := [.int p0]) (con_X_parses l u s p0) (fun h => h) (fun h => h) (fun _ => rfl) (fun _ => hLk) rfl sk0 hd hn rfl (Nat.le_of_ble_eq_true hc) (ble2 hr) (lw_V q560 q562 qs12 q97 q563) rfl (by decide +kernel) (fun b _ h => kk b.1 b.2 h.2.2.1)
def X_readsRule  (u : Nat) (s : Sg) : Option (Int32 × Sg) := b2 (X_begins s 40) fun v1 s2 => if v1 = 0 then (X_readsRule_21 u s2 v1 none) else (b2 (X_parses u s2 0) fun v3 s4 => X_readsRule_21 u s4 v1 v3)
theorem con_X_readsRule (l : Launch) (u : Nat) (s : Sg) : Con l true true eSI yX1_readsRule cX1_readsRule 2 1201 40025 (some .int) s [.ref 0] (X_readsRule u s) := by
  refine con_of (own := RX1) (mn := "readsRule") (L := [(0, .ref 0)]) (by decide) rfl rfl (fun _ _ => Nat.le_of_ble_eq_true rfl) (fun _ _ => rfl) ?_
  unfold X_readsRule
  refine vv_aload_n (n := 1) dX1_readsRule_0 rfl 0 rfl ?_
  refine vv_bipush (n := 3) (v := 40) dX1_readsRule_1 rfl (by decide) ?_
  refine k1_212 (n := 6) dX1_readsRule_3 rfl rfl rfl (fun v1 s2 => ?_)
  refine vv_istore_n (n := 7) (L' := [(1, .int v1), (0, .ref 0)]) dX1_readsRule_6 rfl (Nat.le_of_ble_eq_true rfl) rfl ?_
  refine vv_aload_n (n := 8) dX1_readsRule_7 rfl 1 rfl ?_
  refine vv_iload_n (n := 9) dX1_readsRule_8 rfl 0 rfl ?_
  refine vv_if_ne (tgt := 16) (n := 12) dX1_readsRule_9 (by decide) rfl ?_ ?_
  · refine vv_aload_n (n := 17) dX1_readsRule_16 rfl 1 rfl ?_
    refine vv_iconst (n := 18) (v := 0) dX1_readsRule_17 rfl (by decide) ?_
    refine k1_251 (n := 21) (fun h => ⟨(vlc trivial (vlc (sk0 h).2 vl0)), (vsc (sk0 h).2 vs0)⟩) dX1_readsRule_18 rfl rfl rfl (fun v3 s4 _ => ?_)
    exact VC.sub [1, 0] rfl (vc_X_readsRule_21 l u s4 v1 v3)
  · refine vv_null (n := 13) dX1_readsRule_12 rfl ?_
    refine vv_goto (n := 21) dX1_readsRule_13 (by decide) ?_
    exact VC.sub [1, 0] rfl (vc_X_readsRule_21 l u s2 v1 none)
theorem k1_274 {β : Type} {l : Launch} {ek : β → Option Value × Sg} {cc : ByteArray} {mn : String} {nL fr lo : Nat} {rt : Option FieldType} {s : Sg} {pc n : Nat} {L : List (Nat × Value)} {st : List Value} {u : Nat}  {f : Int32 → Sg → Option β} (hLk : Ok true s → (∀ q ∈ L, vok (gN s) q.2) ∧ ∀ v ∈ st, vok (gN s) v) (hd : decode cc pc = .ok (.invokevirtual 274, 3)) (hn : pc + 3 = n) (hc : Nat.ble (st.map fun v => v.category).sum 8 = true) (hr : (Nat.ble (1201 + 1) fr && Nat.ble (8 + (2 + 11) + 40025) lo) = true) (kk : ∀ v τ, gN s ≤ gN τ → VC l true true ek cc RX1 mn nL fr lo rt τ n L (.int v :: st) (f v τ)) : VC l true true ek cc RX1 mn nL fr lo rt s pc L (.ref 0 :: st) (b2 (X_readsRule u s) f) := vv_callV (ci := 0) (C := RX1) (T := TX1) (N := 49) (ar := 0) (av := []) (con_X_readsRule l u s) (fun h => h) (fun h => h) (fun _ => rfl) (fun _ => hLk) rfl sk0 hd hn rfl (Nat.le_of_ble_eq_true hc) (ble2 hr) (lw_V q556 q558 qs11 q97 q559) rfl (by decide +kernel) (fun b _ h => kk b.1 b.2 h.2.2.1)
theorem p1_277 {β : Type} {l : Launch} {al : Bool} {ek : β → Option Value × Sg} {cc : ByteArray} {mn : String} {nL fr lo : Nat} {rt : Option FieldType} {s : Sg} {pc n : Nat} {L : List (Nat × Value)} {st : List Value} {r : Option Nat} {f : Sg → Option β} (hr : Ok true s → ∀ a, r = some a → a < gN s) (hd : decode cc pc = .ok (.putfield 277, 3)) (hn : pc + 3 = n) (kk : ∀ τ, VC l true al ek cc RX1 mn nL fr lo rt τ n L st (f τ)) : VC l true al ek cc RX1 mn nL fr lo rt s pc L (va_rf r :: .ref 0 :: st) (lt_ (pR s 0 20 r) f) := vv_putR (ci := 0) (k := 20) (T := TX1) (ty := tyX1) (fty := .object "PullThePlug$Node") cd0 cp0 (by decide) rfl sk0 (Or.inl q195) (Or.inl rfl) (by decide +kernel) (Or.inl ⟨_, rfl⟩) hr (fun _ => rfl) hd hn kk
def X_rule  (u : Nat) (s : Sg) : Option (Int32 × Sg) := b2 (X_readsRule u s) fun v1 s2 => if v1 = 0 then (lt_ (pR s2 0 20 (gR s2 0 21)) fun s3 => some (v1, s3)) else (some (v1, s2))
theorem con_X_rule (l : Launch) (u : Nat) (s : Sg) : Con l true true eSI yX1_rule cX1_rule 2 1202 40046 (some .int) s [.ref 0] (X_rule u s) := by
  refine con_of (own := RX1) (mn := "rule") (L := [(0, .ref 0)]) (by decide) rfl rfl (fun _ _ => Nat.le_of_ble_eq_true rfl) (fun _ _ => rfl) ?_
  unfold X_rule
  refine vv_aload_n (n := 1) dX1_rule_0 rfl 0 rfl ?_
  refine k1_274 (n := 4) (fun h => ⟨(vlc (sk0 h).2 vl0), vs0⟩) dX1_rule_1 rfl rfl rfl (fun v1 s2 _ => ?_)
  refine vv_istore_n (n := 5) (L' := [(1, .int v1), (0, .ref 0)]) dX1_rule_4 rfl (Nat.le_of_ble_eq_true rfl) rfl ?_
  refine vv_iload_n (n := 6) dX1_rule_5 rfl 0 rfl ?_
  refine vv_if_ne (tgt := 17) (n := 9) dX1_rule_6 (by decide) rfl ?_ ?_
  · refine vv_iload_n (n := 18) dX1_rule_17 rfl 0 rfl ?_
    exact vv_iret dX1_rule_18 rfl
  · refine vv_aload_n (n := 10) dX1_rule_9 rfl 1 rfl ?_
    refine vv_aload_n (n := 11) dX1_rule_10 rfl 1 rfl ?_
    refine g1_270 (n := 14) dX1_rule_11 rfl ?_
    refine p1_277 (n := 17) (r := (gR s2 0 21)) (fun h a e => h.1 _ _ _ e) dX1_rule_14 rfl (fun s3 => ?_)
    refine vv_iload_n (n := 18) dX1_rule_17 rfl 0 rfl ?_
    exact vv_iret dX1_rule_18 rfl
def X_law  (u : Nat) (s : Sg) : Option (Int32 × Sg) := b2 (X_readsRule u s) fun v1 s2 => if 0 ≤ v1 then ((X_touchedGo u s2 0 12).bind fun s3 => (X_water u s3 6).bind fun v4 => lt_ (pR s3 0 20 (gR s3 0 21)) fun s5 => (X_touchedGo u s5 0 12).bind fun s6 => (some ()).bind fun _ => if rok s6 (gR s3 0 20) then lt_ (pR s6 0 20 (gR s3 0 20)) fun s8 => lt_ (pI s8 0 48 0) fun s9 => (X_water u s9 6).bind fun v10 => (X_tells s9 ((v10 : Int32).toInt64)).bind fun s11 => (X_tells s11 ((v4 : Int32).toInt64)).bind fun s12 => (X_water u s12 6).bind fun v13 => some ((v13 - v4), s12) else none) else (some (((v1 + 1) - 10000), s2))
theorem con_X_law (l : Launch) (u : Nat) (s : Sg) : Con l true true eSI yX1_law cX1_law 4 1206 40144 (some .int) s [.ref 0] (X_law u s) := by
  refine con_of (own := RX1) (mn := "law") (L := [(0, .ref 0)]) (by decide) rfl rfl (fun _ _ => Nat.le_of_ble_eq_true rfl) (fun _ _ => rfl) ?_
  unfold X_law
  refine vv_aload_n (n := 1) dX1_law_0 rfl 0 rfl ?_
  refine k1_274 (n := 4) (fun h => ⟨(vlc (sk0 h).2 vl0), vs0⟩) dX1_law_1 rfl rfl rfl (fun v1 s2 _ => ?_)
  refine vv_istore_n (n := 5) (L' := [(1, .int v1), (0, .ref 0)]) dX1_law_4 rfl (Nat.le_of_ble_eq_true rfl) rfl ?_
  refine vv_iload_n (n := 6) dX1_law_5 rfl 0 rfl ?_
  refine vv_if_ge (tgt := 17) (n := 9) dX1_law_6 (by decide) rfl ?_ ?_
  · refine vv_aload_n (n := 18) dX1_law_17 rfl 1 rfl ?_
    refine vv_iconst (n := 19) (v := 0) dX1_law_18 rfl (by decide) ?_
    refine vv_bipush (n := 21) (v := 12) dX1_law_19 rfl (by decide) ?_
    refine k1_401 (n := 24) dX1_law_21 rfl rfl rfl (fun s3 => ?_)
    refine vv_aload_n (n := 25) dX1_law_24 rfl 1 rfl ?_
    refine vv_aload_n (n := 26) dX1_law_25 rfl 1 rfl ?_
    refine g1_16 (n := 29) dX1_law_26 rfl ?_
    refine k1_310 (n := 32) dX1_law_29 rfl rfl rfl (fun v4 => ?_)
    refine vv_istore_n (n := 33) (L' := [(2, .int v4), (1, .int v1), (0, .ref 0)]) dX1_law_32 rfl (Nat.le_of_ble_eq_true rfl) rfl ?_
    refine vv_aload_n (n := 34) dX1_law_33 rfl 2 rfl ?_
    refine g1_277 (n := 37) dX1_law_34 rfl ?_
    refine vv_astoreq_n (n := 38) (L' := [(3, va_rf (gR s3 0 20)), (2, .int v4), (1, .int v1), (0, .ref 0)]) dX1_law_37 rfl (Nat.le_of_ble_eq_true rfl) rfl ?_
    refine vv_aload_n (n := 39) dX1_law_38 rfl 3 rfl ?_
    refine vv_aload_n (n := 40) dX1_law_39 rfl 3 rfl ?_
    refine g1_270 (n := 43) dX1_law_40 rfl ?_
    refine p1_277 (n := 46) (r := (gR s3 0 21)) (fun h a e => h.1 _ _ _ e) dX1_law_43 rfl (fun s5 => ?_)
    refine vv_aload_n (n := 47) dX1_law_46 rfl 3 rfl ?_
    refine vv_iconst (n := 48) (v := 0) dX1_law_47 rfl (by decide) ?_
    refine vv_bipush (n := 50) (v := 12) dX1_law_48 rfl (by decide) ?_
    refine k1_401 (n := 53) dX1_law_50 rfl rfl rfl (fun s6 => ?_)
    refine vv_aload_n (n := 54) dX1_law_53 rfl 3 rfl ?_
    refine vv_aloadq_n (n := 55) dX1_law_54 rfl 0 rfl ?_
    refine vv_ask (fun ho7 => ?_)
    refine p1_277 (n := 58) (r := (gR s3 0 20)) (fun _ a e => by rw [e] at ho7; exact ho7) dX1_law_55 rfl (fun s8 => ?_)
    refine vv_aload_n (n := 59) dX1_law_58 rfl 3 rfl ?_
    refine vv_iconst (n := 60) (v := 0) dX1_law_59 rfl (by decide) ?_
    refine p1_350 (n := 63) dX1_law_60 rfl (fun s9 => ?_)
    refine vv_aload_n (n := 64) dX1_law_63 rfl 3 rfl ?_
    refine vv_aload_n (n := 65) dX1_law_64 rfl 3 rfl ?_
    refine vv_aload_n (n := 66) dX1_law_65 rfl 3 rfl ?_
    refine g1_16 (n := 69) dX1_law_66 rfl ?_
    refine k1_310 (n := 72) dX1_law_69 rfl rfl rfl (fun v10 => ?_)
    refine vv_i2l (n := 73) dX1_law_72 rfl ?_
    refine k1_353 (n := 76) dX1_law_73 rfl rfl rfl (fun s11 => ?_)
    refine vv_aload_n (n := 77) dX1_law_76 rfl 3 rfl ?_
    refine vv_iload_n (n := 78) dX1_law_77 rfl 1 rfl ?_
    refine vv_i2l (n := 79) dX1_law_78 rfl ?_
    refine k1_353 (n := 82) dX1_law_79 rfl rfl rfl (fun s12 => ?_)
    refine vv_aload_n (n := 83) dX1_law_82 rfl 3 rfl ?_
    refine vv_aload_n (n := 84) dX1_law_83 rfl 3 rfl ?_
    refine g1_16 (n := 87) dX1_law_84 rfl ?_
    refine k1_310 (n := 90) dX1_law_87 rfl rfl rfl (fun v13 => ?_)
    refine vv_iload_n (n := 91) dX1_law_90 rfl 1 rfl ?_
    refine vv_isub (n := 92) dX1_law_91 rfl ?_
    exact vv_iret dX1_law_92 rfl
  · refine vv_iload_n (n := 10) dX1_law_9 rfl 0 rfl ?_
    refine vv_iconst (n := 11) (v := 1) dX1_law_10 rfl (by decide) ?_
    refine vv_iadd (n := 12) dX1_law_11 rfl ?_
    refine vv_sipush (n := 15) (v := 10000) dX1_law_12 rfl (by decide) ?_
    refine vv_isub (n := 16) dX1_law_15 rfl ?_
    exact vv_iret dX1_law_16 rfl
