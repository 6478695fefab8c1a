def X_putsBy_90 (u : Nat) (a1 : Nat) (s : Sg) : Option Sg := (aR s 20 12 (gI s 0 24)).bind fun v1 => (v1).bind fun i2 => if Db 1 8 s i2 then (W_becomes s i2 a1).bind fun s3 => lt_ (pI s3 0 24 ((gI s3 0 24) + 1)) fun s4 => some s4 else none
theorem vc_X_putsBy_90 (l : Launch) (u : Nat) (a1 : Nat) (hg_a1 : Wst a1)  (s : Sg) : VC l true true eSV cX1_putsBy RX1 "putsBy" 4 3 61 none s 90 [(0, .ref 0), (1, .ref a1)] [] (X_putsBy_90 u a1 s) := by
  unfold X_putsBy_90
  refine vv_aload_n (n := 91) dX1_putsBy_90 rfl 0 rfl ?_
  refine g1_47 (n := 94) dX1_putsBy_91 rfl ?_
  refine vv_aload_n (n := 95) dX1_putsBy_94 rfl 0 rfl ?_
  refine g1_226 (n := 98) dX1_putsBy_95 rfl ?_
  refine vv_aald sk20 dX1_putsBy_98 rfl (fun v1 hv1 => ?_)
  refine vv_aload_n (n := 100) dX1_putsBy_99 rfl 1 rfl ?_
  refine vv_nn1 (fun i2 hi2 => ?_)
  refine vv_ask (fun hg_i2 => ?_)
  refine k1_314 (n := 103) (fun _ => hg_i2) dX1_putsBy_100 rfl rfl rfl (fun s3 => ?_)
  refine vv_aload_n (n := 104) dX1_putsBy_103 rfl 0 rfl ?_
  refine vv_dup (n := 105) dX1_putsBy_104 rfl rfl ?_
  refine g1_226 (n := 108) dX1_putsBy_105 rfl ?_
  refine vv_iconst (n := 109) (v := 1) dX1_putsBy_108 rfl (by decide) ?_
  refine vv_iadd (n := 110) dX1_putsBy_109 rfl ?_
  refine p1_226 (n := 113) dX1_putsBy_110 rfl (fun s4 => ?_)
  exact vv_vret dX1_putsBy_113 rfl
theorem nw1_9 {β : Type} {l : Launch} {ek : β → Option Value × Sg} {cc : ByteArray} {mn : String} {nL fr lo : Nat} {rt : Option FieldType} {s : Sg} {pc n : Nat} {L : List (Nat × Value)} {st : List Value} {f : Sg → Option β} (hLk : Ok true s → (∀ q ∈ L, vok (gN s) q.2) ∧ ∀ v ∈ st, vok (gN s) v) (hd : decode cc pc = .ok (.new 9, 3)) (hn : pc + 3 = n) (kk : ∀ τ, gN s < gN τ → VC l true true ek cc RX1 mn nL fr lo rt τ n L (.ref (gN s) :: st) (f τ)) : VC l true true ek cc RX1 mn nL fr lo rt s pc L st (lt_ (aw s (1 + 5) 8 8) f) := vv_new (ci := 1) (T := TX2) (ty := tyX2) cd1 tyX2_ok (by decide +kernel) q126 q127 q98 (fun h => (hLk h).1) (fun h => (hLk h).2) hd hn (fun τ h _ => kk τ (by omega))
theorem kc1_11 {β : Type} {l : Launch} {ek : β → Option Value × Sg} {cc : ByteArray} {mn : String} {nL fr lo : Nat} {rt : Option FieldType} {s : Sg} {pc n : Nat} {L : List (Nat × Value)} {st : List Value} {i : Nat} {f : Sg → Option β} (hge : stR.length ≤ i) (hLk : Ok true s → (∀ q ∈ L, vok (gN s) q.2) ∧ ∀ v ∈ st, vok (gN s) v) (hd : decode cc pc = .ok (.invokespecial 11, 3)) (hn : pc + 3 = n) (hc : Nat.ble (st.map fun v => v.category).sum 8 = true) (hr : (Nat.ble (1 + 1) fr && Nat.ble (8 + (1 + 11) + 20) lo) = true) (kk : ∀ τ, gN s ≤ gN τ → VC l true true ek cc RX1 mn nL fr lo rt τ n L st (f τ)) : VC l true true ek cc RX1 mn nL fr lo rt s pc L (.ref i :: st) ((W_init s i).bind f) := vv_callIN (ar := 0) (av := []) (con_W_init l true s i (fun _ => hge)) (fun h => h) (fun h => h) (fun _ => rfl) (fun _ => hLk) hd hn rfl (Nat.le_of_ble_eq_true hc) (ble2 hr) rfl q128 q98 q129 q130 rfl (by decide +kernel) (fun b _ h => kk b h.2.2.1)
def X_putsBy_62 (u : Nat) (a1 : Nat) (s : Sg) : Option Sg := (aR s 20 12 (gI s 0 24)).bind fun v1 => ox v1 (lt_ (aw s (1 + 5) 8 8) fun s3 => (some ()).bind fun _ => if stR.length ≤ (gN s) then (some ()).bind fun _ => if (gN s) < gN s3 then (W_init s3 (gN s)).bind fun s5 => (some ()).bind fun _ => if Db 1 8 s5 (gN s) then (tR s5 20 12 (gI s 0 24) (some (gN s))).bind fun s9 => X_putsBy_90 u a1 s9 else none else none else none) (fun i2 => X_putsBy_90 u a1 s)
theorem vc_X_putsBy_62 (l : Launch) (u : Nat) (a1 : Nat) (hg_a1 : Wst a1)  (s : Sg) : VC l true true eSV cX1_putsBy RX1 "putsBy" 4 3 61 none s 62 [(0, .ref 0), (1, .ref a1)] [] (X_putsBy_62 u a1 s) := by
  unfold X_putsBy_62
  refine vv_aload_n (n := 63) dX1_putsBy_62 rfl 0 rfl ?_
  refine g1_47 (n := 66) dX1_putsBy_63 rfl ?_
  refine vv_aload_n (n := 67) dX1_putsBy_66 rfl 0 rfl ?_
  refine g1_226 (n := 70) dX1_putsBy_67 rfl ?_
  refine vv_aald sk20 dX1_putsBy_70 rfl (fun v1 hv1 => ?_)
  refine vv_ifnonnull (tgt := 90) (n := 74) dX1_putsBy_71 (by decide) rfl (fun hi2 => ?_) (fun i2 hi2 => ?_)
  · subst hi2
    refine vv_aload_n (n := 75) dX1_putsBy_74 rfl 0 rfl ?_
    refine g1_47 (n := 78) dX1_putsBy_75 rfl ?_
    refine vv_aload_n (n := 79) dX1_putsBy_78 rfl 0 rfl ?_
    refine g1_226 (n := 82) dX1_putsBy_79 rfl ?_
    refine nw1_9 (n := 85) (fun h => ⟨(vlc (sk0 h).2 (vlc (skW hg_a1 h).2 vl0)), (vsc trivial (vsc (sk20 h).2 vs0))⟩) dX1_putsBy_82 rfl (fun s3 hN4 => ?_)
    refine vv_dup (n := 86) dX1_putsBy_85 rfl rfl ?_
    refine vv_ask (fun hl6 => ?_)
    refine vv_ask (fun ho7 => ?_)
    refine kc1_11 (n := 89) hl6 (fun h => ⟨(vlc (sk0 h).2 (vlc (skW hg_a1 h).2 vl0)), (vsc ho7 (vsc trivial (vsc (sk20 h).2 vs0)))⟩) dX1_putsBy_86 rfl rfl rfl (fun s5 _ => ?_)
    refine vv_ask (fun hw8 => ?_)
    refine vv_aast (n := 90) (v := (some (gN s))) sk20 (fun _ j e => by cases e; exact hw8) (fun _ => rfl) dX1_putsBy_89 rfl (fun s9 => ?_)
    exact VC.sub [0, 1] rfl (vc_X_putsBy_90 l u a1 hg_a1 s9)
  · subst hi2
    exact VC.sub [0, 1] rfl (vc_X_putsBy_90 l u a1 hg_a1 s)
def X_putsBy_18b (u : Nat) (a1 : Nat) (K18 : Sg → Option Nat → Int32 → Option Sg) (s : Sg) (q2 : Option Nat) (x3 : Int32) : Option Sg := if 12 ≤ x3 then ((some ()).bind fun _ => if wq s q2 then (tR s 20 12 11 q2).bind fun s2 => lt_ (pI s2 0 24 ((gI s2 0 24) - 1)) fun s3 => X_putsBy_62 u a1 s3 else none) else ((aR s 20 12 x3).bind fun v4 => (some ()).bind fun _ => if wq s v4 then (tR s 20 12 (x3 - 1) v4).bind fun s6 => K18 s6 q2 (x3 + 1) else none)
theorem vc_X_putsBy_18b (l : Launch) (u : Nat) (a1 : Nat) (hg_a1 : Wst a1) (K18 : Sg → Option Nat → Int32 → Option Sg) (hK18 : ∀ (s : Sg) (q2 : Option Nat) (x3 : Int32), VC l true true eSV cX1_putsBy RX1 "putsBy" 4 3 61 none s 18 [(0, .ref 0), (1, .ref a1), (2, va_rf q2), (3, .int x3)] [] (K18 s q2 x3)) (s : Sg) (q2 : Option Nat) (x3 : Int32) : VC l true true eSV cX1_putsBy RX1 "putsBy" 4 3 61 none s 18 [(0, .ref 0), (1, .ref a1), (2, va_rf q2), (3, .int x3)] [] (X_putsBy_18b u a1 K18 s q2 x3) := by
  unfold X_putsBy_18b
  refine vv_iload_n (n := 19) dX1_putsBy_18 rfl 3 rfl ?_
  refine vv_bipush (n := 21) (v := 12) dX1_putsBy_19 rfl (by decide) ?_
  refine vv_icmp_ge (tgt := 44) (n := 24) dX1_putsBy_21 (by decide) rfl ?_ ?_
  · refine vv_aload_n (n := 45) dX1_putsBy_44 rfl 0 rfl ?_
    refine g1_47 (n := 48) dX1_putsBy_45 rfl ?_
    refine vv_bipush (n := 50) (v := 11) dX1_putsBy_48 rfl (by decide) ?_
    refine vv_aloadq_n (n := 51) dX1_putsBy_50 rfl 2 rfl ?_
    refine vv_ask (fun hw1 => ?_)
    refine vv_aast (n := 52) (v := q2) sk20 (fun _ => wq_v hw1) (fun _ => rfl) dX1_putsBy_51 rfl (fun s2 => ?_)
    refine vv_aload_n (n := 53) dX1_putsBy_52 rfl 0 rfl ?_
    refine vv_dup (n := 54) dX1_putsBy_53 rfl rfl ?_
    refine g1_226 (n := 57) dX1_putsBy_54 rfl ?_
    refine vv_iconst (n := 58) (v := 1) dX1_putsBy_57 rfl (by decide) ?_
    refine vv_isub (n := 59) dX1_putsBy_58 rfl ?_
    refine p1_226 (n := 62) dX1_putsBy_59 rfl (fun s3 => ?_)
    exact VC.sub [0, 1] rfl (vc_X_putsBy_62 l u a1 hg_a1 s3)
  · refine vv_aload_n (n := 25) dX1_putsBy_24 rfl 0 rfl ?_
    refine g1_47 (n := 28) dX1_putsBy_25 rfl ?_
    refine vv_iload_n (n := 29) dX1_putsBy_28 rfl 3 rfl ?_
    refine vv_iconst (n := 30) (v := 1) dX1_putsBy_29 rfl (by decide) ?_
    refine vv_isub (n := 31) dX1_putsBy_30 rfl ?_
    refine vv_aload_n (n := 32) dX1_putsBy_31 rfl 0 rfl ?_
    refine g1_47 (n := 35) dX1_putsBy_32 rfl ?_
    refine vv_iload_n (n := 36) dX1_putsBy_35 rfl 3 rfl ?_
    refine vv_aald sk20 dX1_putsBy_36 rfl (fun v4 hv4 => ?_)
    refine vv_ask (fun hw5 => ?_)
    refine vv_aast (n := 38) (v := v4) sk20 (fun _ => wq_v hw5) (fun _ => rfl) dX1_putsBy_37 rfl (fun s6 => ?_)
    refine vv_iinc (n := 41) (v := 1) (L' := [(3, .int (x3 + 1)), (0, .ref 0), (1, .ref a1), (2, va_rf q2)]) dX1_putsBy_38 rfl 3 rfl (by decide) (Nat.le_of_ble_eq_true rfl) (by cases q2 <;> rfl) ?_
    refine vv_goto (n := 18) dX1_putsBy_41 (by decide) ?_
    exact VC.sub [1, 2, 3, 0] rfl (hK18 s6 q2 (x3 + 1))
def X_putsBy_18 (u : Nat) (a1 : Nat) (w : Nat) : Sg → Option Nat → Int32 → Option Sg := itN (fun K => X_putsBy_18b u a1 K) (fun _ _ _ => none) w
theorem vc_X_putsBy_18 (l : Launch) (u : Nat) (a1 : Nat) (hg_a1 : Wst a1)  (w : Nat) : ∀ (s : Sg) (q2 : Option Nat) (x3 : Int32), VC l true true eSV cX1_putsBy RX1 "putsBy" 4 3 61 none s 18 [(0, .ref 0), (1, .ref a1), (2, va_rf q2), (3, .int x3)] [] (X_putsBy_18 u a1 w s q2 x3) := by
  induction w with
  | zero => intro s q2 x3; exact VC.non
  | succ w ih => intro s q2 x3; exact vc_X_putsBy_18b l u a1 hg_a1 _ ih s q2 x3
def X_putsBy  (u : Nat) (s : Sg) (a1 : Nat) : Option Sg := if Wst a1 then (if (gI s 0 24) = 12 then ((aR s 20 12 0).bind fun v1 => X_putsBy_18 u a1 u s v1 1) else (X_putsBy_62 u a1 s)) else none
theorem con_X_putsBy (l : Launch) (u : Nat) (s : Sg) (a1 : Nat) : Con l true true eSV yX1_putsBy cX1_putsBy 4 3 61 none s [.ref 0, .ref a1] (X_putsBy u s a1) := by
  refine con_of (own := RX1) (mn := "putsBy") (L := [(0, .ref 0), (1, .ref a1)]) (by decide) rfl rfl (fun _ _ => Nat.le_of_ble_eq_true rfl) (fun _ _ => rfl) ?_
  unfold X_putsBy
  refine vv_ask (fun hg_a1 => ?_)
  refine vv_aload_n (n := 1) dX1_putsBy_0 rfl 0 rfl ?_
  refine g1_226 (n := 4) dX1_putsBy_1 rfl ?_
  refine vv_bipush (n := 6) (v := 12) dX1_putsBy_4 rfl (by decide) ?_
  refine vv_icmp_ne (tgt := 62) (n := 9) dX1_putsBy_6 (by decide) rfl ?_ ?_
  · exact VC.sub [0, 1] rfl (vc_X_putsBy_62 l u a1 hg_a1 s)
  · refine vv_aload_n (n := 10) dX1_putsBy_9 rfl 0 rfl ?_
    refine g1_47 (n := 13) dX1_putsBy_10 rfl ?_
    refine vv_iconst (n := 14) (v := 0) dX1_putsBy_13 rfl (by decide) ?_
    refine vv_aald sk20 dX1_putsBy_14 rfl (fun v1 hv1 => ?_)
    refine vv_astoreq_n (n := 16) (L' := [(2, va_rf v1), (0, .ref 0), (1, .ref a1)]) dX1_putsBy_15 rfl (Nat.le_of_ble_eq_true rfl) rfl ?_
    refine vv_iconst (n := 17) (v := 1) dX1_putsBy_16 rfl (by decide) ?_
    refine vv_istore_n (n := 18) (L' := [(3, .int 1), (2, va_rf v1), (0, .ref 0), (1, .ref a1)]) dX1_putsBy_17 rfl (Nat.le_of_ble_eq_true rfl) (by cases v1 <;> rfl) ?_
    exact VC.sub [2, 3, 1, 0] rfl (vc_X_putsBy_18 l u a1 hg_a1 u s v1 1)
theorem g1_51 {β : Type} {l : Launch} {al : Bool} {ek : β → Option Value × Sg} {cc : ByteArray} {mn : String} {nL fr lo : Nat} {rt : Option FieldType} {s : Sg} {pc n : Nat} {L : List (Nat × Value)} {st : List Value} {body : Option β} (hd : decode cc pc = .ok (.getfield 51, 3)) (hn : pc + 3 = n) (kk : VC l true al ek cc RX1 mn nL fr lo rt s n L (.ref 21 :: st) body) : VC l true al ek cc RX1 mn nL fr lo rt s pc L (.ref 0 :: st) body := vv_getS (ci := 0) (k := 23) (r := 21) (T := TX1) cd0 (by decide) rfl sk0 (fun h => str h 0 23 21 rfl) (Or.inl q198) hd hn kk
theorem k1_318 {β : Type} {l : Launch} {ek : β → Option Value × Sg} {cc : ByteArray} {mn : String} {nL fr lo : Nat} {rt : Option FieldType} {s : Sg} {pc n : Nat} {L : List (Nat × Value)} {st : List Value} {u : Nat} {p0 : Nat} {f : Sg → Option β} (hLk : Ok true s → (∀ q ∈ L, vok (gN s) q.2) ∧ ∀ v ∈ st, vok (gN s) v) (hd : decode cc pc = .ok (.invokevirtual 318, 3)) (hn : pc + 3 = n) (hc : Nat.ble (st.map fun v => v.category).sum 8 = true) (hr : (Nat.ble (3 + 1) fr && Nat.ble (8 + (4 + 11) + 61) lo) = true) (kk : ∀ τ, gN s ≤ gN τ → VC l true true ek cc RX1 mn nL fr lo rt τ n L st (f τ)) : VC l true true ek cc RX1 mn nL fr lo rt s pc L (.ref p0 :: .ref 0 :: st) ((X_putsBy u s p0).bind f) := vv_callV (ci := 0) (C := RX1) (T := TX1) (N := 49) (ar := 1) (av := [.ref p0]) (con_X_putsBy l u s p0) (fun h => h) (fun h => h) (fun _ => rfl) (fun _ => hLk) rfl sk0 hd hn rfl (Nat.le_of_ble_eq_true hc) (ble2 hr) (lw_V q677 q679 qs17 q97 q680) rfl (by decide +kernel) (fun b _ h => kk b h.2.2.1)
def X_counts  (u : Nat) (s : Sg) (x1 : Int32) : Option (Int32 × Sg) := if x1 < 0 then (some (x1, s)) else ((X_putsBy u s 21).bind fun s1 => some (x1, s1))
theorem con_X_counts (l : Launch) (u : Nat) (s : Sg) (x1 : Int32) : Con l true true eSI yX1_counts cX1_counts 2 4 84 (some .int) s [.ref 0, .int x1] (X_counts u s x1) := by
  refine con_of (own := RX1) (mn := "counts") (L := [(0, .ref 0), (1, .int x1)]) (by decide) rfl rfl (fun _ _ => Nat.le_of_ble_eq_true rfl) (fun _ _ => rfl) ?_
  unfold X_counts
  refine vv_iload_n (n := 1) dX1_counts_0 rfl 1 rfl ?_
  refine vv_if_lt (tgt := 12) (n := 4) dX1_counts_1 (by decide) rfl ?_ ?_
  · refine vv_iload_n (n := 13) dX1_counts_12 rfl 1 rfl ?_
    exact vv_iret dX1_counts_13 rfl
  · refine vv_aload_n (n := 5) dX1_counts_4 rfl 0 rfl ?_
    refine vv_aload_n (n := 6) dX1_counts_5 rfl 0 rfl ?_
    refine g1_51 (n := 9) dX1_counts_6 rfl ?_
    refine k1_318 (n := 12) (fun h => ⟨(vlc (sk0 h).2 (vlc trivial vl0)), vs0⟩) dX1_counts_9 rfl rfl rfl (fun s1 _ => ?_)
    refine vv_iload_n (n := 13) dX1_counts_12 rfl 1 rfl ?_
    exact vv_iret dX1_counts_13 rfl
def X_days_26 (u : Nat) (s : Sg) (x1 : Int32) : Option (Int32 × Sg) := lt_ (gI s 1 6) fun c1 => lt_ (gI s 1 7) fun c2 => (X_daysGo u s 1 x1).bind fun s3 => lt_ (pI s3 0 48 0) fun s4 => (X_tells s4 ((((gI s4 1 6) - c1) : Int32).toInt64)).bind fun s5 => (X_tells s5 ((((gI s5 1 7) - c2) : Int32).toInt64)).bind fun s6 => (X_water u s6 1).bind fun v7 => some (v7, s6)
theorem vc_X_days_26 (l : Launch) (u : Nat)  (s : Sg) (x1 : Int32) : VC l true true eSI cX1_days RX1 "days" 4 1205 40122 (some .int) s 26 [(0, .ref 0), (1, .int x1)] [] (X_days_26 u s x1) := by
  unfold X_days_26
  refine vv_aload_n (n := 27) dX1_days_26 rfl 0 rfl ?_
  refine g1_12 (n := 30) dX1_days_27 rfl ?_
  refine g1_321 (n := 33) (Or.inl rfl) dX1_days_30 rfl ?_
  refine vv_leti (fun c1 => ?_)
  refine vv_istore_n (n := 34) (L' := [(2, .int c1), (0, .ref 0), (1, .int x1)]) dX1_days_33 rfl (Nat.le_of_ble_eq_true rfl) rfl ?_
  refine vv_aload_n (n := 35) dX1_days_34 rfl 1 rfl ?_
  refine g1_12 (n := 38) dX1_days_35 rfl ?_
  refine g1_324 (n := 41) (Or.inl rfl) dX1_days_38 rfl ?_
  refine vv_leti (fun c2 => ?_)
  refine vv_istore_n (n := 42) (L' := [(3, .int c2), (2, .int c1), (0, .ref 0), (1, .int x1)]) dX1_days_41 rfl (Nat.le_of_ble_eq_true rfl) rfl ?_
  refine vv_aload_n (n := 43) dX1_days_42 rfl 2 rfl ?_
  refine vv_aload_n (n := 44) dX1_days_43 rfl 2 rfl ?_
  refine g1_12 (n := 47) dX1_days_44 rfl ?_
  refine vv_iload_n (n := 48) dX1_days_47 rfl 3 rfl ?_
  refine k1_346 (n := 51) dX1_days_48 rfl rfl rfl (fun s3 => ?_)
  refine vv_aload_n (n := 52) dX1_days_51 rfl 2 rfl ?_
  refine vv_iconst (n := 53) (v := 0) dX1_days_52 rfl (by decide) ?_
  refine p1_350 (n := 56) dX1_days_53 rfl (fun s4 => ?_)
  refine vv_aload_n (n := 57) dX1_days_56 rfl 2 rfl ?_
  refine vv_aload_n (n := 58) dX1_days_57 rfl 2 rfl ?_
  refine g1_12 (n := 61) dX1_days_58 rfl ?_
  refine g1_321 (n := 64) (Or.inl rfl) dX1_days_61 rfl ?_
  refine vv_iload_n (n := 65) dX1_days_64 rfl 1 rfl ?_
  refine vv_isub (n := 66) dX1_days_65 rfl ?_
  refine vv_i2l (n := 67) dX1_days_66 rfl ?_
  refine k1_353 (n := 70) dX1_days_67 rfl rfl rfl (fun s5 => ?_)
  refine vv_aload_n (n := 71) dX1_days_70 rfl 2 rfl ?_
  refine vv_aload_n (n := 72) dX1_days_71 rfl 2 rfl ?_
  refine g1_12 (n := 75) dX1_days_72 rfl ?_
  refine g1_324 (n := 78) (Or.inl rfl) dX1_days_75 rfl ?_
  refine vv_iload_n (n := 79) dX1_days_78 rfl 0 rfl ?_
  refine vv_isub (n := 80) dX1_days_79 rfl ?_
  refine vv_i2l (n := 81) dX1_days_80 rfl ?_
  refine k1_353 (n := 84) dX1_days_81 rfl rfl rfl (fun s6 => ?_)
  refine vv_aload_n (n := 85) dX1_days_84 rfl 2 rfl ?_
  refine vv_aload_n (n := 86) dX1_days_85 rfl 2 rfl ?_
  refine g1_12 (n := 89) dX1_days_86 rfl ?_
  refine k1_310 (n := 92) dX1_days_89 rfl rfl rfl (fun v7 => ?_)
  exact vv_iret dX1_days_92 rfl
def X_days  (u : Nat) (s : Sg) (x1 : Int32) : Option (Int32 × Sg) := (X_in ((x1 : Int32).toInt64) 0 60).bind fun v1 => if v1 = 0 then (some ((-1), s)) else (if x1 ≤ 0 then (X_days_26 u s x1) else ((X_putsBy u s 1).bind fun s2 => X_days_26 u s2 x1))
theorem con_X_days (l : Launch) (u : Nat) (s : Sg) (x1 : Int32) : Con l true true eSI yX1_days cX1_days 4 1205 40122 (some .int) s [.ref 0, .int x1] (X_days u s x1) := by
  refine con_of (own := RX1) (mn := "days") (L := [(0, .ref 0), (1, .int x1)]) (by decide) rfl rfl (fun _ _ => Nat.le_of_ble_eq_true rfl) (fun _ _ => rfl) ?_
  unfold X_days
  refine vv_iload_n (n := 1) dX1_days_0 rfl 1 rfl ?_
  refine vv_i2l (n := 2) dX1_days_1 rfl ?_
  refine vv_lconst (n := 3) (v := 0) dX1_days_2 rfl (by decide) ?_
  refine vv_ldc2 (n := 6) q676 dX1_days_3 rfl ?_
  refine k1_121 (n := 9) dX1_days_6 rfl rfl rfl (fun v1 => ?_)
  refine vv_if_ne (tgt := 14) (n := 12) dX1_days_9 (by decide) rfl ?_ ?_
  · refine vv_iload_n (n := 15) dX1_days_14 rfl 1 rfl ?_
    refine vv_if_le (tgt := 26) (n := 18) dX1_days_15 (by decide) rfl ?_ ?_
    · exact VC.sub [0, 1] rfl (vc_X_days_26 l u s x1)
    · refine vv_aload_n (n := 19) dX1_days_18 rfl 0 rfl ?_
      refine vv_aload_n (n := 20) dX1_days_19 rfl 0 rfl ?_
      refine g1_12 (n := 23) dX1_days_20 rfl ?_
      refine k1_318 (n := 26) (fun h => ⟨(vlc (sk0 h).2 (vlc trivial vl0)), vs0⟩) dX1_days_23 rfl rfl rfl (fun s2 _ => ?_)
      exact VC.sub [0, 1] rfl (vc_X_days_26 l u s2 x1)
  · refine vv_iconst (n := 13) (v := (-1)) dX1_days_12 rfl (by decide) ?_
    exact vv_iret dX1_days_13 rfl
theorem k1_361 {β : Type} {l : Launch} {ek : β → Option Value × Sg} {cc : ByteArray} {mn : String} {nL fr lo : Nat} {rt : Option FieldType} {s : Sg} {pc n : Nat} {L : List (Nat × Value)} {st : List Value} {u : Nat} {p0 : Int32} {f : Int32 → Sg → Option β} (hLk : Ok true s → (∀ q ∈ L, vok (gN s) q.2) ∧ ∀ v ∈ st, vok (gN s) v) (hd : decode cc pc = .ok (.invokevirtual 361, 3)) (hn : pc + 3 = n) (hc : Nat.ble (st.map fun v => v.category).sum 8 = true) (hr : (Nat.ble (4 + 1) fr && Nat.ble (8 + (2 + 11) + 84) lo) = true) (kk : ∀ v τ, gN s ≤ gN τ → VC l true true ek cc RX1 mn nL fr lo rt τ n L (.int v :: st) (f v τ)) : VC l true true ek cc RX1 mn nL fr lo rt s pc L (.int p0 :: .ref 0 :: st) (b2 (X_counts u s p0) f) := vv_callV (ci := 0) (C := RX1) (T := TX1) (N := 49) (ar := 1) (av := [.int p0]) (con_X_counts l u s p0) (fun h => h) (fun h => h) (fun _ => rfl) (fun _ => hLk) rfl sk0 hd hn rfl (Nat.le_of_ble_eq_true hc) (ble2 hr) (lw_V q737 q739 qs25 q97 q740) rfl (by decide +kernel) (fun b _ h => kk b.1 b.2 h.2.2.1)
def X_pulls  (u : Nat) (s : Sg) (x1 : Int32) : Option (Int32 × Sg) := (W_becomes s 21 1).bind fun s1 => b2 (X_touches s1 1 x1 1) fun v2 s3 => b2 (X_counts u s3 v2) fun v4 s5 => some (v4, s5)
theorem con_X_pulls (l : Launch) (u : Nat) (s : Sg) (x1 : Int32) : Con l true true eSI yX1_pulls cX1_pulls 2 5 105 (some .int) s [.ref 0, .int x1] (X_pulls u s x1) := by
  refine con_of (own := RX1) (mn := "pulls") (L := [(0, .ref 0), (1, .int x1)]) (by decide) rfl rfl (fun _ _ => Nat.le_of_ble_eq_true rfl) (fun _ _ => rfl) ?_
  unfold X_pulls
  refine vv_aload_n (n := 1) dX1_pulls_0 rfl 0 rfl ?_
  refine g1_51 (n := 4) dX1_pulls_1 rfl ?_
  refine vv_aload_n (n := 5) dX1_pulls_4 rfl 0 rfl ?_
  refine g1_12 (n := 8) dX1_pulls_5 rfl ?_
  refine k1_314 (n := 11) (skW (Or.inr (Or.inr rfl))) dX1_pulls_8 rfl rfl rfl (fun s1 => ?_)
  refine vv_aload_n (n := 12) dX1_pulls_11 rfl 0 rfl ?_
  refine vv_aload_n (n := 13) dX1_pulls_12 rfl 0 rfl ?_
  refine vv_aload_n (n := 14) dX1_pulls_13 rfl 0 rfl ?_
  refine g1_12 (n := 17) dX1_pulls_14 rfl ?_
  refine vv_iload_n (n := 18) dX1_pulls_17 rfl 1 rfl ?_
  refine vv_iconst (n := 19) (v := 1) dX1_pulls_18 rfl (by decide) ?_
  refine k1_357 (n := 22) dX1_pulls_19 rfl rfl rfl (fun v2 s3 => ?_)
  refine k1_361 (n := 25) (fun h => ⟨(vlc (sk0 h).2 (vlc trivial vl0)), vs0⟩) dX1_pulls_22 rfl rfl rfl (fun v4 s5 _ => ?_)
  exact vv_iret dX1_pulls_25 rfl
def X_stops  (u : Nat) (s : Sg) (x1 : Int32) : Option (Int32 × Sg) := (W_becomes s 21 1).bind fun s1 => b2 (X_touches s1 1 x1 0) fun v2 s3 => b2 (X_counts u s3 v2) fun v4 s5 => some (v4, s5)
theorem con_X_stops (l : Launch) (u : Nat) (s : Sg) (x1 : Int32) : Con l true true eSI yX1_stops cX1_stops 2 5 105 (some .int) s [.ref 0, .int x1] (X_stops u s x1) := by
  refine con_of (own := RX1) (mn := "stops") (L := [(0, .ref 0), (1, .int x1)]) (by decide) rfl rfl (fun _ _ => Nat.le_of_ble_eq_true rfl) (fun _ _ => rfl) ?_
  unfold X_stops
  refine vv_aload_n (n := 1) dX1_stops_0 rfl 0 rfl ?_
  refine g1_51 (n := 4) dX1_stops_1 rfl ?_
  refine vv_aload_n (n := 5) dX1_stops_4 rfl 0 rfl ?_
  refine g1_12 (n := 8) dX1_stops_5 rfl ?_
  refine k1_314 (n := 11) (skW (Or.inr (Or.inr rfl))) dX1_stops_8 rfl rfl rfl (fun s1 => ?_)
  refine vv_aload_n (n := 12) dX1_stops_11 rfl 0 rfl ?_
  refine vv_aload_n (n := 13) dX1_stops_12 rfl 0 rfl ?_
  refine vv_aload_n (n := 14) dX1_stops_13 rfl 0 rfl ?_
  refine g1_12 (n := 17) dX1_stops_14 rfl ?_
  refine vv_iload_n (n := 18) dX1_stops_17 rfl 1 rfl ?_
  refine vv_iconst (n := 19) (v := 0) dX1_stops_18 rfl (by decide) ?_
  refine k1_357 (n := 22) dX1_stops_19 rfl rfl rfl (fun v2 s3 => ?_)
  refine k1_361 (n := 25) (fun h => ⟨(vlc (sk0 h).2 (vlc trivial vl0)), vs0⟩) dX1_stops_22 rfl rfl rfl (fun v4 s5 _ => ?_)
  exact vv_iret dX1_stops_25 rfl
def X_combs  (u : Nat) (s : Sg) (x1 : Int32) : Option (Int32 × Sg) := (W_becomes s 21 1).bind fun s1 => b2 (X_combsOne s1 1 x1) fun v2 s3 => b2 (X_counts u s3 v2) fun v4 s5 => some (v4, s5)
theorem con_X_combs (l : Launch) (u : Nat) (s : Sg) (x1 : Int32) : Con l true true eSI yX1_combs cX1_combs 2 5 105 (some .int) s [.ref 0, .int x1] (X_combs u s x1) := by
  refine con_of (own := RX1) (mn := "combs") (L := [(0, .ref 0), (1, .int x1)]) (by decide) rfl rfl (fun _ _ => Nat.le_of_ble_eq_true rfl) (fun _ _ => rfl) ?_
  unfold X_combs
  refine vv_aload_n (n := 1) dX1_combs_0 rfl 0 rfl ?_
  refine g1_51 (n := 4) dX1_combs_1 rfl ?_
  refine vv_aload_n (n := 5) dX1_combs_4 rfl 0 rfl ?_
  refine g1_12 (n := 8) dX1_combs_5 rfl ?_
  refine k1_314 (n := 11) (skW (Or.inr (Or.inr rfl))) dX1_combs_8 rfl rfl rfl (fun s1 => ?_)
  refine vv_aload_n (n := 12) dX1_combs_11 rfl 0 rfl ?_
  refine vv_aload_n (n := 13) dX1_combs_12 rfl 0 rfl ?_
  refine vv_aload_n (n := 14) dX1_combs_13 rfl 0 rfl ?_
  refine g1_12 (n := 17) dX1_combs_14 rfl ?_
  refine vv_iload_n (n := 18) dX1_combs_17 rfl 1 rfl ?_
  refine k1_364 (n := 21) dX1_combs_18 rfl rfl rfl (fun v2 s3 => ?_)
  refine k1_361 (n := 24) (fun h => ⟨(vlc (sk0 h).2 (vlc trivial vl0)), vs0⟩) dX1_combs_21 rfl rfl rfl (fun v4 s5 _ => ?_)
  exact vv_iret dX1_combs_24 rfl
def X_taps  (u : Nat) (s : Sg) (x1 : Int32) (x2 : Int32) : Option (Int32 × Sg) := (W_becomes s 21 1).bind fun s1 => b2 (X_tapsOne s1 1 x1 x2) fun v2 s3 => b2 (X_counts u s3 v2) fun v4 s5 => some (v4, s5)
theorem con_X_taps (l : Launch) (u : Nat) (s : Sg) (x1 : Int32) (x2 : Int32) : Con l true true eSI yX1_taps cX1_taps 3 5 105 (some .int) s [.ref 0, .int x1, .int x2] (X_taps u s x1 x2) := by
  refine con_of (own := RX1) (mn := "taps") (L := [(0, .ref 0), (1, .int x1), (2, .int x2)]) (by decide) rfl rfl (fun _ _ => Nat.le_of_ble_eq_true rfl) (fun _ _ => rfl) ?_
  unfold X_taps
  refine vv_aload_n (n := 1) dX1_taps_0 rfl 0 rfl ?_
  refine g1_51 (n := 4) dX1_taps_1 rfl ?_
  refine vv_aload_n (n := 5) dX1_taps_4 rfl 0 rfl ?_
  refine g1_12 (n := 8) dX1_taps_5 rfl ?_
  refine k1_314 (n := 11) (skW (Or.inr (Or.inr rfl))) dX1_taps_8 rfl rfl rfl (fun s1 => ?_)
  refine vv_aload_n (n := 12) dX1_taps_11 rfl 0 rfl ?_
  refine vv_aload_n (n := 13) dX1_taps_12 rfl 0 rfl ?_
  refine vv_aload_n (n := 14) dX1_taps_13 rfl 0 rfl ?_
  refine g1_12 (n := 17) dX1_taps_14 rfl ?_
  refine vv_iload_n (n := 18) dX1_taps_17 rfl 1 rfl ?_
  refine vv_iload_n (n := 19) dX1_taps_18 rfl 2 rfl ?_
  refine k1_367 (n := 22) dX1_taps_19 rfl rfl rfl (fun v2 s3 => ?_)
  refine k1_361 (n := 25) (fun h => ⟨(vlc (sk0 h).2 (vlc trivial (vlc trivial vl0))), vs0⟩) dX1_taps_22 rfl rfl rfl (fun v4 s5 _ => ?_)
  exact vv_iret dX1_taps_25 rfl
def X_gives  (u : Nat) (s : Sg) (x1 : Int32) (x2 : Int32) : Option (Int32 × Sg) := (W_becomes s 21 1).bind fun s1 => b2 (X_givesOne s1 1 x1 x2) fun v2 s3 => b2 (X_counts u s3 v2) fun v4 s5 => some (v4, s5)
theorem con_X_gives (l : Launch) (u : Nat) (s : Sg) (x1 : Int32) (x2 : Int32) : Con l true true eSI yX1_gives cX1_gives 3 5 105 (some .int) s [.ref 0, .int x1, .int x2] (X_gives u s x1 x2) := by
  refine con_of (own := RX1) (mn := "gives") (L := [(0, .ref 0), (1, .int x1), (2, .int x2)]) (by decide) rfl rfl (fun _ _ => Nat.le_of_ble_eq_true rfl) (fun _ _ => rfl) ?_
  unfold X_gives
  refine vv_aload_n (n := 1) dX1_gives_0 rfl 0 rfl ?_
  refine g1_51 (n := 4) dX1_gives_1 rfl ?_
  refine vv_aload_n (n := 5) dX1_gives_4 rfl 0 rfl ?_
  refine g1_12 (n := 8) dX1_gives_5 rfl ?_
  refine k1_314 (n := 11) (skW (Or.inr (Or.inr rfl))) dX1_gives_8 rfl rfl rfl (fun s1 => ?_)
  refine vv_aload_n (n := 12) dX1_gives_11 rfl 0 rfl ?_
  refine vv_aload_n (n := 13) dX1_gives_12 rfl 0 rfl ?_
  refine vv_aload_n (n := 14) dX1_gives_13 rfl 0 rfl ?_
  refine g1_12 (n := 17) dX1_gives_14 rfl ?_
  refine vv_iload_n (n := 18) dX1_gives_17 rfl 1 rfl ?_
  refine vv_iload_n (n := 19) dX1_gives_18 rfl 2 rfl ?_
  refine k1_371 (n := 22) dX1_gives_19 rfl rfl rfl (fun v2 s3 => ?_)
  refine k1_361 (n := 25) (fun h => ⟨(vlc (sk0 h).2 (vlc trivial (vlc trivial vl0))), vs0⟩) dX1_gives_22 rfl rfl rfl (fun v4 s5 _ => ?_)
  exact vv_iret dX1_gives_25 rfl
def X_keep_34 (s : Sg) (x1 : Int32) : Option (Int32 × Sg) := (aR s 42 2 x1).bind fun v1 => (v1).bind fun i2 => if Db 1 8 s i2 then (W_becomes s i2 1).bind fun s3 => (tI s3 43 2 x1 (gI s3 0 6)).bind fun s4 => some (1, s4) else none
theorem vc_X_keep_34 (l : Launch)  (s : Sg) (x1 : Int32) : VC l true true eSI cX1_keep RX1 "keep" 2 3 61 (some .boolean) s 34 [(0, .ref 0), (1, .int x1)] [] (X_keep_34 s x1) := by
  unfold X_keep_34
  refine vv_aload_n (n := 35) dX1_keep_34 rfl 0 rfl ?_
  refine g1_104 (n := 38) dX1_keep_35 rfl ?_
  refine vv_iload_n (n := 39) dX1_keep_38 rfl 1 rfl ?_
  refine vv_aald sk42 dX1_keep_39 rfl (fun v1 hv1 => ?_)
  refine vv_aload_n (n := 41) dX1_keep_40 rfl 0 rfl ?_
  refine g1_12 (n := 44) dX1_keep_41 rfl ?_
  refine vv_nn1 (fun i2 hi2 => ?_)
  refine vv_ask (fun hg_i2 => ?_)
  refine k1_314 (n := 47) (fun _ => hg_i2) dX1_keep_44 rfl rfl rfl (fun s3 => ?_)
  refine vv_aload_n (n := 48) dX1_keep_47 rfl 0 rfl ?_
  refine g1_107 (n := 51) dX1_keep_48 rfl ?_
  refine vv_iload_n (n := 52) dX1_keep_51 rfl 1 rfl ?_
  refine vv_aload_n (n := 53) dX1_keep_52 rfl 0 rfl ?_
  refine g1_229 (n := 56) dX1_keep_53 rfl ?_
  refine vv_iast (n := 57) sk43 dX1_keep_56 rfl (fun s4 => ?_)
  refine vv_iconst (n := 58) (v := 1) dX1_keep_57 rfl (by decide) ?_
  exact vv_zret1 dX1_keep_58 rfl rfl
def X_keep  (s : Sg) (x1 : Int32) : Option (Int32 × Sg) := (X_in ((x1 : Int32).toInt64) 0 1).bind fun v1 => if v1 = 0 then (some (0, s)) else ((aR s 42 2 x1).bind fun v2 => ox v2 (lt_ (aw s (1 + 5) 8 8) fun s4 => (some ()).bind fun _ => if stR.length ≤ (gN s) then (some ()).bind fun _ => if (gN s) < gN s4 then (W_init s4 (gN s)).bind fun s6 => (some ()).bind fun _ => if Db 1 8 s6 (gN s) then (tR s6 42 2 x1 (some (gN s))).bind fun s10 => X_keep_34 s10 x1 else none else none else none) (fun i3 => X_keep_34 s x1))
theorem con_X_keep (l : Launch) (s : Sg) (x1 : Int32) : Con l true true eSI yX1_keep cX1_keep 2 3 61 (some .boolean) s [.ref 0, .int x1] (X_keep s x1) := by
  refine con_of (own := RX1) (mn := "keep") (L := [(0, .ref 0), (1, .int x1)]) (by decide) rfl rfl (fun _ _ => Nat.le_of_ble_eq_true rfl) (fun _ _ => rfl) ?_
  unfold X_keep
  refine vv_iload_n (n := 1) dX1_keep_0 rfl 1 rfl ?_
  refine vv_i2l (n := 2) dX1_keep_1 rfl ?_
  refine vv_lconst (n := 3) (v := 0) dX1_keep_2 rfl (by decide) ?_
  refine vv_lconst (n := 4) (v := 1) dX1_keep_3 rfl (by decide) ?_
  refine k1_121 (n := 7) dX1_keep_4 rfl rfl rfl (fun v1 => ?_)
  refine vv_if_ne (tgt := 12) (n := 10) dX1_keep_7 (by decide) rfl ?_ ?_
  · refine vv_aload_n (n := 13) dX1_keep_12 rfl 0 rfl ?_
    refine g1_104 (n := 16) dX1_keep_13 rfl ?_
    refine vv_iload_n (n := 17) dX1_keep_16 rfl 1 rfl ?_
    refine vv_aald sk42 dX1_keep_17 rfl (fun v2 hv2 => ?_)
    refine vv_ifnonnull (tgt := 34) (n := 21) dX1_keep_18 (by decide) rfl (fun hi3 => ?_) (fun i3 hi3 => ?_)
    · subst hi3
      refine vv_aload_n (n := 22) dX1_keep_21 rfl 0 rfl ?_
      refine g1_104 (n := 25) dX1_keep_22 rfl ?_
      refine vv_iload_n (n := 26) dX1_keep_25 rfl 1 rfl ?_
      refine nw1_9 (n := 29) (fun h => ⟨(vlc (sk0 h).2 (vlc trivial vl0)), (vsc trivial (vsc (sk42 h).2 vs0))⟩) dX1_keep_26 rfl (fun s4 hN5 => ?_)
      refine vv_dup (n := 30) dX1_keep_29 rfl rfl ?_
      refine vv_ask (fun hl7 => ?_)
      refine vv_ask (fun ho8 => ?_)
      refine kc1_11 (n := 33) hl7 (fun h => ⟨(vlc (sk0 h).2 (vlc trivial vl0)), (vsc ho8 (vsc trivial (vsc (sk42 h).2 vs0)))⟩) dX1_keep_30 rfl rfl rfl (fun s6 _ => ?_)
      refine vv_ask (fun hw9 => ?_)
      refine vv_aast (n := 34) (v := (some (gN s))) sk42 (fun _ j e => by cases e; exact hw9) (fun _ => rfl) dX1_keep_33 rfl (fun s10 => ?_)
      exact VC.sub [0, 1] rfl (vc_X_keep_34 l s10 x1)
    · subst hi3
      exact VC.sub [0, 1] rfl (vc_X_keep_34 l s x1)
  · refine vv_iconst (n := 11) (v := 0) dX1_keep_10 rfl (by decide) ?_
    exact vv_zret1 dX1_keep_11 rfl rfl
