/-! Strings: constants and made ones; indexOf -/
section STR
variable {β : Type} {l : Launch} {fo al : Bool} {ek : β → Option Value × Sg} {cc : ByteArray} {own mn : String} {nL fr lo : Nat} {rt : Option FieldType} {s : Sg} {pc n : Nat} {L : List (Nat × Value)} {st : List Value} {body : Option β}
/-- a value that is a reference, whatever the addresses -/
def isR (v : Value) : Prop := ∀ (E : Ex) (ad : Nat → Nat), ∃ a, iv E ad v = .ref a
theorem isR_c (k : Nat) : isR (.retAddr k) := fun _ _ => ⟨_, rfl⟩
theorem isR_r (i : Nat) : isR (.ref i) := fun _ _ => ⟨_, rfl⟩
theorem vv_aloadv_n {i : Fin 4} {v : Value} (hv : isR v) (hd : decode cc pc = .ok (.aload_n i, 1)) (hn : pc + 1 = n) (j : Nat) (hl : L[j]? = some ((i : Nat), v)) (kk : VC l fo al ek cc own mn nL fr lo rt s n L (v :: st) body) : VC l fo al ek cc own mn nL fr lo rt s pc L st body :=
  VC.go (fun {D cA E A p e R st0 m args below meth c Q ad H locs cells slots ls} hM hL _ k => by
    subst hn
    obtain ⟨a, ha⟩ := hv E ad
    have h1 := Lm_at hL hl
    rw [ha] at h1
    rw [List.map_cons, ha] at k
    exact lv_aload_n hM.1 hM.2.1 hd rfl h1 k) kk
/-- a byte array that can be read: a constant's, or one of the store -/
def RB (s : Sg) (v : Value) (N : Nat) (f : Nat → Int32) : Prop := N < 2147483648 ∧ ((∃ c, c < 8 ∧ v = .retAddr (8 + c) ∧ N = stLen.getD c 0 ∧ f = fun j => (stByt.getD c []).getD j 0) ∨ ∃ a, v = .ref a ∧ gK s a = (2, N) ∧ a < gN s ∧ f = gI s a)
/-- a String that can be read, its byte array -/
def RS (s : Sg) (v vb : Value) (N : Nat) (f : Nat → Int32) : Prop := N < 2147483648 ∧ ((∃ c, c < 8 ∧ v = .retAddr c ∧ vb = .retAddr (8 + c) ∧ N = stLen.getD c 0 ∧ f = fun j => (stByt.getD c []).getD j 0) ∨ ∃ i a, v = .ref i ∧ vb = .ref a ∧ (gK s i = (7 + 5, 4) ∧ i < gN s) ∧ gI s i 1 = 0 ∧ gR s i 0 = some a ∧ gK s a = (2, N) ∧ a < gN s ∧ f = gI s a)
theorem RS.b {v vb : Value} {N : Nat} {f : Nat → Int32} (h : RS s v vb N f) : RB s vb N f := by
  obtain ⟨h0, h⟩ := h
  refine ⟨h0, ?_⟩
  rcases h with ⟨c, a1, a2, a3, a4, a5⟩ | ⟨i, a, a1, a2, a3, a4, a5, a6, a7, a8⟩
  · exact Or.inl ⟨c, a1, a3, a4, a5⟩
  · exact Or.inr ⟨a, a2, a6, a7, a8⟩
theorem RB.r {v : Value} {N : Nat} {f : Nat → Int32} (h : RB s v N f) : isR v := by
  obtain ⟨-, ⟨c, -, rfl, -⟩ | ⟨a, rfl, -⟩⟩ := h
  · exact isR_c _
  · exact isR_r _
theorem RS.r {v vb : Value} {N : Nat} {f : Nat → Int32} (h : RS s v vb N f) : isR v := by
  obtain ⟨-, ⟨c, -, rfl, -⟩ | ⟨i, a, rfl, -⟩⟩ := h
  · exact isR_c _
  · exact isR_r _
theorem cd7 : CD 7 RJ1 TJ1 4 := ⟨rfl, in_J1⟩
theorem iv_c0 (E : Ex) (ad : Nat → Nat) {c : Nat} (h : c < 8) : iv E ad (.retAddr c) = .ref (E.1 c) := by
  show Value.ref (if c < 8 then E.1 c else E.2.1 (c - 8)) = _
  rw [if_pos h]
theorem iv_c8 (E : Ex) (ad : Nat → Nat) (c : Nat) : iv E ad (.retAddr (8 + c)) = .ref (E.2.1 c) := by
  show Value.ref (if 8 + c < 8 then E.1 (8 + c) else E.2.1 (8 + c - 8)) = _
  rw [if_neg (by omega), Nat.add_sub_cancel_left]
theorem vs_value {v vb : Value} {N : Nat} {f : Nat → Int32} (hR : RS s v vb N f) (hd : decode cc pc = .ok (.getfield 9, 3)) (hn : pc + 3 = n) (kk : VC l fo al ek cc RJ1 mn nL fr lo rt s n L (vb :: st) body) : VC l fo al ek cc RJ1 mn nL fr lo rt s pc L (v :: st) body := by
  obtain ⟨-, ⟨c, a1, rfl, rfl, -⟩ | ⟨i, a, rfl, rfl, a3, a4, a5, a6, a7, a8⟩⟩ := hR
  · refine VC.gw (fun {D cA E A p e R st0 m args below meth c0 Q ad0 n0 ad H locs cells slots ls} hok hM hW hL _ k => ?_) kk
    subst hn
    rw [List.map_cons, iv_c8] at k
    rw [List.map_cons, iv_c0 E ad a1]
    exact vk_getf hM.ex hM.by_ (hM.xt.1.1 c a1).2.2.1 hW.2.2.1 hM.ow (hM.ts _ q502) (fun _ h => h) hd k
  · exact vv_getS (ci := 7) (k := 0) (r := a) (T := TJ1) cd7 (by decide) rfl (fun _ => a3) (fun _ => a5) (Or.inl q502) hd hn kk
theorem vs_coder {v vb : Value} {N : Nat} {f : Nat → Int32} (hR : RS s v vb N f) (hd : decode cc pc = .ok (.getfield 15, 3)) (hn : pc + 3 = n) (kk : VC l fo al ek cc RJ1 mn nL fr lo rt s n L (.int 0 :: st) body) : VC l fo al ek cc RJ1 mn nL fr lo rt s pc L (v :: st) body := by
  obtain ⟨-, ⟨c, a1, rfl, rfl, -⟩ | ⟨i, a, rfl, rfl, a3, a4, a5, a6, a7, a8⟩⟩ := hR
  · refine VC.gw (fun {D cA E A p e R st0 m args below meth c0 Q ad0 n0 ad H locs cells slots ls} hok hM hW hL _ k => ?_) kk
    subst hn
    rw [List.map_cons, iv_c0 E ad a1]
    exact vk_getf hM.ex hM.by_ (hM.xt.1.1 c a1).2.1 hW.2.2.1 hM.ow (hM.ts _ q503) (fun _ h => h) hd k
  · refine vv_getI (ci := 7) (k := 1) (T := TJ1) cd7 (by decide) rfl (fun _ => a3) (Or.inl q503) hd hn ?_
    rw [a4]
    exact kk
theorem vs_len {v : Value} {N : Nat} {f : Nat → Int32} (hR : RB s v N f) (hd : decode cc pc = .ok (.arraylength, 1)) (hn : pc + 1 = n) (kk : VC l fo al ek cc own mn nL fr lo rt s n L (.int (nI N) :: st) body) : VC l fo al ek cc own mn nL fr lo rt s pc L (v :: st) body := by
  obtain ⟨-, ⟨c, a1, rfl, rfl, -⟩ | ⟨a, rfl, a6, a7, a8⟩⟩ := hR
  · refine VC.gw (fun {D cA E A p e R st0 m args below meth c0 Q ad0 n0 ad H locs cells slots ls} hok hM hW hL _ k => ?_) kk
    subst hn
    rw [List.map_cons, iv_c8]
    exact va_tlen hM.ex hM.by_ (hM.xt.1.1 c a1).2.2.2 hW.2.2.1 rfl hd k
  · refine VC.gw (fun {D cA E A p e R st0 m args below meth c0 Q ad0 n0 ad H locs cells slots ls} hok hM hW hL _ k => ?_) kk
    subst hn
    exact va_alen hM.ex hM.by_ hM.kk hW.1 a 2 (at_2 ⟨a6, a7⟩) rfl rfl hd k
theorem vs_bald {v : Value} {N j : Nat} {f : Nat → Int32} (hR : RB s v N f) (hj : j < N) (hd : decode cc pc = .ok (.baload, 1)) (hn : pc + 1 = n) (kk : VC l fo al ek cc own mn nL fr lo rt s n L (.int (f j) :: st) body) : VC l fo al ek cc own mn nL fr lo rt s pc L (.int (nI j) :: v :: st) body := by
  obtain ⟨h0, hR⟩ := hR
  have hin : vp_in (nI j) N := vp_in_nI hj (by omega)
  have hcl : (nI j).toNatClampNeg = j := nI_clamp (by omega)
  rcases hR with ⟨c, a1, rfl, e1, e2⟩ | ⟨a, rfl, a6, a7, e2⟩
  · refine VC.gw (fun {D cA E A p e R st0 m args below meth c0 Q ad0 n0 ad H locs cells slots ls} hok hM hW hL _ k => ?_) kk
    subst hn
    subst e1
    subst e2
    rw [List.map_cons, List.map_cons, iv_c8]
    exact va_tb hM.ex hM.by_ (hM.xt.1.1 c a1).2.2.2 hW.2.2.1 hin (by rw [hcl]; rfl) hd k
  · refine VC.gw (fun {D cA E A p e R st0 m args below meth c0 Q ad0 n0 ad H locs cells slots ls} hok hM hW hL _ k => ?_) kk
    subst hn
    subst e2
    refine va_bald hM.ex hM.by_ hM.kk hW.1 a 2 (at_2 ⟨a6, a7⟩) rfl hin hd ?_
    rw [hcl]
    exact k
theorem vs_compact {idx : Nat} (hl : Cond.fieldLink own idx "java/lang/String" "COMPACT_STRINGS" "Z" ∈ lw_all) (hd : decode cc pc = .ok (.getstatic idx, 3)) (hn : pc + 3 = n) (kk : VC l fo al ek cc own mn nL fr lo rt s n L (.int 1 :: st) body) : VC l fo al ek cc own mn nL fr lo rt s pc L st body :=
  VC.gw (fun hok hM hW hL _ k => by
    subst hn
    exact va_gets hM.ex hM.by_ hM.xt.2.1 hW.2.2.1 hM.ow (hM.ts _ hl) (fun _ h => h) hd k) kk
/-- a String constant -/
theorem vs_ldc {c idx : Nat} {tx : String} (hc : c < 8) (hz : ∀ (E : Ex) (U : State), SR E U → vk_R own idx tx (E.1 c) U) (hd : decode cc pc = .ok (.ldc idx, 2)) (hn : pc + 2 = n) (kk : VC l fo al ek cc own mn nL fr lo rt s n L (.retAddr c :: st) body) : VC l fo al ek cc own mn nL fr lo rt s pc L st body :=
  VC.gw (fun {D cA E A p e R st0 m args below meth c0 Q ad0 n0 ad H locs cells slots ls} hok hM hW hL _ k => by
    subst hn
    rw [List.map_cons, iv_c0 E ad hc] at k
    exact va_ldcS hM.ex hM.by_ hM.ow (hz E st0 hM.sr) hd k) kk
theorem vs_ldcw {c idx : Nat} {tx : String} (hc : c < 8) (hz : ∀ (E : Ex) (U : State), SR E U → vk_R own idx tx (E.1 c) U) (hd : decode cc pc = .ok (.ldc_w idx, 3)) (hn : pc + 3 = n) (kk : VC l fo al ek cc own mn nL fr lo rt s n L (.retAddr c :: st) body) : VC l fo al ek cc own mn nL fr lo rt s pc L st body :=
  VC.gw (fun {D cA E A p e R st0 m args below meth c0 Q ad0 n0 ad H locs cells slots ls} hok hM hW hL _ k => by
    subst hn
    rw [List.map_cons, iv_c0 E ad hc] at k
    have hZ := hz E st0 hM.sr
    intro T hT X
    obtain ⟨t, a1, b1⟩ := k T hT X
    exact ⟨t, Stand.ldcStringW X hM.ex hM.ow (text := tx) (a := E.1 c) hZ.1 hZ.2 (g := F0 m pc ls (st.map (iv E ad))) rfl (by rw [hM.by_]; exact hd) t a1, b1⟩) kk
end STR
section STRC
variable {β γ : Type} {l : Launch} {fo al : Bool} {ek : β → Option Value × Sg} {cc : ByteArray} {own mn : String} {nL fr lo : Nat} {rt : Option FieldType} {s : Sg} {pc n : Nat} {L : List (Nat × Value)} {rest : List Value}
/-- a virtual call on a String -/
theorem vs_call {fo' al' : Bool} {ek' : γ → Option Value × Sg} {y : MethodName} {cc' : ByteArray} {nL' fr' lo' idx ar N : Nat} {v vb : Value} {f0 : Nat → Int32} {rt' : Option FieldType} {st av : List Value} {body' : Option γ} {f : γ → Option β} (hR : RS s v vb N f0) (hc : Con l fo' al' ek' y cc' nL' fr' lo' rt' s (v :: av) body') (hfo : fo = true → fo' = true) (hfo2 : fo' = true → fo = true)
    (hal : al' = true → al = true) (hLk : al' = true → Ok fo s → (∀ q ∈ L, vok (gN s) q.2) ∧ ∀ v ∈ rest, vok (gN s) v) (hd : decode cc pc = .ok (.invokevirtual idx, 3)) (hn : pc + 3 = n) (hst : st = av.reverse ++ v :: rest) (hcat : (rest.map fun v => v.category).sum ≤ 8) (hroom : fr' + 1 ≤ fr ∧ 8 + (nL' + 11) + lo' ≤ lo)
    (hw : GoodIn lw_all (wsV own idx RJ1 y (ws_ y cc' nL' rt'))) (har : av.length = ar) (ha : y.cls = RJ1 ∧ y.cls ≠ "java/lang/invoke/MethodHandle" ∧ y.cls ≠ "java/lang/invoke/VarHandle" ∧ (parseMethodDescriptor y.desc).map (fun d => d.parameters.length) = some ar)
    (kk : ∀ b, body' = some b → Up s (ek' b).2 → VC l fo al ek cc own mn nL fr lo rt (ek' b).2 n L ((ek' b).1.toList ++ rest) (f b)) : VC l fo al ek cc own mn nL fr lo rt s pc L st (body'.bind f) := by
  refine VC.call hc hfo hfo2 hal hLk hn (fun {D cA E A p e R s0 m args below meth c ad H locs cells slots mc ms ls Qc free} hok hM hP hS3 hL hMet hpre hf => ?_) kk
  subst har
  have h1 := hM.fr_
  have h2 := hM.lo_
  have hcw := cwV av.length hM.ts hw rfl (rm := { frames := fr', cells := mc, slots := ms, locals := lo' }) (mc := mc) (ms := ms) (R := R) rfl rfl ha ⟨Nat.le_trans hroom.1 h1, Nat.le_trans hroom.2 h2⟩
  obtain ⟨-, ⟨c0, a1, rfl, rfl, -⟩ | ⟨i, a, rfl, rfl, a3, -⟩⟩ := hR
  · rw [List.map_cons, iv_c0 E ad a1] at hpre ⊢
    exact va_runV ⟨hM.ex, hM.by_, hM.ml, hM.ow, hM.ts⟩ hMet hcw ⟨PcE_blind, vk_recv hM.xt.1 a1 hS3, hpre⟩ rfl (by rw [List.length_map]) hL.1 (by rw [hst, List.map_append, List.map_reverse, List.map_cons, iv_c0 E ad a1]) (rest_cat hcat) hd hf
  · have he : (wsE cA ad s)[i]? = some (ad i, .inr (7, (List.range 4).map (fdv 7 ad (gI s i) (gR s i)))) := by rw [wsE_at a3.2, cel_obj a3.1]
    exact va_runV ⟨hM.ex, hM.by_, hM.ml, hM.ow, hM.ts⟩ hMet hcw ⟨PcE_blind, va_recv hM.kk hP (ci := 7) rfl he, hpre⟩ rfl (by rw [List.length_map]) hL.1 (by rw [hst, List.map_append, List.map_reverse]; rfl) (rest_cat hcat) hd hf
end STRC
/-! the JDK's walks: coder, isLatin1, length, canEncode, indexOf -/
theorem con_S_coder (l : Launch) (s : Sg) {v vb : Value} {N : Nat} {f : Nat → Int32} (hR : RS s v vb N f) : Con l true false (eRI s) yJ1_coder cJ1_coder 1 0 0 (some .byte) s [v] (some 0) := by
  refine con_of (own := RJ1) (mn := "coder") (L := [(0, v)]) (by decide) rfl rfl ?_ ?_ ?_
  · intro E ad
    obtain ⟨a, ha⟩ := hR.r E ad
    show (lg_sl [iv E ad v]).length ≤ 1
    rw [ha]
    exact Nat.le_refl _
  · intro E ad
    obtain ⟨a, ha⟩ := hR.r E ad
    show lv_args 0 [iv E ad v] = [(0, iv E ad v)]
    rw [ha]
    rfl
  rw [show (some (0 : Int32)) = (if (1 : Int32) = 0 then none else some 0) from rfl]
  refine vs_compact (n := 3) q386 dJ1_coder_0 rfl ?_
  refine vv_if_eq (tgt := 13) (n := 6) dJ1_coder_3 (by decide) rfl VC.non ?_
  refine vv_aloadv_n (n := 7) hR.r dJ1_coder_6 rfl 0 rfl ?_
  refine vs_coder (n := 10) hR dJ1_coder_7 rfl ?_
  refine vv_goto (n := 14) dJ1_coder_10 (by decide) ?_
  exact vv_ret (r := some (.int 0)) dJ1_coder_14 rfl ⟨.byte, rfl, rfl⟩
theorem con_S_isLatin1 (l : Launch) (s : Sg) {v vb : Value} {N : Nat} {f : Nat → Int32} (hR : RS s v vb N f) : Con l true false (eRI s) yJ1_isLatin1 cJ1_isLatin1 1 0 0 (some .boolean) s [v] (some 1) := by
  refine con_of (own := RJ1) (mn := "isLatin1") (L := [(0, v)]) (by decide) rfl rfl ?_ ?_ ?_
  · intro E ad
    obtain ⟨a, ha⟩ := hR.r E ad
    show (lg_sl [iv E ad v]).length ≤ 1
    rw [ha]
    exact Nat.le_refl _
  · intro E ad
    obtain ⟨a, ha⟩ := hR.r E ad
    show lv_args 0 [iv E ad v] = [(0, iv E ad v)]
    rw [ha]
    rfl
  rw [show (some (1 : Int32)) = (if (1 : Int32) = 0 then none else (if (0 : Int32) = 0 then some 1 else none)) from rfl]
  refine vs_compact (n := 3) q386 dJ1_isLatin1_0 rfl ?_
  refine vv_if_eq (tgt := 17) (n := 6) dJ1_isLatin1_3 (by decide) rfl VC.non ?_
  refine vv_aloadv_n (n := 7) hR.r dJ1_isLatin1_6 rfl 0 rfl ?_
  refine vs_coder (n := 10) hR dJ1_isLatin1_7 rfl ?_
  refine vv_if_ne (tgt := 17) (n := 13) dJ1_isLatin1_10 (by decide) rfl VC.non ?_
  refine vv_iconst (n := 14) (v := 1) dJ1_isLatin1_13 rfl (by decide) ?_
  refine vv_goto (n := 18) dJ1_isLatin1_14 (by decide) ?_
  exact vv_zret1 dJ1_isLatin1_18 rfl rfl
theorem con_S_length (l : Launch) (s : Sg) {v vb : Value} {N : Nat} {f : Nat → Int32} (hR : RS s v vb N f) : Con l true false (eRI s) yJ1_length cJ1_length 1 1 20 (some .int) s [v] (some (nI N)) := by
  refine con_of (own := RJ1) (mn := "length") (L := [(0, v)]) (by decide) rfl rfl ?_ ?_ ?_
  · intro E ad
    obtain ⟨a, ha⟩ := hR.r E ad
    show (lg_sl [iv E ad v]).length ≤ 1
    rw [ha]
    exact Nat.le_refl _
  · intro E ad
    obtain ⟨a, ha⟩ := hR.r E ad
    show lv_args 0 [iv E ad v] = [(0, iv E ad v)]
    rw [ha]
    rfl
  rw [show (some (nI N)) = ((some (0 : Int32)).bind fun z => some (nI N >>> (z &&& 31))) from by rw [Option.bind_some, sb_shr0]]
  refine vv_aloadv_n (n := 1) hR.r dJ1_length_0 rfl 0 rfl ?_
  refine vs_value (n := 4) hR dJ1_length_1 rfl ?_
  refine vs_len (n := 5) hR.b dJ1_length_4 rfl ?_
  refine vv_aloadv_n (n := 6) hR.r dJ1_length_5 rfl 0 rfl ?_
  refine vs_call (n := 9) (ar := 0) (av := []) hR (con_S_coder l s hR) (fun h => h) (fun h => h) (fun h => by cases h) (fun h => by cases h) dJ1_length_6 rfl rfl (Nat.le_of_ble_eq_true rfl) ⟨Nat.le_of_ble_eq_true rfl, Nat.le_of_ble_eq_true rfl⟩ (lw_V q392 q393 q394 q101 q395) rfl (by decide +kernel) (fun z _ _ => ?_)
  refine vv_ishr (n := 10) dJ1_length_9 rfl ?_
  exact vv_iret dJ1_length_10 rfl
def S_canEncode (x : Int32) : Option Int32 := if x < 0 then some 0 else if 255 < x then some 0 else some 1
theorem con_S_canEncode (l : Launch) (s : Sg) (x : Int32) : Con l true false (eRI s) yJ2_canEncode cJ2_canEncode 1 0 0 (some .boolean) s [.int x] (S_canEncode x) := by
  refine con_of (own := RJ2) (mn := "canEncode") (L := [(0, .int x)]) (by decide) rfl rfl (fun _ _ => Nat.le_of_ble_eq_true rfl) (fun _ _ => rfl) ?_
  unfold S_canEncode
  have h15 : VC l true false (eRI s) cJ2_canEncode RJ2 "canEncode" 1 0 0 (some .boolean) s 15 [(0, .int x)] [] (some 0) := by
    refine vv_iconst (n := 16) (v := 0) dJ2_canEncode_15 rfl (by decide) ?_
    exact vv_zret1 dJ2_canEncode_16 rfl rfl
  refine vv_iload_n (n := 1) dJ2_canEncode_0 rfl 0 rfl ?_
  refine vv_if_lt (tgt := 15) (n := 4) dJ2_canEncode_1 (by decide) rfl h15 ?_
  refine vv_iload_n (n := 5) dJ2_canEncode_4 rfl 0 rfl ?_
  refine vv_sipush (n := 8) (v := 255) dJ2_canEncode_5 rfl (by decide) ?_
  refine vv_icmp_gt (tgt := 15) (n := 11) dJ2_canEncode_8 (by decide) rfl h15 ?_
  refine vv_iconst (n := 12) (v := 1) dJ2_canEncode_11 rfl (by decide) ?_
  refine vv_goto (n := 16) dJ2_canEncode_12 (by decide) ?_
  exact vv_zret1 dJ2_canEncode_16 rfl rfl
/-- the first place from j on, of n places, that holds b -/
def ixL (f : Nat → Int32) (b : Int32) : Nat → Nat → Int32
  | 0, _ => -1
  | n + 1, j => if f j = b then nI j else ixL f b n (j + 1)
theorem vc_S_ic (l : Launch) (s : Sg) {v : Value} {N : Nat} {f : Nat → Int32} (hB : RB s v N f) (x1 : Int32) (n : Nat) : ∀ (j : Nat), j + n = N → VC l true false (eRI s) cJ2_indexOfChar RJ2 "indexOfChar" 6 0 0 (some .int) s 7 [(5, .int (nI j)), (4, .int x1.toInt8.toInt32), (0, v), (3, .int (nI N))] [] (some (ixL f x1.toInt8.toInt32 n j)) := by
  have hN := hB.1
  induction n with
  | zero =>
    intro j hj
    have e : j = N := by omega
    subst e
    rw [show some (ixL f x1.toInt8.toInt32 0 j) = (if nI j ≤ nI j then some (-1) else none) from by rw [if_pos (nI_le (Nat.le_refl j) hN)]; rfl]
    refine vv_iload (n := 9) dJ2_indexOfChar_7 rfl 0 rfl ?_
    refine vv_iload_n (n := 10) dJ2_indexOfChar_9 rfl 3 rfl ?_
    refine vv_icmp_ge (tgt := 31) (n := 13) dJ2_indexOfChar_10 (by decide) rfl ?_ VC.non
    refine vv_iconst (n := 32) (v := (-1)) dJ2_indexOfChar_31 rfl (by decide) ?_
    exact vv_iret dJ2_indexOfChar_32 rfl
  | succ n ih =>
    intro j hj
    rw [show some (ixL f x1.toInt8.toInt32 (n + 1) j) = (if nI N ≤ nI j then none else (if f j = x1.toInt8.toInt32 then some (nI j) else some (ixL f x1.toInt8.toInt32 n (j + 1)))) from by
      rw [if_neg (nI_ge (by omega) hN)]
      show some (if f j = x1.toInt8.toInt32 then nI j else ixL f x1.toInt8.toInt32 n (j + 1)) = _
      by_cases h : f j = x1.toInt8.toInt32
      · rw [if_pos h, if_pos h]
      · rw [if_neg h, if_neg h]]
    refine vv_iload (n := 9) dJ2_indexOfChar_7 rfl 0 rfl ?_
    refine vv_iload_n (n := 10) dJ2_indexOfChar_9 rfl 3 rfl ?_
    refine vv_icmp_ge (tgt := 31) (n := 13) dJ2_indexOfChar_10 (by decide) rfl VC.non ?_
    refine vv_aloadv_n (n := 14) hB.r dJ2_indexOfChar_13 rfl 2 rfl ?_
    refine vv_iload (n := 16) dJ2_indexOfChar_14 rfl 0 rfl ?_
    refine vs_bald (n := 17) hB (by omega) dJ2_indexOfChar_16 rfl ?_
    refine vv_iload (n := 19) dJ2_indexOfChar_17 rfl 1 rfl ?_
    refine vv_icmp_ne (tgt := 25) (n := 22) dJ2_indexOfChar_19 (by decide) rfl ?_ ?_
    · obtain ⟨a, ha⟩ : ∃ a : Nat, v.category = 1 := ⟨0, by obtain ⟨-, ⟨c, -, rfl, -⟩ | ⟨a, rfl, -⟩⟩ := hB <;> rfl⟩
      refine vv_iinc (n := 28) (v := 1) (L' := [(5, .int (nI j + 1)), (4, .int x1.toInt8.toInt32), (0, v), (3, .int (nI N))]) dJ2_indexOfChar_25 rfl 0 rfl (by decide) (Nat.le_of_ble_eq_true rfl) rfl ?_
      refine vv_goto (n := 7) dJ2_indexOfChar_28 (by decide) ?_
      rw [nI_1]
      exact ih (j + 1) (by omega)
    · refine vv_iload (n := 24) dJ2_indexOfChar_22 rfl 0 rfl ?_
      exact vv_iret dJ2_indexOfChar_24 rfl
theorem con_S_indexOfChar (l : Launch) (s : Sg) {v : Value} {N : Nat} {f : Nat → Int32} (hB : RB s v N f) (x1 : Int32) : Con l true false (eRI s) yJ2_indexOfChar cJ2_indexOfChar 6 0 0 (some .int) s [v, .int x1, .int 0, .int (nI N)] (some (ixL f x1.toInt8.toInt32 N 0)) := by
  have hcat : v.category = 1 := by obtain ⟨-, ⟨c, -, rfl, -⟩ | ⟨a, rfl, -⟩⟩ := hB <;> rfl
  refine con_of (own := RJ2) (mn := "indexOfChar") (L := [(0, v), (1, .int x1), (2, .int 0), (3, .int (nI N))]) (by decide) rfl rfl ?_ ?_ ?_
  · intro E ad
    obtain ⟨a, ha⟩ := hB.r E ad
    show (lg_sl (iv E ad v :: _)).length ≤ 6
    rw [ha]
    exact Nat.le_of_ble_eq_true rfl
  · intro E ad
    obtain ⟨a, ha⟩ := hB.r E ad
    show lv_args 0 (iv E ad v :: _) = (0, iv E ad v) :: _
    rw [ha]
    rfl
  refine vv_iload_n (n := 1) dJ2_indexOfChar_0 rfl 1 rfl ?_
  refine vv_i2b (n := 2) dJ2_indexOfChar_1 rfl ?_
  refine vv_istore (n := 4) (L' := [(4, .int x1.toInt8.toInt32), (0, v), (1, .int x1), (2, .int 0), (3, .int (nI N))]) dJ2_indexOfChar_2 rfl (Nat.le_of_ble_eq_true rfl) rfl ?_
  refine vv_iload_n (n := 5) dJ2_indexOfChar_4 rfl 3 rfl ?_
  refine vv_istore (n := 7) (L' := [(5, .int 0), (4, .int x1.toInt8.toInt32), (0, v), (1, .int x1), (2, .int 0), (3, .int (nI N))]) dJ2_indexOfChar_5 rfl (Nat.le_of_ble_eq_true rfl) rfl ?_
  exact VC.sub [0, 1, 2, 5] rfl (vc_S_ic l s hB x1 N 0 (by omega))
def ixB (N : Nat) (f : Nat → Int32) (x : Int32) : Int32 := if x < 0 then -1 else if 255 < x then -1 else ixL f x.toInt8.toInt32 N 0
theorem con_S_indexOf4 (l : Launch) (s : Sg) {v : Value} {N : Nat} {f : Nat → Int32} (hB : RB s v N f) (x1 : Int32) : Con l true false (eRI s) yJ2_indexOf cJ2_indexOf 4 1 40 (some .int) s [v, .int x1, .int 0, .int (nI N)] (some (ixB N f x1)) := by
  have hN := hB.1
  refine con_of (own := RJ2) (mn := "indexOf") (L := [(0, v), (1, .int x1), (2, .int 0), (3, .int (nI N))]) (by decide) rfl rfl ?_ ?_ ?_
  · intro E ad
    obtain ⟨a, ha⟩ := hB.r E ad
    show (lg_sl (iv E ad v :: _)).length ≤ 4
    rw [ha]
    exact Nat.le_of_ble_eq_true rfl
  · intro E ad
    obtain ⟨a, ha⟩ := hB.r E ad
    show lv_args 0 (iv E ad v :: _) = (0, iv E ad v) :: _
    rw [ha]
    rfl
  rw [show some (ixB N f x1) = ((S_canEncode x1).bind fun z => if z = 0 then some (-1) else (if (0 : Int32) < nI N then ((some (ixL f x1.toInt8.toInt32 N 0)).bind fun r => some r) else some (-1))) from by
    unfold ixB S_canEncode
    by_cases h1 : x1 < 0
    · rw [if_pos h1, if_pos h1]; rfl
    · rw [if_neg h1, if_neg h1]
      by_cases h2 : 255 < x1
      · rw [if_pos h2, if_pos h2]; rfl
      · rw [if_neg h2, if_neg h2]
        show _ = (if (0 : Int32) < nI N then some (ixL f x1.toInt8.toInt32 N 0) else some (-1))
        by_cases h3 : 0 < N
        · rw [if_pos (by rw [← nI_0]; exact nI_lt h3 hN)]
        · have h4 : N = 0 := by omega
          subst h4
          rw [if_neg (by rw [← nI_0]; exact nI_nlt (Nat.le_refl 0) (by decide))]
          rfl]
  refine vv_iload_n (n := 1) dJ2_indexOf_0 rfl 1 rfl ?_
  refine vv_callS (n := 4) (ar := 1) (av := [.int x1]) (rest := []) (con_S_canEncode l s x1) (fun h => h) (fun h => h) (fun h => by cases h) (fun h => by cases h) dJ2_indexOf_1 rfl rfl (Nat.le_of_ble_eq_true rfl) ⟨Nat.le_of_ble_eq_true rfl, Nat.le_of_ble_eq_true rfl⟩ (lw_S q399 q400 q102 q401) rfl (by decide +kernel) (fun z _ _ => ?_)
  show VC l true false (eRI s) cJ2_indexOf RJ2 "indexOf" 4 1 40 (some .int) s 4 [(0, v), (1, .int x1), (2, .int 0), (3, .int (nI N))] [.int z] _
  refine vv_if_ne (tgt := 9) (n := 7) dJ2_indexOf_4 (by decide) rfl ?_ ?_
  · refine vv_iload_n (n := 10) dJ2_indexOf_9 rfl 2 rfl ?_
    refine vv_iconst (n := 11) (v := 0) dJ2_indexOf_10 rfl (by decide) ?_
    refine vv_mmax (n := 14) q402 q403 q100 q404 ⟨Nat.le_of_ble_eq_true rfl, Nat.le_of_ble_eq_true rfl⟩ (Nat.le_of_ble_eq_true rfl) dJ2_indexOf_11 rfl ?_
    rw [show mx 0 0 = 0 from by decide]
    have hcat : v.category = 1 := by obtain ⟨-, ⟨c, -, rfl, -⟩ | ⟨a, rfl, -⟩⟩ := hB <;> rfl
    refine vv_istore_n (n := 15) (L' := [(2, .int 0), (0, v), (1, .int x1), (3, .int (nI N))]) dJ2_indexOf_14 rfl (Nat.le_of_ble_eq_true rfl) rfl ?_
    refine vv_iload_n (n := 16) dJ2_indexOf_15 rfl 3 rfl ?_
    refine vv_aloadv_n (n := 17) hB.r dJ2_indexOf_16 rfl 1 rfl ?_
    refine vs_len (n := 18) hB dJ2_indexOf_17 rfl ?_
    refine vv_mmin (n := 21) q405 q345 q100 q346 ⟨Nat.le_of_ble_eq_true rfl, Nat.le_of_ble_eq_true rfl⟩ (Nat.le_of_ble_eq_true rfl) dJ2_indexOf_18 rfl ?_
    rw [show mi (nI N) (nI N) = nI N from by unfold mi; by_cases h : nI N < nI N <;> simp [h]]
    refine vv_istore_n (n := 22) (L' := [(3, .int (nI N)), (2, .int 0), (0, v), (1, .int x1)]) dJ2_indexOf_21 rfl (Nat.le_of_ble_eq_true rfl) rfl ?_
    refine vv_iload_n (n := 23) dJ2_indexOf_22 rfl 1 rfl ?_
    refine vv_iload_n (n := 24) dJ2_indexOf_23 rfl 0 rfl ?_
    refine vv_icmp_lt (tgt := 29) (n := 27) dJ2_indexOf_24 (by decide) rfl ?_ ?_
    · refine vv_aloadv_n (n := 30) hB.r dJ2_indexOf_29 rfl 2 rfl ?_
      refine vv_iload_n (n := 31) dJ2_indexOf_30 rfl 3 rfl ?_
      refine vv_iload_n (n := 32) dJ2_indexOf_31 rfl 1 rfl ?_
      refine vv_iload_n (n := 33) dJ2_indexOf_32 rfl 0 rfl ?_
      refine vv_callS (n := 36) (ar := 4) (av := [v, .int x1, .int 0, .int (nI N)]) (rest := []) (con_S_indexOfChar l s hB x1) (fun h => h) (fun h => h) (fun h => by cases h) (fun h => by cases h) dJ2_indexOf_33 rfl rfl (Nat.le_of_ble_eq_true rfl) ⟨Nat.le_of_ble_eq_true rfl, Nat.le_of_ble_eq_true rfl⟩ (lw_S q406 q407 q102 q408) rfl (by decide +kernel) (fun r _ _ => ?_)
      exact vv_iret dJ2_indexOf_36 rfl
    · refine vv_iconst (n := 28) (v := (-1)) dJ2_indexOf_27 rfl (by decide) ?_
      exact vv_iret dJ2_indexOf_28 rfl
  · refine vv_iconst (n := 8) (v := (-1)) dJ2_indexOf_7 rfl (by decide) ?_
    exact vv_iret dJ2_indexOf_8 rfl
theorem con_S_indexOf2 (l : Launch) (s : Sg) {v vb : Value} {N : Nat} {f : Nat → Int32} (hR : RS s v vb N f) (x1 : Int32) : Con l true false (eRI s) yJ1_indexOf_2 cJ1_indexOf_2 3 2 80 (some .int) s [v, .int x1, .int 0] (some (ixB N f x1)) := by
  refine con_of (own := RJ1) (mn := "indexOf") (L := [(0, v), (1, .int x1), (2, .int 0)]) (by decide) rfl rfl ?_ ?_ ?_
  · intro E ad
    obtain ⟨a, ha⟩ := hR.r E ad
    show (lg_sl (iv E ad v :: _)).length ≤ 3
    rw [ha]
    exact Nat.le_of_ble_eq_true rfl
  · intro E ad
    obtain ⟨a, ha⟩ := hR.r E ad
    show lv_args 0 (iv E ad v :: _) = (0, iv E ad v) :: _
    rw [ha]
    rfl
  rw [show some (ixB N f x1) = ((some (1 : Int32)).bind fun z => if z = 0 then none else ((some (nI N)).bind fun m => if m = nI N then ((some (ixB N f x1)).bind fun r => some r) else none)) from by
    show _ = (if (1 : Int32) = 0 then none else if nI N = nI N then some (ixB N f x1) else none)
    rw [if_neg (by decide), if_pos rfl]]
  refine vv_aloadv_n (n := 1) hR.r dJ1_indexOf_2_0 rfl 0 rfl ?_
  refine vs_call (n := 4) (ar := 0) (av := []) (rest := []) hR (con_S_isLatin1 l s hR) (fun h => h) (fun h => h) (fun h => by cases h) (fun h => by cases h) dJ1_indexOf_2_1 rfl rfl (Nat.le_of_ble_eq_true rfl) ⟨Nat.le_of_ble_eq_true rfl, Nat.le_of_ble_eq_true rfl⟩ (lw_V q382 q383 q384 q101 q385) rfl (by decide +kernel) (fun z _ _ => ?_)
  show VC l true false (eRI s) cJ1_indexOf_2 RJ1 "indexOf" 3 2 80 (some .int) s 4 [(0, v), (1, .int x1), (2, .int 0)] [.int z] _
  refine vv_if_eq (tgt := 23) (n := 7) dJ1_indexOf_2_4 (by decide) rfl VC.non ?_
  refine vv_aloadv_n (n := 8) hR.r dJ1_indexOf_2_7 rfl 0 rfl ?_
  refine vs_value (n := 11) hR dJ1_indexOf_2_8 rfl ?_
  refine vv_iload_n (n := 12) dJ1_indexOf_2_11 rfl 1 rfl ?_
  refine vv_iload_n (n := 13) dJ1_indexOf_2_12 rfl 2 rfl ?_
  refine vv_aloadv_n (n := 14) hR.r dJ1_indexOf_2_13 rfl 0 rfl ?_
  have hcat : vb.category = 1 := by obtain ⟨-, ⟨c, -, rfl, rfl, -⟩ | ⟨i, a, rfl, rfl, -⟩⟩ := hR <;> rfl
  refine vs_call (n := 17) (ar := 0) (av := []) (rest := [.int 0, .int x1, vb]) hR (con_S_length l s hR) (fun h => h) (fun h => h) (fun h => by cases h) (fun h => by cases h) dJ1_indexOf_2_14 rfl rfl (by simp only [List.map, hcat]; exact Nat.le_of_ble_eq_true rfl) ⟨Nat.le_of_ble_eq_true rfl, Nat.le_of_ble_eq_true rfl⟩ (lw_V q388 q389 q390 q101 q391) rfl (by decide +kernel) (fun m _ _ => ?_)
  show VC l true false (eRI s) cJ1_indexOf_2 RJ1 "indexOf" 3 2 80 (some .int) s 17 [(0, v), (1, .int x1), (2, .int 0)] [.int m, .int 0, .int x1, vb] _
  refine vv_ask (fun hm => ?_)
  subst hm
  refine vv_callS (n := 20) (ar := 4) (av := [vb, .int x1, .int 0, .int (nI N)]) (rest := []) (con_S_indexOf4 l s hR.b x1) (fun h => h) (fun h => h) (fun h => by cases h) (fun h => by cases h) dJ1_indexOf_2_17 rfl rfl (Nat.le_of_ble_eq_true rfl) ⟨Nat.le_of_ble_eq_true rfl, Nat.le_of_ble_eq_true rfl⟩ (lw_S q396 q397 q102 q398) rfl (by decide +kernel) (fun r _ _ => ?_)
  show VC l true false (eRI s) cJ1_indexOf_2 RJ1 "indexOf" 3 2 80 (some .int) s 20 [(0, v), (1, .int x1), (2, .int 0)] [.int r] _
  refine vv_goto (n := 36) dJ1_indexOf_2_20 (by decide) ?_
  exact vv_iret dJ1_indexOf_2_36 rfl
theorem con_S_indexOf (l : Launch) (s : Sg) {v vb : Value} {N : Nat} {f : Nat → Int32} (hR : RS s v vb N f) (x1 : Int32) : Con l true false (eRI s) yJ1_indexOf cJ1_indexOf 2 3 110 (some .int) s [v, .int x1] (some (ixB N f x1)) := by
  refine con_of (own := RJ1) (mn := "indexOf") (L := [(0, v), (1, .int x1)]) (by decide) rfl rfl ?_ ?_ ?_
  · intro E ad
    obtain ⟨a, ha⟩ := hR.r E ad
    show (lg_sl (iv E ad v :: _)).length ≤ 2
    rw [ha]
    exact Nat.le_of_ble_eq_true rfl
  · intro E ad
    obtain ⟨a, ha⟩ := hR.r E ad
    show lv_args 0 (iv E ad v :: _) = (0, iv E ad v) :: _
    rw [ha]
    rfl
  rw [show some (ixB N f x1) = ((some (ixB N f x1)).bind fun r => some r) from rfl]
  refine vv_aloadv_n (n := 1) hR.r dJ1_indexOf_0 rfl 0 rfl ?_
  refine vv_iload_n (n := 2) dJ1_indexOf_1 rfl 1 rfl ?_
  refine vv_iconst (n := 3) (v := 0) dJ1_indexOf_2 rfl (by decide) ?_
  refine vs_call (n := 6) (ar := 2) (av := [.int x1, .int 0]) (rest := []) hR (con_S_indexOf2 l s hR x1) (fun h => h) (fun h => h) (fun h => by cases h) (fun h => by cases h) dJ1_indexOf_3 rfl rfl (Nat.le_of_ble_eq_true rfl) ⟨Nat.le_of_ble_eq_true rfl, Nat.le_of_ble_eq_true rfl⟩ (lw_V q378 q379 q380 q101 q381) rfl (by decide +kernel) (fun r _ _ => ?_)
  exact vv_iret dJ1_indexOf_6 rfl
/-! a String by its code: below 8 a constant, from 8 on an object of the store -/
def sV (c : Nat) : Value := if c < 8 then .retAddr c else .ref (c - 8)
def bV (s : Sg) (c : Nat) : Value := if c < 8 then .retAddr (8 + c) else .ref ((gR s (c - 8) 0).getD 0)
abbrev okS (s : Sg) (c : Nat) : Prop := c < 8 ∨ ((gK s (c - 8) = (7 + 5, 4) ∧ c - 8 < gN s) ∧ gI s (c - 8) 1 = 0 ∧ gR s (c - 8) 0 = some ((gR s (c - 8) 0).getD 0) ∧ (gK s ((gR s (c - 8) 0).getD 0)).1 = 2 ∧ (gR s (c - 8) 0).getD 0 < gN s ∧ (gK s ((gR s (c - 8) 0).getD 0)).2 < 2147483648)
def sLen (s : Sg) (c : Nat) : Nat := if c < 8 then stLen.getD c 0 else (gK s ((gR s (c - 8) 0).getD 0)).2
def sByt (s : Sg) (c : Nat) : Nat → Int32 := if c < 8 then fun j => (stByt.getD c []).getD j 0 else gI s ((gR s (c - 8) 0).getD 0)
theorem RS_of {s : Sg} {c : Nat} (h : okS s c) : RS s (sV c) (bV s c) (sLen s c) (sByt s c) := by
  by_cases hc : c < 8
  · refine ⟨?_, Or.inl ⟨c, hc, by unfold sV; rw [if_pos hc], by unfold bV; rw [if_pos hc], by unfold sLen; rw [if_pos hc], by unfold sByt; rw [if_pos hc]⟩⟩
    unfold sLen
    rw [if_pos hc]
    have h8 : ∀ c : Fin 8, stLen.getD c.val 0 < 2147483648 := by decide
    exact h8 ⟨c, hc⟩
  · rcases h with h | ⟨h1, h2, h3, h4, h5, h6⟩
    · exact absurd h hc
    · refine ⟨by unfold sLen; rw [if_neg hc]; exact h6, Or.inr ⟨c - 8, (gR s (c - 8) 0).getD 0, by unfold sV; rw [if_neg hc], by unfold bV; rw [if_neg hc], h1, h2, h3, ?_, h5, by unfold sByt; rw [if_neg hc]⟩⟩
      unfold sLen
      rw [if_neg hc]
      exact Prod.ext h4 rfl
theorem isR_s (c : Nat) : isR (sV c) := by
  unfold sV
  by_cases h : c < 8
  · rw [if_pos h]; exact isR_c _
  · rw [if_neg h]; exact isR_r _
theorem sV_cat (c : Nat) : (sV c).category = 1 := by
  unfold sV
  by_cases h : c < 8
  · rw [if_pos h]; rfl
  · rw [if_neg h]; rfl
theorem nf_s (c : Nat) : noF (some (sV c)) = true := by
  unfold sV
  split <;> rfl
def eRS (s : Sg) (c : Nat) : Option Value × Sg := (some (sV c), s)
def eSS (r : Nat × Sg) : Option Value × Sg := (some (sV r.1), r.2)
/-- indexOf on a String, called by PullThePlug -/
theorem k1_165 {β : Type} {l : Launch} {al : Bool} {ek : β → Option Value × Sg} {cc : ByteArray} {mn : String} {nL fr lo : Nat} {rt : Option FieldType} {s : Sg} {pc n : Nat} {L : List (Nat × Value)} {st : List Value} {c : Nat} {x : Int32} {body : Option β} (hg : okS s c) (hd : decode cc pc = .ok (.invokevirtual 165, 3)) (hn : pc + 3 = n) (hc : Nat.ble (st.map fun v => v.category).sum 8 = true) (hr : (Nat.ble (3 + 1) fr && Nat.ble (8 + (2 + 11) + 110) lo) = true) (kk : VC l true al ek cc RX1 mn nL fr lo rt s n L (.int (ixB (sLen s c) (sByt s c) x) :: st) body) : VC l true al ek cc RX1 mn nL fr lo rt s pc L (.int x :: sV c :: st) body := by
  have h := vs_call (f := fun _ => body) (ar := 1) (av := [.int x]) (RS_of hg) (con_S_indexOf l s (RS_of hg) x) (fun h => h) (fun h => h) (al := al) (fun h => by cases h) (fun h => by cases h) hd hn (rest := st) rfl (Nat.le_of_ble_eq_true hc) (ble2 hr) (lw_V q374 q375 q376 q101 q377) rfl (by decide +kernel) (ek := ek) (fun b e _ => by cases e; exact kk)
  exact h
