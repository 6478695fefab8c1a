/-! substring(0, n) of the constant 1 ("0123456789"), n below 10 -/
def eRV (s : Sg) (_ : Unit) : Option Value × Sg := (none, s)
def eSF (r : Nat × Sg) : Option Value × Sg := (some (.ref r.1), r.2)
section SUBS
variable {β : Type} {l : Launch} {fo al : Bool} {ek : β → Option Value × Sg} {cc : ByteArray} {own mn : String} {nL fr lo : Nat} {rt : Option FieldType} {s : Sg} {pc n : Nat} {L : List (Nat × Value)} {st : List Value} {body : Option β}
theorem vs_fmt {idx : Nat} (hl : Cond.fieldLink own idx "jdk/internal/util/Preconditions" "SIOOBE_FORMATTER" "Ljava/util/function/BiFunction;" ∈ lw_all) (hd : decode cc pc = .ok (.getstatic idx, 3)) (hn : pc + 3 = n) (kk : ∀ v, (v = .null ∨ v = .retAddr 16) → VC l fo al ek cc own mn nL fr lo rt s n L (v :: st) body) : VC l fo al ek cc own mn nL fr lo rt s pc L st body := by
  intro b hb hok
  obtain ⟨h1, h2⟩ := kk .null (Or.inl rfl) b hb hok
  obtain ⟨-, h3⟩ := kk (.retAddr 16) (Or.inr rfl) b hb hok
  refine ⟨h1, ?_⟩
  intro D cA E A p e R s m args below meth c Q c0 z0 ad0 n0 hM hgs hc hz hret ad H locs cells slots ls hW hcc hzz hL
  have k2 := h2 D cA E A p e R s m args below meth c Q c0 z0 ad0 n0 hM hgs hc hz hret ad H locs cells slots ls hW hcc hzz hL
  have k3 := h3 D cA E A p e R s m args below meth c Q c0 z0 ad0 n0 hM hgs hc hz hret ad H locs cells slots ls hW hcc hzz hL
  subst hn
  rcases hM.xt.2.2.1 with hZ | hZ
  · exact va_gets hM.ex hM.by_ hZ hW.2.2.1 hM.ow (hM.ts _ hl) (fun _ h => h) hd k2
  · exact va_gets hM.ex hM.by_ hZ hW.2.2.1 hM.ow (hM.ts _ hl) (fun _ h => h) hd k3
theorem vs_cpy {c0 a1 n1 idx k : Nat} {f : Sg → Option β} (hc : c0 < 8) (hb8 : ∀ i, i < k → fits .byte (.int ((stByt.getD c0 []).getD i 0)) = true) (hk0 : k ≤ stLen.getD c0 0) (hk1 : k ≤ n1) (hk : k < 2147483648) (hK1 : gK s a1 = (2, n1) ∧ a1 < gN s) (q1 : Cond.methodLink own idx arraycopyName ∈ lw_all) (hroom : 1 ≤ fr ∧ 32 ≤ lo) (hcat : (st.map fun v => v.category).sum ≤ 8)
    (hd : decode cc pc = .ok (.invokestatic idx, 3)) (hn : pc + 3 = n) (kk : ∀ τ, VC l fo al ek cc own mn nL fr lo rt τ n L st (f τ)) : VC l fo al ek cc own mn nL fr lo rt s pc L (.int (nI k) :: .int 0 :: .ref a1 :: .int 0 :: .retAddr (8 + c0) :: st) (lt_ (cI s a1 (va_cpy (fun j => (stByt.getD c0 []).getD j 0) (gI s a1) 0 0 k)) f) := by
  refine VC.sto (τ := cI s a1 (va_cpy (fun j => (stByt.getD c0 []).getD j 0) (gI s a1) 0 0 k)) Ok.cI ⟨rfl, rfl, rfl, rfl⟩ (fun {D cA E A p e R st0 m args below meth c Q ad0 n0 ad H locs cells slots ls} hok hM hW hL _ k2 => ?_) (kk _)
  subst hn
  have h1 := hM.fr_
  have h2 := hM.lo_
  have hcl : (nI k).toNatClampNeg = k := nI_clamp hk
  have hz : (0 : Int32).toNatClampNeg = 0 := sb_cl0
  simp only [List.map_cons, iv_c8]
  refine vk_copyt hM.ex hM.by_ (by rw [hM.ml, hL.1]) hM.ow (hM.ts _ q1) (hM.ts _ q490) (hM.ts _ q489) (hM.ts _ q107) hM.kk hW.1 hW.2.1 hW.2.2.1 (f := fun j => (stByt.getD c0 []).getD j 0) (hM.xt.1.1 c0 hc).2.2.2 a1 2 (at_2 hK1) rfl (by decide) (by decide) (nI_pos hk) (by rw [hz, hcl]; omega) (by rw [hz, hcl]; omega) (by rw [hz, hcl]; intro i hi; rw [Nat.zero_add]; exact hb8 i hi) (by omega)
      (by rw [st_cat]; have hw : nativeFrameWords "java/lang/System" "arraycopy" 5 + 11 ≤ 24 := (by decide); omega) hd (fun H1 locs1 b1 b2 b3 => ?_)
  rw [hz, hcl, set_2 hK1] at b1 b2
  exact k2 H1 locs1 b1 b2 b3
end SUBS
theorem nI10 : nI 10 = 10 := by decide
theorem con_P_cft (l : Launch) (s : Sg) {n : Nat} (hn : n < 10) {vf : Value} (hv : vf = .null ∨ vf = .retAddr 16) : Con l true false (eRI s) yJ4_checkFromToIndex cJ4_checkFromToIndex 4 0 0 (some .int) s [.int 0, .int (nI n), .int 10, vf] (some 0) := by
  refine con_of (own := RJ4) (mn := "checkFromToIndex") (L := [(0, .int 0), (1, .int (nI n)), (2, .int 10), (3, vf)]) (by decide) rfl rfl ?_ ?_ ?_
  · intro E ad
    rcases hv with rfl | rfl <;> exact Nat.le_of_ble_eq_true rfl
  · intro E ad
    rcases hv with rfl | rfl <;> rfl
  rw [show some (0 : Int32) = (if (0 : Int32) < 0 then none else if nI n < 0 then none else if nI n ≤ 10 then some 0 else none) from by
    rw [if_neg (by decide), if_neg (nI_pos (by omega)), if_pos (by rw [← nI10]; exact nI_le (by omega) (by decide))]]
  refine vv_iload_n (n := 1) dJ4_checkFromToIndex_0 rfl 0 rfl ?_
  refine vv_if_lt (tgt := 14) (n := 4) dJ4_checkFromToIndex_1 (by decide) rfl VC.non ?_
  refine vv_iload_n (n := 5) dJ4_checkFromToIndex_4 rfl 0 rfl ?_
  refine vv_iload_n (n := 6) dJ4_checkFromToIndex_5 rfl 1 rfl ?_
  refine vv_icmp_gt (tgt := 14) (n := 9) dJ4_checkFromToIndex_6 (by decide) rfl VC.non ?_
  refine vv_iload_n (n := 10) dJ4_checkFromToIndex_9 rfl 1 rfl ?_
  refine vv_iload_n (n := 11) dJ4_checkFromToIndex_10 rfl 2 rfl ?_
  refine vv_icmp_le (tgt := 22) (n := 14) dJ4_checkFromToIndex_11 (by decide) rfl ?_ VC.non
  refine vv_iload_n (n := 23) dJ4_checkFromToIndex_22 rfl 0 rfl ?_
  exact vv_iret dJ4_checkFromToIndex_23 rfl
theorem con_S_cbe (l : Launch) (s : Sg) {n : Nat} (hn : n < 10) : Con l true false (eRV s) yJ1_checkBoundsBeginEnd cJ1_checkBoundsBeginEnd 3 1 30 none s [.int 0, .int (nI n), .int 10] (some ()) := by
  refine con_of (own := RJ1) (mn := "checkBoundsBeginEnd") (L := [(0, .int 0), (1, .int (nI n)), (2, .int 10)]) (by decide) rfl rfl (fun _ _ => Nat.le_of_ble_eq_true rfl) (fun _ _ => rfl) ?_
  rw [show some () = ((some (0 : Int32)).bind fun _ => some ()) from rfl]
  refine vv_iload_n (n := 1) dJ1_checkBoundsBeginEnd_0 rfl 0 rfl ?_
  refine vv_iload_n (n := 2) dJ1_checkBoundsBeginEnd_1 rfl 1 rfl ?_
  refine vv_iload_n (n := 3) dJ1_checkBoundsBeginEnd_2 rfl 2 rfl ?_
  refine vs_fmt (n := 6) q427 dJ1_checkBoundsBeginEnd_3 rfl (fun vf hv => ?_)
  refine vv_callS (n := 9) (ar := 4) (av := [.int 0, .int (nI n), .int 10, vf]) (rest := []) (con_P_cft l s hn hv) (fun h => h) (fun h => h) (fun h => by cases h) (fun h => by cases h) dJ1_checkBoundsBeginEnd_6 rfl rfl (Nat.le_of_ble_eq_true rfl) ⟨Nat.le_of_ble_eq_true rfl, Nat.le_of_ble_eq_true rfl⟩ (lw_S q429 q430 q104 q431) rfl (by decide +kernel) (fun r _ _ => ?_)
  refine vv_pop (va := .int r) (n := 10) dJ1_checkBoundsBeginEnd_9 rfl rfl ?_
  exact vv_vret dJ1_checkBoundsBeginEnd_10 rfl
theorem con_A_cl (l : Launch) (s : Sg) {n : Nat} (hn : n < 10) : Con l true false (eRV s) yJ6_checkLength cJ6_checkLength 2 0 0 none s [.int 0, .int (nI n)] (some ()) := by
  refine con_of (own := RJ6) (mn := "checkLength") (L := [(0, .int 0), (1, .int (nI n))]) (by decide) rfl rfl (fun _ _ => Nat.le_of_ble_eq_true rfl) (fun _ _ => rfl) ?_
  rw [show some () = (if 0 ≤ nI n then some () else none) from by rw [if_pos (nI_pos' (by omega))]]
  refine vv_iload_n (n := 1) dJ6_checkLength_0 rfl 1 rfl ?_
  refine vv_iload_n (n := 2) dJ6_checkLength_1 rfl 0 rfl ?_
  refine vv_icmp_ge (tgt := 37) (n := 5) dJ6_checkLength_2 (by decide) rfl ?_ VC.non
  exact vv_vret dJ6_checkLength_37 rfl
/-- a copy of the first n bytes of constant 1 -/
def S_corb (s : Sg) (n : Nat) : Option (Nat × Sg) := lt_ (aw s 2 n n) fun s1 => if gK s1 (gN s) = (2, n) ∧ gN s < gN s1 then (lt_ (cI s1 (gN s) (va_cpy (fun j => (stByt.getD 1 []).getD j 0) (gI s1 (gN s)) 0 0 n)) fun s2 => some (gN s, s2)) else none
theorem con_A_corb (l : Launch) (s : Sg) {n : Nat} (hn : n < 10) : Con l true true eSF yJ6_copyOfRangeByte cJ6_copyOfRangeByte 5 1 40 (some (.array .byte)) s [.retAddr 9, .int 0, .int (nI n)] (S_corb s n) := by
  refine con_of (own := RJ6) (mn := "copyOfRangeByte") (L := [(0, .retAddr 9), (1, .int 0), (2, .int (nI n))]) (by decide) rfl rfl (fun _ _ => Nat.le_of_ble_eq_true rfl) (fun _ _ => rfl) ?_
  have hRB : ∀ s : Sg, RB s (.retAddr 9) 10 (fun j => (stByt.getD 1 []).getD j 0) := fun s => ⟨by decide, Or.inl ⟨1, by decide, rfl, rfl, rfl⟩⟩
  rw [show S_corb s n = ((some ()).bind fun _ => S_corb s n) from rfl]
  refine vv_iload_n (n := 1) dJ6_copyOfRangeByte_0 rfl 1 rfl ?_
  refine vv_iload_n (n := 2) dJ6_copyOfRangeByte_1 rfl 2 rfl ?_
  refine vv_callS (n := 5) (ar := 2) (av := [.int 0, .int (nI n)]) (rest := []) (con_A_cl l s hn) (fun h => h) (fun h => h) (fun h => by cases h) (fun h => by cases h) dJ6_copyOfRangeByte_2 rfl rfl (Nat.le_of_ble_eq_true rfl) ⟨Nat.le_of_ble_eq_true rfl, Nat.le_of_ble_eq_true rfl⟩ (lw_S q484 q485 q106 q486) rfl (by decide +kernel) (fun _ _ _ => ?_)
  show VC l true true eSF cJ6_copyOfRangeByte RJ6 "copyOfRangeByte" 5 1 40 (some (.array .byte)) s 5 [(0, .retAddr 9), (1, .int 0), (2, .int (nI n))] [] _
  unfold S_corb
  refine vv_iload_n (n := 6) dJ6_copyOfRangeByte_5 rfl 2 rfl ?_
  refine vv_iload_n (n := 7) dJ6_copyOfRangeByte_6 rfl 1 rfl ?_
  refine vv_isub (n := 8) dJ6_copyOfRangeByte_7 rfl ?_
  rw [show nI n - 0 = nI n from Int32.sub_zero _]
  refine vv_istore_n (n := 9) (L' := [(3, .int (nI n)), (0, .retAddr 9), (1, .int 0), (2, .int (nI n))]) dJ6_copyOfRangeByte_8 rfl (Nat.le_of_ble_eq_true rfl) rfl ?_
  refine vv_iload_n (n := 10) dJ6_copyOfRangeByte_9 rfl 0 rfl ?_
  refine vv_newarr (n := 12) (atype := .byte) (ty := .byte) (N := n) (kd := 2) (v := nI n) (n, .inl fun _ => 0) rfl q513 (nI_pos (by omega)) (nI_clamp (by omega)) (by show n * 1 ≤ 536870912; omega) (fun _ => rfl) (fun _ h => by cases h) (fun _ _ => rfl) (fun _ => rfl) (fun _ => vlc trivial (vlc trivial (vlc trivial (vlc trivial vl0)))) (fun _ => vs0) dJ6_copyOfRangeByte_10 rfl (fun s1 h1 h2 => ?_)
  refine vv_ask (fun hg => ?_)
  refine vv_astore (n := 14) (L' := [(4, .ref (gN s)), (3, .int (nI n)), (0, .retAddr 9), (1, .int 0), (2, .int (nI n))]) dJ6_copyOfRangeByte_12 rfl (Nat.le_of_ble_eq_true rfl) rfl ?_
  refine vv_aloadv_n (n := 15) (isR_c 9) dJ6_copyOfRangeByte_14 rfl 2 rfl ?_
  refine vv_iload_n (n := 16) dJ6_copyOfRangeByte_15 rfl 3 rfl ?_
  refine vv_aload (n := 18) dJ6_copyOfRangeByte_16 rfl 0 rfl ?_
  refine vv_iconst (n := 19) (v := 0) dJ6_copyOfRangeByte_18 rfl (by decide) ?_
  refine vv_aloadv_n (n := 20) (isR_c 9) dJ6_copyOfRangeByte_19 rfl 2 rfl ?_
  refine vs_len (n := 21) (hRB s1) dJ6_copyOfRangeByte_20 rfl ?_
  refine vv_iload_n (n := 22) dJ6_copyOfRangeByte_21 rfl 3 rfl ?_
  refine vv_isub (n := 23) dJ6_copyOfRangeByte_22 rfl ?_
  refine vv_iload_n (n := 24) dJ6_copyOfRangeByte_23 rfl 1 rfl ?_
  refine vv_mmin (n := 27) q487 q345 q100 q346 ⟨Nat.le_of_ble_eq_true rfl, Nat.le_of_ble_eq_true rfl⟩ (Nat.le_of_ble_eq_true rfl) dJ6_copyOfRangeByte_24 rfl ?_
  rw [show mi (nI 10 - 0) (nI n) = nI n from by
    unfold mi
    rw [Int32.sub_zero, if_pos (nI_lt hn (by decide))]]
  have h9 : ∀ i : Fin 10, fits .byte (.int ((stByt.getD 1 []).getD i.val 0)) = true := by decide
  refine vs_cpy (n := 30) (c0 := 1) (k := n) (by decide) (fun i hi => h9 ⟨i, by omega⟩) (by show n ≤ 10; omega) (Nat.le_refl n) (by omega) hg q488 ⟨Nat.le_of_ble_eq_true rfl, Nat.le_of_ble_eq_true rfl⟩ (Nat.le_of_ble_eq_true rfl) dJ6_copyOfRangeByte_27 rfl (fun s2 => ?_)
  refine vv_aload (n := 32) dJ6_copyOfRangeByte_30 rfl 0 rfl ?_
  exact vv_ret (r := some (.ref (gN s))) dJ6_copyOfRangeByte_32 rfl ⟨_, rfl, Or.inr ⟨_, rfl⟩⟩
theorem con_A_cor (l : Launch) (s : Sg) {n : Nat} (hn : n < 10) : Con l true true eSF yJ6_copyOfRange cJ6_copyOfRange 3 2 80 (some (.array .byte)) s [.retAddr 9, .int 0, .int (nI n)] (S_corb s n) := by
  refine con_of (own := RJ6) (mn := "copyOfRange") (L := [(0, .retAddr 9), (1, .int 0), (2, .int (nI n))]) (by decide) rfl rfl (fun _ _ => Nat.le_of_ble_eq_true rfl) (fun _ _ => rfl) ?_
  have hRB : ∀ s : Sg, RB s (.retAddr 9) 10 (fun j => (stByt.getD 1 []).getD j 0) := fun s => ⟨by decide, Or.inl ⟨1, by decide, rfl, rfl, rfl⟩⟩
  rw [show S_corb s n = (if (0 : Int32) = 0 then (if nI n = nI 10 then none else (b2 (S_corb s n) fun a t => some (a, t))) else none) from by
    rw [if_pos rfl, if_neg (by rw [nI_eq (by omega) (by decide)]; omega)]
    unfold b2
    cases S_corb s n <;> rfl]
  refine vv_iload_n (n := 1) dJ6_copyOfRange_0 rfl 1 rfl ?_
  refine vv_if_ne (tgt := 10) (n := 4) dJ6_copyOfRange_1 (by decide) rfl VC.non ?_
  refine vv_iload_n (n := 5) dJ6_copyOfRange_4 rfl 2 rfl ?_
  refine vv_aloadv_n (n := 6) (isR_c 9) dJ6_copyOfRange_5 rfl 0 rfl ?_
  refine vs_len (n := 7) (hRB s) dJ6_copyOfRange_6 rfl ?_
  refine vv_icmp_eq (tgt := 17) (n := 10) dJ6_copyOfRange_7 (by decide) rfl VC.non ?_
  refine vv_aloadv_n (n := 11) (isR_c 9) dJ6_copyOfRange_10 rfl 0 rfl ?_
  refine vv_iload_n (n := 12) dJ6_copyOfRange_11 rfl 1 rfl ?_
  refine vv_iload_n (n := 13) dJ6_copyOfRange_12 rfl 2 rfl ?_
  refine vv_callS (n := 16) (ar := 3) (av := [.retAddr 9, .int 0, .int (nI n)]) (rest := []) (con_A_corb l s hn) (fun h => h) (fun h => h) (fun _ => rfl) (fun _ _ => ⟨vlc trivial (vlc trivial (vlc trivial vl0)), vs0⟩) dJ6_copyOfRange_13 rfl rfl (Nat.le_of_ble_eq_true rfl) ⟨Nat.le_of_ble_eq_true rfl, Nat.le_of_ble_eq_true rfl⟩ (lw_S q481 q482 q106 q483) rfl (by decide +kernel) (fun r _ _ => ?_)
  exact vv_ret (r := some (.ref r.1)) dJ6_copyOfRange_16 rfl ⟨_, rfl, Or.inr ⟨_, rfl⟩⟩
theorem cp7 : CP TJ1 4 tyJ1 := ⟨tyJ1_ok, nmJ1⟩
def S_init (s : Sg) (i a : Nat) : Option Sg := if Db 7 4 s i ∧ a < gN s ∧ stR.length ≤ i then (lt_ (pR s i 0 (some a)) fun s1 => if Db 7 4 s1 i then (lt_ (pI s1 i 1 0) fun s2 => some s2) else none) else none
theorem con_S_init (l : Launch) (s : Sg) (i a : Nat) : Con l true false eSV yJ1_init cJ1_init 3 1 20 none s [.ref i, .ref a, .int 0] (S_init s i a) := by
  refine con_of (own := RJ1) (mn := "<init>") (L := [(0, .ref i), (1, .ref a), (2, .int 0)]) (by decide) rfl rfl (fun _ _ => Nat.le_of_ble_eq_true rfl) (fun _ _ => rfl) ?_
  unfold S_init
  refine vv_ask (fun hg => ?_)
  refine vv_aload_n (n := 1) dJ1_init_0 rfl 0 rfl ?_
  refine vv_oinit (n := 4) q501 q124 q125 ⟨Nat.le_refl _, Nat.le_refl _⟩ (Nat.le_of_ble_eq_true rfl) dJ1_init_1 rfl ?_
  refine vv_aload_n (n := 5) dJ1_init_4 rfl 0 rfl ?_
  refine vv_aload_n (n := 6) dJ1_init_5 rfl 1 rfl ?_
  refine vv_putR (n := 9) (ci := 7) (k := 0) (r := some a) (T := TJ1) (ty := tyJ1) (fty := .array .byte) cd7 cp7 (by decide) rfl (fun _ => hg.1) (Or.inl q502) (Or.inr ⟨rfl, rfl, rfl, q502⟩) (by decide +kernel) (Or.inr ⟨_, rfl⟩) (fun _ b e => by cases e; exact hg.2.1) (fun _ => by rw [List.getD_eq_getElem?_getD, List.getD_eq_getElem?_getD, List.getElem?_eq_none hg.2.2]; rfl) dJ1_init_6 rfl (fun s1 => ?_)
  refine vv_ask (fun hg2 => ?_)
  refine vv_aload_n (n := 10) dJ1_init_9 rfl 0 rfl ?_
  refine vv_iload_n (n := 11) dJ1_init_10 rfl 2 rfl ?_
  refine vv_putI (n := 14) (ci := 7) (k := 1) (T := TJ1) (ty := tyJ1) (fty := .byte) cd7 cp7 (by decide) rfl (fun _ => hg2) (Or.inl q503) (Or.inr ⟨rfl, rfl, rfl, q503⟩) (by decide +kernel) rfl rfl dJ1_init_11 rfl (fun s2 => ?_)
  exact vv_vret dJ1_init_14 rfl
def S_sub (s : Sg) (n : Nat) : Option (Nat × Sg) := if nI n = 0 then some (7, s) else (lt_ (aw s (7 + 5) 4 4) fun s1 => if gN s < gN s1 then (b2 (S_corb s1 n) fun a s2 => (S_init s2 (gN s) a).bind fun s3 => some (8 + gN s, s3)) else none)
theorem con_L_newString (l : Launch) (s : Sg) {n : Nat} (hn : n < 10) : Con l true true eSS yJ2_newString cJ2_newString 3 3 110 (some (.object "java/lang/String")) s [.retAddr 9, .int 0, .int (nI n)] (S_sub s n) := by
  refine con_of (hnf := fun b => nf_s _) (own := RJ2) (mn := "newString") (L := [(0, .retAddr 9), (1, .int 0), (2, .int (nI n))]) (by decide) rfl rfl (fun _ _ => Nat.le_of_ble_eq_true rfl) (fun _ _ => rfl) ?_
  unfold S_sub
  refine vv_iload_n (n := 1) dJ2_newString_0 rfl 2 rfl ?_
  refine vv_if_ne (tgt := 7) (n := 4) dJ2_newString_1 (by decide) rfl ?_ ?_
  · refine vv_new (n := 10) (ci := 7) (T := TJ1) (ty := tyJ1) cd7 tyJ1_ok (by decide +kernel) q476 q477 q101 (fun _ => vlc trivial (vlc trivial (vlc trivial vl0))) (fun _ => vs0) dJ2_newString_7 rfl (fun s1 h1 h2 => ?_)
    refine vv_ask (fun hg => ?_)
    refine vv_dup (n := 11) dJ2_newString_10 rfl rfl ?_
    refine vv_aloadv_n (n := 12) (isR_c 9) dJ2_newString_11 rfl 0 rfl ?_
    refine vv_iload_n (n := 13) dJ2_newString_12 rfl 1 rfl ?_
    refine vv_iload_n (n := 14) dJ2_newString_13 rfl 1 rfl ?_
    refine vv_iload_n (n := 15) dJ2_newString_14 rfl 2 rfl ?_
    refine vv_iadd (n := 16) dJ2_newString_15 rfl ?_
    rw [show (0 : Int32) + nI n = nI n from Int32.zero_add _]
    show VC l true true eSS cJ2_newString RJ2 "newString" 3 3 110 (some (.object "java/lang/String")) s1 16 [(0, .retAddr 9), (1, .int 0), (2, .int (nI n))] [.int (nI n), .int 0, .retAddr 9, .ref (gN s), .ref (gN s)] ((S_corb s1 n).bind fun r => (S_init r.2 (gN s) r.1).bind fun s3 => some (8 + gN s, s3))
    refine vv_callS (n := 19) (ar := 3) (av := [.retAddr 9, .int 0, .int (nI n)]) (rest := [.ref (gN s), .ref (gN s)]) (con_A_cor l s1 hn) (fun h => h) (fun h => h) (fun _ => rfl) (fun _ _ => ⟨vlc trivial (vlc trivial (vlc trivial vl0)), vsc hg (vsc hg vs0)⟩) dJ2_newString_16 rfl rfl (Nat.le_of_ble_eq_true rfl) ⟨Nat.le_of_ble_eq_true rfl, Nat.le_of_ble_eq_true rfl⟩ (lw_S q478 q479 q106 q480) rfl (by decide +kernel) (fun r _ _ => ?_)
    show VC l true true eSS cJ2_newString RJ2 "newString" 3 3 110 (some (.object "java/lang/String")) r.2 19 [(0, .retAddr 9), (1, .int 0), (2, .int (nI n))] [.ref r.1, .ref (gN s), .ref (gN s)] _
    refine vv_iconst (n := 20) (v := 0) dJ2_newString_19 rfl (by decide) ?_
    refine vv_callI (n := 23) (ar := 2) (i := gN s) (av := [.ref r.1, .int 0]) (rest := [.ref (gN s)]) (con_S_init l r.2 (gN s) r.1) (fun h => h) (fun h => h) (fun h => by cases h) (fun h => by cases h) dJ2_newString_20 rfl rfl (Nat.le_of_ble_eq_true rfl) ⟨Nat.le_of_ble_eq_true rfl, Nat.le_of_ble_eq_true rfl⟩ rfl q498 q101 q499 q500 rfl (by decide +kernel) (fun s3 _ _ => ?_)
    refine vv_ret (r := some (.ref (gN s))) dJ2_newString_23 ?_ ⟨_, rfl, Or.inl ⟨_, rfl⟩⟩
    show (some (sV (8 + gN s)), s3) = _
    unfold sV
    rw [if_neg (by omega), Nat.add_sub_cancel_left]
    rfl
  · refine vs_ldc (n := 6) (c := 7) (by decide) (fun E U h => h.2.2.2.2.2.2.2) dJ2_newString_4 rfl ?_
    exact vv_ret (r := some (.retAddr 7)) dJ2_newString_6 rfl ⟨_, rfl, Or.inl ⟨_, rfl⟩⟩
theorem con_S_substring (l : Launch) (s : Sg) {n : Nat} (hn : n < 10) : Con l true true eSS yJ1_substring cJ1_substring 5 4 150 (some (.object "java/lang/String")) s [.retAddr 1, .int 0, .int (nI n)] (S_sub s n) := by
  refine con_of (hnf := fun b => nf_s _) (own := RJ1) (mn := "substring") (L := [(0, .retAddr 1), (1, .int 0), (2, .int (nI n))]) (by decide) rfl rfl (fun _ _ => Nat.le_of_ble_eq_true rfl) (fun _ _ => rfl) ?_
  have hR : RS s (.retAddr 1) (.retAddr 9) 10 (fun j => (stByt.getD 1 []).getD j 0) := ⟨by decide, Or.inl ⟨1, by decide, rfl, rfl, rfl, rfl⟩⟩
  rw [show S_sub s n = ((some (nI 10)).bind fun m => if m = 10 then ((some ()).bind fun _ => if (0 : Int32) = 0 then (if nI n = 10 then none else ((some (1 : Int32)).bind fun z => if z = 0 then none else ((S_sub s n).bind fun r => some r))) else none) else none) from by
    rw [Option.bind_some, if_pos nI10, Option.bind_some, if_pos rfl, if_neg (by rw [← nI10, nI_eq (by omega) (by decide)]; omega), Option.bind_some, if_neg (by decide)]
    cases S_sub s n <;> rfl]
  refine vv_aloadv_n (n := 1) (isR_c 1) dJ1_substring_0 rfl 0 rfl ?_
  refine vs_call (n := 4) (ar := 0) (av := []) (rest := []) hR (con_S_length l s hR) (fun h => h) (fun h => h) (fun h => by cases h) (fun h => by cases h) dJ1_substring_1 rfl rfl (Nat.le_of_ble_eq_true rfl) ⟨Nat.le_of_ble_eq_true rfl, Nat.le_of_ble_eq_true rfl⟩ (lw_V q388 q389 q390 q101 q391) rfl (by decide +kernel) (fun m _ _ => ?_)
  show VC l true true eSS cJ1_substring RJ1 "substring" 5 4 150 (some (.object "java/lang/String")) s 4 [(0, .retAddr 1), (1, .int 0), (2, .int (nI n))] [.int m] _
  refine vv_ask (fun hm => ?_)
  subst hm
  refine vv_istore_n (n := 5) (L' := [(3, .int 10), (0, .retAddr 1), (1, .int 0), (2, .int (nI n))]) dJ1_substring_4 rfl (Nat.le_of_ble_eq_true rfl) rfl ?_
  refine vv_iload_n (n := 6) dJ1_substring_5 rfl 2 rfl ?_
  refine vv_iload_n (n := 7) dJ1_substring_6 rfl 3 rfl ?_
  refine vv_iload_n (n := 8) dJ1_substring_7 rfl 0 rfl ?_
  refine vv_callS (n := 11) (ar := 3) (av := [.int 0, .int (nI n), .int 10]) (rest := []) (con_S_cbe l s hn) (fun h => h) (fun h => h) (fun h => by cases h) (fun h => by cases h) dJ1_substring_8 rfl rfl (Nat.le_of_ble_eq_true rfl) ⟨Nat.le_of_ble_eq_true rfl, Nat.le_of_ble_eq_true rfl⟩ (lw_S q471 q425 q101 q426) rfl (by decide +kernel) (fun _ _ _ => ?_)
  show VC l true true eSS cJ1_substring RJ1 "substring" 5 4 150 (some (.object "java/lang/String")) s 11 [(3, .int 10), (0, .retAddr 1), (1, .int 0), (2, .int (nI n))] [] _
  refine vv_iload_n (n := 12) dJ1_substring_11 rfl 2 rfl ?_
  refine vv_if_ne (tgt := 22) (n := 15) dJ1_substring_12 (by decide) rfl VC.non ?_
  refine vv_iload_n (n := 16) dJ1_substring_15 rfl 3 rfl ?_
  refine vv_iload_n (n := 17) dJ1_substring_16 rfl 0 rfl ?_
  refine vv_icmp_ne (tgt := 22) (n := 20) dJ1_substring_17 (by decide) rfl ?_ VC.non
  refine vv_iload_n (n := 23) dJ1_substring_22 rfl 3 rfl ?_
  refine vv_iload_n (n := 24) dJ1_substring_23 rfl 2 rfl ?_
  refine vv_isub (n := 25) dJ1_substring_24 rfl ?_
  rw [show nI n - 0 = nI n from Int32.sub_zero _]
  refine vv_istore (n := 27) (L' := [(4, .int (nI n)), (3, .int 10), (0, .retAddr 1), (1, .int 0), (2, .int (nI n))]) dJ1_substring_25 rfl (Nat.le_of_ble_eq_true rfl) rfl ?_
  refine vv_aloadv_n (n := 28) (isR_c 1) dJ1_substring_27 rfl 2 rfl ?_
  refine vs_call (n := 31) (ar := 0) (av := []) (rest := []) hR (con_S_isLatin1 l s hR) (fun h => h) (fun h => h) (fun h => by cases h) (fun h => by cases h) dJ1_substring_28 rfl rfl (Nat.le_of_ble_eq_true rfl) ⟨Nat.le_of_ble_eq_true rfl, Nat.le_of_ble_eq_true rfl⟩ (lw_V q382 q383 q384 q101 q385) rfl (by decide +kernel) (fun z _ _ => ?_)
  show VC l true true eSS cJ1_substring RJ1 "substring" 5 4 150 (some (.object "java/lang/String")) s 31 [(4, .int (nI n)), (3, .int 10), (0, .retAddr 1), (1, .int 0), (2, .int (nI n))] [.int z] _
  refine vv_if_eq (tgt := 47) (n := 34) dJ1_substring_31 (by decide) rfl VC.non ?_
  refine vv_aloadv_n (n := 35) (isR_c 1) dJ1_substring_34 rfl 2 rfl ?_
  refine vs_value (n := 38) hR dJ1_substring_35 rfl ?_
  refine vv_iload_n (n := 39) dJ1_substring_38 rfl 3 rfl ?_
  refine vv_iload (n := 41) dJ1_substring_39 rfl 0 rfl ?_
  refine vv_callS (n := 44) (ar := 3) (av := [.retAddr 9, .int 0, .int (nI n)]) (rest := []) (con_L_newString l s hn) (fun h => h) (fun h => h) (fun _ => rfl) (fun _ _ => ⟨vlc trivial (vlc trivial (vlc trivial (vlc trivial (vlc trivial vl0)))), vs0⟩) dJ1_substring_41 rfl rfl (Nat.le_of_ble_eq_true rfl) ⟨Nat.le_of_ble_eq_true rfl, Nat.le_of_ble_eq_true rfl⟩ (lw_S q472 q473 q102 q474) rfl (by decide +kernel) (fun r _ _ => ?_)
  show VC l true true eSS cJ1_substring RJ1 "substring" 5 4 150 (some (.object "java/lang/String")) r.2 44 [(4, .int (nI n)), (3, .int 10), (0, .retAddr 1), (1, .int 0), (2, .int (nI n))] [sV r.1] _
  refine vv_goto (n := 57) dJ1_substring_44 (by decide) ?_
  unfold sV
  by_cases h : r.1 < 8
  · rw [if_pos h]
    refine vv_ret (r := some (.retAddr r.1)) dJ1_substring_57 ?_ ⟨_, rfl, Or.inl ⟨_, rfl⟩⟩
    show (some (sV r.1), r.2) = _
    unfold sV
    rw [if_pos h]
  · rw [if_neg h]
    refine vv_ret (r := some (.ref (r.1 - 8))) dJ1_substring_57 ?_ ⟨_, rfl, Or.inl ⟨_, rfl⟩⟩
    show (some (sV r.1), r.2) = _
    unfold sV
    rw [if_neg h]
/-- substring(0, x) of constant 1, called by PullThePlug; the body asks for x from 0 to 9 -/
def S_subX (s : Sg) (x : Int32) : Option (Nat × Sg) := if 0 ≤ x ∧ x < 10 then S_sub s x.toNatClampNeg else none
theorem k1_sub {β : Type} {l : Launch} {ek : β → Option Value × Sg} {cc : ByteArray} {mn : String} {nL fr lo idx : Nat} {rt : Option FieldType} {s : Sg} {pc n : Nat} {L : List (Nat × Value)} {st : List Value} {x : Int32} {f : Nat → Sg → Option β} (hLk : Ok true s → (∀ q ∈ L, vok (gN s) q.2) ∧ ∀ v ∈ st, vok (gN s) v) (ql : Cond.methodLink RX1 idx yJ1_substring ∈ lw_all) (hd : decode cc pc = .ok (.invokevirtual idx, 3)) (hn : pc + 3 = n) (hc : Nat.ble (st.map fun v => v.category).sum 8 = true) (hr : (Nat.ble (4 + 1) fr && Nat.ble (8 + (5 + 11) + 150) lo) = true) (kk : ∀ v τ, gN s ≤ gN τ → VC l true true ek cc RX1 mn nL fr lo rt τ n L (sV v :: st) (f v τ)) : VC l true true ek cc RX1 mn nL fr lo rt s pc L (.int x :: .int 0 :: .retAddr 1 :: st) (b2 (S_subX s x) f) := by
  unfold S_subX
  by_cases h : 0 ≤ x ∧ x < 10
  · rw [if_pos h]
    obtain ⟨j, hj, e⟩ := nI_of (nlt0 h.1)
    subst e
    have hj2 : j < 10 := by
      have h2 := h.2
      rw [← nI10] at h2
      exact (nI_ltI hj (by decide)).mp h2
    rw [nI_clamp hj]
    have hR : RS s (.retAddr 1) (.retAddr 9) 10 (fun j => (stByt.getD 1 []).getD j 0) := ⟨by decide, Or.inl ⟨1, by decide, rfl, rfl, rfl, rfl⟩⟩
    exact vs_call (ar := 2) (av := [.int 0, .int (nI j)]) hR (con_S_substring l s hj2) (fun h => h) (fun h => h) (fun _ => rfl) (fun _ => hLk) hd hn (rest := st) rfl (Nat.le_of_ble_eq_true hc) (ble2 hr) (lw_V ql q468 q469 q101 q470) rfl (by decide +kernel) (fun b _ h => kk b.1 b.2 h.2.2.1)
  · rw [if_neg h]; exact VC.non
