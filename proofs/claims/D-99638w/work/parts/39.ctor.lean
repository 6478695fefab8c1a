/-! the constructors -/
theorem arr_sameW {s : State} {D : va_G} {cA : Nat → ClassId} {c : ClassId} (hK : va_K D vwCl (tyL cA) s) (h : va_RA s c (.object RX2)) : c = cA 4 := by
  obtain ⟨_, _, -, -, -, h4⟩ := h
  obtain ⟨_, _, -, -, -, g4⟩ := (hK.2 4 (cA 4, .object RX2) rfl).2
  exact Option.some.inj (h4.symm.trans g4)
theorem vv_newq {β : Type} {l : Launch} {fo : Bool} {ek : β → Option Value × Sg} {cc : ByteArray} {own mn : String} {nL fr lo : Nat} {rt : Option FieldType} {σ : Sg} {pc n idx N : Nat} {L : List (Nat × Value)} {st : List Value} {v : Int32} {f : Sg → Option β} (q1 : Cond.classLink own idx RX2 ∈ lw_all) (hv : ¬ v < 0) (hN : v.toNatClampNeg = N) (hbytes : N * 4 ≤ 536870912)
    (hLk : Ok fo σ → ∀ q ∈ L, vok (gN σ) q.2) (hsk : Ok fo σ → ∀ v ∈ st, vok (gN σ) v)
    (hd : decode cc pc = .ok (.anewarray idx, 3)) (hn : pc + 3 = n) (kk : ∀ τ, gN τ = gN σ + 1 → gK τ (gN σ) = (4, N) → VC l fo true ek cc own mn nL fr lo rt τ n L (.ref (gN σ) :: st) (f τ)) : VC l fo true ek cc own mn nL fr lo rt σ pc L (.int v :: st) (lt_ (aw σ 4 N N) f) := by
  refine VC.nwc hLk hsk (fun {D cA E A p e R s m args below meth c Q ad0 n0 ad H locs cells slots ls} hok hM hW hL hr k => ?_) kk
  subst hn
  refine va_newq hM.ex hM.by_ hM.ow (hM.ts _ q1) hM.nw.2 hM.kk hW.1 hW.2.1 hW.2.2.1 hM.fa hv hN hbytes hr.1 hr.2 hd (fun q c2 H1 hK2 a1 a2 a3 => ?_)
  have hc3 : c2 = cA 4 := arr_sameW hM.kk (hK2.2 5 (c2, .object RX2) rfl).2
  subst hc3
  exact k q H1 a1 a2 a3
def X_init (s : Sg) (i : Nat) : Option Sg := if Db 0 49 s i then (lt_ (aw s (1 + 5) 8 8) fun s2 => if Db 0 49 s2 i ∧ (gN s) < gN s2 then ((W_init s2 (gN s)).bind fun s4 => if Db 0 49 s4 i ∧ (gN s) < gN s4 then (lt_ (pR s4 i 0 (some (gN s))) fun s6 => if Db 0 49 s6 i then (lt_ (aw s6 (1 + 5) 8 8) fun s8 => if Db 0 49 s8 i ∧ (gN s6) < gN s8 then ((W_init s8 (gN s6)).bind fun s10 => if Db 0 49 s10 i ∧ (gN s6) < gN s10 then (lt_ (pR s10 i 1 (some (gN s6))) fun s12 => if Db 0 49 s12 i then (lt_ (aw s12 0 6 6) fun s14 => if Db 0 49 s14 i ∧ (gN s12) < gN s14 then (lt_ (pR s14 i 2 (some (gN s12))) fun s16 => if Db 0 49 s16 i then (lt_ (aw s16 0 6 6) fun s18 => if Db 0 49 s18 i ∧ (gN s16) < gN s18 then (lt_ (pR s18 i 3 (some (gN s16))) fun s20 => if Db 0 49 s20 i then (lt_ (aw s20 0 6 6) fun s22 => if Db 0 49 s22 i ∧ (gN s20) < gN s22 then (lt_ (pR s22 i 4 (some (gN s20))) fun s24 => if Db 0 49 s24 i then (lt_ (aw s24 0 80 80) fun s26 => if Db 0 49 s26 i ∧ (gN s24) < gN s26 then (lt_ (pR s26 i 7 (some (gN s24))) fun s28 => if Db 0 49 s28 i then (lt_ (aw s28 0 6 6) fun s30 => if Db 0 49 s30 i ∧ (gN s28) < gN s30 then (lt_ (pR s30 i 12 (some (gN s28))) fun s32 => if Db 0 49 s32 i then (lt_ (aw s32 0 6 6) fun s34 => if Db 0 49 s34 i ∧ (gN s32) < gN s34 then (lt_ (pR s34 i 13 (some (gN s32))) fun s36 => if Db 0 49 s36 i then (lt_ (aw s36 0 6 6) fun s38 => if Db 0 49 s38 i ∧ (gN s36) < gN s38 then (lt_ (pR s38 i 14 (some (gN s36))) fun s40 => if Db 0 49 s40 i then (lt_ (aw s40 0 6 6) fun s42 => if Db 0 49 s42 i ∧ (gN s40) < gN s42 then (lt_ (pR s42 i 15 (some (gN s40))) fun s44 => if Db 0 49 s44 i then (lt_ (aw s44 0 6 6) fun s46 => if Db 0 49 s46 i ∧ (gN s44) < gN s46 then (lt_ (pR s46 i 16 (some (gN s44))) fun s48 => if Db 0 49 s48 i then (lt_ (aw s48 4 12 12) fun s50 => if Db 0 49 s50 i ∧ (gN s48) < gN s50 then (lt_ (pR s50 i 22 (some (gN s48))) fun s52 => if Db 0 49 s52 i then (lt_ (aw s52 (1 + 5) 8 8) fun s54 => if Db 0 49 s54 i ∧ (gN s52) < gN s54 then ((W_init s54 (gN s52)).bind fun s56 => if Db 0 49 s56 i ∧ (gN s52) < gN s56 then (lt_ (pR s56 i 23 (some (gN s52))) fun s58 => if Db 0 49 s58 i then (lt_ (aw s58 0 6 6) fun s60 => if Db 0 49 s60 i ∧ (gN s58) < gN s60 then (lt_ (pR s60 i 25 (some (gN s58))) fun s62 => if Db 0 49 s62 i then (lt_ (aw s62 0 6 6) fun s64 => if Db 0 49 s64 i ∧ (gN s62) < gN s64 then (lt_ (pR s64 i 26 (some (gN s62))) fun s66 => if Db 0 49 s66 i then (lt_ (aw s66 0 60 60) fun s68 => if Db 0 49 s68 i ∧ (gN s66) < gN s68 then (lt_ (pR s68 i 27 (some (gN s66))) fun s70 => if Db 0 49 s70 i then (lt_ (aw s70 0 60 60) fun s72 => if Db 0 49 s72 i ∧ (gN s70) < gN s72 then (lt_ (pR s72 i 28 (some (gN s70))) fun s74 => if Db 0 49 s74 i then (lt_ (aw s74 0 60 60) fun s76 => if Db 0 49 s76 i ∧ (gN s74) < gN s76 then (lt_ (pR s76 i 29 (some (gN s74))) fun s78 => if Db 0 49 s78 i then (lt_ (aw s78 0 10 10) fun s80 => if Db 0 49 s80 i ∧ (gN s78) < gN s80 then (lt_ (pR s80 i 32 (some (gN s78))) fun s82 => if Db 0 49 s82 i then (lt_ (aw s82 0 10 10) fun s84 => if Db 0 49 s84 i ∧ (gN s82) < gN s84 then (lt_ (pR s84 i 33 (some (gN s82))) fun s86 => if Db 0 49 s86 i then (lt_ (aw s86 0 10 10) fun s88 => if Db 0 49 s88 i ∧ (gN s86) < gN s88 then (lt_ (pR s88 i 34 (some (gN s86))) fun s90 => if Db 0 49 s90 i then (lt_ (aw s90 3 55 55) fun s92 => if Db 0 49 s92 i ∧ (gN s90) < gN s92 then (lt_ (pR s92 i 35 (some (gN s90))) fun s94 => if Db 0 49 s94 i then (lt_ (aw s94 0 6930 6930) fun s96 => if Db 0 49 s96 i ∧ (gN s94) < gN s96 then (lt_ (pR s96 i 36 (some (gN s94))) fun s98 => if Db 0 49 s98 i then (lt_ (aw s98 0 100 100) fun s100 => if Db 0 49 s100 i ∧ (gN s98) < gN s100 then (lt_ (pR s100 i 37 (some (gN s98))) fun s102 => if Db 0 49 s102 i then (lt_ (aw s102 0 6 6) fun s104 => if Db 0 49 s104 i ∧ (gN s102) < gN s104 then (lt_ (pR s104 i 38 (some (gN s102))) fun s106 => if Db 0 49 s106 i then (lt_ (aw s106 0 6 6) fun s108 => if Db 0 49 s108 i ∧ (gN s106) < gN s108 then (lt_ (pR s108 i 39 (some (gN s106))) fun s110 => if Db 0 49 s110 i then (lt_ (aw s110 0 6 6) fun s112 => if Db 0 49 s112 i ∧ (gN s110) < gN s112 then (lt_ (pR s112 i 40 (some (gN s110))) fun s114 => if Db 0 49 s114 i then (lt_ (aw s114 1 6 6) fun s116 => if Db 0 49 s116 i ∧ (gN s114) < gN s116 then (lt_ (pR s116 i 42 (some (gN s114))) fun s118 => if Db 0 49 s118 i then (lt_ (aw s118 1 6 6) fun s120 => if Db 0 49 s120 i ∧ (gN s118) < gN s120 then (lt_ (pR s120 i 43 (some (gN s118))) fun s122 => if Db 0 49 s122 i then (lt_ (aw s122 4 2 2) fun s124 => if Db 0 49 s124 i ∧ (gN s122) < gN s124 then (lt_ (pR s124 i 45 (some (gN s122))) fun s126 => if Db 0 49 s126 i then (lt_ (aw s126 0 2 2) fun s128 => if Db 0 49 s128 i ∧ (gN s126) < gN s128 then (lt_ (pR s128 i 46 (some (gN s126))) fun s130 => if Db 0 49 s130 i then (lt_ (aw s130 1 16 16) fun s132 => if Db 0 49 s132 i ∧ (gN s130) < gN s132 then (lt_ (pR s132 i 47 (some (gN s130))) fun s134 => some s134) else none) else none) else none) else none) else none) else none) else none) else none) else none) else none) else none) else none) else none) else none) else none) else none) else none) else none) else none) else none) else none) else none) else none) else none) else none) else none) else none) else none) else none) else none) else none) else none) else none) else none) else none) else none) else none) else none) else none) else none) else none) else none) else none) else none) else none) else none) else none) else none) else none) else none) else none) else none) else none) else none) else none) else none) else none) else none) else none) else none) else none) else none) else none) else none) else none) else none) else none
set_option maxHeartbeats 1000000 in
theorem con_X_init (l : Launch) (s : Sg) (i : Nat) : Con l false true eSV yX1_init cX1_init 1 2 60 none s [.ref i] (X_init s i) := by
  refine con_of (own := RX1) (mn := "<init>") (L := [(0, .ref i)]) (by decide) rfl rfl (fun _ _ => Nat.le_of_ble_eq_true rfl) (fun _ _ => rfl) ?_
  unfold X_init
  refine vv_aload_n (n := 1) dX1_init_0 rfl 0 rfl ?_
  refine vv_oinit (n := 4) q123 q124 q125 ⟨Nat.le_of_ble_eq_true rfl, Nat.le_of_ble_eq_true rfl⟩ (Nat.le_of_ble_eq_true rfl) dX1_init_1 rfl ?_
  refine vv_aload_n (n := 5) dX1_init_4 rfl 0 rfl ?_
  refine vv_ask (fun h1 => ?_)
  refine vv_new (n := 8) (ci := 1) (T := TX2) (ty := tyX2) cd1 tyX2_ok (by decide +kernel) q126 q127 q98 (fun _ => vlc h1.2 vl0) (fun _ => vsc h1.2 vs0) dX1_init_5 rfl (fun s2 g2 _ => ?_)
  refine vv_dup (n := 9) dX1_init_8 rfl rfl ?_
  refine vv_ask (fun h3 => ?_)
  refine vv_callIN (n := 12) (ar := 0) (i := (gN s)) (av := []) (rest := [.ref (gN s), .ref i]) (con_W_init l false s2 (gN s) (fun h => by cases h)) (fun h => by cases h) (fun h => by cases h) (fun _ => rfl) (fun _ _ => ⟨vlc h3.1.2 vl0, vsc h3.2 (vsc h3.1.2 vs0)⟩) dX1_init_9 rfl rfl (Nat.le_of_ble_eq_true rfl) ⟨Nat.le_of_ble_eq_true rfl, Nat.le_of_ble_eq_true rfl⟩ rfl q128 q98 q129 q130 rfl (by decide +kernel) (fun s4 _ _ => ?_)
  show VC l false true eSV cX1_init RX1 "<init>" 1 2 60 none s4 12 [(0, .ref i)] [.ref (gN s), .ref i] _
  refine vv_ask (fun h5 => ?_)
  refine vv_putR (n := 15) (ci := 0) (k := 0) (r := some (gN s)) (T := TX1) (ty := tyX1) (fty := .object "PullThePlug$Water") cd0 cp0 (by decide) rfl (fun _ => h5.1) (Or.inl q172) (Or.inr ⟨rfl, rfl, rfl, q172⟩) (by decide +kernel) (Or.inl ⟨_, rfl⟩) (fun _ a e => by cases e; exact h5.2) (fun h => by cases h) dX1_init_12 rfl (fun s6 => ?_)
  refine vv_aload_n (n := 16) dX1_init_15 rfl 0 rfl ?_
  refine vv_ask (fun h7 => ?_)
  refine vv_new (n := 19) (ci := 1) (T := TX2) (ty := tyX2) cd1 tyX2_ok (by decide +kernel) q126 q127 q98 (fun _ => vlc h7.2 vl0) (fun _ => vsc h7.2 vs0) dX1_init_16 rfl (fun s8 g8 _ => ?_)
  refine vv_dup (n := 20) dX1_init_19 rfl rfl ?_
  refine vv_ask (fun h9 => ?_)
  refine vv_callIN (n := 23) (ar := 0) (i := (gN s6)) (av := []) (rest := [.ref (gN s6), .ref i]) (con_W_init l false s8 (gN s6) (fun h => by cases h)) (fun h => by cases h) (fun h => by cases h) (fun _ => rfl) (fun _ _ => ⟨vlc h9.1.2 vl0, vsc h9.2 (vsc h9.1.2 vs0)⟩) dX1_init_20 rfl rfl (Nat.le_of_ble_eq_true rfl) ⟨Nat.le_of_ble_eq_true rfl, Nat.le_of_ble_eq_true rfl⟩ rfl q128 q98 q129 q130 rfl (by decide +kernel) (fun s10 _ _ => ?_)
  show VC l false true eSV cX1_init RX1 "<init>" 1 2 60 none s10 23 [(0, .ref i)] [.ref (gN s6), .ref i] _
  refine vv_ask (fun h11 => ?_)
  refine vv_putR (n := 26) (ci := 0) (k := 1) (r := some (gN s6)) (T := TX1) (ty := tyX1) (fty := .object "PullThePlug$Water") cd0 cp0 (by decide) rfl (fun _ => h11.1) (Or.inl q173) (Or.inr ⟨rfl, rfl, rfl, q173⟩) (by decide +kernel) (Or.inl ⟨_, rfl⟩) (fun _ a e => by cases e; exact h11.2) (fun h => by cases h) dX1_init_23 rfl (fun s12 => ?_)
  refine vv_aload_n (n := 27) dX1_init_26 rfl 0 rfl ?_
  refine vv_bipush (n := 29) (v := 6) dX1_init_27 rfl (by decide) ?_
  refine vv_ask (fun h13 => ?_)
  refine vv_newarr (n := 31) (atype := .int) (ty := .int) (N := 6) (kd := 0) (v := 6) (6, .inl fun _ => 0) rfl q170 (by decide) (by decide) (by decide) (fun _ => rfl) (fun _ h => by cases h) (fun _ _ => rfl) (fun _ => rfl) (fun _ => vlc h13.2 vl0) (fun _ => vsc h13.2 vs0) dX1_init_29 rfl (fun s14 g14 _ => ?_)
  refine vv_ask (fun h15 => ?_)
  refine vv_putR (n := 34) (ci := 0) (k := 2) (r := some (gN s12)) (T := TX1) (ty := tyX1) (fty := .array .int) cd0 cp0 (by decide) rfl (fun _ => h15.1) (Or.inl q174) (Or.inr ⟨rfl, rfl, rfl, q174⟩) (by decide +kernel) (Or.inr ⟨_, rfl⟩) (fun _ a e => by cases e; exact h15.2) (fun h => by cases h) dX1_init_31 rfl (fun s16 => ?_)
  refine vv_aload_n (n := 35) dX1_init_34 rfl 0 rfl ?_
  refine vv_bipush (n := 37) (v := 6) dX1_init_35 rfl (by decide) ?_
  refine vv_ask (fun h17 => ?_)
  refine vv_newarr (n := 39) (atype := .int) (ty := .int) (N := 6) (kd := 0) (v := 6) (6, .inl fun _ => 0) rfl q170 (by decide) (by decide) (by decide) (fun _ => rfl) (fun _ h => by cases h) (fun _ _ => rfl) (fun _ => rfl) (fun _ => vlc h17.2 vl0) (fun _ => vsc h17.2 vs0) dX1_init_37 rfl (fun s18 g18 _ => ?_)
  refine vv_ask (fun h19 => ?_)
  refine vv_putR (n := 42) (ci := 0) (k := 3) (r := some (gN s16)) (T := TX1) (ty := tyX1) (fty := .array .int) cd0 cp0 (by decide) rfl (fun _ => h19.1) (Or.inl q176) (Or.inr ⟨rfl, rfl, rfl, q176⟩) (by decide +kernel) (Or.inr ⟨_, rfl⟩) (fun _ a e => by cases e; exact h19.2) (fun h => by cases h) dX1_init_39 rfl (fun s20 => ?_)
  refine vv_aload_n (n := 43) dX1_init_42 rfl 0 rfl ?_
  refine vv_bipush (n := 45) (v := 6) dX1_init_43 rfl (by decide) ?_
  refine vv_ask (fun h21 => ?_)
  refine vv_newarr (n := 47) (atype := .int) (ty := .int) (N := 6) (kd := 0) (v := 6) (6, .inl fun _ => 0) rfl q170 (by decide) (by decide) (by decide) (fun _ => rfl) (fun _ h => by cases h) (fun _ _ => rfl) (fun _ => rfl) (fun _ => vlc h21.2 vl0) (fun _ => vsc h21.2 vs0) dX1_init_45 rfl (fun s22 g22 _ => ?_)
  refine vv_ask (fun h23 => ?_)
  refine vv_putR (n := 50) (ci := 0) (k := 4) (r := some (gN s20)) (T := TX1) (ty := tyX1) (fty := .array .int) cd0 cp0 (by decide) rfl (fun _ => h23.1) (Or.inl q177) (Or.inr ⟨rfl, rfl, rfl, q177⟩) (by decide +kernel) (Or.inr ⟨_, rfl⟩) (fun _ a e => by cases e; exact h23.2) (fun h => by cases h) dX1_init_47 rfl (fun s24 => ?_)
  refine vv_aload_n (n := 51) dX1_init_50 rfl 0 rfl ?_
  refine vv_bipush (n := 53) (v := 80) dX1_init_51 rfl (by decide) ?_
  refine vv_ask (fun h25 => ?_)
  refine vv_newarr (n := 55) (atype := .int) (ty := .int) (N := 80) (kd := 0) (v := 80) (80, .inl fun _ => 0) rfl q170 (by decide) (by decide) (by decide) (fun _ => rfl) (fun _ h => by cases h) (fun _ _ => rfl) (fun _ => rfl) (fun _ => vlc h25.2 vl0) (fun _ => vsc h25.2 vs0) dX1_init_53 rfl (fun s26 g26 _ => ?_)
  refine vv_ask (fun h27 => ?_)
  refine vv_putR (n := 58) (ci := 0) (k := 7) (r := some (gN s24)) (T := TX1) (ty := tyX1) (fty := .array .int) cd0 cp0 (by decide) rfl (fun _ => h27.1) (Or.inl q180) (Or.inr ⟨rfl, rfl, rfl, q180⟩) (by decide +kernel) (Or.inr ⟨_, rfl⟩) (fun _ a e => by cases e; exact h27.2) (fun h => by cases h) dX1_init_55 rfl (fun s28 => ?_)
  refine vv_aload_n (n := 59) dX1_init_58 rfl 0 rfl ?_
  refine vv_bipush (n := 61) (v := 6) dX1_init_59 rfl (by decide) ?_
  refine vv_ask (fun h29 => ?_)
  refine vv_newarr (n := 63) (atype := .int) (ty := .int) (N := 6) (kd := 0) (v := 6) (6, .inl fun _ => 0) rfl q170 (by decide) (by decide) (by decide) (fun _ => rfl) (fun _ h => by cases h) (fun _ _ => rfl) (fun _ => rfl) (fun _ => vlc h29.2 vl0) (fun _ => vsc h29.2 vs0) dX1_init_61 rfl (fun s30 g30 _ => ?_)
  refine vv_ask (fun h31 => ?_)
  refine vv_putR (n := 66) (ci := 0) (k := 12) (r := some (gN s28)) (T := TX1) (ty := tyX1) (fty := .array .int) cd0 cp0 (by decide) rfl (fun _ => h31.1) (Or.inl q185) (Or.inr ⟨rfl, rfl, rfl, q185⟩) (by decide +kernel) (Or.inr ⟨_, rfl⟩) (fun _ a e => by cases e; exact h31.2) (fun h => by cases h) dX1_init_63 rfl (fun s32 => ?_)
  refine vv_aload_n (n := 67) dX1_init_66 rfl 0 rfl ?_
  refine vv_bipush (n := 69) (v := 6) dX1_init_67 rfl (by decide) ?_
  refine vv_ask (fun h33 => ?_)
  refine vv_newarr (n := 71) (atype := .int) (ty := .int) (N := 6) (kd := 0) (v := 6) (6, .inl fun _ => 0) rfl q170 (by decide) (by decide) (by decide) (fun _ => rfl) (fun _ h => by cases h) (fun _ _ => rfl) (fun _ => rfl) (fun _ => vlc h33.2 vl0) (fun _ => vsc h33.2 vs0) dX1_init_69 rfl (fun s34 g34 _ => ?_)
  refine vv_ask (fun h35 => ?_)
  refine vv_putR (n := 74) (ci := 0) (k := 13) (r := some (gN s32)) (T := TX1) (ty := tyX1) (fty := .array .int) cd0 cp0 (by decide) rfl (fun _ => h35.1) (Or.inl q186) (Or.inr ⟨rfl, rfl, rfl, q186⟩) (by decide +kernel) (Or.inr ⟨_, rfl⟩) (fun _ a e => by cases e; exact h35.2) (fun h => by cases h) dX1_init_71 rfl (fun s36 => ?_)
  refine vv_aload_n (n := 75) dX1_init_74 rfl 0 rfl ?_
  refine vv_bipush (n := 77) (v := 6) dX1_init_75 rfl (by decide) ?_
  refine vv_ask (fun h37 => ?_)
  refine vv_newarr (n := 79) (atype := .int) (ty := .int) (N := 6) (kd := 0) (v := 6) (6, .inl fun _ => 0) rfl q170 (by decide) (by decide) (by decide) (fun _ => rfl) (fun _ h => by cases h) (fun _ _ => rfl) (fun _ => rfl) (fun _ => vlc h37.2 vl0) (fun _ => vsc h37.2 vs0) dX1_init_77 rfl (fun s38 g38 _ => ?_)
  refine vv_ask (fun h39 => ?_)
  refine vv_putR (n := 82) (ci := 0) (k := 14) (r := some (gN s36)) (T := TX1) (ty := tyX1) (fty := .array .int) cd0 cp0 (by decide) rfl (fun _ => h39.1) (Or.inl q187) (Or.inr ⟨rfl, rfl, rfl, q187⟩) (by decide +kernel) (Or.inr ⟨_, rfl⟩) (fun _ a e => by cases e; exact h39.2) (fun h => by cases h) dX1_init_79 rfl (fun s40 => ?_)
  refine vv_aload_n (n := 83) dX1_init_82 rfl 0 rfl ?_
  refine vv_bipush (n := 85) (v := 6) dX1_init_83 rfl (by decide) ?_
  refine vv_ask (fun h41 => ?_)
  refine vv_newarr (n := 87) (atype := .int) (ty := .int) (N := 6) (kd := 0) (v := 6) (6, .inl fun _ => 0) rfl q170 (by decide) (by decide) (by decide) (fun _ => rfl) (fun _ h => by cases h) (fun _ _ => rfl) (fun _ => rfl) (fun _ => vlc h41.2 vl0) (fun _ => vsc h41.2 vs0) dX1_init_85 rfl (fun s42 g42 _ => ?_)
  refine vv_ask (fun h43 => ?_)
  refine vv_putR (n := 90) (ci := 0) (k := 15) (r := some (gN s40)) (T := TX1) (ty := tyX1) (fty := .array .int) cd0 cp0 (by decide) rfl (fun _ => h43.1) (Or.inl q188) (Or.inr ⟨rfl, rfl, rfl, q188⟩) (by decide +kernel) (Or.inr ⟨_, rfl⟩) (fun _ a e => by cases e; exact h43.2) (fun h => by cases h) dX1_init_87 rfl (fun s44 => ?_)
  refine vv_aload_n (n := 91) dX1_init_90 rfl 0 rfl ?_
  refine vv_bipush (n := 93) (v := 6) dX1_init_91 rfl (by decide) ?_
  refine vv_ask (fun h45 => ?_)
  refine vv_newarr (n := 95) (atype := .int) (ty := .int) (N := 6) (kd := 0) (v := 6) (6, .inl fun _ => 0) rfl q170 (by decide) (by decide) (by decide) (fun _ => rfl) (fun _ h => by cases h) (fun _ _ => rfl) (fun _ => rfl) (fun _ => vlc h45.2 vl0) (fun _ => vsc h45.2 vs0) dX1_init_93 rfl (fun s46 g46 _ => ?_)
  refine vv_ask (fun h47 => ?_)
  refine vv_putR (n := 98) (ci := 0) (k := 16) (r := some (gN s44)) (T := TX1) (ty := tyX1) (fty := .array .int) cd0 cp0 (by decide) rfl (fun _ => h47.1) (Or.inl q189) (Or.inr ⟨rfl, rfl, rfl, q189⟩) (by decide +kernel) (Or.inr ⟨_, rfl⟩) (fun _ a e => by cases e; exact h47.2) (fun h => by cases h) dX1_init_95 rfl (fun s48 => ?_)
  refine vv_aload_n (n := 99) dX1_init_98 rfl 0 rfl ?_
  refine vv_bipush (n := 101) (v := 12) dX1_init_99 rfl (by decide) ?_
  refine vv_ask (fun h49 => ?_)
  refine vv_newq (n := 104) (N := 12) (v := 12) q126 (by decide) (by decide) (by decide) (fun _ => vlc h49.2 vl0) (fun _ => vsc h49.2 vs0) dX1_init_101 rfl (fun s50 g50 _ => ?_)
  refine vv_ask (fun h51 => ?_)
  refine vv_putR (n := 107) (ci := 0) (k := 22) (r := some (gN s48)) (T := TX1) (ty := tyX1) (fty := .array (.object "PullThePlug$Water")) cd0 cp0 (by decide) rfl (fun _ => h51.1) (Or.inl q197) (Or.inr ⟨rfl, rfl, rfl, q197⟩) (by decide +kernel) (Or.inr ⟨_, rfl⟩) (fun _ a e => by cases e; exact h51.2) (fun h => by cases h) dX1_init_104 rfl (fun s52 => ?_)
  refine vv_aload_n (n := 108) dX1_init_107 rfl 0 rfl ?_
  refine vv_ask (fun h53 => ?_)
  refine vv_new (n := 111) (ci := 1) (T := TX2) (ty := tyX2) cd1 tyX2_ok (by decide +kernel) q126 q127 q98 (fun _ => vlc h53.2 vl0) (fun _ => vsc h53.2 vs0) dX1_init_108 rfl (fun s54 g54 _ => ?_)
  refine vv_dup (n := 112) dX1_init_111 rfl rfl ?_
  refine vv_ask (fun h55 => ?_)
  refine vv_callIN (n := 115) (ar := 0) (i := (gN s52)) (av := []) (rest := [.ref (gN s52), .ref i]) (con_W_init l false s54 (gN s52) (fun h => by cases h)) (fun h => by cases h) (fun h => by cases h) (fun _ => rfl) (fun _ _ => ⟨vlc h55.1.2 vl0, vsc h55.2 (vsc h55.1.2 vs0)⟩) dX1_init_112 rfl rfl (Nat.le_of_ble_eq_true rfl) ⟨Nat.le_of_ble_eq_true rfl, Nat.le_of_ble_eq_true rfl⟩ rfl q128 q98 q129 q130 rfl (by decide +kernel) (fun s56 _ _ => ?_)
  show VC l false true eSV cX1_init RX1 "<init>" 1 2 60 none s56 115 [(0, .ref i)] [.ref (gN s52), .ref i] _
  refine vv_ask (fun h57 => ?_)
  refine vv_putR (n := 118) (ci := 0) (k := 23) (r := some (gN s52)) (T := TX1) (ty := tyX1) (fty := .object "PullThePlug$Water") cd0 cp0 (by decide) rfl (fun _ => h57.1) (Or.inl q198) (Or.inr ⟨rfl, rfl, rfl, q198⟩) (by decide +kernel) (Or.inl ⟨_, rfl⟩) (fun _ a e => by cases e; exact h57.2) (fun h => by cases h) dX1_init_115 rfl (fun s58 => ?_)
  refine vv_aload_n (n := 119) dX1_init_118 rfl 0 rfl ?_
  refine vv_bipush (n := 121) (v := 6) dX1_init_119 rfl (by decide) ?_
  refine vv_ask (fun h59 => ?_)
  refine vv_newarr (n := 123) (atype := .int) (ty := .int) (N := 6) (kd := 0) (v := 6) (6, .inl fun _ => 0) rfl q170 (by decide) (by decide) (by decide) (fun _ => rfl) (fun _ h => by cases h) (fun _ _ => rfl) (fun _ => rfl) (fun _ => vlc h59.2 vl0) (fun _ => vsc h59.2 vs0) dX1_init_121 rfl (fun s60 g60 _ => ?_)
  refine vv_ask (fun h61 => ?_)
  refine vv_putR (n := 126) (ci := 0) (k := 25) (r := some (gN s58)) (T := TX1) (ty := tyX1) (fty := .array .int) cd0 cp0 (by decide) rfl (fun _ => h61.1) (Or.inl q200) (Or.inr ⟨rfl, rfl, rfl, q200⟩) (by decide +kernel) (Or.inr ⟨_, rfl⟩) (fun _ a e => by cases e; exact h61.2) (fun h => by cases h) dX1_init_123 rfl (fun s62 => ?_)
  refine vv_aload_n (n := 127) dX1_init_126 rfl 0 rfl ?_
  refine vv_bipush (n := 129) (v := 6) dX1_init_127 rfl (by decide) ?_
  refine vv_ask (fun h63 => ?_)
  refine vv_newarr (n := 131) (atype := .int) (ty := .int) (N := 6) (kd := 0) (v := 6) (6, .inl fun _ => 0) rfl q170 (by decide) (by decide) (by decide) (fun _ => rfl) (fun _ h => by cases h) (fun _ _ => rfl) (fun _ => rfl) (fun _ => vlc h63.2 vl0) (fun _ => vsc h63.2 vs0) dX1_init_129 rfl (fun s64 g64 _ => ?_)
  refine vv_ask (fun h65 => ?_)
  refine vv_putR (n := 134) (ci := 0) (k := 26) (r := some (gN s62)) (T := TX1) (ty := tyX1) (fty := .array .int) cd0 cp0 (by decide) rfl (fun _ => h65.1) (Or.inl q201) (Or.inr ⟨rfl, rfl, rfl, q201⟩) (by decide +kernel) (Or.inr ⟨_, rfl⟩) (fun _ a e => by cases e; exact h65.2) (fun h => by cases h) dX1_init_131 rfl (fun s66 => ?_)
  refine vv_aload_n (n := 135) dX1_init_134 rfl 0 rfl ?_
  refine vv_bipush (n := 137) (v := 60) dX1_init_135 rfl (by decide) ?_
  refine vv_ask (fun h67 => ?_)
  refine vv_newarr (n := 139) (atype := .int) (ty := .int) (N := 60) (kd := 0) (v := 60) (60, .inl fun _ => 0) rfl q170 (by decide) (by decide) (by decide) (fun _ => rfl) (fun _ h => by cases h) (fun _ _ => rfl) (fun _ => rfl) (fun _ => vlc h67.2 vl0) (fun _ => vsc h67.2 vs0) dX1_init_137 rfl (fun s68 g68 _ => ?_)
  refine vv_ask (fun h69 => ?_)
  refine vv_putR (n := 142) (ci := 0) (k := 27) (r := some (gN s66)) (T := TX1) (ty := tyX1) (fty := .array .int) cd0 cp0 (by decide) rfl (fun _ => h69.1) (Or.inl q202) (Or.inr ⟨rfl, rfl, rfl, q202⟩) (by decide +kernel) (Or.inr ⟨_, rfl⟩) (fun _ a e => by cases e; exact h69.2) (fun h => by cases h) dX1_init_139 rfl (fun s70 => ?_)
  refine vv_aload_n (n := 143) dX1_init_142 rfl 0 rfl ?_
  refine vv_bipush (n := 145) (v := 60) dX1_init_143 rfl (by decide) ?_
  refine vv_ask (fun h71 => ?_)
  refine vv_newarr (n := 147) (atype := .int) (ty := .int) (N := 60) (kd := 0) (v := 60) (60, .inl fun _ => 0) rfl q170 (by decide) (by decide) (by decide) (fun _ => rfl) (fun _ h => by cases h) (fun _ _ => rfl) (fun _ => rfl) (fun _ => vlc h71.2 vl0) (fun _ => vsc h71.2 vs0) dX1_init_145 rfl (fun s72 g72 _ => ?_)
  refine vv_ask (fun h73 => ?_)
  refine vv_putR (n := 150) (ci := 0) (k := 28) (r := some (gN s70)) (T := TX1) (ty := tyX1) (fty := .array .int) cd0 cp0 (by decide) rfl (fun _ => h73.1) (Or.inl q203) (Or.inr ⟨rfl, rfl, rfl, q203⟩) (by decide +kernel) (Or.inr ⟨_, rfl⟩) (fun _ a e => by cases e; exact h73.2) (fun h => by cases h) dX1_init_147 rfl (fun s74 => ?_)
  refine vv_aload_n (n := 151) dX1_init_150 rfl 0 rfl ?_
  refine vv_bipush (n := 153) (v := 60) dX1_init_151 rfl (by decide) ?_
  refine vv_ask (fun h75 => ?_)
  refine vv_newarr (n := 155) (atype := .int) (ty := .int) (N := 60) (kd := 0) (v := 60) (60, .inl fun _ => 0) rfl q170 (by decide) (by decide) (by decide) (fun _ => rfl) (fun _ h => by cases h) (fun _ _ => rfl) (fun _ => rfl) (fun _ => vlc h75.2 vl0) (fun _ => vsc h75.2 vs0) dX1_init_153 rfl (fun s76 g76 _ => ?_)
  refine vv_ask (fun h77 => ?_)
  refine vv_putR (n := 158) (ci := 0) (k := 29) (r := some (gN s74)) (T := TX1) (ty := tyX1) (fty := .array .int) cd0 cp0 (by decide) rfl (fun _ => h77.1) (Or.inl q204) (Or.inr ⟨rfl, rfl, rfl, q204⟩) (by decide +kernel) (Or.inr ⟨_, rfl⟩) (fun _ a e => by cases e; exact h77.2) (fun h => by cases h) dX1_init_155 rfl (fun s78 => ?_)
  refine vv_aload_n (n := 159) dX1_init_158 rfl 0 rfl ?_
  refine vv_bipush (n := 161) (v := 10) dX1_init_159 rfl (by decide) ?_
  refine vv_ask (fun h79 => ?_)
  refine vv_newarr (n := 163) (atype := .int) (ty := .int) (N := 10) (kd := 0) (v := 10) (10, .inl fun _ => 0) rfl q170 (by decide) (by decide) (by decide) (fun _ => rfl) (fun _ h => by cases h) (fun _ _ => rfl) (fun _ => rfl) (fun _ => vlc h79.2 vl0) (fun _ => vsc h79.2 vs0) dX1_init_161 rfl (fun s80 g80 _ => ?_)
  refine vv_ask (fun h81 => ?_)
  refine vv_putR (n := 166) (ci := 0) (k := 32) (r := some (gN s78)) (T := TX1) (ty := tyX1) (fty := .array .int) cd0 cp0 (by decide) rfl (fun _ => h81.1) (Or.inl q207) (Or.inr ⟨rfl, rfl, rfl, q207⟩) (by decide +kernel) (Or.inr ⟨_, rfl⟩) (fun _ a e => by cases e; exact h81.2) (fun h => by cases h) dX1_init_163 rfl (fun s82 => ?_)
  refine vv_aload_n (n := 167) dX1_init_166 rfl 0 rfl ?_
  refine vv_bipush (n := 169) (v := 10) dX1_init_167 rfl (by decide) ?_
  refine vv_ask (fun h83 => ?_)
  refine vv_newarr (n := 171) (atype := .int) (ty := .int) (N := 10) (kd := 0) (v := 10) (10, .inl fun _ => 0) rfl q170 (by decide) (by decide) (by decide) (fun _ => rfl) (fun _ h => by cases h) (fun _ _ => rfl) (fun _ => rfl) (fun _ => vlc h83.2 vl0) (fun _ => vsc h83.2 vs0) dX1_init_169 rfl (fun s84 g84 _ => ?_)
  refine vv_ask (fun h85 => ?_)
  refine vv_putR (n := 174) (ci := 0) (k := 33) (r := some (gN s82)) (T := TX1) (ty := tyX1) (fty := .array .int) cd0 cp0 (by decide) rfl (fun _ => h85.1) (Or.inl q208) (Or.inr ⟨rfl, rfl, rfl, q208⟩) (by decide +kernel) (Or.inr ⟨_, rfl⟩) (fun _ a e => by cases e; exact h85.2) (fun h => by cases h) dX1_init_171 rfl (fun s86 => ?_)
  refine vv_aload_n (n := 175) dX1_init_174 rfl 0 rfl ?_
  refine vv_bipush (n := 177) (v := 10) dX1_init_175 rfl (by decide) ?_
  refine vv_ask (fun h87 => ?_)
  refine vv_newarr (n := 179) (atype := .int) (ty := .int) (N := 10) (kd := 0) (v := 10) (10, .inl fun _ => 0) rfl q170 (by decide) (by decide) (by decide) (fun _ => rfl) (fun _ h => by cases h) (fun _ _ => rfl) (fun _ => rfl) (fun _ => vlc h87.2 vl0) (fun _ => vsc h87.2 vs0) dX1_init_177 rfl (fun s88 g88 _ => ?_)
  refine vv_ask (fun h89 => ?_)
  refine vv_putR (n := 182) (ci := 0) (k := 34) (r := some (gN s86)) (T := TX1) (ty := tyX1) (fty := .array .int) cd0 cp0 (by decide) rfl (fun _ => h89.1) (Or.inl q209) (Or.inr ⟨rfl, rfl, rfl, q209⟩) (by decide +kernel) (Or.inr ⟨_, rfl⟩) (fun _ a e => by cases e; exact h89.2) (fun h => by cases h) dX1_init_179 rfl (fun s90 => ?_)
  refine vv_aload_n (n := 183) dX1_init_182 rfl 0 rfl ?_
  refine vv_bipush (n := 185) (v := 55) dX1_init_183 rfl (by decide) ?_
  refine vv_ask (fun h91 => ?_)
  refine vv_newarr (n := 187) (atype := .boolean) (ty := .boolean) (N := 55) (kd := 3) (v := 55) (55, .inl fun _ => 0) rfl q323 (by decide) (by decide) (by decide) (fun _ => rfl) (fun _ h => by cases h) (fun _ _ => rfl) (fun _ => rfl) (fun _ => vlc h91.2 vl0) (fun _ => vsc h91.2 vs0) dX1_init_185 rfl (fun s92 g92 _ => ?_)
  refine vv_ask (fun h93 => ?_)
  refine vv_putR (n := 190) (ci := 0) (k := 35) (r := some (gN s90)) (T := TX1) (ty := tyX1) (fty := .array .boolean) cd0 cp0 (by decide) rfl (fun _ => h93.1) (Or.inl q210) (Or.inr ⟨rfl, rfl, rfl, q210⟩) (by decide +kernel) (Or.inr ⟨_, rfl⟩) (fun _ a e => by cases e; exact h93.2) (fun h => by cases h) dX1_init_187 rfl (fun s94 => ?_)
  refine vv_aload_n (n := 191) dX1_init_190 rfl 0 rfl ?_
  refine vv_sipush (n := 194) (v := 6930) dX1_init_191 rfl (by decide) ?_
  refine vv_ask (fun h95 => ?_)
  refine vv_newarr (n := 196) (atype := .int) (ty := .int) (N := 6930) (kd := 0) (v := 6930) (6930, .inl fun _ => 0) rfl q170 (by decide) (by decide) (by decide) (fun _ => rfl) (fun _ h => by cases h) (fun _ _ => rfl) (fun _ => rfl) (fun _ => vlc h95.2 vl0) (fun _ => vsc h95.2 vs0) dX1_init_194 rfl (fun s96 g96 _ => ?_)
  refine vv_ask (fun h97 => ?_)
  refine vv_putR (n := 199) (ci := 0) (k := 36) (r := some (gN s94)) (T := TX1) (ty := tyX1) (fty := .array .int) cd0 cp0 (by decide) rfl (fun _ => h97.1) (Or.inl q211) (Or.inr ⟨rfl, rfl, rfl, q211⟩) (by decide +kernel) (Or.inr ⟨_, rfl⟩) (fun _ a e => by cases e; exact h97.2) (fun h => by cases h) dX1_init_196 rfl (fun s98 => ?_)
  refine vv_aload_n (n := 200) dX1_init_199 rfl 0 rfl ?_
  refine vv_bipush (n := 202) (v := 100) dX1_init_200 rfl (by decide) ?_
  refine vv_ask (fun h99 => ?_)
  refine vv_newarr (n := 204) (atype := .int) (ty := .int) (N := 100) (kd := 0) (v := 100) (100, .inl fun _ => 0) rfl q170 (by decide) (by decide) (by decide) (fun _ => rfl) (fun _ h => by cases h) (fun _ _ => rfl) (fun _ => rfl) (fun _ => vlc h99.2 vl0) (fun _ => vsc h99.2 vs0) dX1_init_202 rfl (fun s100 g100 _ => ?_)
  refine vv_ask (fun h101 => ?_)
  refine vv_putR (n := 207) (ci := 0) (k := 37) (r := some (gN s98)) (T := TX1) (ty := tyX1) (fty := .array .int) cd0 cp0 (by decide) rfl (fun _ => h101.1) (Or.inl q212) (Or.inr ⟨rfl, rfl, rfl, q212⟩) (by decide +kernel) (Or.inr ⟨_, rfl⟩) (fun _ a e => by cases e; exact h101.2) (fun h => by cases h) dX1_init_204 rfl (fun s102 => ?_)
  refine vv_aload_n (n := 208) dX1_init_207 rfl 0 rfl ?_
  refine vv_bipush (n := 210) (v := 6) dX1_init_208 rfl (by decide) ?_
  refine vv_ask (fun h103 => ?_)
  refine vv_newarr (n := 212) (atype := .int) (ty := .int) (N := 6) (kd := 0) (v := 6) (6, .inl fun _ => 0) rfl q170 (by decide) (by decide) (by decide) (fun _ => rfl) (fun _ h => by cases h) (fun _ _ => rfl) (fun _ => rfl) (fun _ => vlc h103.2 vl0) (fun _ => vsc h103.2 vs0) dX1_init_210 rfl (fun s104 g104 _ => ?_)
  refine vv_ask (fun h105 => ?_)
  refine vv_putR (n := 215) (ci := 0) (k := 38) (r := some (gN s102)) (T := TX1) (ty := tyX1) (fty := .array .int) cd0 cp0 (by decide) rfl (fun _ => h105.1) (Or.inl q213) (Or.inr ⟨rfl, rfl, rfl, q213⟩) (by decide +kernel) (Or.inr ⟨_, rfl⟩) (fun _ a e => by cases e; exact h105.2) (fun h => by cases h) dX1_init_212 rfl (fun s106 => ?_)
  refine vv_aload_n (n := 216) dX1_init_215 rfl 0 rfl ?_
  refine vv_bipush (n := 218) (v := 6) dX1_init_216 rfl (by decide) ?_
  refine vv_ask (fun h107 => ?_)
  refine vv_newarr (n := 220) (atype := .int) (ty := .int) (N := 6) (kd := 0) (v := 6) (6, .inl fun _ => 0) rfl q170 (by decide) (by decide) (by decide) (fun _ => rfl) (fun _ h => by cases h) (fun _ _ => rfl) (fun _ => rfl) (fun _ => vlc h107.2 vl0) (fun _ => vsc h107.2 vs0) dX1_init_218 rfl (fun s108 g108 _ => ?_)
  refine vv_ask (fun h109 => ?_)
  refine vv_putR (n := 223) (ci := 0) (k := 39) (r := some (gN s106)) (T := TX1) (ty := tyX1) (fty := .array .int) cd0 cp0 (by decide) rfl (fun _ => h109.1) (Or.inl q214) (Or.inr ⟨rfl, rfl, rfl, q214⟩) (by decide +kernel) (Or.inr ⟨_, rfl⟩) (fun _ a e => by cases e; exact h109.2) (fun h => by cases h) dX1_init_220 rfl (fun s110 => ?_)
  refine vv_aload_n (n := 224) dX1_init_223 rfl 0 rfl ?_
  refine vv_bipush (n := 226) (v := 6) dX1_init_224 rfl (by decide) ?_
  refine vv_ask (fun h111 => ?_)
  refine vv_newarr (n := 228) (atype := .int) (ty := .int) (N := 6) (kd := 0) (v := 6) (6, .inl fun _ => 0) rfl q170 (by decide) (by decide) (by decide) (fun _ => rfl) (fun _ h => by cases h) (fun _ _ => rfl) (fun _ => rfl) (fun _ => vlc h111.2 vl0) (fun _ => vsc h111.2 vs0) dX1_init_226 rfl (fun s112 g112 _ => ?_)
  refine vv_ask (fun h113 => ?_)
  refine vv_putR (n := 231) (ci := 0) (k := 40) (r := some (gN s110)) (T := TX1) (ty := tyX1) (fty := .array .int) cd0 cp0 (by decide) rfl (fun _ => h113.1) (Or.inl q215) (Or.inr ⟨rfl, rfl, rfl, q215⟩) (by decide +kernel) (Or.inr ⟨_, rfl⟩) (fun _ a e => by cases e; exact h113.2) (fun h => by cases h) dX1_init_228 rfl (fun s114 => ?_)
  refine vv_aload_n (n := 232) dX1_init_231 rfl 0 rfl ?_
  refine vv_bipush (n := 234) (v := 6) dX1_init_232 rfl (by decide) ?_
  refine vv_ask (fun h115 => ?_)
  refine vv_newarr (n := 236) (atype := .long) (ty := .long) (N := 6) (kd := 1) (v := 6) (6, .inr (.inl fun _ => 0)) rfl q324 (by decide) (by decide) (by decide) (fun _ => rfl) (fun _ h => by cases h) (fun _ _ => rfl) (fun _ => rfl) (fun _ => vlc h115.2 vl0) (fun _ => vsc h115.2 vs0) dX1_init_234 rfl (fun s116 g116 _ => ?_)
  refine vv_ask (fun h117 => ?_)
  refine vv_putR (n := 239) (ci := 0) (k := 42) (r := some (gN s114)) (T := TX1) (ty := tyX1) (fty := .array .long) cd0 cp0 (by decide) rfl (fun _ => h117.1) (Or.inl q217) (Or.inr ⟨rfl, rfl, rfl, q217⟩) (by decide +kernel) (Or.inr ⟨_, rfl⟩) (fun _ a e => by cases e; exact h117.2) (fun h => by cases h) dX1_init_236 rfl (fun s118 => ?_)
  refine vv_aload_n (n := 240) dX1_init_239 rfl 0 rfl ?_
  refine vv_bipush (n := 242) (v := 6) dX1_init_240 rfl (by decide) ?_
  refine vv_ask (fun h119 => ?_)
  refine vv_newarr (n := 244) (atype := .long) (ty := .long) (N := 6) (kd := 1) (v := 6) (6, .inr (.inl fun _ => 0)) rfl q324 (by decide) (by decide) (by decide) (fun _ => rfl) (fun _ h => by cases h) (fun _ _ => rfl) (fun _ => rfl) (fun _ => vlc h119.2 vl0) (fun _ => vsc h119.2 vs0) dX1_init_242 rfl (fun s120 g120 _ => ?_)
  refine vv_ask (fun h121 => ?_)
  refine vv_putR (n := 247) (ci := 0) (k := 43) (r := some (gN s118)) (T := TX1) (ty := tyX1) (fty := .array .long) cd0 cp0 (by decide) rfl (fun _ => h121.1) (Or.inl q218) (Or.inr ⟨rfl, rfl, rfl, q218⟩) (by decide +kernel) (Or.inr ⟨_, rfl⟩) (fun _ a e => by cases e; exact h121.2) (fun h => by cases h) dX1_init_244 rfl (fun s122 => ?_)
  refine vv_aload_n (n := 248) dX1_init_247 rfl 0 rfl ?_
  refine vv_iconst (n := 249) (v := 2) dX1_init_248 rfl (by decide) ?_
  refine vv_ask (fun h123 => ?_)
  refine vv_newq (n := 252) (N := 2) (v := 2) q126 (by decide) (by decide) (by decide) (fun _ => vlc h123.2 vl0) (fun _ => vsc h123.2 vs0) dX1_init_249 rfl (fun s124 g124 _ => ?_)
  refine vv_ask (fun h125 => ?_)
  refine vv_putR (n := 255) (ci := 0) (k := 45) (r := some (gN s122)) (T := TX1) (ty := tyX1) (fty := .array (.object "PullThePlug$Water")) cd0 cp0 (by decide) rfl (fun _ => h125.1) (Or.inl q220) (Or.inr ⟨rfl, rfl, rfl, q220⟩) (by decide +kernel) (Or.inr ⟨_, rfl⟩) (fun _ a e => by cases e; exact h125.2) (fun h => by cases h) dX1_init_252 rfl (fun s126 => ?_)
  refine vv_aload_n (n := 256) dX1_init_255 rfl 0 rfl ?_
  refine vv_iconst (n := 257) (v := 2) dX1_init_256 rfl (by decide) ?_
  refine vv_ask (fun h127 => ?_)
  refine vv_newarr (n := 259) (atype := .int) (ty := .int) (N := 2) (kd := 0) (v := 2) (2, .inl fun _ => 0) rfl q170 (by decide) (by decide) (by decide) (fun _ => rfl) (fun _ h => by cases h) (fun _ _ => rfl) (fun _ => rfl) (fun _ => vlc h127.2 vl0) (fun _ => vsc h127.2 vs0) dX1_init_257 rfl (fun s128 g128 _ => ?_)
  refine vv_ask (fun h129 => ?_)
  refine vv_putR (n := 262) (ci := 0) (k := 46) (r := some (gN s126)) (T := TX1) (ty := tyX1) (fty := .array .int) cd0 cp0 (by decide) rfl (fun _ => h129.1) (Or.inl q221) (Or.inr ⟨rfl, rfl, rfl, q221⟩) (by decide +kernel) (Or.inr ⟨_, rfl⟩) (fun _ a e => by cases e; exact h129.2) (fun h => by cases h) dX1_init_259 rfl (fun s130 => ?_)
  refine vv_aload_n (n := 263) dX1_init_262 rfl 0 rfl ?_
  refine vv_bipush (n := 265) (v := 16) dX1_init_263 rfl (by decide) ?_
  refine vv_ask (fun h131 => ?_)
  refine vv_newarr (n := 267) (atype := .long) (ty := .long) (N := 16) (kd := 1) (v := 16) (16, .inr (.inl fun _ => 0)) rfl q324 (by decide) (by decide) (by decide) (fun _ => rfl) (fun _ h => by cases h) (fun _ _ => rfl) (fun _ => rfl) (fun _ => vlc h131.2 vl0) (fun _ => vsc h131.2 vs0) dX1_init_265 rfl (fun s132 g132 _ => ?_)
  refine vv_ask (fun h133 => ?_)
  refine vv_putR (n := 270) (ci := 0) (k := 47) (r := some (gN s130)) (T := TX1) (ty := tyX1) (fty := .array .long) cd0 cp0 (by decide) rfl (fun _ => h133.1) (Or.inl q222) (Or.inr ⟨rfl, rfl, rfl, q222⟩) (by decide +kernel) (Or.inr ⟨_, rfl⟩) (fun _ a e => by cases e; exact h133.2) (fun h => by cases h) dX1_init_267 rfl (fun s134 => ?_)
  exact vv_vret dX1_init_270 rfl
def M_init (s : Sg) (i : Nat) : Option Sg := if Db 2 43 s i then (lt_ (aw s 0 33 33) fun s2 => if Db 2 43 s2 i ∧ (gN s) < gN s2 then (lt_ (pR s2 i 0 (some (gN s))) fun s4 => if Db 2 43 s4 i then (lt_ (aw s4 0 6 6) fun s6 => if Db 2 43 s6 i ∧ (gN s4) < gN s6 then (lt_ (pR s6 i 2 (some (gN s4))) fun s8 => if Db 2 43 s8 i then (lt_ (aw s8 0 6 6) fun s10 => if Db 2 43 s10 i ∧ (gN s8) < gN s10 then (lt_ (pR s10 i 3 (some (gN s8))) fun s12 => if Db 2 43 s12 i then (lt_ (aw s12 0 6 6) fun s14 => if Db 2 43 s14 i ∧ (gN s12) < gN s14 then (lt_ (pR s14 i 4 (some (gN s12))) fun s16 => if Db 2 43 s16 i then (lt_ (aw s16 2 80 80) fun s18 => if Db 2 43 s18 i ∧ (gN s16) < gN s18 then (lt_ (pR s18 i 5 (some (gN s16))) fun s20 => if Db 2 43 s20 i then (lt_ (aw s20 1 16 16) fun s22 => if Db 2 43 s22 i ∧ (gN s20) < gN s22 then (lt_ (pR s22 i 7 (some (gN s20))) fun s24 => if Db 2 43 s24 i then (lt_ (aw s24 0 30 30) fun s26 => if Db 2 43 s26 i ∧ (gN s24) < gN s26 then (lt_ (pR s26 i 15 (some (gN s24))) fun s28 => if Db 2 43 s28 i then (lt_ (aw s28 2 40 40) fun s30 => if Db 2 43 s30 i ∧ (gN s28) < gN s30 then (lt_ (pR s30 i 16 (some (gN s28))) fun s32 => if Db 2 43 s32 i then (lt_ (aw s32 2 40 40) fun s34 => if Db 2 43 s34 i ∧ (gN s32) < gN s34 then (lt_ (pR s34 i 17 (some (gN s32))) fun s36 => if Db 2 43 s36 i then (lt_ (aw s36 0 6 6) fun s38 => if Db 2 43 s38 i ∧ (gN s36) < gN s38 then (lt_ (pR s38 i 20 (some (gN s36))) fun s40 => if Db 2 43 s40 i then (lt_ (aw s40 0 396 396) fun s42 => if Db 2 43 s42 i ∧ (gN s40) < gN s42 then (lt_ (pR s42 i 21 (some (gN s40))) fun s44 => if Db 2 43 s44 i then (lt_ (aw s44 0 33 33) fun s46 => if Db 2 43 s46 i ∧ (gN s44) < gN s46 then (lt_ (pR s46 i 23 (some (gN s44))) fun s48 => if Db 2 43 s48 i then (lt_ (aw s48 0 33 33) fun s50 => if Db 2 43 s50 i ∧ (gN s48) < gN s50 then (lt_ (pR s50 i 24 (some (gN s48))) fun s52 => if Db 2 43 s52 i then (lt_ (aw s52 0 6 6) fun s54 => if Db 2 43 s54 i ∧ (gN s52) < gN s54 then (lt_ (pR s54 i 25 (some (gN s52))) fun s56 => if Db 2 43 s56 i then (lt_ (aw s56 0 6 6) fun s58 => if Db 2 43 s58 i ∧ (gN s56) < gN s58 then (lt_ (pR s58 i 26 (some (gN s56))) fun s60 => if Db 2 43 s60 i then (lt_ (pI s60 i 27 (-1)) fun s62 => if Db 2 43 s62 i then (lt_ (aw s62 0 240 240) fun s64 => if Db 2 43 s64 i ∧ (gN s62) < gN s64 then (lt_ (pR s64 i 29 (some (gN s62))) fun s66 => if Db 2 43 s66 i then (lt_ (aw s66 0 10 10) fun s68 => if Db 2 43 s68 i ∧ (gN s66) < gN s68 then (lt_ (pR s68 i 30 (some (gN s66))) fun s70 => if Db 2 43 s70 i then (lt_ (aw s70 0 10 10) fun s72 => if Db 2 43 s72 i ∧ (gN s70) < gN s72 then (lt_ (pR s72 i 31 (some (gN s70))) fun s74 => if Db 2 43 s74 i then (lt_ (aw s74 0 10 10) fun s76 => if Db 2 43 s76 i ∧ (gN s74) < gN s76 then (lt_ (pR s76 i 32 (some (gN s74))) fun s78 => if Db 2 43 s78 i then (lt_ (aw s78 0 12600 12600) fun s80 => if Db 2 43 s80 i ∧ (gN s78) < gN s80 then (lt_ (pR s80 i 34 (some (gN s78))) fun s82 => if Db 2 43 s82 i then (lt_ (aw s82 0 448 448) fun s84 => if Db 2 43 s84 i ∧ (gN s82) < gN s84 then (lt_ (pR s84 i 35 (some (gN s82))) fun s86 => if Db 2 43 s86 i then (lt_ (aw s86 1 6 6) fun s88 => if Db 2 43 s88 i ∧ (gN s86) < gN s88 then (lt_ (pR s88 i 36 (some (gN s86))) fun s90 => if Db 2 43 s90 i then (lt_ (aw s90 1 6 6) fun s92 => if Db 2 43 s92 i ∧ (gN s90) < gN s92 then (lt_ (pR s92 i 37 (some (gN s90))) fun s94 => if Db 2 43 s94 i then (lt_ (aw s94 0 66 66) fun s96 => if Db 2 43 s96 i ∧ (gN s94) < gN s96 then (lt_ (pR s96 i 40 (some (gN s94))) fun s98 => if Db 2 43 s98 i then (lt_ (aw s98 3 2 2) fun s100 => if Db 2 43 s100 i ∧ (gN s98) < gN s100 then (lt_ (pR s100 i 41 (some (gN s98))) fun s102 => if Db 2 43 s102 i then (lt_ (aw s102 0 2 2) fun s104 => if Db 2 43 s104 i ∧ (gN s102) < gN s104 then (lt_ (pR s104 i 42 (some (gN s102))) fun s106 => some s106) else none) else none) else none) else none) else none) else none) else none) else none) else none) else none) else none) else none) else none) else none) else none) else none) else none) else none) else none) else none) else none) else none) else none) else none) else none) else none) else none) else none) else none) else none) else none) else none) else none) else none) else none) else none) else none) else none) else none) else none) else none) else none) else none) else none) else none) else none) else none) else none) else none) else none) else none) else none) else none
set_option maxHeartbeats 1000000 in
theorem con_M_init (l : Launch) (s : Sg) (i : Nat) : Con l false true eSV yX3_init cX3_init 1 2 60 none s [.ref i] (M_init s i) := by
  refine con_of (own := RX3) (mn := "<init>") (L := [(0, .ref i)]) (by decide) rfl rfl (fun _ _ => Nat.le_of_ble_eq_true rfl) (fun _ _ => rfl) ?_
  unfold M_init
  refine vv_aload_n (n := 1) dX3_init_0 rfl 0 rfl ?_
  refine vv_oinit (n := 4) q1092 q124 q125 ⟨Nat.le_of_ble_eq_true rfl, Nat.le_of_ble_eq_true rfl⟩ (Nat.le_of_ble_eq_true rfl) dX3_init_1 rfl ?_
  refine vv_aload_n (n := 5) dX3_init_4 rfl 0 rfl ?_
  refine vv_bipush (n := 7) (v := 33) dX3_init_5 rfl (by decide) ?_
  refine vv_ask (fun h1 => ?_)
  refine vv_newarr (n := 9) (atype := .int) (ty := .int) (N := 33) (kd := 0) (v := 33) (33, .inl fun _ => 0) rfl q170 (by decide) (by decide) (by decide) (fun _ => rfl) (fun _ h => by cases h) (fun _ _ => rfl) (fun _ => rfl) (fun _ => vlc h1.2 vl0) (fun _ => vsc h1.2 vs0) dX3_init_7 rfl (fun s2 g2 _ => ?_)
  refine vv_ask (fun h3 => ?_)
  refine vv_putR (n := 12) (ci := 2) (k := 0) (r := some (gN s)) (T := TX3) (ty := tyX3) (fty := .array .int) cd2 cp2 (by decide) rfl (fun _ => h3.1) (Or.inl q1093) (Or.inr ⟨rfl, rfl, rfl, q1093⟩) (by decide +kernel) (Or.inr ⟨_, rfl⟩) (fun _ a e => by cases e; exact h3.2) (fun h => by cases h) dX3_init_9 rfl (fun s4 => ?_)
  refine vv_aload_n (n := 13) dX3_init_12 rfl 0 rfl ?_
  refine vv_bipush (n := 15) (v := 6) dX3_init_13 rfl (by decide) ?_
  refine vv_ask (fun h5 => ?_)
  refine vv_newarr (n := 17) (atype := .int) (ty := .int) (N := 6) (kd := 0) (v := 6) (6, .inl fun _ => 0) rfl q170 (by decide) (by decide) (by decide) (fun _ => rfl) (fun _ h => by cases h) (fun _ _ => rfl) (fun _ => rfl) (fun _ => vlc h5.2 vl0) (fun _ => vsc h5.2 vs0) dX3_init_15 rfl (fun s6 g6 _ => ?_)
  refine vv_ask (fun h7 => ?_)
  refine vv_putR (n := 20) (ci := 2) (k := 2) (r := some (gN s4)) (T := TX3) (ty := tyX3) (fty := .array .int) cd2 cp2 (by decide) rfl (fun _ => h7.1) (Or.inl q1095) (Or.inr ⟨rfl, rfl, rfl, q1095⟩) (by decide +kernel) (Or.inr ⟨_, rfl⟩) (fun _ a e => by cases e; exact h7.2) (fun h => by cases h) dX3_init_17 rfl (fun s8 => ?_)
  refine vv_aload_n (n := 21) dX3_init_20 rfl 0 rfl ?_
  refine vv_bipush (n := 23) (v := 6) dX3_init_21 rfl (by decide) ?_
  refine vv_ask (fun h9 => ?_)
  refine vv_newarr (n := 25) (atype := .int) (ty := .int) (N := 6) (kd := 0) (v := 6) (6, .inl fun _ => 0) rfl q170 (by decide) (by decide) (by decide) (fun _ => rfl) (fun _ h => by cases h) (fun _ _ => rfl) (fun _ => rfl) (fun _ => vlc h9.2 vl0) (fun _ => vsc h9.2 vs0) dX3_init_23 rfl (fun s10 g10 _ => ?_)
  refine vv_ask (fun h11 => ?_)
  refine vv_putR (n := 28) (ci := 2) (k := 3) (r := some (gN s8)) (T := TX3) (ty := tyX3) (fty := .array .int) cd2 cp2 (by decide) rfl (fun _ => h11.1) (Or.inl q1096) (Or.inr ⟨rfl, rfl, rfl, q1096⟩) (by decide +kernel) (Or.inr ⟨_, rfl⟩) (fun _ a e => by cases e; exact h11.2) (fun h => by cases h) dX3_init_25 rfl (fun s12 => ?_)
  refine vv_aload_n (n := 29) dX3_init_28 rfl 0 rfl ?_
  refine vv_bipush (n := 31) (v := 6) dX3_init_29 rfl (by decide) ?_
  refine vv_ask (fun h13 => ?_)
  refine vv_newarr (n := 33) (atype := .int) (ty := .int) (N := 6) (kd := 0) (v := 6) (6, .inl fun _ => 0) rfl q170 (by decide) (by decide) (by decide) (fun _ => rfl) (fun _ h => by cases h) (fun _ _ => rfl) (fun _ => rfl) (fun _ => vlc h13.2 vl0) (fun _ => vsc h13.2 vs0) dX3_init_31 rfl (fun s14 g14 _ => ?_)
  refine vv_ask (fun h15 => ?_)
  refine vv_putR (n := 36) (ci := 2) (k := 4) (r := some (gN s12)) (T := TX3) (ty := tyX3) (fty := .array .int) cd2 cp2 (by decide) rfl (fun _ => h15.1) (Or.inl q1097) (Or.inr ⟨rfl, rfl, rfl, q1097⟩) (by decide +kernel) (Or.inr ⟨_, rfl⟩) (fun _ a e => by cases e; exact h15.2) (fun h => by cases h) dX3_init_33 rfl (fun s16 => ?_)
  refine vv_aload_n (n := 37) dX3_init_36 rfl 0 rfl ?_
  refine vv_bipush (n := 39) (v := 80) dX3_init_37 rfl (by decide) ?_
  refine vv_ask (fun h17 => ?_)
  refine vv_newarr (n := 41) (atype := .byte) (ty := .byte) (N := 80) (kd := 2) (v := 80) (80, .inl fun _ => 0) rfl q513 (by decide) (by decide) (by decide) (fun _ => rfl) (fun _ h => by cases h) (fun _ _ => rfl) (fun _ => rfl) (fun _ => vlc h17.2 vl0) (fun _ => vsc h17.2 vs0) dX3_init_39 rfl (fun s18 g18 _ => ?_)
  refine vv_ask (fun h19 => ?_)
  refine vv_putR (n := 44) (ci := 2) (k := 5) (r := some (gN s16)) (T := TX3) (ty := tyX3) (fty := .array .byte) cd2 cp2 (by decide) rfl (fun _ => h19.1) (Or.inl q1098) (Or.inr ⟨rfl, rfl, rfl, q1098⟩) (by decide +kernel) (Or.inr ⟨_, rfl⟩) (fun _ a e => by cases e; exact h19.2) (fun h => by cases h) dX3_init_41 rfl (fun s20 => ?_)
  refine vv_aload_n (n := 45) dX3_init_44 rfl 0 rfl ?_
  refine vv_bipush (n := 47) (v := 16) dX3_init_45 rfl (by decide) ?_
  refine vv_ask (fun h21 => ?_)
  refine vv_newarr (n := 49) (atype := .long) (ty := .long) (N := 16) (kd := 1) (v := 16) (16, .inr (.inl fun _ => 0)) rfl q324 (by decide) (by decide) (by decide) (fun _ => rfl) (fun _ h => by cases h) (fun _ _ => rfl) (fun _ => rfl) (fun _ => vlc h21.2 vl0) (fun _ => vsc h21.2 vs0) dX3_init_47 rfl (fun s22 g22 _ => ?_)
  refine vv_ask (fun h23 => ?_)
  refine vv_putR (n := 52) (ci := 2) (k := 7) (r := some (gN s20)) (T := TX3) (ty := tyX3) (fty := .array .long) cd2 cp2 (by decide) rfl (fun _ => h23.1) (Or.inl q1100) (Or.inr ⟨rfl, rfl, rfl, q1100⟩) (by decide +kernel) (Or.inr ⟨_, rfl⟩) (fun _ a e => by cases e; exact h23.2) (fun h => by cases h) dX3_init_49 rfl (fun s24 => ?_)
  refine vv_aload_n (n := 53) dX3_init_52 rfl 0 rfl ?_
  refine vv_bipush (n := 55) (v := 30) dX3_init_53 rfl (by decide) ?_
  refine vv_ask (fun h25 => ?_)
  refine vv_newarr (n := 57) (atype := .int) (ty := .int) (N := 30) (kd := 0) (v := 30) (30, .inl fun _ => 0) rfl q170 (by decide) (by decide) (by decide) (fun _ => rfl) (fun _ h => by cases h) (fun _ _ => rfl) (fun _ => rfl) (fun _ => vlc h25.2 vl0) (fun _ => vsc h25.2 vs0) dX3_init_55 rfl (fun s26 g26 _ => ?_)
  refine vv_ask (fun h27 => ?_)
  refine vv_putR (n := 60) (ci := 2) (k := 15) (r := some (gN s24)) (T := TX3) (ty := tyX3) (fty := .array .int) cd2 cp2 (by decide) rfl (fun _ => h27.1) (Or.inl q1108) (Or.inr ⟨rfl, rfl, rfl, q1108⟩) (by decide +kernel) (Or.inr ⟨_, rfl⟩) (fun _ a e => by cases e; exact h27.2) (fun h => by cases h) dX3_init_57 rfl (fun s28 => ?_)
  refine vv_aload_n (n := 61) dX3_init_60 rfl 0 rfl ?_
  refine vv_bipush (n := 63) (v := 40) dX3_init_61 rfl (by decide) ?_
  refine vv_ask (fun h29 => ?_)
  refine vv_newarr (n := 65) (atype := .byte) (ty := .byte) (N := 40) (kd := 2) (v := 40) (40, .inl fun _ => 0) rfl q513 (by decide) (by decide) (by decide) (fun _ => rfl) (fun _ h => by cases h) (fun _ _ => rfl) (fun _ => rfl) (fun _ => vlc h29.2 vl0) (fun _ => vsc h29.2 vs0) dX3_init_63 rfl (fun s30 g30 _ => ?_)
  refine vv_ask (fun h31 => ?_)
  refine vv_putR (n := 68) (ci := 2) (k := 16) (r := some (gN s28)) (T := TX3) (ty := tyX3) (fty := .array .byte) cd2 cp2 (by decide) rfl (fun _ => h31.1) (Or.inl q1109) (Or.inl rfl) (by decide +kernel) (Or.inr ⟨_, rfl⟩) (fun _ a e => by cases e; exact h31.2) (fun h => by cases h) dX3_init_65 rfl (fun s32 => ?_)
  refine vv_aload_n (n := 69) dX3_init_68 rfl 0 rfl ?_
  refine vv_bipush (n := 71) (v := 40) dX3_init_69 rfl (by decide) ?_
  refine vv_ask (fun h33 => ?_)
  refine vv_newarr (n := 73) (atype := .byte) (ty := .byte) (N := 40) (kd := 2) (v := 40) (40, .inl fun _ => 0) rfl q513 (by decide) (by decide) (by decide) (fun _ => rfl) (fun _ h => by cases h) (fun _ _ => rfl) (fun _ => rfl) (fun _ => vlc h33.2 vl0) (fun _ => vsc h33.2 vs0) dX3_init_71 rfl (fun s34 g34 _ => ?_)
  refine vv_ask (fun h35 => ?_)
  refine vv_putR (n := 76) (ci := 2) (k := 17) (r := some (gN s32)) (T := TX3) (ty := tyX3) (fty := .array .byte) cd2 cp2 (by decide) rfl (fun _ => h35.1) (Or.inl q1110) (Or.inl rfl) (by decide +kernel) (Or.inr ⟨_, rfl⟩) (fun _ a e => by cases e; exact h35.2) (fun h => by cases h) dX3_init_73 rfl (fun s36 => ?_)
  refine vv_aload_n (n := 77) dX3_init_76 rfl 0 rfl ?_
  refine vv_bipush (n := 79) (v := 6) dX3_init_77 rfl (by decide) ?_
  refine vv_ask (fun h37 => ?_)
  refine vv_newarr (n := 81) (atype := .int) (ty := .int) (N := 6) (kd := 0) (v := 6) (6, .inl fun _ => 0) rfl q170 (by decide) (by decide) (by decide) (fun _ => rfl) (fun _ h => by cases h) (fun _ _ => rfl) (fun _ => rfl) (fun _ => vlc h37.2 vl0) (fun _ => vsc h37.2 vs0) dX3_init_79 rfl (fun s38 g38 _ => ?_)
  refine vv_ask (fun h39 => ?_)
  refine vv_putR (n := 84) (ci := 2) (k := 20) (r := some (gN s36)) (T := TX3) (ty := tyX3) (fty := .array .int) cd2 cp2 (by decide) rfl (fun _ => h39.1) (Or.inl q1113) (Or.inr ⟨rfl, rfl, rfl, q1113⟩) (by decide +kernel) (Or.inr ⟨_, rfl⟩) (fun _ a e => by cases e; exact h39.2) (fun h => by cases h) dX3_init_81 rfl (fun s40 => ?_)
  refine vv_aload_n (n := 85) dX3_init_84 rfl 0 rfl ?_
  refine vv_sipush (n := 88) (v := 396) dX3_init_85 rfl (by decide) ?_
  refine vv_ask (fun h41 => ?_)
  refine vv_newarr (n := 90) (atype := .int) (ty := .int) (N := 396) (kd := 0) (v := 396) (396, .inl fun _ => 0) rfl q170 (by decide) (by decide) (by decide) (fun _ => rfl) (fun _ h => by cases h) (fun _ _ => rfl) (fun _ => rfl) (fun _ => vlc h41.2 vl0) (fun _ => vsc h41.2 vs0) dX3_init_88 rfl (fun s42 g42 _ => ?_)
  refine vv_ask (fun h43 => ?_)
  refine vv_putR (n := 93) (ci := 2) (k := 21) (r := some (gN s40)) (T := TX3) (ty := tyX3) (fty := .array .int) cd2 cp2 (by decide) rfl (fun _ => h43.1) (Or.inl q1114) (Or.inr ⟨rfl, rfl, rfl, q1114⟩) (by decide +kernel) (Or.inr ⟨_, rfl⟩) (fun _ a e => by cases e; exact h43.2) (fun h => by cases h) dX3_init_90 rfl (fun s44 => ?_)
  refine vv_aload_n (n := 94) dX3_init_93 rfl 0 rfl ?_
  refine vv_bipush (n := 96) (v := 33) dX3_init_94 rfl (by decide) ?_
  refine vv_ask (fun h45 => ?_)
  refine vv_newarr (n := 98) (atype := .int) (ty := .int) (N := 33) (kd := 0) (v := 33) (33, .inl fun _ => 0) rfl q170 (by decide) (by decide) (by decide) (fun _ => rfl) (fun _ h => by cases h) (fun _ _ => rfl) (fun _ => rfl) (fun _ => vlc h45.2 vl0) (fun _ => vsc h45.2 vs0) dX3_init_96 rfl (fun s46 g46 _ => ?_)
  refine vv_ask (fun h47 => ?_)
  refine vv_putR (n := 101) (ci := 2) (k := 23) (r := some (gN s44)) (T := TX3) (ty := tyX3) (fty := .array .int) cd2 cp2 (by decide) rfl (fun _ => h47.1) (Or.inl q1116) (Or.inr ⟨rfl, rfl, rfl, q1116⟩) (by decide +kernel) (Or.inr ⟨_, rfl⟩) (fun _ a e => by cases e; exact h47.2) (fun h => by cases h) dX3_init_98 rfl (fun s48 => ?_)
  refine vv_aload_n (n := 102) dX3_init_101 rfl 0 rfl ?_
  refine vv_bipush (n := 104) (v := 33) dX3_init_102 rfl (by decide) ?_
  refine vv_ask (fun h49 => ?_)
  refine vv_newarr (n := 106) (atype := .int) (ty := .int) (N := 33) (kd := 0) (v := 33) (33, .inl fun _ => 0) rfl q170 (by decide) (by decide) (by decide) (fun _ => rfl) (fun _ h => by cases h) (fun _ _ => rfl) (fun _ => rfl) (fun _ => vlc h49.2 vl0) (fun _ => vsc h49.2 vs0) dX3_init_104 rfl (fun s50 g50 _ => ?_)
  refine vv_ask (fun h51 => ?_)
  refine vv_putR (n := 109) (ci := 2) (k := 24) (r := some (gN s48)) (T := TX3) (ty := tyX3) (fty := .array .int) cd2 cp2 (by decide) rfl (fun _ => h51.1) (Or.inl q1117) (Or.inr ⟨rfl, rfl, rfl, q1117⟩) (by decide +kernel) (Or.inr ⟨_, rfl⟩) (fun _ a e => by cases e; exact h51.2) (fun h => by cases h) dX3_init_106 rfl (fun s52 => ?_)
  refine vv_aload_n (n := 110) dX3_init_109 rfl 0 rfl ?_
  refine vv_bipush (n := 112) (v := 6) dX3_init_110 rfl (by decide) ?_
  refine vv_ask (fun h53 => ?_)
  refine vv_newarr (n := 114) (atype := .int) (ty := .int) (N := 6) (kd := 0) (v := 6) (6, .inl fun _ => 0) rfl q170 (by decide) (by decide) (by decide) (fun _ => rfl) (fun _ h => by cases h) (fun _ _ => rfl) (fun _ => rfl) (fun _ => vlc h53.2 vl0) (fun _ => vsc h53.2 vs0) dX3_init_112 rfl (fun s54 g54 _ => ?_)
  refine vv_ask (fun h55 => ?_)
  refine vv_putR (n := 117) (ci := 2) (k := 25) (r := some (gN s52)) (T := TX3) (ty := tyX3) (fty := .array .int) cd2 cp2 (by decide) rfl (fun _ => h55.1) (Or.inl q1118) (Or.inr ⟨rfl, rfl, rfl, q1118⟩) (by decide +kernel) (Or.inr ⟨_, rfl⟩) (fun _ a e => by cases e; exact h55.2) (fun h => by cases h) dX3_init_114 rfl (fun s56 => ?_)
  refine vv_aload_n (n := 118) dX3_init_117 rfl 0 rfl ?_
  refine vv_bipush (n := 120) (v := 6) dX3_init_118 rfl (by decide) ?_
  refine vv_ask (fun h57 => ?_)
  refine vv_newarr (n := 122) (atype := .int) (ty := .int) (N := 6) (kd := 0) (v := 6) (6, .inl fun _ => 0) rfl q170 (by decide) (by decide) (by decide) (fun _ => rfl) (fun _ h => by cases h) (fun _ _ => rfl) (fun _ => rfl) (fun _ => vlc h57.2 vl0) (fun _ => vsc h57.2 vs0) dX3_init_120 rfl (fun s58 g58 _ => ?_)
  refine vv_ask (fun h59 => ?_)
  refine vv_putR (n := 125) (ci := 2) (k := 26) (r := some (gN s56)) (T := TX3) (ty := tyX3) (fty := .array .int) cd2 cp2 (by decide) rfl (fun _ => h59.1) (Or.inl q1119) (Or.inr ⟨rfl, rfl, rfl, q1119⟩) (by decide +kernel) (Or.inr ⟨_, rfl⟩) (fun _ a e => by cases e; exact h59.2) (fun h => by cases h) dX3_init_122 rfl (fun s60 => ?_)
  refine vv_aload_n (n := 126) dX3_init_125 rfl 0 rfl ?_
  refine vv_iconst (n := 127) (v := (-1)) dX3_init_126 rfl (by decide) ?_
  refine vv_ask (fun h61 => ?_)
  refine vv_putI (n := 130) (ci := 2) (k := 27) (T := TX3) (ty := tyX3) (fty := .int) cd2 cp2 (by decide) rfl (fun _ => h61) (Or.inl q1120) (Or.inl rfl) (by decide +kernel) rfl rfl dX3_init_127 rfl (fun s62 => ?_)
  refine vv_aload_n (n := 131) dX3_init_130 rfl 0 rfl ?_
  refine vv_sipush (n := 134) (v := 240) dX3_init_131 rfl (by decide) ?_
  refine vv_ask (fun h63 => ?_)
  refine vv_newarr (n := 136) (atype := .int) (ty := .int) (N := 240) (kd := 0) (v := 240) (240, .inl fun _ => 0) rfl q170 (by decide) (by decide) (by decide) (fun _ => rfl) (fun _ h => by cases h) (fun _ _ => rfl) (fun _ => rfl) (fun _ => vlc h63.2 vl0) (fun _ => vsc h63.2 vs0) dX3_init_134 rfl (fun s64 g64 _ => ?_)
  refine vv_ask (fun h65 => ?_)
  refine vv_putR (n := 139) (ci := 2) (k := 29) (r := some (gN s62)) (T := TX3) (ty := tyX3) (fty := .array .int) cd2 cp2 (by decide) rfl (fun _ => h65.1) (Or.inl q1122) (Or.inr ⟨rfl, rfl, rfl, q1122⟩) (by decide +kernel) (Or.inr ⟨_, rfl⟩) (fun _ a e => by cases e; exact h65.2) (fun h => by cases h) dX3_init_136 rfl (fun s66 => ?_)
  refine vv_aload_n (n := 140) dX3_init_139 rfl 0 rfl ?_
  refine vv_bipush (n := 142) (v := 10) dX3_init_140 rfl (by decide) ?_
  refine vv_ask (fun h67 => ?_)
  refine vv_newarr (n := 144) (atype := .int) (ty := .int) (N := 10) (kd := 0) (v := 10) (10, .inl fun _ => 0) rfl q170 (by decide) (by decide) (by decide) (fun _ => rfl) (fun _ h => by cases h) (fun _ _ => rfl) (fun _ => rfl) (fun _ => vlc h67.2 vl0) (fun _ => vsc h67.2 vs0) dX3_init_142 rfl (fun s68 g68 _ => ?_)
  refine vv_ask (fun h69 => ?_)
  refine vv_putR (n := 147) (ci := 2) (k := 30) (r := some (gN s66)) (T := TX3) (ty := tyX3) (fty := .array .int) cd2 cp2 (by decide) rfl (fun _ => h69.1) (Or.inl q1123) (Or.inr ⟨rfl, rfl, rfl, q1123⟩) (by decide +kernel) (Or.inr ⟨_, rfl⟩) (fun _ a e => by cases e; exact h69.2) (fun h => by cases h) dX3_init_144 rfl (fun s70 => ?_)
  refine vv_aload_n (n := 148) dX3_init_147 rfl 0 rfl ?_
  refine vv_bipush (n := 150) (v := 10) dX3_init_148 rfl (by decide) ?_
  refine vv_ask (fun h71 => ?_)
  refine vv_newarr (n := 152) (atype := .int) (ty := .int) (N := 10) (kd := 0) (v := 10) (10, .inl fun _ => 0) rfl q170 (by decide) (by decide) (by decide) (fun _ => rfl) (fun _ h => by cases h) (fun _ _ => rfl) (fun _ => rfl) (fun _ => vlc h71.2 vl0) (fun _ => vsc h71.2 vs0) dX3_init_150 rfl (fun s72 g72 _ => ?_)
  refine vv_ask (fun h73 => ?_)
  refine vv_putR (n := 155) (ci := 2) (k := 31) (r := some (gN s70)) (T := TX3) (ty := tyX3) (fty := .array .int) cd2 cp2 (by decide) rfl (fun _ => h73.1) (Or.inl q1124) (Or.inr ⟨rfl, rfl, rfl, q1124⟩) (by decide +kernel) (Or.inr ⟨_, rfl⟩) (fun _ a e => by cases e; exact h73.2) (fun h => by cases h) dX3_init_152 rfl (fun s74 => ?_)
  refine vv_aload_n (n := 156) dX3_init_155 rfl 0 rfl ?_
  refine vv_bipush (n := 158) (v := 10) dX3_init_156 rfl (by decide) ?_
  refine vv_ask (fun h75 => ?_)
  refine vv_newarr (n := 160) (atype := .int) (ty := .int) (N := 10) (kd := 0) (v := 10) (10, .inl fun _ => 0) rfl q170 (by decide) (by decide) (by decide) (fun _ => rfl) (fun _ h => by cases h) (fun _ _ => rfl) (fun _ => rfl) (fun _ => vlc h75.2 vl0) (fun _ => vsc h75.2 vs0) dX3_init_158 rfl (fun s76 g76 _ => ?_)
  refine vv_ask (fun h77 => ?_)
  refine vv_putR (n := 163) (ci := 2) (k := 32) (r := some (gN s74)) (T := TX3) (ty := tyX3) (fty := .array .int) cd2 cp2 (by decide) rfl (fun _ => h77.1) (Or.inl q1125) (Or.inr ⟨rfl, rfl, rfl, q1125⟩) (by decide +kernel) (Or.inr ⟨_, rfl⟩) (fun _ a e => by cases e; exact h77.2) (fun h => by cases h) dX3_init_160 rfl (fun s78 => ?_)
  refine vv_aload_n (n := 164) dX3_init_163 rfl 0 rfl ?_
  refine vv_sipush (n := 167) (v := 12600) dX3_init_164 rfl (by decide) ?_
  refine vv_ask (fun h79 => ?_)
  refine vv_newarr (n := 169) (atype := .int) (ty := .int) (N := 12600) (kd := 0) (v := 12600) (12600, .inl fun _ => 0) rfl q170 (by decide) (by decide) (by decide) (fun _ => rfl) (fun _ h => by cases h) (fun _ _ => rfl) (fun _ => rfl) (fun _ => vlc h79.2 vl0) (fun _ => vsc h79.2 vs0) dX3_init_167 rfl (fun s80 g80 _ => ?_)
  refine vv_ask (fun h81 => ?_)
  refine vv_putR (n := 172) (ci := 2) (k := 34) (r := some (gN s78)) (T := TX3) (ty := tyX3) (fty := .array .int) cd2 cp2 (by decide) rfl (fun _ => h81.1) (Or.inl q1127) (Or.inr ⟨rfl, rfl, rfl, q1127⟩) (by decide +kernel) (Or.inr ⟨_, rfl⟩) (fun _ a e => by cases e; exact h81.2) (fun h => by cases h) dX3_init_169 rfl (fun s82 => ?_)
  refine vv_aload_n (n := 173) dX3_init_172 rfl 0 rfl ?_
  refine vv_sipush (n := 176) (v := 448) dX3_init_173 rfl (by decide) ?_
  refine vv_ask (fun h83 => ?_)
  refine vv_newarr (n := 178) (atype := .int) (ty := .int) (N := 448) (kd := 0) (v := 448) (448, .inl fun _ => 0) rfl q170 (by decide) (by decide) (by decide) (fun _ => rfl) (fun _ h => by cases h) (fun _ _ => rfl) (fun _ => rfl) (fun _ => vlc h83.2 vl0) (fun _ => vsc h83.2 vs0) dX3_init_176 rfl (fun s84 g84 _ => ?_)
  refine vv_ask (fun h85 => ?_)
  refine vv_putR (n := 181) (ci := 2) (k := 35) (r := some (gN s82)) (T := TX3) (ty := tyX3) (fty := .array .int) cd2 cp2 (by decide) rfl (fun _ => h85.1) (Or.inl q1128) (Or.inr ⟨rfl, rfl, rfl, q1128⟩) (by decide +kernel) (Or.inr ⟨_, rfl⟩) (fun _ a e => by cases e; exact h85.2) (fun h => by cases h) dX3_init_178 rfl (fun s86 => ?_)
  refine vv_aload_n (n := 182) dX3_init_181 rfl 0 rfl ?_
  refine vv_bipush (n := 184) (v := 6) dX3_init_182 rfl (by decide) ?_
  refine vv_ask (fun h87 => ?_)
  refine vv_newarr (n := 186) (atype := .long) (ty := .long) (N := 6) (kd := 1) (v := 6) (6, .inr (.inl fun _ => 0)) rfl q324 (by decide) (by decide) (by decide) (fun _ => rfl) (fun _ h => by cases h) (fun _ _ => rfl) (fun _ => rfl) (fun _ => vlc h87.2 vl0) (fun _ => vsc h87.2 vs0) dX3_init_184 rfl (fun s88 g88 _ => ?_)
  refine vv_ask (fun h89 => ?_)
  refine vv_putR (n := 189) (ci := 2) (k := 36) (r := some (gN s86)) (T := TX3) (ty := tyX3) (fty := .array .long) cd2 cp2 (by decide) rfl (fun _ => h89.1) (Or.inl q1129) (Or.inr ⟨rfl, rfl, rfl, q1129⟩) (by decide +kernel) (Or.inr ⟨_, rfl⟩) (fun _ a e => by cases e; exact h89.2) (fun h => by cases h) dX3_init_186 rfl (fun s90 => ?_)
  refine vv_aload_n (n := 190) dX3_init_189 rfl 0 rfl ?_
  refine vv_bipush (n := 192) (v := 6) dX3_init_190 rfl (by decide) ?_
  refine vv_ask (fun h91 => ?_)
  refine vv_newarr (n := 194) (atype := .long) (ty := .long) (N := 6) (kd := 1) (v := 6) (6, .inr (.inl fun _ => 0)) rfl q324 (by decide) (by decide) (by decide) (fun _ => rfl) (fun _ h => by cases h) (fun _ _ => rfl) (fun _ => rfl) (fun _ => vlc h91.2 vl0) (fun _ => vsc h91.2 vs0) dX3_init_192 rfl (fun s92 g92 _ => ?_)
  refine vv_ask (fun h93 => ?_)
  refine vv_putR (n := 197) (ci := 2) (k := 37) (r := some (gN s90)) (T := TX3) (ty := tyX3) (fty := .array .long) cd2 cp2 (by decide) rfl (fun _ => h93.1) (Or.inl q1130) (Or.inr ⟨rfl, rfl, rfl, q1130⟩) (by decide +kernel) (Or.inr ⟨_, rfl⟩) (fun _ a e => by cases e; exact h93.2) (fun h => by cases h) dX3_init_194 rfl (fun s94 => ?_)
  refine vv_aload_n (n := 198) dX3_init_197 rfl 0 rfl ?_
  refine vv_bipush (n := 200) (v := 66) dX3_init_198 rfl (by decide) ?_
  refine vv_ask (fun h95 => ?_)
  refine vv_newarr (n := 202) (atype := .int) (ty := .int) (N := 66) (kd := 0) (v := 66) (66, .inl fun _ => 0) rfl q170 (by decide) (by decide) (by decide) (fun _ => rfl) (fun _ h => by cases h) (fun _ _ => rfl) (fun _ => rfl) (fun _ => vlc h95.2 vl0) (fun _ => vsc h95.2 vs0) dX3_init_200 rfl (fun s96 g96 _ => ?_)
  refine vv_ask (fun h97 => ?_)
  refine vv_putR (n := 205) (ci := 2) (k := 40) (r := some (gN s94)) (T := TX3) (ty := tyX3) (fty := .array .int) cd2 cp2 (by decide) rfl (fun _ => h97.1) (Or.inl q1133) (Or.inr ⟨rfl, rfl, rfl, q1133⟩) (by decide +kernel) (Or.inr ⟨_, rfl⟩) (fun _ a e => by cases e; exact h97.2) (fun h => by cases h) dX3_init_202 rfl (fun s98 => ?_)
  refine vv_aload_n (n := 206) dX3_init_205 rfl 0 rfl ?_
  refine vv_iconst (n := 207) (v := 2) dX3_init_206 rfl (by decide) ?_
  refine vv_ask (fun h99 => ?_)
  refine vv_newarr (n := 209) (atype := .boolean) (ty := .boolean) (N := 2) (kd := 3) (v := 2) (2, .inl fun _ => 0) rfl q323 (by decide) (by decide) (by decide) (fun _ => rfl) (fun _ h => by cases h) (fun _ _ => rfl) (fun _ => rfl) (fun _ => vlc h99.2 vl0) (fun _ => vsc h99.2 vs0) dX3_init_207 rfl (fun s100 g100 _ => ?_)
  refine vv_ask (fun h101 => ?_)
  refine vv_putR (n := 212) (ci := 2) (k := 41) (r := some (gN s98)) (T := TX3) (ty := tyX3) (fty := .array .boolean) cd2 cp2 (by decide) rfl (fun _ => h101.1) (Or.inl q1134) (Or.inr ⟨rfl, rfl, rfl, q1134⟩) (by decide +kernel) (Or.inr ⟨_, rfl⟩) (fun _ a e => by cases e; exact h101.2) (fun h => by cases h) dX3_init_209 rfl (fun s102 => ?_)
  refine vv_aload_n (n := 213) dX3_init_212 rfl 0 rfl ?_
  refine vv_iconst (n := 214) (v := 2) dX3_init_213 rfl (by decide) ?_
  refine vv_ask (fun h103 => ?_)
  refine vv_newarr (n := 216) (atype := .int) (ty := .int) (N := 2) (kd := 0) (v := 2) (2, .inl fun _ => 0) rfl q170 (by decide) (by decide) (by decide) (fun _ => rfl) (fun _ h => by cases h) (fun _ _ => rfl) (fun _ => rfl) (fun _ => vlc h103.2 vl0) (fun _ => vsc h103.2 vs0) dX3_init_214 rfl (fun s104 g104 _ => ?_)
  refine vv_ask (fun h105 => ?_)
  refine vv_putR (n := 219) (ci := 2) (k := 42) (r := some (gN s102)) (T := TX3) (ty := tyX3) (fty := .array .int) cd2 cp2 (by decide) rfl (fun _ => h105.1) (Or.inl q1135) (Or.inr ⟨rfl, rfl, rfl, q1135⟩) (by decide +kernel) (Or.inr ⟨_, rfl⟩) (fun _ a e => by cases e; exact h105.2) (fun h => by cases h) dX3_init_216 rfl (fun s106 => ?_)
  exact vv_vret dX3_init_219 rfl
