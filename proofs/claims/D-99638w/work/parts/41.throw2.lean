theorem nw_before {w : Cond} {args : Array Value} {s : State} (h : va_Nw w s) (hc : w.onTables = true) : w.before args s = true := va_tabs hc rfl h
set_option maxHeartbeats 4000000 in
theorem thr_at {args : Array Value} {s : State} (hts : ∀ w ∈ lw_all, w.before args s = true) (hnw : NW s) : ∀ w ∈ vx_at0 "PullThePlug" 303 "java/util/NoSuchElementException" ["java/lang/RuntimeException", "java/lang/Exception"], w.before args s = true := by
  intro w hw
  obtain ⟨h1, h2⟩ := List.mem_filter.mp hw
  simp only [Bundle.ownAtoms0, Bundle.throwableAtoms, Bundle.chain0Atoms, Bundle.passAtoms, List.mem_append, List.mem_cons, List.not_mem_nil, or_false] at h1
  repeat' (refine Or.elim h1 (fun h1 => ?_) (fun h1 => ?_))
  all_goals subst h1
  all_goals first
    | (exact absurd h2 (by decide +kernel))
    | exact hts _ q501
    | exact hts _ q113
    | exact hts _ q1031
    | exact hts _ q1033
    | exact hts _ q1035
    | exact hts _ q1037
    | exact hts _ q1039
    | exact hts _ q1040
    | exact hts _ q1041
    | exact hts _ q1042
    | exact hts _ q1043
    | exact hts _ q1044
    | exact hts _ q1045
    | exact hts _ q1047
    | exact hts _ q1049
    | exact hts _ q1050
    | exact hts _ q1051
    | exact hts _ q1052
    | exact hts _ q1053
    | exact hts _ q1055
    | exact hts _ q1056
    | exact hts _ q1057
    | exact hts _ q1068
    | exact hts _ q1069
    | exact hts _ q1070
    | exact hts _ q1071
    | exact hts _ q1072
    | exact hts _ q1073
    | exact hts _ q1074
    | exact hts _ q1075
    | exact hts _ q1077
    | exact hts _ q1078
    | exact hts _ q1649
    | exact hts _ q114
    | exact hts _ q1065
    | exact hts _ q1066
    | exact hts _ q1067
    | exact hts _ q115
    | exact hts _ q1062
    | exact hts _ q1063
    | exact hts _ q1064
    | exact hts _ q116
    | exact hts _ q1020
    | exact hts _ q1028
    | exact hts _ q1029
    | exact hts _ q1030
    | exact hts _ q1032
    | exact hts _ q1034
    | exact hts _ q1036
    | exact hts _ q1038
    | exact hts _ q1059
    | exact hts _ q1060
    | exact hts _ q1061
    | exact hts _ q1076
    | exact hts _ q1079
    | exact hts _ q124
    | exact hts _ q125
    | exact hts _ q123
    | exact hts _ q1019
    | exact hts _ q1058
    | exact hts _ q1092
    | exact hts _ q1014
    | exact hts _ q131
    | exact hts _ q576
    | exact nw_before (hnw.1 _ q1654 rfl) rfl
    | exact nw_before (hnw.1 _ q1026 rfl) rfl
    | exact nw_before (hnw.1 _ q1027 rfl) rfl
    | exact nw_before (hnw.1 _ q1660 rfl) rfl
    | exact nw_before (hnw.1 _ q1024 rfl) rfl
    | exact nw_before (hnw.1 _ q1025 rfl) rfl
    | exact nw_before (hnw.1 _ q1022 rfl) rfl
    | exact nw_before (hnw.1 _ q1023 rfl) rfl
    | exact nw_before (hnw.1 _ q1021 rfl) rfl
    | exact nw_before (hnw.1 _ q1659 rfl) rfl
    | exact nw_before (hnw.1 _ q1651 rfl) rfl
    | exact nw_before (hnw.1 _ q1653 rfl) rfl
    | exact nw_before (hnw.1 _ q1652 rfl) rfl
    | exact nw_before (hnw.1 _ q1655 rfl) rfl
    | exact nw_before (hnw.1 _ q1656 rfl) rfl
    | exact nw_before (hnw.1 _ q1657 rfl) rfl
    | exact nw_before (hnw.1 _ q1658 rfl) rfl
theorem thr_good : ∀ w ∈ Cond.classLink "PullThePlug" 301 "java/util/NoSuchElementException" :: Cond.initialized "java/util/NoSuchElementException" :: vx_at0 "PullThePlug" 303 "java/util/NoSuchElementException" ["java/lang/RuntimeException", "java/lang/Exception"], vx_ot w = true := fun w hw => List.all_eq_true.mp (by decide +kernel : (Cond.classLink "PullThePlug" 301 "java/util/NoSuchElementException" :: Cond.initialized "java/util/NoSuchElementException" :: vx_at0 "PullThePlug" 303 "java/util/NoSuchElementException" ["java/lang/RuntimeException", "java/lang/Exception"]).all vx_ot = true) w hw
/-- the world behind a throw -/
def XE (D : va_G) (cA : Nat → ClassId) (ad : Nat → Nat) (σ τ : Sg) (sz : Nat) : String → State → State → Prop :=
  fun E st t => E = "java/util/NoSuchElementException" ∧ va_P D vwCl (wsE cA ad τ) t.heap ∧ va_D (va_A (wsE cA ad σ) sz) (wsE cA ad τ) ∧ va_F (va_A (wsE cA ad σ) sz) st t
theorem met_ofX {β : Type} {l : Launch} {ek : β → Option Value × Sg} {y : MethodName} {cc : ByteArray} {mn : String} {nL fr lo : Nat} {rt : Option FieldType} {σ : Sg} {av : List Value} {L : List (Nat × Value)} {body : Option β} {b : β}
    (hy : plainName y.cls = true) (hown : y.cls = "PullThePlug") (hmn : y.name = mn) (hlen : ∀ (E : Ex) (ad : Nat → Nat), (lg_sl (av.map (iv E ad))).length ≤ nL) (hL : ∀ (E : Ex) (ad : Nat → Nat), lv_args 0 (av.map (iv E ad)) = Lm E ad L)
    (hv : VC l true false ek cc "PullThePlug" mn nL fr lo rt σ 0 L [] body) (hb : body = some b) (hok : Ok true σ) (hek : (ek b).1 = some (.float 301)) (hfr : 6 ≤ fr) (hlo : 81 ≤ lo) (D : va_G) (cA : Nat → ClassId) (E : Ex) (ad : Nat → Nat) (sz : Nat) :
    vx_Met l y (ws_ y cc nL rt) { frames := fr, cells := gC (ek b).2 - gC σ + 1, slots := gZ (ek b).2 - gZ σ + 6, locals := lo } (PcE l D cA E av ad σ sz) (fun _ _ _ _ => False) (XE D cA ad σ (ek b).2 sz) (gC (ek b).2 - gC σ + 1) (gZ (ek b).2 - gZ σ + 6) (va_A (wsE cA ad σ) sz) := by
  obtain ⟨h1, h2⟩ := hv b hb hok
  have u1 := h1.2.1.1
  have u2 := h1.2.1.2.1
  refine vx_ofW (cc := cc) (maxL := nL) (ret := rt) hy rfl ?_
  intro p e s m args below meth c s₁ B hml htab hpc
  obtain ⟨rfl, hsz, hP, hD, hK, hN, hE, hR, htr, hgs⟩ := hpc
  have hts := atoms_spec (ws := ws_ y cc nL rt) B.pre
  have hts : ∀ w ∈ lw_all, w.before _ s = true := fun w h => hts w (List.mem_cons_of_mem _ h)
  have hown2 : s.vm.findClass "PullThePlug" = some m.cls := by rw [← hown]; exact findClass_of_methodNamed B.named
  have hmn2 : meth.name = mn := by rw [← hmn]; exact (name_of_methodNamed B.named B.method).1
  subst hsz
  have hl := lv_entry (av.map (iv E ad)) (n := nL) (hlen E ad)
  rw [hL E ad] at hl
  rw [lg_entry_eq]
  refine h2 D cA E (va_A (wsE cA ad σ) s.heap.size) p e _ s m _ below meth c _ (gC σ) (gZ σ) ad (gN σ) ⟨B.exec, B.bytes, hml, hown2, hts, B.notSynchronized, hK, hN, Nat.le_refl _, Nat.le_refl _, fun q h => Or.inr h, hE, hR, htr, hmn2, fun hh h => by rw [hhOf_ne (by decide)] at h; cases h⟩ hgs
    (by show gC (ek b).2 ≤ gC σ + (gC (ek b).2 - gC σ + 1); omega) (by show gZ (ek b).2 ≤ gZ σ + (gZ (ek b).2 - gZ σ + 6); omega) ?_ ad s.heap [] 0 0 _ ⟨hP, hD.self, va_S.rf, fun _ _ => rfl, Nat.le_refl _⟩ rfl rfl hl
  intro ad' pc' ls H locs cells slots hls hd hrt hW hc hz
  obtain ⟨w1, w2, w3, w4, w5⟩ := hW
  have had : ad' = ad := funext fun i => w4 i (Or.inl rfl)
  subst had
  rw [hek] at hd ⊢
  obtain ⟨d0, d3, d4, d7⟩ := hd
  refine vx_throw0 B.exec B.bytes htr (own := "PullThePlug") (cls := "java/util/NoSuchElementException") (names := ["java/lang/RuntimeException", "java/lang/Exception"]) (ik := 301) (ic := 303) (A := va_A (wsE cA ad' σ) s.heap.size) hown2 (by decide) (by decide) (hts _ q1019) (hts _ q116) (thr_at hts hN) thr_good hE.2.2.2.1 hE.2.2.2.2.1 w3 (hls.trans hml.symm) d0 d3 d4 d7 (fun x hx => (htab x hx).elim) ?_ ?_ ?_ ?_ B.notSynchronized ?_ w3.2.2 (by omega) (by omega)
  · show 5 < fr
    omega
  · show 0 + (13 * 3 + 42) ≤ lo
    omega
  · show cells + 1 ≤ gC (ek b).2 - gC σ + 1
    omega
  · show slots + 6 ≤ gZ (ek b).2 - gZ σ + 6
    omega
  · intro t hal hsz hq
    refine ⟨rfl, w1.kept fun k q hk => hq _ (w1 k q hk).lt, w2, Nat.le_trans w3.1 hsz, fun q h1 h2 => ?_⟩
    rw [hq q (Nat.lt_of_lt_of_le h1 w3.1)]
    exact w3.2.1 q h1 h2
/-- the answers of a method that may throw, where it returns -/
def reT {α : Type} (o : Option (Option α × Sg)) : Option (α × Sg) := match o with
  | some (some v, τ) => some (v, τ)
  | _ => none
theorem reT_some {α : Type} {o : Option (Option α × Sg)} {b : α × Sg} (h : reT o = some b) : o = some (some b.1, b.2) := by
  unfold reT at h
  split at h
  · cases h
    rfl
  · cases h
theorem conTI {l : Launch} {y : MethodName} {cc : ByteArray} {own mn : String} {nL fr lo : Nat} {rt : Option FieldType} {σ : Sg} {av : List Value} {L : List (Nat × Value)} {body : Option (Option Int32 × Sg)}
    (hy : plainName y.cls = true) (hown : y.cls = own) (hmn : y.name = mn) (hlen : ∀ (E : Ex) (ad : Nat → Nat), (lg_sl (av.map (iv E ad))).length ≤ nL) (hL : ∀ (E : Ex) (ad : Nat → Nat), lv_args 0 (av.map (iv E ad)) = Lm E ad L)
    (hv : VC l true false eTI cc own mn nL fr lo rt σ 0 L [] body) (htb : own ≠ "PullThePlugLaw") : Con l true false eSI y cc nL fr lo rt σ av (reT body) := fun b hb hok =>
  ⟨(hv _ (reT_some hb) hok).1, fun D cA E ad sz => met_of (ek := eTI) (b := (some b.1, b.2)) hy hown hmn hlen hL hv htb (reT_some hb) hok (fun k h => by cases h) D cA E ad sz⟩
theorem conTL {l : Launch} {y : MethodName} {cc : ByteArray} {own mn : String} {nL fr lo : Nat} {rt : Option FieldType} {σ : Sg} {av : List Value} {L : List (Nat × Value)} {body : Option (Option Int64 × Sg)}
    (hy : plainName y.cls = true) (hown : y.cls = own) (hmn : y.name = mn) (hlen : ∀ (E : Ex) (ad : Nat → Nat), (lg_sl (av.map (iv E ad))).length ≤ nL) (hL : ∀ (E : Ex) (ad : Nat → Nat), lv_args 0 (av.map (iv E ad)) = Lm E ad L)
    (hv : VC l true false eTL cc own mn nL fr lo rt σ 0 L [] body) (htb : own ≠ "PullThePlugLaw") : Con l true false eSL y cc nL fr lo rt σ av (reT body) := fun b hb hok =>
  ⟨(hv _ (reT_some hb) hok).1, fun D cA E ad sz => met_of (ek := eTL) (b := (some b.1, b.2)) hy hown hmn hlen hL hv htb (reT_some hb) hok (fun k h => by cases h) D cA E ad sz⟩
/-- an exception more on the heap -/
def bump (σ : Sg) : Sg := (σ.1, σ.2.1, σ.2.2.1, σ.2.2.2.1, gN σ, gC σ + 1, gZ σ + 6, gS σ)
/-- a call that throws, caught by a handler that answers 1 -/
theorem vv_callX {l : Launch} {y : MethodName} {cc cc' : ByteArray} {mn : String} {nL fr lo nL' fr' lo' idx pc n1 ar : Nat} {rt' : Option FieldType} {σ τ : Sg} {L : List (Nat × Value)} {st rest av : List Value} {hh : List (Nat × Nat × Nat × Nat)} {x : ExceptionTableEntry}
    (hX : ∀ (D : va_G) (cA : Nat → ClassId) (E : Ex) (ad : Nat → Nat) (sz : Nat), vx_Met l y (ws_ y cc' nL' rt') { frames := fr', cells := gC τ - gC σ + 1, slots := gZ τ - gZ σ + 6, locals := lo' } (PcE l D cA E (.ref 0 :: av) ad σ sz) (fun _ _ _ _ => False) (XE D cA ad σ τ sz) (gC τ - gC σ + 1) (gZ τ - gZ σ + 6) (va_A (wsE cA ad σ) sz))
    (hup : Ok true τ ∧ Up σ τ ∧ gN τ = gN σ) (hd : decode cc pc = .ok (.invokevirtual idx, 3)) (hst : st = av.reverse ++ .ref 0 :: rest) (hcat : (rest.map fun v => v.category).sum ≤ 8) (hroom : fr' + 1 ≤ fr ∧ 8 + (nL' + 11) + lo' ≤ lo)
    (hw : GoodIn lw_all (wsV RX0 idx RX1 y (ws_ y cc' nL' rt'))) (har : av.length = ar) (ha : y.cls = RX1 ∧ y.cls ≠ "java/lang/invoke/MethodHandle" ∧ y.cls ≠ "java/lang/invoke/VarHandle" ∧ (parseMethodDescriptor y.desc).map (fun d => d.parameters.length) = some ar)
    (hh1 : hhOf RX0 mn = some hh) (hh2 : tableOf hh = [x]) (hcv : covers x pc = true) (hct : x.catchType = 13)
    (hda : (∃ k : Fin 4, decode cc x.handlerPc = .ok (.astore_n k, 1) ∧ (k : Nat) < nL ∧ x.handlerPc + 1 = n1) ∨ ∃ k, decode cc x.handlerPc = .ok (.astore k, 2) ∧ k < nL ∧ x.handlerPc + 2 = n1)
    (d1 : decode cc n1 = .ok (.iconst 1, 1)) (d2 : decode cc (n1 + 1) = .ok (.ireturn, 1)) : VC l true false eSI cc RX0 mn nL fr lo (some .int) σ pc L st (some (1, bump τ)) := by
  intro b hb hok
  cases hb
  obtain ⟨o1, o2, o3⟩ := hup
  have u1 := o2.1
  have u2 := o2.2.1
  refine ⟨⟨o1, ⟨Nat.le_succ_of_le u1, Nat.le_trans u2 (Nat.le_add_right _ 6), o2.2.2.1, o2.2.2.2⟩, fun _ => o3⟩, ?_⟩
  intro D cA E A p e R s m args below meth c Q c0 z0 ad0 n0 hM hgs hcc hzz hret ad H locs cells slots ls hW hc1 hz1 hL
  obtain ⟨w1, w2, w3, w4, w5⟩ := hW
  have hcc' : gC τ + 1 ≤ c0 + R.cells := hcc
  have hzz' : gZ τ + 6 ≤ z0 + R.slots := hzz
  have hAA : ∀ q, va_A (wsE cA ad σ) H.size q → A q := by
    intro q hq
    rcases hq with ⟨k, x, hk⟩ | hq
    · exact w2.2 k _ hk
    · exact hM.fa q (Nat.le_trans w3.1 hq)
  have hpre : ∀ U : State, U.heap = H → s.WarmedH U.vm → PcE l D cA E (.ref 0 :: av) ad σ H.size ((Value.ref 0 :: av).map (iv E ad)).toArray U := fun U hU hWm =>
    ⟨rfl, by rw [hU], by rw [hU]; exact w1, ⟨w2.1, fun _ _ _ => trivial⟩, va_K.moved hWm.alike hM.kk, NW.warm hWm hM.nw, by
      rw [hU]
      exact EXT.moved hWm.alike ((hM.xt.kept w3.2.1).narrow hAA), SR.warm hWm hM.sr, hM.tr, hgs⟩
  obtain ⟨k1, k2⟩ := sk0 hok
  have he : (wsE cA ad σ)[0]? = some (ad 0, .inr (0, (List.range 49).map (fdv 0 ad (gI σ 0) (gR σ 0)))) := by rw [wsE_at k2, cel_obj k1]
  subst har
  have h1 := hM.fr_
  have h2 := hM.lo_
  have hr := vx_runV (e := e) (below := below) (meth := meth) (locs := locs) (cells := cells) (slots := slots) (rest := rest.map (iv E ad)) (g := F0 m pc ls (st.map (iv E ad))) ⟨hM.ex, hM.by_, hM.ml, hM.ow, hM.ts⟩ (hX D cA E ad H.size) (cwV av.length hM.ts hw rfl rfl rfl ha ⟨Nat.le_trans hroom.1 h1, Nat.le_trans hroom.2 h2⟩) ⟨PcE_blind, va_recv hM.kk w1 (ci := 0) rfl he, hpre⟩ rfl (by rw [List.length_map]) hL.1 (by rw [hst, List.map_append, List.map_reverse]; rfl) (rest_cat hcat) hd ⟨by omega, by omega⟩
  intro T hT X
  rcases hr T hT X with ⟨v, st₀, t, T', Lc, h0, X', hLc, e1, e2, hF, sp⟩ | ⟨q, st₀, t, T', Lc, E', ce, h0, X', hLc, e1, e2, ⟨x1, x2, x3, x4⟩, hce, hcv2, hcl, sp⟩
  · exact hF.elim
  · obtain ⟨k1, k2, k3⟩ := vx_keep h0 e1 w3 (fun q _ h => hAA q h) (fun q h => hAA q h) hLc x4
    subst x1
    have hend : ∀ ls' : Array Slot, ls'.size = nL → W p l e R s m args below meth c T'.heap (locs ++ Lc) (cells + (gC τ - gC σ + 1)) (slots + (gZ τ - gZ σ + 6)) Q (F0 m n1 ls' []) := fun ls' hs' => lv_iconst (n := 1) (v := 1) hM.ex hM.by_ d1 rfl
      (hret ad (n1 + 1) ls' T'.heap (locs ++ Lc) _ _ hs' d2 ⟨.int, rfl, rfl⟩ ⟨by rw [e1]; exact x2, ⟨x3.1, fun k q hk => hAA _ (x3.2 k q hk)⟩, k3, w4, Nat.le_trans w5 o2.2.2.1⟩ (by show gC τ + 1 = _; omega) (by show gZ τ + 6 = _; omega))
    have kk : vx_W p l e R s m args below meth c T'.heap (locs ++ Lc) (cells + (gC τ - gC σ + 1)) (slots + (gZ τ - gZ σ + 6)) Q (F0 m pc ls (rest.map (iv E ad))) q := by
      refine vx_catch (own := RX0) (name := "java/util/NoSuchElementException") (E := "java/util/NoSuchElementException") hM.ow [] x [] ((hM.2.2.2.2.2.2.2.2.2.2.2.2.2.2.2 hh hh1).trans hh2) (fun z hz => by cases hz) hcv (by rw [hct]; decide) (by rw [hct]; exact hM.ts _ q1014) (nw_before (hM.nw.1 _ q1021 rfl) rfl) (by rw [e1]; exact hce) hcv2 hcl ?_
      rcases hda with ⟨k, hk1, hk2, hk3⟩ | ⟨k, hk1, hk2, hk3⟩
      · exact lv_astore_n hM.ex hM.by_ hk1 rfl hL hk2 rfl (fun ls' hl' => by rw [hk3]; exact hend ls' hl'.1)
      · exact lv_astore hM.ex hM.by_ hk1 hL hk2 rfl (fun ls' hl' => by rw [hk3]; exact hend ls' hl'.1)
    obtain ⟨t2, a1, b1⟩ := kk T' rfl X'
    exact ⟨t2, sp.trans a1, b1⟩
