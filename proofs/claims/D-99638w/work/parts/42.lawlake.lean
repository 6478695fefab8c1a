theorem Met_ofWH {l : Launch} {y : MethodName} {ws ws' : List Cond} {rm : Room} {Pc : Array Value → State → Prop} {Qc : Array Value → State → Outcome → State → Prop} {mc ms : Nat} {free : Addr → Prop} {cc : ByteArray} {maxL : Nat} {ret : Option FieldType} {hh : List (Nat × Nat × Nat × Nat)}
    (hy : plainName y.cls = true) (hw : ws = Cond.codeWith y cc maxL ret hh :: ws')
    (body : ∀ p e s m args below meth c s₁, BodyLoose p l y (headSpec ws rm) cc maxL ret e s m args below meth c s₁ → c.maxLocals = maxL → Pc args s →
      W p l e (headSpec ws rm).room s m args below meth c s.heap [] 0 0 (MQ below Qc args s mc ms free) (entryFrame m args maxL)) : Met l y ws rm Pc Qc mc ms free := by
  refine MetFree.of_bodyS (code := cc) (maxLocals := maxL) (ret := ret) hy ?_ ?_
  · intro args s m h hn
    obtain ⟨m9, meth, c, hn9, h1, h2, h3, h4, -, h5, h6, -⟩ := Cond.codeWith_spec (atoms_spec (ws := ws) h _ (by rw [hw]; exact List.mem_cons_self))
    cases hn.symm.trans hn9
    exact ⟨meth, c, h1, h2, h3, h4, h5, h6⟩
  · intro p e s m args below meth c s₁ B hml hP _
    have hh0 : s₁.heap = s.heap := by rw [B.state]; rfl
    obtain ⟨t, a1, o, b1, b2, b3⟩ := body p e s m args below meth c s₁ B hml hP s₁ hh0 (Stand.of_body B)
    exact ⟨t, o, a1, b1, b2, b3⟩
/-- the contract of a static method of the law with a handler, which answers an int -/
def ConH (l : Launch) (y : MethodName) (cc : ByteArray) (nL fr lo : Nat) (hh : List (Nat × Nat × Nat × Nat)) (σ : Sg) (av : List Value) (body : Option (Int32 × Sg)) : Prop :=
  ∀ b, body = some b → Ok true σ → (Ok true b.2 ∧ Up σ b.2 ∧ gN b.2 = gN σ) ∧
    ∀ (D : va_G) (cA : Nat → ClassId) (E : Ex) (ad : Nat → Nat) (sz : Nat), Met l y (wsW_ y cc nL (some .int) hh) { frames := fr, cells := gC b.2 - gC σ, slots := gZ b.2 - gZ σ, locals := lo } (PcE l D cA E av ad σ sz) (QcE D cA E false ad σ sz (eSI b)) (gC b.2 - gC σ) (gZ b.2 - gZ σ) (va_A (wsE cA ad σ) sz)
theorem con_ofH {l : Launch} {y : MethodName} {cc : ByteArray} {own mn : String} {nL fr lo : Nat} {hh : List (Nat × Nat × Nat × Nat)} {σ : Sg} {av : List Value} {L : List (Nat × Value)} {body : Option (Int32 × Sg)}
    (hy : plainName y.cls = true) (hown : y.cls = own) (hmn : y.name = mn) (hlen : ∀ (E : Ex) (ad : Nat → Nat), (lg_sl (av.map (iv E ad))).length ≤ nL) (hL : ∀ (E : Ex) (ad : Nat → Nat), lv_args 0 (av.map (iv E ad)) = Lm E ad L)
    (htb : hhOf own mn = some hh) (hv : VC l true false eSI cc own mn nL fr lo (some .int) σ 0 L [] body) : ConH l y cc nL fr lo hh σ av body := by
  intro b hb hok
  obtain ⟨h1, h2⟩ := hv b hb hok
  refine ⟨⟨h1.1, h1.2.1, h1.2.2 rfl⟩, fun D cA E ad sz => ?_⟩
  have u1 : gC σ ≤ gC b.2 := h1.2.1.1
  have u2 : gZ σ ≤ gZ b.2 := h1.2.1.2.1
  refine Met_ofWH (cc := cc) (maxL := nL) (ret := some .int) (hh := hh) hy rfl ?_
  intro p e s m args below meth c s₁ B hml hpc
  obtain ⟨rfl, hsz, hP, hD, hK, hN, hE, hR, htr, hgs⟩ := hpc
  have hts := atoms_spec (ws := wsW_ y cc nL (some .int) hh) B.pre
  have htab := vx_table (x := y) B (hts _ List.mem_cons_self)
  have hts : ∀ w ∈ lw_all, w.before _ s = true := fun w h => hts w (List.mem_cons_of_mem _ h)
  have hown2 : s.vm.findClass own = some m.cls := by rw [← hown]; exact findClass_of_methodNamed B.named
  have hmn2 : meth.name = mn := by rw [← hmn]; exact (name_of_methodNamed B.named B.method).1
  subst hsz
  have hl := lv_entry (av.map (iv E ad)) (n := nL) (hlen E ad)
  rw [hL E ad] at hl
  rw [lg_entry_eq]
  refine h2 D cA E (va_A (wsE cA ad σ) s.heap.size) p e _ s m _ below meth c _ (gC σ) (gZ σ) ad (gN σ) ⟨B.exec, B.bytes, hml, hown2, hts, B.notSynchronized, hK, hN, Nat.le_refl _, Nat.le_refl _, fun q h => Or.inr h, hE, hR, htr, hmn2, fun hh' h => by rw [htb] at h; cases h; exact htab⟩ hgs
    (by show gC b.2 ≤ gC σ + (gC b.2 - gC σ); omega) (by show gZ b.2 ≤ gZ σ + (gZ b.2 - gZ σ); omega) ?_ ad s.heap [] 0 0 _ ⟨hP, hD.self, va_S.rf, fun _ _ => rfl, Nat.le_refl _⟩ rfl rfl hl
  intro ad' pc' ls H locs cells slots _ hd hrt hW hc hz
  have hc' : cells = gC b.2 - gC σ := by have hc : gC b.2 = gC σ + cells := hc; omega
  have hz' : slots = gZ b.2 - gZ σ := by have hz : gZ b.2 = gZ σ + slots := hz; omega
  subst hc'
  subst hz'
  obtain ⟨w1, w2, w3, w4, w5⟩ := hW
  exact W.zret B.exec B.bytes B.returns rfl (fun t ht _ => ⟨ad', rfl, w4, by rw [ht]; exact w1, w2, w3.F ht⟩) w3.2.2 hd B.notSynchronized
/-- the law's lake and row: 1 where it throws -/
def L_lake (s : Sg) (x1 x2 : Int32) : Option (Int32 × Sg) := match X_lake s x1 x2 with
  | none => none
  | some (none, τ) => some (1, bump τ)
  | some (some v, τ) => (tJ τ 72 1 0 v.toInt64).bind fun τ' => some (0, τ')
def L_row (s : Sg) (x1 : Int32) : Option (Int32 × Sg) := match X_row s x1 with
  | none => none
  | some (none, τ) => some (1, bump τ)
  | some (some v, τ) => (tJ τ 72 1 0 v).bind fun τ' => some (0, τ')
theorem con_L_lake (l : Launch) (s : Sg) (x1 x2 : Int32) : ConH l yX0_lake cX0_lake 5 1203 40075 [(0, 10, 13, 13)] s [.ref 0, .int x1, .int x2, .ref 72] (L_lake s x1 x2) := by
  refine con_ofH (own := RX0) (mn := "lake") (L := [(0, .ref 0), (1, .int x1), (2, .int x2), (3, .ref 72)]) (by decide) rfl rfl (fun _ _ => Nat.le_of_ble_eq_true rfl) (fun _ _ => rfl) (by decide) ?_
  refine vv_aload_n (n := 1) dX0_lake_0 rfl 3 rfl ?_
  refine vv_iconst (n := 2) (v := 0) dX0_lake_1 rfl rfl ?_
  refine vv_aload_n (n := 3) dX0_lake_2 rfl 0 rfl ?_
  refine vv_iload_n (n := 4) dX0_lake_3 rfl 1 rfl ?_
  refine vv_iload_n (n := 5) dX0_lake_4 rfl 2 rfl ?_
  have hv := vct_X_lake l s x1 x2
  have hc : Con l true false eSI yX1_lake cX1_lake 3 1202 40053 (some .int) s [.ref 0, .int x1, .int x2] (reT (X_lake s x1 x2)) := conTI (by decide) rfl rfl (fun _ _ => Nat.le_of_ble_eq_true rfl) (fun _ _ => rfl) hv (by decide)
  unfold L_lake
  cases hx : X_lake s x1 x2 with
  | none => exact VC.non
  | some r =>
    obtain ⟨v, τ⟩ := r
    rw [hx] at hv hc
    cases v with
    | none =>
      intro b hb hok
      have hk := (hv _ rfl hok).1
      refine vv_callX (av := [.int x1, .int x2]) (rest := [.int 0, .ref 72]) (ar := 2) (hh := [(0, 10, 13, 13)]) (n1 := 15) (y := yX1_lake) (cc' := cX1_lake) (nL' := 3) (fr' := 1202) (lo' := 40053) (rt' := some .int) (τ := τ) (fun D cA E ad sz => ?_) ⟨hk.1, hk.2.1, hk.2.2 rfl⟩ dX0_lake_5 rfl (by decide) ⟨by decide, by decide⟩ (lw_V q1015 q1016 q1017 q97 q1018) rfl (by decide +kernel) (by decide) rfl rfl rfl (Or.inr ⟨4, dX0_lake_13, by decide, rfl⟩) dX0_lake_15 dX0_lake_16 b hb hok
      exact met_ofX (ek := eTI) (b := (none, τ)) (by decide) rfl rfl (fun _ _ => Nat.le_of_ble_eq_true rfl) (fun _ _ => rfl) hv rfl hok rfl (by decide) (by decide) D cA E ad sz
    | some v =>
      show VC l true false eSI cX0_lake RX0 "lake" 5 1203 40075 (some .int) s 5 [(0, .ref 0), (1, .int x1), (2, .int x2), (3, .ref 72)] [.int x2, .int x1, .ref 0, .int 0, .ref 72] ((reT (some (some v, τ))).bind fun r => (tJ r.2 72 1 0 r.1.toInt64).bind fun τ' => some (0, τ'))
      refine vv_callV (own := RX0) (fr := 1203) (lo := 40075) (n := 8) (ci := 0) (C := RX1) (T := TX1) (N := 49) (ar := 2) (av := [.int x1, .int x2]) (rest := [.int 0, .ref 72]) (f := fun r => (tJ r.2 72 1 0 r.1.toInt64).bind fun τ' => some ((0 : Int32), τ')) hc (fun h => h) (fun h => h) (fun h => by cases h) (fun h => by cases h) rfl sk0 dX0_lake_5 rfl rfl (by decide) ⟨by decide, by decide⟩ (lw_V q1015 q1016 q1017 q97 q1018) rfl (by decide +kernel) (fun b _ _ => ?_)
      refine vv_i2l (n := 9) dX0_lake_8 rfl ?_
      refine vv_last (n := 10) sk72 dX0_lake_9 rfl (fun τ' => ?_)
      refine vv_goto (n := 17) dX0_lake_10 (by decide) ?_
      refine vv_iconst (n := 18) (v := 0) dX0_lake_17 rfl rfl ?_
      exact vv_iret dX0_lake_18 rfl
theorem con_L_row (l : Launch) (s : Sg) (x1 : Int32) : ConH l yX0_row cX0_row 4 11 141 [(0, 8, 11, 13)] s [.ref 0, .int x1, .ref 72] (L_row s x1) := by
  refine con_ofH (own := RX0) (mn := "row") (L := [(0, .ref 0), (1, .int x1), (2, .ref 72)]) (by decide) rfl rfl (fun _ _ => Nat.le_of_ble_eq_true rfl) (fun _ _ => rfl) (by decide) ?_
  refine vv_aload_n (n := 1) dX0_row_0 rfl 2 rfl ?_
  refine vv_iconst (n := 2) (v := 0) dX0_row_1 rfl rfl ?_
  refine vv_aload_n (n := 3) dX0_row_2 rfl 0 rfl ?_
  refine vv_iload_n (n := 4) dX0_row_3 rfl 1 rfl ?_
  have hv := vct_X_row l s x1
  have hc : Con l true false eSL yX1_row cX1_row 2 10 120 (some .long) s [.ref 0, .int x1] (reT (X_row s x1)) := conTL (by decide) rfl rfl (fun _ _ => Nat.le_of_ble_eq_true rfl) (fun _ _ => rfl) hv (by decide)
  unfold L_row
  cases hx : X_row s x1 with
  | none => exact VC.non
  | some r =>
    obtain ⟨v, τ⟩ := r
    rw [hx] at hv hc
    cases v with
    | none =>
      intro b hb hok
      have hk := (hv _ rfl hok).1
      refine vv_callX (av := [.int x1]) (rest := [.int 0, .ref 72]) (ar := 1) (hh := [(0, 8, 11, 13)]) (n1 := 12) (y := yX1_row) (cc' := cX1_row) (nL' := 2) (fr' := 10) (lo' := 120) (rt' := some .long) (τ := τ) (fun D cA E ad sz => ?_) ⟨hk.1, hk.2.1, hk.2.2 rfl⟩ dX0_row_4 rfl (by decide) ⟨by decide, by decide⟩ (lw_V q1083 q1084 q1085 q97 q1086) rfl (by decide +kernel) (by decide) rfl rfl rfl (Or.inl ⟨3, dX0_row_11, by decide, rfl⟩) dX0_row_12 dX0_row_13 b hb hok
      exact met_ofX (ek := eTL) (b := (none, τ)) (by decide) rfl rfl (fun _ _ => Nat.le_of_ble_eq_true rfl) (fun _ _ => rfl) hv rfl hok rfl (by decide) (by decide) D cA E ad sz
    | some v =>
      show VC l true false eSI cX0_row RX0 "row" 4 11 141 (some .int) s 4 [(0, .ref 0), (1, .int x1), (2, .ref 72)] [.int x1, .ref 0, .int 0, .ref 72] ((reT (some (some v, τ))).bind fun r => (tJ r.2 72 1 0 r.1).bind fun τ' => some (0, τ'))
      refine vv_callV (own := RX0) (fr := 11) (lo := 141) (n := 7) (ci := 0) (C := RX1) (T := TX1) (N := 49) (ar := 1) (av := [.int x1]) (rest := [.int 0, .ref 72]) (f := fun r => (tJ r.2 72 1 0 r.1).bind fun τ' => some ((0 : Int32), τ')) hc (fun h => h) (fun h => h) (fun h => by cases h) (fun h => by cases h) rfl sk0 dX0_row_4 rfl rfl (by decide) ⟨by decide, by decide⟩ (lw_V q1083 q1084 q1085 q97 q1086) rfl (by decide +kernel) (fun b _ _ => ?_)
      refine vv_last (n := 8) sk72 dX0_row_7 rfl (fun τ' => ?_)
      refine vv_goto (n := 14) dX0_row_8 (by decide) ?_
      refine vv_iconst (n := 15) (v := 0) dX0_row_14 rfl rfl ?_
      exact vv_iret dX0_row_15 rfl
/-- a call of a static method of the law with a handler -/
theorem vv_callH {β : Type} {l : Launch} {al : Bool} {ek : β → Option Value × Sg} {cc cc' : ByteArray} {own mn : String} {nL fr lo nL' fr' lo' idx ar pc n : Nat} {rt : Option FieldType} {σ : Sg} {L : List (Nat × Value)} {st rest av : List Value} {y : MethodName} {hh : List (Nat × Nat × Nat × Nat)} {body' : Option (Int32 × Sg)} {f : Int32 → Sg → Option β}
    (hc : ConH l y cc' nL' fr' lo' hh σ av body') (hd : decode cc pc = .ok (.invokestatic idx, 3)) (hn : pc + 3 = n) (hst : st = av.reverse ++ rest) (hcat : (rest.map fun v => v.category).sum ≤ 8) (hroom : fr' + 1 ≤ fr ∧ 8 + (nL' + 11) + lo' ≤ lo)
    (hw : GoodIn lw_all (va_wsS own idx y (wsW_ y cc' nL' (some .int) hh))) (har : av.length = ar) (ha : y.cls ≠ "java/lang/invoke/MethodHandle" ∧ y.cls ≠ "java/lang/invoke/VarHandle" ∧ (parseMethodDescriptor y.desc).map (fun d => d.parameters.length) = some ar)
    (kk : ∀ v τ, VC l true al ek cc own mn nL fr lo rt τ n L (.int v :: rest) (f v τ)) : VC l true al ek cc own mn nL fr lo rt σ pc L st (b2 body' f) := by
  intro b hb hok
  cases hbd : body' with
  | none => rw [hbd] at hb; cases hb
  | some b' =>
    rw [hbd] at hb
    obtain ⟨⟨g1, g2, g3⟩, g4⟩ := hc b' hbd hok
    obtain ⟨⟨h1, v1, v2⟩, h2⟩ := kk b'.1 b'.2 b hb g1
    refine ⟨⟨h1, g2.tr v1, fun h => (v2 h).trans g3⟩, ?_⟩
    intro D cA E A p e R s m args below meth c Q c0 z0 ad0 n0 hM hgs hcc hzz hret ad H locs cells slots ls hW hc1 hz1 hL
    have hgs2 : gS b'.2 = E.2.2 := g2.2.2.2.trans hgs
    obtain ⟨w1, w2, w3, w4, w5⟩ := hW
    have u1 := g2.1
    have u2 := g2.2.1
    have u3 := v1.1
    have u4 := v1.2.1
    have hAA : ∀ q, va_A (wsE cA ad σ) H.size q → A q := by
      intro q hq
      rcases hq with ⟨k, x, hk⟩ | hq
      · exact w2.2 k _ hk
      · exact hM.fa q (Nat.le_trans w3.1 hq)
    have hpre : ∀ U : State, U.heap = H → s.WarmedH U.vm → PcE l D cA E av ad σ H.size (av.map (iv E ad)).toArray U := fun U hU hWm =>
      ⟨rfl, by rw [hU], by rw [hU]; exact w1, ⟨w2.1, fun _ _ _ => trivial⟩, va_K.moved hWm.alike hM.kk, NW.warm hWm hM.nw, by
        rw [hU]
        exact EXT.moved hWm.alike ((hM.xt.kept w3.2.1).narrow hAA), SR.warm hWm hM.sr, hM.tr, hgs⟩
    subst har
    have y1 := hM.fr_
    have y2 := hM.lo_
    have hr := vx_runSW (e := e) (below := below) (meth := meth) (locs := locs) (cells := cells) (slots := slots) (rest := rest.map (iv E ad)) (g := F0 m pc ls (st.map (iv E ad))) ⟨hM.ex, hM.by_, hM.ml, hM.ow, hM.ts⟩ (g4 D cA E ad H.size) (vx_cwSW av.length hM.ts hw rfl rfl rfl ha ⟨Nat.le_trans hroom.1 y1, Nat.le_trans hroom.2 y2⟩) ⟨PcE_blind, hpre⟩ rfl (by rw [List.length_map]) hL.1 (by rw [hst, List.map_append, List.map_reverse]) (rest_cat hcat) hd ⟨by omega, by omega⟩
    subst hn
    refine W.callE hr w1 w2 w3 hM.fa (fun _ h => h) (fun ad' H1 locs1 hag a1 a2 a3 => ?_)
    have had : ad' = ad := funext fun i => hag i (Or.inl rfl)
    subst had
    exact h2 D cA E A p e R s m args below meth c Q c0 z0 ad0 n0 hM hgs2 hcc hzz hret ad' H1 locs1 (cells + (gC b'.2 - gC σ)) (slots + (gZ b'.2 - gZ σ)) ls ⟨a1, a2, a3, w4, Nat.le_trans w5 g2.2.2.1⟩ (by omega) (by omega) hL
