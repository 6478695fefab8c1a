def R_law : String := "PullThePlugLaw"
def lw_P (b : Addr) (xs : List Int32) (args : Array Value) (s : State) : Prop := args = #[.ref b] ∧ s.IntsAt b xs ∧ xs.length ≤ 320 ∧ (Jvm.Cond.and given_1 narrow_1).before args s = true
def lw_Q (_ : Array Value) (s : State) (o : Outcome) (t : State) : Prop := o = .returned (some (.int 1)) ∧ Framed s o t [] 601024 7293034
def lw_Z (below : List Frame) (a : Array Value) (s : State) : State → Prop := fun t => ∃ o, t.status = .running ∧ Ended t below o ∧ lw_Q a s o t
/-- the law's own end, with 1 on the stack, nothing written that was there before, its room as the claim has it -/
theorem lw_ret {p : Program} {l : Launch} {e : Env} {s : State} {m : MethodId} {below : List Frame} {meth : Method} {c : Code} {b : Nat} (hx : p.tables.exec = Jvm.exec) (hb : c.code = code) (hr : meth.sig.returnType = ret) (hlocks : meth.locks = false) {pc : Nat} {H : Heap} {ls : Array Slot} (hdg : decode code pc = .ok (.ireturn, 1)) : W p l e room_1 s m #[Value.ref b] below meth c H [] 601024 7293034 (lw_Z below #[Value.ref b] s) (F0 m pc ls [.int 1]) := by
  intro T hT X
  obtain ⟨fs, hret, hrun, hended, hW, hframe⟩ := X.leave (v := some (.int 1)) (hlocks := hlocks) (fun h => by rw [hr] at h; cases h)
  have hmeth' : T.vm.method? m = some meth := X.method'
  refine ⟨T.setFrames fs, ?_, .returned (some (.int 1)), hrun, hended, rfl, ⟨_, rfl⟩, hW, hframe⟩
  jvm_step X.here [X.here.top, hx, hb, hdg, hmeth', hr, ret, narrow_b1]
  (try refine ⟨rfl, ?_⟩); (try refine ⟨rfl, ?_⟩)
  first | (intro acts; rw [hret _ acts rfl rfl rfl]) | rw [hret _ _ rfl rfl rfl]
  exact Steps.refl _
/-- what holds at the law's entry: the machine, the code, the tables' words (any of lw_tbl by 'hts w (by decide +kernel)'), the script of L ints xs at the cell b, what the Statement gives of the start (any of its parts by flat_of_before) -/
def lw_At (p : Program) (s : State) (m : MethodId) (meth : Method) (c : Code) (b L : Nat) (xs : Nat → Int32) : Prop :=
  p.tables.exec = Jvm.exec ∧ c.code = code ∧ meth.sig.returnType = ret ∧ c.maxLocals = 8 ∧ s.vm.findClass R_law = some m.cls ∧ (∀ w ∈ lw_tbl, w.before #[Value.ref b] s = true) ∧ va_X b L xs s s.heap ∧ b < s.heap.size ∧ meth.locks = false ∧ (Jvm.Cond.and given_1 narrow_1).before #[Value.ref b] s = true
/-! THE JOIN: what the Statement gives of the start, as our judgement wants it -/
def stTm (i : Nat) : Term := [Term.string "PullThePlug" 192, .string "PullThePlug" 200, .string "PullThePlug" 246, .string "PullThePlug" 255, .string "PullThePlug" 257, .string "PullThePlug" 259, .string "PullThePlug" 377, .string "java/lang/StringLatin1" 151].getD i (.string "PullThePlug" 192)
def nwL : List Cond := flatC (Jvm.Cond.and given_1 narrow_1)
theorem nl_ex : ∀ i, i < 8 → Cond.exactly (stTm i) "java/lang/String" ∈ nwL := by decide +kernel
theorem nl_co : ∀ i, i < 8 → Cond.eq (.field (stTm i) "java/lang/String" "coder" "B") (.int 0) ∈ nwL := by decide +kernel
theorem nl_ar : ∀ i, i < 8 → Cond.arrayOf (.field (stTm i) "java/lang/String" "value" "[B") .byte ∈ nwL := by decide +kernel
theorem nl_le : ∀ i, i < 8 → Cond.eq (.length (.field (stTm i) "java/lang/String" "value" "[B")) (.int (Int32.ofNat (stLen.getD i 0))) ∈ nwL := by decide +kernel
theorem nl_el : ∀ i, i < 8 → ∀ j, j < stLen.getD i 0 → Cond.eq (.elem (.field (stTm i) "java/lang/String" "value" "[B") (.int (Int32.ofNat j))) (.int ((stByt.getD i []).getD j 0)) ∈ nwL := by decide +kernel
theorem nl_ne : ∀ i, i < 8 → ∀ j, j < 8 → i ≠ j → Cond.not (Cond.eq (stTm i) (stTm j)) ∈ nwL ∨ Cond.not (Cond.eq (stTm j) (stTm i)) ∈ nwL := by decide +kernel
theorem start_ext {b L : Nat} {xs : Nat → Int32} {s : State} (hts : ∀ w ∈ lw_tbl, w.before #[Value.ref b] s = true) (hX : va_X b L xs s s.heap) (hbl : b < s.heap.size) (hgv : (Jvm.Cond.and given_1 narrow_1).before #[Value.ref b] s = true) :
    ∃ E : Ex, EXT E (fun q => s.heap.size ≤ q) s s.heap ∧ SR E s ∧ E.2.2 = (L, xs) ∧ E.2.1 9 = b := by
  have hs : ∀ w ∈ nwL, w.before #[Value.ref b] s = true := flat_of_before _ hgv
  have hA : ∀ a : Nat, a < s.heap.size → ¬ (s.heap.size ≤ a) := fun a h => Nat.not_le.mpr h
  obtain ⟨adK, adV, hS, hev⟩ := vk_Sof (N := 8) (tm := stTm) (len := stLen) (byt := stByt) (A := fun q => s.heap.size ≤ q) (by decide) (fun i hi => hs _ (nl_ex i hi)) (fun i hi => hs _ (nl_co i hi)) (fun i hi => hs _ (nl_ar i hi)) (fun i hi => hs _ (nl_le i hi)) (fun i hi j hj => hs _ (nl_el i hi j hj)) (fun i j hi hj hne => (nl_ne i hi j hj hne).imp (hs _) (hs _)) hA
  have hfm : (Cond.isRef (.static "jdk/internal/util/Preconditions" "SIOOBE_FORMATTER" "Ljava/util/function/BiFunction;")).before #[Value.ref b] s = true := hs _ (by decide +kernel)
  have hz : ∃ a : Nat, va_Z "jdk/internal/util/Preconditions" "SIOOBE_FORMATTER" "Ljava/util/function/BiFunction;" .null (fun q => s.heap.size ≤ q) s s.heap ∨ va_Z "jdk/internal/util/Preconditions" "SIOOBE_FORMATTER" "Ljava/util/function/BiFunction;" (.ref a) (fun q => s.heap.size ≤ q) s s.heap := by
    rcases va_Zqof (A := fun q => s.heap.size ≤ q) (hts _ q428) (hts _ (lw_all_tbl q104)) hfm hA with h | ⟨a, h⟩
    · exact ⟨0, Or.inl h⟩
    · exact ⟨a, Or.inr h⟩
  obtain ⟨fa, hz⟩ := hz
  obtain ⟨scr, h1, h2, h3, h4, h5⟩ := hX
  refine ⟨(adK, fun i => if i = 8 then fa else if i = 9 then b else adV i, L, xs), ⟨?_, ?_, hz, ?_, ?_, ?_⟩, ?_, rfl, rfl⟩
  · refine ⟨fun i hi => ?_, hS.2⟩
    have e : (if i = 8 then fa else if i = 9 then b else adV i) = adV i := by rw [if_neg (by omega), if_neg (by omega)]
    show _ ∧ _ ∧ va_OF "java/lang/String" "value" "[B" (.ref (if i = 8 then fa else if i = 9 then b else adV i)) (adK i) _ s s.heap ∧ va_T .byte (if i = 8 then fa else if i = 9 then b else adV i) _ _ _ s s.heap
    rw [e]
    exact hS.1 i hi
  · exact va_Zof (hts _ q387) (hts _ (lw_all_tbl q101)) (va_eqi (hs _ (by decide +kernel))) hA
  · exact vx_Zqof (hts _ q1046) (hts _ (lw_all_tbl q113)) (hs _ (by decide +kernel)) hA
  · exact vx_Zqof (hts _ q1048) (hts _ (lw_all_tbl q113)) (hs _ (by decide +kernel)) hA
  · exact ⟨scr, h1, h2, h3, Nat.le_of_eq h4.symm, by rw [h4], h5, hA b hbl⟩
  · exact ⟨vk_R.of (hts _ q365) (hev 0 (by decide)), vk_R.of (hts _ q466) (hev 1 (by decide)), vk_R.of (hts _ q601) (hev 2 (by decide)), vk_R.of (hts _ q619) (hev 3 (by decide)), vk_R.of (hts _ q620) (hev 4 (by decide)), vk_R.of (hts _ q621) (hev 5 (by decide)), vk_R.of (hts _ q778) (hev 6 (by decide)), vk_R.of (hts _ q475) (hev 7 (by decide))⟩
theorem start_arr {s : State} {a : Array Value} {ty : FieldType} (h : (Cond.arrayClass ty).before a s = true) (hno : ∀ C, ty ≠ .object C) : ∃ c : ClassId, ArrOfT s c ty ∧ va_RA s c ty := by
  obtain ⟨c, k, comp, h1, h2, h3⟩ := Cond.arrayClass_spec h
  refine ⟨c, fun n z => ⟨fun k h => (by cases h), k, h2, comp, h3⟩, ?_⟩
  cases ty <;> first | exact h1 | exact (hno _ rfl).elim
theorem start_K {s : State} {a : Array Value} (hts : ∀ w ∈ lw_tbl, w.before a s = true) : ∃ (D : va_G) (cA : Nat → ClassId), va_K D vwCl (tyL cA) s := by
  obtain ⟨c0, i0, k0⟩ := u_known (C := RX1) (T := TX1) (N := 49) (n := 49) hts (fun w h => lw_all_tbl (cd0.2 w h)) (hts _ (lw_all_tbl q119))
  obtain ⟨c1, i1, k1⟩ := u_known (C := RX2) (T := TX2) (N := 8) (n := 8) hts (fun w h => lw_all_tbl (cd1.2 w h)) (hts _ (lw_all_tbl q127))
  obtain ⟨c2, i2, k2⟩ := u_known (C := RX3) (T := TX3) (N := 43) (n := 43) hts (fun w h => lw_all_tbl (cd2.2 w h)) (hts _ (lw_all_tbl q1088))
  obtain ⟨c3, i3, k3⟩ := u_known (C := RX6) (T := TX6) (N := 3) (n := 3) hts (fun w h => lw_all_tbl (cd3.2 w h)) (hts _ (lw_all_tbl q588))
  obtain ⟨c4, i4, k4⟩ := u_known (C := RX7) (T := TX7) (N := 3) (n := 3) hts (fun w h => lw_all_tbl (cd4.2 w h)) (hts _ (lw_all_tbl q603))
  obtain ⟨c5, i5, k5⟩ := u_known (C := RX5) (T := TX5) (N := 3) (n := 3) hts (fun w h => lw_all_tbl (cd5.2 w h)) (hts _ (lw_all_tbl q569))
  obtain ⟨c6, i6, k6⟩ := u_known (C := RX8) (T := TX8) (N := 5) (n := 5) hts (fun w h => lw_all_tbl (cd6.2 w h)) (hts _ (lw_all_tbl q623))
  obtain ⟨c7, i7, k7⟩ := u_known (C := RJ1) (T := TJ1) (N := 4) (n := 4) hts (fun w h => lw_all_tbl (in_J1 w h)) (hts _ (lw_all_tbl q477))
  obtain ⟨c8, i8, k8⟩ := u_known (C := RJ10) (T := TJ10) (N := 6) (n := 6) hts (fun w h => lw_all_tbl (in_J10 w h)) (hts _ (lw_all_tbl q1020))
  obtain ⟨a0, b0⟩ := start_arr (hts _ (lw_all_tbl q170)) (fun C h => by cases h)
  obtain ⟨a1, b1⟩ := start_arr (hts _ (lw_all_tbl q324)) (fun C h => by cases h)
  obtain ⟨a2, b2⟩ := start_arr (hts _ (lw_all_tbl q513)) (fun C h => by cases h)
  obtain ⟨a3, b3⟩ := start_arr (hts _ (lw_all_tbl q323)) (fun C h => by cases h)
  obtain ⟨comp, a4, kA, h1, h2, h3, h4, h5⟩ := Cond.arrayOver_spec (hts _ q171)
  refine ⟨(fun k => [c0, c1, c2, c3, c4, c5, c6, c7, c8].getD k c0, fun k => [i0, i1, i2, i3, i4, i5, i6, i7, i8].getD k i0), fun k => [a0, a1, a2, a3, a4].getD k a0, ?_, ?_⟩
  · intro c q hq
    match c, hq with
    | 0, hq => cases hq; exact k0
    | 1, hq => cases hq; exact k1
    | 2, hq => cases hq; exact k2
    | 3, hq => cases hq; exact k3
    | 4, hq => cases hq; exact k4
    | 5, hq => cases hq; exact k5
    | 6, hq => cases hq; exact k6
    | 7, hq => cases hq; exact k7
    | 8, hq => cases hq; exact k8
    | c + 9, hq => cases hq
  · intro c q hq
    match c, hq with
    | 0, hq => cases hq; exact b0
    | 1, hq => cases hq; exact b1
    | 2, hq => cases hq; exact b2
    | 3, hq => cases hq; exact b3
    | 4, hq => cases hq; exact ⟨fun n z => ⟨fun k h => (by cases h), kA, h3, comp, h4⟩, kA, comp, h3, h4, h1, h5⟩
    | c + 5, hq => cases hq
theorem start_NW {s : State} {a : Array Value} (hts : ∀ w ∈ lw_tbl, w.before a s = true) : NW s := by
  refine ⟨fun w hw hn => ?_, va_AO.of (hts _ q171)⟩
  have h := hts w hw
  cases w <;> first
    | exact va_tabs rfl rfl h
    | (cases hn; done)
/-- the store at the start -/
def sg0 (L : Nat) (xs : Nat → Int32) : Sg := (fun _ _ => 0, fun _ _ => 0, fun _ _ => none, fun _ => (0, 0), 0, 0, 0, L, xs)
/-- THE LAW IN PLAIN LEAN is what is owed yet -/
def Owed : Prop := ∀ (L : Nat) (xs : Nat → Int32), L ≤ 320 → ∃ (u : Nat) (τ : Sg), L_all u (sg0 L xs) = some (1, τ) ∧ gC τ ≤ 601024 ∧ gZ τ ≤ 7293034
theorem start_of (hO : Owed) {p : Program} {e : Env} {s : State} {m : MethodId} {below : List Frame} {meth : Method} {c : Code} (l : Launch) (hflags : l.flags = flags0) {b L : Nat} {xs : Nat → Int32} (hL : L ≤ 320) (C0 : lw_At p s m meth c b L xs) (hnm : meth.name = "law") : W p l e room_1 s m #[Value.ref b] below meth c s.heap [] 0 0 (lw_Z below #[Value.ref b] s) (entryFrame m ([Value.ref b] : List Value).toArray 8) := by
  obtain ⟨hx, hb, hr, hml, hown, hts, hX, hbl, hlk, hgv⟩ := C0
  obtain ⟨u, τ, h1, h2, h3⟩ := hO L xs hL
  obtain ⟨E, hE, hR, hgs, hbE⟩ := start_ext hts hX hbl hgv
  obtain ⟨D, cA, hK⟩ := start_K hts
  have hv := (vcl_L_all l u (sg0 L xs)) (1, τ) h1 ⟨fun i k r h => (by cases h), fun h => (by cases h)⟩
  have hl := lv_entry [Value.ref b] (n := 8) (Nat.le_of_ble_eq_true rfl)
  rw [lg_entry_eq]
  refine hv.2 D cA E (fun q => s.heap.size ≤ q) p e room_1 s m _ below meth c _ 0 0 (fun _ => 0) 0 ⟨hx, hb, hml, hown, fun w h => hts w (lw_all_tbl h), hlk, hK, start_NW hts, by decide, by decide, fun q h => h, hE, hR, (by unfold Launch.stackTraces; rw [hflags]; decide), hnm, fun hh h => (by revert h; rw [show hhOf RX0 "law" = none from by decide]; intro h; cases h)⟩ hgs.symm (by show gC τ ≤ 0 + 601024; omega) (by show gZ τ ≤ 0 + 7293034; omega) ?_ (fun _ => 0) s.heap [] 0 0 _ ⟨fun k q h => (by cases h), ⟨fun i j p q h => (by cases h), fun k q h => (by cases h)⟩, va_S.rf, fun _ _ => rfl, Nat.le_refl _⟩ rfl rfl ?_
  · intro ad pc' ls H locs cells slots hls hd hrt hW hc hz
    have hc : gC τ = 0 + cells := hc
    have hz : gZ τ = 0 + slots := hz
    refine va_forget (fun q hq => hW.2.2.1.2.2 q hq) ?_
    intro T hT X
    exact lw_ret hx hb hr hlk hd T hT (stand_widen X (by omega) (by omega))
  · show lv_has _ 8 [(0, Value.ref (if (17 : Nat) < 8 then E.1 17 else E.2.1 9))]
    rw [if_neg (by decide), hbE]
    exact hl
