/-! nodes: two of their fields bear one name, of two classes -/
theorem nd_apart {args : Array Value} {s : State} {C O f d O' f' d' : String} (h : (Cond.laysFinal C O f d).before args s = true) (h' : (Cond.laysFinal C O' f' d').before args s = true) (hne : O ≠ O')
    {cf kf fi fd cf' kf' fi' fd'} (hi : s.fieldFound? O f d = some (cf, kf, fi, fd)) (hi' : s.fieldFound? O' f' d' = some (cf', kf', fi', fd')) : fd.slot ≠ fd'.slot := by
  obtain ⟨c, k, c1, k1, i1, f1, a1, a2, a3, a4, a5, a6, a7, a8, d1, b1, b2, b3, b4⟩ := Cond.laysFinal_spec h
  obtain ⟨c', k', c1', k1', i1', f1', a1', a2', a3', a4', a5', a6', a7', a8', d1', b1', b2', b3', b4'⟩ := Cond.laysFinal_spec h'
  cases hi.symm.trans a3
  cases hi'.symm.trans a3'
  cases a1.symm.trans a1'
  intro hs
  rw [hs] at b1
  cases b1.symm.trans b1'
  obtain ⟨x, x1, x2⟩ := Vm.findClass_spec a7
  obtain ⟨x', x1', x2'⟩ := Vm.findClass_spec a7'
  have e1 := (State.fieldFound?_spec a3).1
  have e2 := (State.fieldFound?_spec a3').1
  cases x1.symm.trans e1
  cases x1'.symm.trans e2
  exact hne (x2.symm.trans ((b2.symm.trans b2').trans x2'))
/-- a node's class: its fields are final, and differ in class or name -/
def CN (T : u_T) (N : Nat) (ty : Nat → FieldType) : Prop := (∀ k, k < N → parseFieldDescriptor (T k).2.2.1 = some (ty k)) ∧ (∀ a, a < N → ∀ b, b < N → a ≠ b → (T a).1 ≠ (T b).1 ∨ (T a).2.1 ≠ (T b).2.1) ∧ ∀ k, k < N → (T k).2.2.2 = true
theorem nd_lay {args : Array Value} {s : State} {C : String} {T : u_T} {N k : Nat} {ty : Nat → FieldType} (hcn : CN T N ty) (hts : ∀ w ∈ lw_all, w.before args s = true) (hin : ∀ w ∈ u_ws C T N, w ∈ lw_all) (hk : k < N) : (Cond.laysFinal C (T k).1 (T k).2.1 (T k).2.2.1).before args s = true := by
  have h := hts _ (hin _ (u_in_lay hk))
  unfold u_lay at h
  rw [if_pos (hcn.2.2 k hk)] at h
  exact h
theorem nd_ap {args : Array Value} {s : State} {D : va_G} {tys : List (ClassId × FieldType)} {C : String} {T : u_T} {N ci : Nat} {ty : Nat → FieldType} (hcn : CN T N ty) (hts : ∀ w ∈ lw_all, w.before args s = true) (hcd : CD ci C T N) (hK : va_K D vwCl tys s) : ∀ x y, x < N → y < N → x ≠ y → (D.2 ci) x ≠ (D.2 ci) y := by
  intro x y hx hy hne
  obtain ⟨hS, -⟩ := hK.1 ci _ hcd.1
  obtain ⟨_, _, _, fa, hia, ea⟩ := hS x hx
  obtain ⟨_, _, _, fb, hib, eb⟩ := hS y hy
  rw [← ea, ← eb]
  rcases hcn.2.1 x hx y hy hne with h | h
  · exact nd_apart (nd_lay hcn hts hcd.2 hx) (nd_lay hcn hts hcd.2 hy) h hia hib
  · refine u_apart (u_lays hts hcd.2 hx) (u_lays hts hcd.2 hy) hia hib ?_
    rw [(State.fieldFound?_type hia (hcn.1 x hx)).1, (State.fieldFound?_type hib (hcn.1 y hy)).1]
    exact h
section NDP
variable {β : Type} {l : Launch} {fo al : Bool} {ek : β → Option Value × Sg} {cc : ByteArray} {own : String} {nL fr lo : Nat} {rt : Option FieldType} {σ : Sg} {pc n : Nat} {L : List (Nat × Value)} {st : List Value} {body : Option β}
/-- a final field of a node is set in its constructor -/
theorem VC.wrn {τ : Sg} {ci i k N idx : Nat} {C : String} {T : u_T} {ty : Nat → FieldType} {v : Value} {fty : FieldType} (hcd : CD ci C T N) (hcn : CN T N ty) (hk : k < N) (hK : gK σ i = (ci + 5, N) ∧ i < gN σ) (hl : Cond.fieldLink own idx (T k).1 (T k).2.1 (T k).2.2.1 ∈ lw_all)
    (hdecl : (T k).1 = own) (hp : parseFieldDescriptor (T k).2.2.1 = some fty) (hnw : ∀ (E : Ex) (ad : Nat → Nat), narrow fty (iv E ad v) = iv E ad v) (hft : ∀ (E : Ex) (ad : Nat → Nat), fits fty (iv E ad v) = true)
    (hτ : Ok fo σ → Ok fo τ) (hup : gC τ = gC σ ∧ gZ τ = gZ σ ∧ gN τ = gN σ ∧ gS τ = gS σ) (hself : ∀ (E : Ex) cA ad, gK σ i = (ci + 5, N) → celE cA ad τ i = .inr (ci, ((List.range N).map (fdv ci ad (gI σ i) (gR σ i))).set k (iv E ad v))) (hoth : ∀ cA ad j, j ≠ i → celE cA ad τ j = celE cA ad σ j)
    (hd : decode cc pc = .ok (.putfield idx, 3)) (hn : pc + 3 = n) (kk : VC l fo al ek cc own "<init>" nL fr lo rt τ n L st body) : VC l fo al ek cc own "<init>" nL fr lo rt σ pc L (v :: .ref i :: st) body := by
  refine VC.sto (τ := τ) hτ hup (fun {D cA E A p e R s m args below meth c Q ad0 n0 ad H locs cells slots ls} hok hM hW hL _ k2 => ?_) kk
  subst hn
  obtain ⟨kk1, kk2⟩ := hK
  obtain ⟨w1, w2, w3, w4, w5⟩ := hW
  have hmn : meth.name = "<init>" := hM.2.2.2.2.2.2.2.2.2.2.2.2.2.2.1
  have hown := hM.ow
  have hts := hM.ts
  have he : (wsE cA ad σ)[i]? = some (ad i, .inr (ci, (List.range N).map (fdv ci ad (gI σ i) (gR σ i)))) := by rw [wsE_at kk2, cel_obj kk1]
  have hlen : k < ((List.range N).map (fdv ci ad (gI σ i) (gR σ i))).length := by rw [List.length_map, List.length_range]; exact hk
  have hset : (wsE cA ad σ).set i (ad i, .inr (ci, ((List.range N).map (fdv ci ad (gI σ i) (gR σ i))).set k (iv E ad v))) = wsE cA ad τ := wsE_set kk2 hup.2.2.1 (hself E cA ad kk1) (hoth cA ad)
  have hap := nd_ap hcn hts hcd hM.kk
  obtain ⟨r, r1, cell, q1, q2, q3, q4⟩ := w1 i _ he
  cases r1.symm.trans hcd.1
  obtain ⟨hS, hfc, kC, hkC, hkind⟩ := hM.kk.1 ci _ hcd.1
  obtain ⟨cf, kf, fi, f, hi, hsl⟩ := hS k hk
  have hlay := nd_lay hcn hts hcd.2 hk
  have hst := (u_facts hfc hkC (u_lays hts hcd.2 hk) hi).1
  have hcf : m.cls = cf := by
    obtain ⟨_, _, c', _, _, _, -, -, hf', -, -, -, hown2, -⟩ := Cond.laysFinal_spec hlay
    have e1 : c' = cf := by have := hi.symm.trans hf'; simp at this; exact this.1.symm
    rw [hdecl] at hown2
    rw [← e1]
    exact Option.some.inj (hown.symm.trans hown2)
  have h6 := u_fits hfc hkC hkind (Or.inr hlay) hi hp (hnw E ad) (hft E ad)
  refine W.putFinK hM.ex hM.by_ hown (hts _ hl) hi hst hcf hmn (by rw [q2]; exact h6) q1 q3 (by rw [hsl]; exact k2_hasslot (q4 k hk)) rfl rfl hd fun H' e1 e2 e3 => ?_
  rw [hsl] at e1 ⊢
  have a1 := w1.set w2 he (e := .inr (ci, ((List.range N).map (fdv ci ad (gI σ i) (gR σ i))).set k (iv E ad v))) ⟨_, hcd.1, t_OB.to (V := updV (vp_V ((List.range N).map (fdv ci ad (gI σ i) (gR σ i)))) k (iv E ad v)) ⟨_, e1, q2, q3, t_set q4 hap hk (iv E ad v)⟩ (fun j _ => vp_updV_set hlen (iv E ad v) j)⟩ e3
  have a2 := w2.set (e := .inr (ci, ((List.range N).map (fdv ci ad (gI σ i) (gR σ i))).set k (iv E ad v))) he
  rw [hset] at a1 a2
  exact k2 H' _ a1 a2 (w3.put e2 e3 (w2.2 i _ he))
theorem vv_ndR {ci i k N idx r : Nat} {C : String} {T : u_T} {ty : Nat → FieldType} {fty : FieldType} {f : Sg → Option β} (hcd : CD ci C T N) (hcn : CN T N ty) (hk : k < N) (hf : rfk ci k = true) (hK : gK σ i = (ci + 5, N) ∧ i < gN σ) (hl : Cond.fieldLink own idx (T k).1 (T k).2.1 (T k).2.2.1 ∈ lw_all)
    (hdecl : (T k).1 = own) (hp : parseFieldDescriptor (T k).2.2.1 = some fty) (hft : (∃ C, fty = .object C) ∨ ∃ t, fty = .array t) (hr : r < gN σ) (hs : stR.length ≤ i)
    (hd : decode cc pc = .ok (.putfield idx, 3)) (hn : pc + 3 = n) (kk : ∀ τ, VC l fo al ek cc own "<init>" nL fr lo rt τ n L st (f τ)) : VC l fo al ek cc own "<init>" nL fr lo rt σ pc L (.ref r :: .ref i :: st) (lt_ (pR σ i k (some r)) f) :=
  VC.wrn (τ := pR σ i k (some r)) (v := .ref r) hcd hcn hk hK hl hdecl hp (fun E ad => (fits_rf fty hft (some (ad r))).1) (fun E ad => (fits_rf fty hft (some (ad r))).2) (fun hok => Ok.pR hok (fun a e => by cases e; exact hr) (fun _ => by rw [List.getD_eq_getElem?_getD, List.getD_eq_getElem?_getD, List.getElem?_eq_none hs]; rfl)) ⟨rfl, rfl, rfl, rfl⟩ (fun E _ _ h => pR_self (E := E) hf h) (fun _ _ _ h => celE_cR h) hd hn (kk _)
theorem vv_ndI {ci i k N idx : Nat} {C : String} {T : u_T} {ty : Nat → FieldType} {fty : FieldType} {v : Int32} {f : Sg → Option β} (hcd : CD ci C T N) (hcn : CN T N ty) (hk : k < N) (hf : rfk ci k = false) (hK : gK σ i = (ci + 5, N) ∧ i < gN σ) (hl : Cond.fieldLink own idx (T k).1 (T k).2.1 (T k).2.2.1 ∈ lw_all)
    (hdecl : (T k).1 = own) (hp : parseFieldDescriptor (T k).2.2.1 = some fty) (hnw : narrow fty (.int v) = .int v) (hft : fits fty (.int v) = true)
    (hd : decode cc pc = .ok (.putfield idx, 3)) (hn : pc + 3 = n) (kk : ∀ τ, VC l fo al ek cc own "<init>" nL fr lo rt τ n L st (f τ)) : VC l fo al ek cc own "<init>" nL fr lo rt σ pc L (.int v :: .ref i :: st) (lt_ (pI σ i k v) f) :=
  VC.wrn (τ := pI σ i k v) (v := .int v) hcd hcn hk hK hl hdecl hp (fun _ _ => hnw) (fun _ _ => hft) Ok.cI ⟨rfl, rfl, rfl, rfl⟩ (fun _ _ _ h => pI_self hf h) (fun _ _ _ h => celE_cI h) hd hn (kk _)
end NDP
theorem cn3 : CN TX6 3 tyX6 := ⟨tyX6_ok, by decide +kernel, by decide +kernel⟩
theorem cn4 : CN TX7 3 tyX7 := ⟨tyX7_ok, by decide +kernel, by decide +kernel⟩
theorem cn5 : CN TX5 3 tyX5 := ⟨tyX5_ok, by decide +kernel, by decide +kernel⟩
theorem cn6 : CN TX8 5 tyX8 := ⟨tyX8_ok, by decide +kernel, by decide +kernel⟩
/-- Node(PullThePlug), on an object of the class c -/
def Nd_init (c N : Nat) (s : Sg) (i x : Nat) : Option Sg := if Db c N s i then (if stR.length ≤ i then (if x < gN s then (lt_ (pR s i 0 (some x)) fun s1 => some s1) else none) else none) else none
theorem con_Nd_init (l : Launch) (c N : Nat) {C : String} {T : u_T} {ty : Nat → FieldType} (hcd : CD c C T N) (hcn : CN T N ty) (h0 : 0 < N) (hf : rfk c 0 = true) (hT : T 0 = ("PullThePlug$Node", "this$0", "LPullThePlug;", true)) (s : Sg) (i x : Nat) : Con l true false eSV yX4_init cX4_init 2 1 20 none s [.ref i, .ref x] (Nd_init c N s i x) := by
  refine con_of (own := RX4) (mn := "<init>") (L := [(0, .ref i), (1, .ref x)]) (by decide) rfl rfl (fun _ _ => Nat.le_of_ble_eq_true rfl) (fun _ _ => rfl) ?_
  unfold Nd_init
  refine vv_ask (fun h1 => ?_)
  refine vv_ask (fun h2 => ?_)
  refine vv_ask (fun h3 => ?_)
  refine vv_aload_n (n := 1) dX4_init_0 rfl 0 rfl ?_
  refine vv_aload_n (n := 2) dX4_init_1 rfl 1 rfl ?_
  refine vv_ndR (n := 5) (ci := c) (k := 0) (fty := .object "PullThePlug") hcd hcn h0 hf h1 (by rw [hT]; exact q579) (by rw [hT]; rfl) (by rw [hT]; decide +kernel) (Or.inl ⟨_, rfl⟩) h3 h2 dX4_init_2 rfl (fun s1 => ?_)
  refine vv_aload_n (n := 6) dX4_init_5 rfl 0 rfl ?_
  refine vv_oinit (n := 9) q576 q124 q125 ⟨Nat.le_refl _, Nat.le_refl _⟩ (Nat.le_of_ble_eq_true rfl) dX4_init_6 rfl ?_
  exact vv_vret dX4_init_9 rfl
def N6_init (s : Sg) (i x : Nat) (p0 : Int32) : Option Sg := if Db 3 3 s i then (if stR.length ≤ i then (if x < gN s then (lt_ (pR s i 2 (some x)) fun s1 => (Nd_init 3 3 s1 i x).bind fun s2 => if Db 3 3 s2 i then (lt_ (pI s2 i 1 p0) fun s3 => some s3) else none) else none) else none) else none
theorem con_N6_init (l : Launch) (s : Sg) (i x : Nat) (p0 : Int32) : Con l true false eSV yX6_init cX6_init 3 2 41 none s [.ref i, .ref x, .int p0] (N6_init s i x p0) := by
  refine con_of (own := RX6) (mn := "<init>") (L := [(0, .ref i), (1, .ref x), (2, .int p0)]) (by decide) rfl rfl (fun _ _ => Nat.le_of_ble_eq_true rfl) (fun _ _ => rfl) ?_
  unfold N6_init
  refine vv_ask (fun h1 => ?_)
  refine vv_ask (fun h2 => ?_)
  refine vv_ask (fun h3 => ?_)
  refine vv_aload_n (n := 1) dX6_init_0 rfl 0 rfl ?_
  refine vv_aload_n (n := 2) dX6_init_1 rfl 1 rfl ?_
  refine vv_ndR (n := 5) (ci := 3) (k := 2) (fty := .object "PullThePlug") cd3 cn3 (by decide) rfl h1 q594 rfl (by decide +kernel) (Or.inl ⟨_, rfl⟩) h3 h2 dX6_init_2 rfl (fun s1 => ?_)
  refine vv_aload_n (n := 6) dX6_init_5 rfl 0 rfl ?_
  refine vv_aload_n (n := 7) dX6_init_6 rfl 1 rfl ?_
  refine vv_callIN (n := 10) (ar := 1) (i := i) (av := [.ref x]) (rest := []) (con_Nd_init l 3 3 cd3 cn3 (by decide) rfl rfl s1 i x) (fun h => h) (fun h => h) (fun h => by cases h) (fun h => by cases h) dX6_init_7 rfl rfl (by decide) ⟨Nat.le_of_ble_eq_true rfl, Nat.le_of_ble_eq_true rfl⟩ rfl q592 q108 q574 q575 rfl (by decide +kernel) (fun s2 _ _ => ?_)
  show VC l true false eSV cX6_init RX6 "<init>" 3 2 41 none s2 10 [(0, .ref i), (1, .ref x), (2, .int p0)] [] _
  refine vv_ask (fun g3 => ?_)
  refine vv_aload_n (n := 11) dX6_init_10 rfl 0 rfl ?_
  refine vv_iload_n (n := 12) dX6_init_11 rfl 2 rfl ?_
  refine vv_ndI (n := 15) (ci := 3) (k := 1) (fty := .int) cd3 cn3 (by decide) rfl g3 q593 rfl (by decide +kernel) rfl rfl dX6_init_12 rfl (fun s3 => ?_)
  exact vv_vret dX6_init_15 rfl
def N7_init (s : Sg) (i x : Nat) (p0 : Int32) : Option Sg := if Db 4 3 s i then (if stR.length ≤ i then (if x < gN s then (lt_ (pR s i 2 (some x)) fun s1 => (Nd_init 4 3 s1 i x).bind fun s2 => if Db 4 3 s2 i then (lt_ (pI s2 i 1 p0) fun s3 => some s3) else none) else none) else none) else none
theorem con_N7_init (l : Launch) (s : Sg) (i x : Nat) (p0 : Int32) : Con l true false eSV yX7_init cX7_init 3 2 41 none s [.ref i, .ref x, .int p0] (N7_init s i x p0) := by
  refine con_of (own := RX7) (mn := "<init>") (L := [(0, .ref i), (1, .ref x), (2, .int p0)]) (by decide) rfl rfl (fun _ _ => Nat.le_of_ble_eq_true rfl) (fun _ _ => rfl) ?_
  unfold N7_init
  refine vv_ask (fun h1 => ?_)
  refine vv_ask (fun h2 => ?_)
  refine vv_ask (fun h3 => ?_)
  refine vv_aload_n (n := 1) dX7_init_0 rfl 0 rfl ?_
  refine vv_aload_n (n := 2) dX7_init_1 rfl 1 rfl ?_
  refine vv_ndR (n := 5) (ci := 4) (k := 2) (fty := .object "PullThePlug") cd4 cn4 (by decide) rfl h1 q609 rfl (by decide +kernel) (Or.inl ⟨_, rfl⟩) h3 h2 dX7_init_2 rfl (fun s1 => ?_)
  refine vv_aload_n (n := 6) dX7_init_5 rfl 0 rfl ?_
  refine vv_aload_n (n := 7) dX7_init_6 rfl 1 rfl ?_
  refine vv_callIN (n := 10) (ar := 1) (i := i) (av := [.ref x]) (rest := []) (con_Nd_init l 4 3 cd4 cn4 (by decide) rfl rfl s1 i x) (fun h => h) (fun h => h) (fun h => by cases h) (fun h => by cases h) dX7_init_7 rfl rfl (by decide) ⟨Nat.le_of_ble_eq_true rfl, Nat.le_of_ble_eq_true rfl⟩ rfl q607 q108 q574 q575 rfl (by decide +kernel) (fun s2 _ _ => ?_)
  show VC l true false eSV cX7_init RX7 "<init>" 3 2 41 none s2 10 [(0, .ref i), (1, .ref x), (2, .int p0)] [] _
  refine vv_ask (fun g3 => ?_)
  refine vv_aload_n (n := 11) dX7_init_10 rfl 0 rfl ?_
  refine vv_iload_n (n := 12) dX7_init_11 rfl 2 rfl ?_
  refine vv_ndI (n := 15) (ci := 4) (k := 1) (fty := .int) cd4 cn4 (by decide) rfl g3 q608 rfl (by decide +kernel) rfl rfl dX7_init_12 rfl (fun s3 => ?_)
  exact vv_vret dX7_init_15 rfl
def N5_init (s : Sg) (i x : Nat) (p0 : Nat) : Option Sg := if Db 5 3 s i then (if stR.length ≤ i then (if x < gN s then (lt_ (pR s i 2 (some x)) fun s1 => (Nd_init 5 3 s1 i x).bind fun s2 => if Db 5 3 s2 i ∧ p0 < gN s2 then (lt_ (pR s2 i 1 (some p0)) fun s3 => some s3) else none) else none) else none) else none
theorem con_N5_init (l : Launch) (s : Sg) (i x : Nat) (p0 : Nat) : Con l true false eSV yX5_init cX5_init 3 2 41 none s [.ref i, .ref x, .ref p0] (N5_init s i x p0) := by
  refine con_of (own := RX5) (mn := "<init>") (L := [(0, .ref i), (1, .ref x), (2, .ref p0)]) (by decide) rfl rfl (fun _ _ => Nat.le_of_ble_eq_true rfl) (fun _ _ => rfl) ?_
  unfold N5_init
  refine vv_ask (fun h1 => ?_)
  refine vv_ask (fun h2 => ?_)
  refine vv_ask (fun h3 => ?_)
  refine vv_aload_n (n := 1) dX5_init_0 rfl 0 rfl ?_
  refine vv_aload_n (n := 2) dX5_init_1 rfl 1 rfl ?_
  refine vv_ndR (n := 5) (ci := 5) (k := 2) (fty := .object "PullThePlug") cd5 cn5 (by decide) rfl h1 q578 rfl (by decide +kernel) (Or.inl ⟨_, rfl⟩) h3 h2 dX5_init_2 rfl (fun s1 => ?_)
  refine vv_aload_n (n := 6) dX5_init_5 rfl 0 rfl ?_
  refine vv_aload_n (n := 7) dX5_init_6 rfl 1 rfl ?_
  refine vv_callIN (n := 10) (ar := 1) (i := i) (av := [.ref x]) (rest := []) (con_Nd_init l 5 3 cd5 cn5 (by decide) rfl rfl s1 i x) (fun h => h) (fun h => h) (fun h => by cases h) (fun h => by cases h) dX5_init_7 rfl rfl (by decide) ⟨Nat.le_of_ble_eq_true rfl, Nat.le_of_ble_eq_true rfl⟩ rfl q573 q108 q574 q575 rfl (by decide +kernel) (fun s2 _ _ => ?_)
  show VC l true false eSV cX5_init RX5 "<init>" 3 2 41 none s2 10 [(0, .ref i), (1, .ref x), (2, .ref p0)] [] _
  refine vv_ask (fun g3 => ?_)
  refine vv_aload_n (n := 11) dX5_init_10 rfl 0 rfl ?_
  refine vv_aload_n (n := 12) dX5_init_11 rfl 2 rfl ?_
  refine vv_ndR (n := 15) (ci := 5) (k := 1) (fty := .object "PullThePlug$Node") cd5 cn5 (by decide) rfl g3.1 q577 rfl (by decide +kernel) (Or.inl ⟨_, rfl⟩) g3.2 h2 dX5_init_12 rfl (fun s3 => ?_)
  exact vv_vret dX5_init_15 rfl
def N8_init (s : Sg) (i x : Nat) (p0 : Int32) (p1 : Nat) (p2 : Nat) : Option Sg := if Db 6 5 s i then (if stR.length ≤ i then (if x < gN s then (lt_ (pR s i 4 (some x)) fun s1 => (Nd_init 6 5 s1 i x).bind fun s2 => if Db 6 5 s2 i ∧ (narrow .char (.int p0) = .int p0 ∧ fits .char (.int p0) = true) then (lt_ (pI s2 i 1 p0) fun s3 => if Db 6 5 s3 i ∧ p1 < gN s3 then (lt_ (pR s3 i 2 (some p1)) fun s4 => if Db 6 5 s4 i ∧ p2 < gN s4 then (lt_ (pR s4 i 3 (some p2)) fun s5 => some s5) else none) else none) else none) else none) else none) else none
theorem con_N8_init (l : Launch) (s : Sg) (i x : Nat) (p0 : Int32) (p1 : Nat) (p2 : Nat) : Con l true false eSV yX8_init cX8_init 5 2 41 none s [.ref i, .ref x, .int p0, .ref p1, .ref p2] (N8_init s i x p0 p1 p2) := by
  refine con_of (own := RX8) (mn := "<init>") (L := [(0, .ref i), (1, .ref x), (2, .int p0), (3, .ref p1), (4, .ref p2)]) (by decide) rfl rfl (fun _ _ => Nat.le_of_ble_eq_true rfl) (fun _ _ => rfl) ?_
  unfold N8_init
  refine vv_ask (fun h1 => ?_)
  refine vv_ask (fun h2 => ?_)
  refine vv_ask (fun h3 => ?_)
  refine vv_aload_n (n := 1) dX8_init_0 rfl 0 rfl ?_
  refine vv_aload_n (n := 2) dX8_init_1 rfl 1 rfl ?_
  refine vv_ndR (n := 5) (ci := 6) (k := 4) (fty := .object "PullThePlug") cd6 cn6 (by decide) rfl h1 q631 rfl (by decide +kernel) (Or.inl ⟨_, rfl⟩) h3 h2 dX8_init_2 rfl (fun s1 => ?_)
  refine vv_aload_n (n := 6) dX8_init_5 rfl 0 rfl ?_
  refine vv_aload_n (n := 7) dX8_init_6 rfl 1 rfl ?_
  refine vv_callIN (n := 10) (ar := 1) (i := i) (av := [.ref x]) (rest := []) (con_Nd_init l 6 5 cd6 cn6 (by decide) rfl rfl s1 i x) (fun h => h) (fun h => h) (fun h => by cases h) (fun h => by cases h) dX8_init_7 rfl rfl (by decide) ⟨Nat.le_of_ble_eq_true rfl, Nat.le_of_ble_eq_true rfl⟩ rfl q627 q108 q574 q575 rfl (by decide +kernel) (fun s2 _ _ => ?_)
  show VC l true false eSV cX8_init RX8 "<init>" 5 2 41 none s2 10 [(0, .ref i), (1, .ref x), (2, .int p0), (3, .ref p1), (4, .ref p2)] [] _
  refine vv_ask (fun g3 => ?_)
  refine vv_aload_n (n := 11) dX8_init_10 rfl 0 rfl ?_
  refine vv_iload_n (n := 12) dX8_init_11 rfl 2 rfl ?_
  refine vv_ndI (n := 15) (ci := 6) (k := 1) (fty := .char) cd6 cn6 (by decide) rfl g3.1 q628 rfl (by decide +kernel) g3.2.1 g3.2.2 dX8_init_12 rfl (fun s3 => ?_)
  refine vv_ask (fun g4 => ?_)
  refine vv_aload_n (n := 16) dX8_init_15 rfl 0 rfl ?_
  refine vv_aload_n (n := 17) dX8_init_16 rfl 3 rfl ?_
  refine vv_ndR (n := 20) (ci := 6) (k := 2) (fty := .object "PullThePlug$Node") cd6 cn6 (by decide) rfl g4.1 q629 rfl (by decide +kernel) (Or.inl ⟨_, rfl⟩) g4.2 h2 dX8_init_17 rfl (fun s4 => ?_)
  refine vv_ask (fun g5 => ?_)
  refine vv_aload_n (n := 21) dX8_init_20 rfl 0 rfl ?_
  refine vv_aload (n := 23) dX8_init_21 rfl 4 rfl ?_
  refine vv_ndR (n := 26) (ci := 6) (k := 3) (fty := .object "PullThePlug$Node") cd6 cn6 (by decide) rfl g5.1 q630 rfl (by decide +kernel) (Or.inl ⟨_, rfl⟩) g5.2 h2 dX8_init_23 rfl (fun s5 => ?_)
  exact vv_vret dX8_init_26 rfl
