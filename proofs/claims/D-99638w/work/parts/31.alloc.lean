/-! cells made on the way: Water, nodes -/
theorem vl0 {n : Nat} : ∀ q ∈ ([] : List (Nat × Value)), vok n q.2 := fun _ h => by cases h
theorem vlc {n : Nat} {q : Nat × Value} {L : List (Nat × Value)} (hq : vok n q.2) (h : ∀ q ∈ L, vok n q.2) : ∀ x ∈ q :: L, vok n x.2 := fun x hx => by
  rcases List.mem_cons.mp hx with e | e
  · rw [e]; exact hq
  · exact h x e
theorem vs0 {n : Nat} : ∀ v ∈ ([] : List Value), vok n v := fun _ h => by cases h
theorem vsc {n : Nat} {v : Value} {st : List Value} (hq : vok n v) (h : ∀ v ∈ st, vok n v) : ∀ x ∈ v :: st, vok n x := fun x hx => by
  rcases List.mem_cons.mp hx with e | e
  · rw [e]; exact hq
  · exact h x e
/-- a reference that may be null is to an id that there is -/
abbrev rok (s : Sg) (r : Option Nat) : Prop := r.getD 0 < gN s
theorem vok_rf {s : Sg} {r : Option Nat} (h : rok s r) : vok (gN s) (va_rf r) := by
  cases r with
  | none => exact trivial
  | some i => exact h
/-- null or a Water -/
abbrev wq (s : Sg) (r : Option Nat) : Prop := r = none ∨ (gK s (r.getD 0) = (6, 8) ∧ r.getD 0 < gN s)
theorem wq_v {s : Sg} {r : Option Nat} (h : wq s r) : ∀ i, r = some i → gK s i = (6, 8) ∧ i < gN s := by
  intro i e
  subst e
  rcases h with h | h
  · cases h
  · exact h
def W_init (s : Sg) (i : Nat) : Option Sg :=
  if Db 1 8 s i then (lt_ (aw s 0 6 6) fun s1 => if Db 1 8 s1 i then (lt_ (pR s1 i 0 (some (gN s))) fun s2 =>
  if Db 1 8 s2 i then (lt_ (aw s2 0 6 6) fun s3 => if Db 1 8 s3 i then (lt_ (pR s3 i 1 (some (gN s2))) fun s4 =>
  if Db 1 8 s4 i then (lt_ (aw s4 0 6 6) fun s5 => if Db 1 8 s5 i then (lt_ (pR s5 i 2 (some (gN s4))) fun s6 =>
  if Db 1 8 s6 i then (lt_ (aw s6 0 6 6) fun s7 => if Db 1 8 s7 i then (lt_ (pR s7 i 3 (some (gN s6))) fun s8 => some s8) else none) else none) else none) else none) else none) else none) else none) else none
theorem W_init_put {β : Type} {l : Launch} {fo : Bool} {ek : β → Option Value × Sg} {nL fr lo : Nat} {rt : Option FieldType} {s : Sg} {pc n idx k i r : Nat} {L : List (Nat × Value)} {st : List Value} {f : Sg → Option β} (hk : k < 4) (hi : fo = true → stR.length ≤ i) (hg : Db 1 8 s i) (hr : r < gN s) (ql : Cond.fieldLink RX2 idx (TX2 k).1 (TX2 k).2.1 (TX2 k).2.2.1 ∈ lw_all) (hfin : (TX2 k).2.2.2 = true) (hcl : (TX2 k).1 = RX2) (hp : parseFieldDescriptor (TX2 k).2.2.1 = some (.array .int)) (hd : decode cX2_init pc = .ok (.putfield idx, 3)) (hn : pc + 3 = n)
    (kk : ∀ τ, VC l fo true ek cX2_init RX2 "<init>" nL fr lo rt τ n L st (f τ)) : VC l fo true ek cX2_init RX2 "<init>" nL fr lo rt s pc L (.ref r :: .ref i :: st) (lt_ (pR s i k (some r)) f) :=
  vv_putR (ci := 1) (k := k) (r := some r) (T := TX2) (ty := tyX2) (fty := .array .int) cd1 cp1 (by omega) (by unfold rfk; exact decide_eq_true hk) (fun _ => hg) (Or.inl ql) (Or.inr ⟨hfin, rfl, hcl, ql⟩) hp (Or.inr ⟨_, rfl⟩) (fun _ a e => by cases e; exact hr) (fun h => by
    rw [List.getD_eq_getElem?_getD, List.getD_eq_getElem?_getD, List.getElem?_eq_none (hi h)]; rfl) hd hn kk
theorem W_init_arr {β : Type} {l : Launch} {fo : Bool} {ek : β → Option Value × Sg} {nL fr lo : Nat} {rt : Option FieldType} {s : Sg} {pc n i : Nat} {f : Sg → Option β} (hg : Db 1 8 s i) (hd : decode cX2_init pc = .ok (.newarray .int, 2)) (hn : pc + 2 = n)
    (kk : ∀ τ, gN s < gN τ → VC l fo true ek cX2_init RX2 "<init>" nL fr lo rt τ n [(0, .ref i)] [.ref (gN s), .ref i] (f τ)) : VC l fo true ek cX2_init RX2 "<init>" nL fr lo rt s pc [(0, .ref i)] [.int 6, .ref i] (lt_ (aw s 0 6 6) f) :=
  vv_newarr (atype := .int) (ty := .int) (N := 6) (kd := 0) (v := 6) (6, .inl fun _ => 0) rfl q170 (by decide) (by decide) (by decide) (fun _ => rfl) (fun _ h => by cases h) (fun _ _ => rfl) (fun _ => rfl) (fun _ => vlc hg.2 vl0) (fun _ => vsc hg.2 vs0) hd hn (fun τ h1 _ => kk τ (by omega))
theorem con_W_init (l : Launch) (fo : Bool) (s : Sg) (i : Nat) (hi : fo = true → stR.length ≤ i) : Con l fo true eSV yX2_init cX2_init 1 1 20 none s [.ref i] (W_init s i) := by
  refine con_of (own := RX2) (mn := "<init>") (L := [(0, .ref i)]) (by decide) rfl rfl (fun _ _ => Nat.le_of_ble_eq_true rfl) (fun _ _ => rfl) ?_
  unfold W_init
  refine vv_ask (fun h1 => ?_)
  refine vv_aload_n (n := 1) dX2_init_0 rfl 0 rfl ?_
  refine vv_oinit (n := 4) q131 q124 q125 ⟨Nat.le_refl _, Nat.le_refl _⟩ (Nat.le_of_ble_eq_true rfl) dX2_init_1 rfl ?_
  refine vv_aload_n (n := 5) dX2_init_4 rfl 0 rfl ?_
  refine vv_bipush (n := 7) (v := 6) dX2_init_5 rfl (by decide) ?_
  refine W_init_arr (n := 9) h1 dX2_init_7 rfl (fun s1 g1 => ?_)
  refine vv_ask (fun h2 => ?_)
  refine W_init_put (n := 12) (by decide) hi h2 g1 q132 rfl rfl (by decide +kernel) dX2_init_9 rfl (fun s2 => ?_)
  refine vv_ask (fun h3 => ?_)
  refine vv_aload_n (n := 13) dX2_init_12 rfl 0 rfl ?_
  refine vv_bipush (n := 15) (v := 6) dX2_init_13 rfl (by decide) ?_
  refine W_init_arr (n := 17) h3 dX2_init_15 rfl (fun s3 g3 => ?_)
  refine vv_ask (fun h4 => ?_)
  refine W_init_put (n := 20) (by decide) hi h4 g3 q135 rfl rfl (by decide +kernel) dX2_init_17 rfl (fun s4 => ?_)
  refine vv_ask (fun h5 => ?_)
  refine vv_aload_n (n := 21) dX2_init_20 rfl 0 rfl ?_
  refine vv_bipush (n := 23) (v := 6) dX2_init_21 rfl (by decide) ?_
  refine W_init_arr (n := 25) h5 dX2_init_23 rfl (fun s5 g5 => ?_)
  refine vv_ask (fun h6 => ?_)
  refine W_init_put (n := 28) (by decide) hi h6 g5 q138 rfl rfl (by decide +kernel) dX2_init_25 rfl (fun s6 => ?_)
  refine vv_ask (fun h7 => ?_)
  refine vv_aload_n (n := 29) dX2_init_28 rfl 0 rfl ?_
  refine vv_bipush (n := 31) (v := 6) dX2_init_29 rfl (by decide) ?_
  refine W_init_arr (n := 33) h7 dX2_init_31 rfl (fun s7 g7 => ?_)
  refine vv_ask (fun h8 => ?_)
  refine W_init_put (n := 36) (by decide) hi h8 g7 q141 rfl rfl (by decide +kernel) dX2_init_33 rfl (fun s8 => ?_)
  exact vv_vret dX2_init_36 rfl
