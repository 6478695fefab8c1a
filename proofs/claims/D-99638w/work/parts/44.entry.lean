/-- the standing cells, by a check -/
def foB (s : Sg) : Bool := decide (73 ≤ gN s) && ((List.range 73).all (fun i => decide (gK s i = stK.getD i (0, 0))) && (List.range 73).all (fun i => (List.range 50).all fun k => match (stR.getD i []).getD k 0 with
  | 0 => true
  | c + 1 => decide (gR s i k = some c)))
theorem stR_rows : ∀ r ∈ stR, r.length ≤ 50 := by decide
theorem foB_FO {s : Sg} (h : foB s = true) : FO s := by
  unfold foB at h
  simp only [Bool.and_eq_true, decide_eq_true_eq, List.all_eq_true, List.mem_range] at h
  obtain ⟨h1, h2, h3⟩ := h
  refine ⟨h1, h2, fun i k c hc => ?_⟩
  have hi : i < 73 := by
    apply Classical.byContradiction
    intro hn
    have hl : stR.length = 73 := by decide
    have h0 : stR.getD i [] = [] := by
      rw [List.getD_eq_getElem?_getD, List.getElem?_eq_none (by omega)]
      rfl
    rw [h0] at hc
    cases hc
  have hk : k < 50 := by
    apply Classical.byContradiction
    intro hn
    have hl : (stR.getD i []).length ≤ 50 := by
      rw [List.getD_eq_getElem?_getD]
      cases hr : stR[i]? with
      | none => exact Nat.zero_le _
      | some r => exact stR_rows r (List.mem_of_getElem? hr)
    rw [List.getD_eq_getElem?_getD, List.getElem?_eq_none (by omega)] at hc
    cases hc
  have h4 := h3 i hi k hk
  rw [hc] at h4
  exact of_decide_eq_true h4
theorem VC.fo {β : Type} {l : Launch} {al : Bool} {ek : β → Option Value × Sg} {cc : ByteArray} {own mn : String} {nL fr lo : Nat} {rt : Option FieldType} {σ : Sg} {pc : Nat} {L : List (Nat × Value)} {st : List Value} {body : Option β} (hFO : FO σ) (kk : VC l true al ek cc own mn nL fr lo rt σ pc L st body) : VC l false al ek cc own mn nL fr lo rt σ pc L st body := by
  intro b hb hok
  obtain ⟨⟨a1, a2, a3⟩, h2⟩ := kk b hb ⟨hok.1, fun _ => hFO⟩
  exact ⟨⟨⟨a1.1, fun h => by cases h⟩, a2, a3⟩, h2⟩
/-- THE LAW: objects, then the loop -/
def L_all (u : Nat) (s : Sg) : Option (Int32 × Sg) := lt_ (aw s (0 + 5) 49 49) fun s1 => if gN s < gN s1 then ((X_init s1 (gN s)).bind fun s2 => if gN s < gN s2 then (lt_ (aw s2 (2 + 5) 43 43) fun s3 => if gN s < gN s3 ∧ gN s2 < gN s3 then ((M_init s3 (gN s2)).bind fun s4 => if gN s < gN s4 ∧ gN s2 < gN s4 then (lt_ (aw s4 1 1 1) fun s5 => if foB s5 = true ∧ gN s = 0 ∧ gN s2 = 45 ∧ gN s4 = 72 then L_law u s5 else none) else none) else none) else none) else none
set_option maxHeartbeats 1000000 in
theorem vcl_L_all (l : Launch) (u : Nat) (s : Sg) : VC l false true eSI cL_law RX0 "law" 8 1207 40170 (some .boolean) s 0 [(0, .retAddr 17)] [] (L_all u s) := by
  unfold L_all
  refine vv_new (n := 3) (ci := 0) (T := TX1) (ty := tyX1) cd0 tyX1_ok (by decide +kernel) q118 q119 q97 (fun _ => vlc trivial vl0) (fun _ => vs0) dL_law_0 rfl (fun s1 g1 _ => ?_)
  refine vv_dup (n := 4) dL_law_3 rfl rfl ?_
  refine vv_ask (fun h1 => ?_)
  refine vv_callI (fr := 1207) (lo := 40170) (n := 7) (ar := 0) (i := (gN s)) (av := []) (rest := [.ref (gN s)]) (con_X_init l s1 (gN s)) (fun h => by cases h) (fun h => by cases h) (fun _ => rfl) (fun _ _ => ⟨vlc trivial vl0, vsc h1 vs0⟩) dL_law_4 rfl rfl (Nat.le_of_ble_eq_true rfl) ⟨Nat.le_of_ble_eq_true rfl, Nat.le_of_ble_eq_true rfl⟩ rfl q120 q97 q121 q122 rfl (by decide +kernel) (fun s2 _ _ => ?_)
  show VC l false true eSI cL_law RX0 "law" 8 1207 40170 (some .boolean) s2 7 [(0, .retAddr 17)] [.ref (gN s)] _
  refine vv_astore_n (n := 8) (L' := [(1, .ref (gN s)), (0, .retAddr 17)]) dL_law_7 rfl (Nat.le_of_ble_eq_true rfl) rfl ?_
  refine vv_ask (fun h2 => ?_)
  refine vv_new (n := 11) (ci := 2) (T := TX3) (ty := tyX3) cd2 tyX3_ok (by decide +kernel) q1087 q1088 q99 (fun _ => vlc h2 (vlc trivial vl0)) (fun _ => vs0) dL_law_8 rfl (fun s3 g3 _ => ?_)
  refine vv_dup (n := 12) dL_law_11 rfl rfl ?_
  refine vv_ask (fun h3 => ?_)
  refine vv_callI (fr := 1207) (lo := 40170) (n := 15) (ar := 0) (i := (gN s2)) (av := []) (rest := [.ref (gN s2)]) (con_M_init l s3 (gN s2)) (fun h => by cases h) (fun h => by cases h) (fun _ => rfl) (fun _ _ => ⟨vlc h3.1 (vlc trivial vl0), vsc h3.2 vs0⟩) dL_law_12 rfl rfl (Nat.le_of_ble_eq_true rfl) ⟨Nat.le_of_ble_eq_true rfl, Nat.le_of_ble_eq_true rfl⟩ rfl q1089 q99 q1090 q1091 rfl (by decide +kernel) (fun s4 _ _ => ?_)
  show VC l false true eSI cL_law RX0 "law" 8 1207 40170 (some .boolean) s4 15 [(1, .ref (gN s)), (0, .retAddr 17)] [.ref (gN s2)] _
  refine vv_astore_n (n := 16) (L' := [(2, .ref (gN s2)), (1, .ref (gN s)), (0, .retAddr 17)]) dL_law_15 rfl (Nat.le_of_ble_eq_true rfl) rfl ?_
  refine vv_iconst (n := 17) (v := 1) dL_law_16 rfl (by decide) ?_
  refine vv_ask (fun h4 => ?_)
  refine vv_newarr (n := 19) (atype := .long) (ty := .long) (N := 1) (kd := 1) (v := 1) (1, .inr (.inl fun _ => 0)) rfl q324 (by decide) (by decide) (by decide) (fun _ => rfl) (fun _ h => by cases h) (fun _ _ => rfl) (fun _ => rfl) (fun _ => vlc h4.2 (vlc h4.1 (vlc trivial vl0))) (fun _ => vs0) dL_law_17 rfl (fun s5 g5 _ => ?_)
  refine vv_astore_n (n := 20) (L' := [(3, .ref (gN s4)), (2, .ref (gN s2)), (1, .ref (gN s)), (0, .retAddr 17)]) dL_law_19 rfl (Nat.le_of_ble_eq_true rfl) rfl ?_
  refine vv_ask (fun h5 => ?_)
  obtain ⟨hf, e1, e2, e3⟩ := h5
  rw [e1, e2, e3]
  exact VC.sub [3, 2, 1, 0] rfl (VC.fo (foB_FO hf) (vcl_L_law l u s5))
