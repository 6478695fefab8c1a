theorem isR_17 : isR (.retAddr 17) := fun _ _ => ⟨_, rfl⟩
/-- an int of the script -/
def aS (σ : Sg) (k : Int32) : Option Int32 := if inb k (gS σ).1 = true then some ((gS σ).2 k.toNatClampNeg) else none
theorem vv_slen {β : Type} {l : Launch} {fo al : Bool} {ek : β → Option Value × Sg} {cc : ByteArray} {own mn : String} {nL fr lo : Nat} {rt : Option FieldType} {σ : Sg} {pc n : Nat} {L : List (Nat × Value)} {st : List Value} {body : Option β} (hd : decode cc pc = .ok (.arraylength, 1)) (hn : pc + 1 = n) (kk : VC l fo al ek cc own mn nL fr lo rt σ n L (.int (Int32.ofNat (gS σ).1) :: st) body) : VC l fo al ek cc own mn nL fr lo rt σ pc L (.retAddr 17 :: st) body := by
  intro b hb hok
  obtain ⟨h1, h2⟩ := kk b hb hok
  refine ⟨h1, ?_⟩
  intro D cA E A p e R s m args below meth c Q c0 z0 ad0 n0 hM hgs hc hz hret ad H locs cells slots ls hW hcc hzz hL
  subst hn
  exact va_tlen (v := Int32.ofNat (gS σ).1) hM.ex hM.by_ hM.xt.2.2.2.2.2 hW.2.2.1 (by rw [hgs]) hd (h2 D cA E A p e R s m args below meth c Q c0 z0 ad0 n0 hM hgs hc hz hret ad H locs cells slots ls hW hcc hzz hL)
theorem vv_sld {β : Type} {l : Launch} {fo al : Bool} {ek : β → Option Value × Sg} {cc : ByteArray} {own mn : String} {nL fr lo : Nat} {rt : Option FieldType} {σ : Sg} {pc n : Nat} {L : List (Nat × Value)} {st : List Value} {k : Int32} {f : Int32 → Option β} (hd : decode cc pc = .ok (.iaload, 1)) (hn : pc + 1 = n) (kk : ∀ v, VC l fo al ek cc own mn nL fr lo rt σ n L (.int v :: st) (f v)) : VC l fo al ek cc own mn nL fr lo rt σ pc L (.int k :: .retAddr 17 :: st) ((aS σ k).bind f) := by
  unfold aS
  by_cases h : inb k (gS σ).1 = true
  · rw [if_pos h]
    intro b hb hok
    obtain ⟨h1, h2⟩ := kk _ b hb hok
    refine ⟨h1, ?_⟩
    intro D cA E A p e R s m args below meth c Q c0 z0 ad0 n0 hM hgs hc hz hret ad H locs cells slots ls hW hcc hzz hL
    subst hn
    exact va_ti (v := .int ((gS σ).2 k.toNatClampNeg)) hM.ex hM.by_ hM.xt.2.2.2.2.2 hW.2.2.1 (by rw [hgs] at h; exact inb_in h) (by rw [hgs]) hd (h2 D cA E A p e R s m args below meth c Q c0 z0 ad0 n0 hM hgs hc hz hret ad H locs cells slots ls hW hcc hzz hL)
  · rw [if_neg h]
    exact VC.non
theorem k0_23 {β : Type} {l : Launch} {al : Bool} {ek : β → Option Value × Sg} {cc : ByteArray} {mn : String} {nL fr lo : Nat} {rt : Option FieldType} {s : Sg} {pc n : Nat} {L : List (Nat × Value)} {st : List Value} {u : Nat} {p0 : Int32} {f : Int32 → Sg → Option β} (hd : decode cc pc = .ok (.invokevirtual 23, 3)) (hn : pc + 3 = n) (hc : Nat.ble (st.map fun v => v.category).sum 8 = true) (hr : (Nat.ble (0 + 1) fr && Nat.ble (8 + (3 + 11) + 0) lo) = true) (kk : ∀ v τ, VC l true al ek cc RX0 mn nL fr lo rt τ n L (.int v :: st) (f v τ)) : VC l true al ek cc RX0 mn nL fr lo rt s pc L (.int p0 :: .ref 0 :: st) (b2 (X_sign u s p0) f) := vv_callV (ci := 0) (C := RX1) (T := TX1) (N := 49) (ar := 1) (av := [.int p0]) (con_X_sign l u s p0) (fun h => h) (fun h => h) (fun h => by cases h) (fun h => by cases h) rfl sk0 hd hn rfl (Nat.le_of_ble_eq_true hc) (ble2 hr) (lw_V q325 q326 q327 q97 q328) rfl (by decide +kernel) (fun b _ _ => kk b.1 b.2)
theorem k0_27 {β : Type} {l : Launch} {al : Bool} {ek : β → Option Value × Sg} {cc : ByteArray} {mn : String} {nL fr lo : Nat} {rt : Option FieldType} {s : Sg} {pc n : Nat} {L : List (Nat × Value)} {st : List Value} {u : Nat} {p0 : Int32} {f : Int32 → Sg → Option β} (hd : decode cc pc = .ok (.invokevirtual 27, 3)) (hn : pc + 3 = n) (hc : Nat.ble (st.map fun v => v.category).sum 8 = true) (hr : (Nat.ble (0 + 1) fr && Nat.ble (8 + (3 + 11) + 0) lo) = true) (kk : ∀ v τ, VC l true al ek cc RX0 mn nL fr lo rt τ n L (.int v :: st) (f v τ)) : VC l true al ek cc RX0 mn nL fr lo rt s pc L (.int p0 :: .ref 45 :: st) (b2 (M_sign u s p0) f) := vv_callV (ci := 2) (C := RX3) (T := TX3) (N := 43) (ar := 1) (av := [.int p0]) (con_M_sign l u s p0) (fun h => h) (fun h => h) (fun h => by cases h) (fun h => by cases h) rfl sk45 hd hn rfl (Nat.le_of_ble_eq_true hc) (ble2 hr) (lw_V q1227 q1228 q1229 q99 q1230) rfl (by decide +kernel) (fun b _ _ => kk b.1 b.2)
theorem k0_28 {β : Type} {l : Launch} {al : Bool} {ek : β → Option Value × Sg} {cc : ByteArray} {mn : String} {nL fr lo : Nat} {rt : Option FieldType} {s : Sg} {pc n : Nat} {L : List (Nat × Value)} {st : List Value} {p0 : Int32} {f : Int32 → Sg → Option β} (hd : decode cc pc = .ok (.invokevirtual 28, 3)) (hn : pc + 3 = n) (hc : Nat.ble (st.map fun v => v.category).sum 8 = true) (hr : (Nat.ble (1 + 1) fr && Nat.ble (8 + (2 + 11) + 25) lo) = true) (kk : ∀ v τ, VC l true al ek cc RX0 mn nL fr lo rt τ n L (.int v :: st) (f v τ)) : VC l true al ek cc RX0 mn nL fr lo rt s pc L (.int p0 :: .ref 0 :: st) (b2 (X_end s p0) f) := vv_callV (ci := 0) (C := RX1) (T := TX1) (N := 49) (ar := 1) (av := [.int p0]) (con_X_end l s p0) (fun h => h) (fun h => h) (fun h => by cases h) (fun h => by cases h) rfl sk0 hd hn rfl (Nat.le_of_ble_eq_true hc) (ble2 hr) (lw_V q329 q330 q331 q97 q332) rfl (by decide +kernel) (fun b _ _ => kk b.1 b.2)
theorem k0_32 {β : Type} {l : Launch} {al : Bool} {ek : β → Option Value × Sg} {cc : ByteArray} {mn : String} {nL fr lo : Nat} {rt : Option FieldType} {s : Sg} {pc n : Nat} {L : List (Nat × Value)} {st : List Value} {p0 : Int32} {f : Int32 → Sg → Option β} (hd : decode cc pc = .ok (.invokevirtual 32, 3)) (hn : pc + 3 = n) (hc : Nat.ble (st.map fun v => v.category).sum 8 = true) (hr : (Nat.ble (1 + 1) fr && Nat.ble (8 + (2 + 11) + 22) lo) = true) (kk : ∀ v τ, VC l true al ek cc RX0 mn nL fr lo rt τ n L (.int v :: st) (f v τ)) : VC l true al ek cc RX0 mn nL fr lo rt s pc L (.int p0 :: .ref 45 :: st) (b2 (M_end s p0) f) := vv_callV (ci := 2) (C := RX3) (T := TX3) (N := 43) (ar := 1) (av := [.int p0]) (con_M_end l s p0) (fun h => h) (fun h => h) (fun h => by cases h) (fun h => by cases h) rfl sk45 hd hn rfl (Nat.le_of_ble_eq_true hc) (ble2 hr) (lw_V q1231 q1232 q1233 q99 q1234) rfl (by decide +kernel) (fun b _ _ => kk b.1 b.2)
theorem k0_33 {β : Type} {l : Launch} {ek : β → Option Value × Sg} {cc : ByteArray} {mn : String} {nL fr lo : Nat} {rt : Option FieldType} {s : Sg} {pc n : Nat} {L : List (Nat × Value)} {st : List Value} {u : Nat}  {f : Int32 → Sg → Option β} (hLk : Ok true s → (∀ q ∈ L, vok (gN s) q.2) ∧ ∀ v ∈ st, vok (gN s) v) (hd : decode cc pc = .ok (.invokevirtual 33, 3)) (hn : pc + 3 = n) (hc : Nat.ble (st.map fun v => v.category).sum 8 = true) (hr : (Nat.ble (7 + 1) fr && Nat.ble (8 + (6 + 11) + 196) lo) = true) (kk : ∀ v τ, gN s ≤ gN τ → VC l true true ek cc RX0 mn nL fr lo rt τ n L (.int v :: st) (f v τ)) : VC l true true ek cc RX0 mn nL fr lo rt s pc L (.ref 0 :: st) (b2 (X_lakes u s) f) := vv_callV (ci := 0) (C := RX1) (T := TX1) (N := 49) (ar := 0) (av := []) (con_X_lakes l u s) (fun h => h) (fun h => h) (fun _ => rfl) (fun _ => hLk) rfl sk0 hd hn rfl (Nat.le_of_ble_eq_true hc) (ble2 hr) (lw_V q336 q337 q338 q97 q339) rfl (by decide +kernel) (fun b _ h => kk b.1 b.2 h.2.2.1)
theorem k0_37 {β : Type} {l : Launch} {al : Bool} {ek : β → Option Value × Sg} {cc : ByteArray} {mn : String} {nL fr lo : Nat} {rt : Option FieldType} {s : Sg} {pc n : Nat} {L : List (Nat × Value)} {st : List Value} {u : Nat}  {f : Int32 → Sg → Option β} (hd : decode cc pc = .ok (.invokevirtual 37, 3)) (hn : pc + 3 = n) (hc : Nat.ble (st.map fun v => v.category).sum 8 = true) (hr : (Nat.ble (4 + 1) fr && Nat.ble (8 + (4 + 11) + 86) lo) = true) (kk : ∀ v τ, VC l true al ek cc RX0 mn nL fr lo rt τ n L (.int v :: st) (f v τ)) : VC l true al ek cc RX0 mn nL fr lo rt s pc L (.ref 45 :: st) (b2 (M_lakes u s) f) := vv_callV (ci := 2) (C := RX3) (T := TX3) (N := 43) (ar := 0) (av := []) (con_M_lakes l u s) (fun h => h) (fun h => h) (fun h => by cases h) (fun h => by cases h) rfl sk45 hd hn rfl (Nat.le_of_ble_eq_true hc) (ble2 hr) (lw_V q1238 q1239 q1240 q99 q1241) rfl (by decide +kernel) (fun b _ _ => kk b.1 b.2)
theorem k0_38 {β : Type} {l : Launch} {ek : β → Option Value × Sg} {cc : ByteArray} {mn : String} {nL fr lo : Nat} {rt : Option FieldType} {s : Sg} {pc n : Nat} {L : List (Nat × Value)} {st : List Value} {u : Nat}  {f : Int32 → Sg → Option β} (hLk : Ok true s → (∀ q ∈ L, vok (gN s) q.2) ∧ ∀ v ∈ st, vok (gN s) v) (hd : decode cc pc = .ok (.invokevirtual 38, 3)) (hn : pc + 3 = n) (hc : Nat.ble (st.map fun v => v.category).sum 8 = true) (hr : (Nat.ble (1202 + 1) fr && Nat.ble (8 + (2 + 11) + 40046) lo) = true) (kk : ∀ v τ, gN s ≤ gN τ → VC l true true ek cc RX0 mn nL fr lo rt τ n L (.int v :: st) (f v τ)) : VC l true true ek cc RX0 mn nL fr lo rt s pc L (.ref 0 :: st) (b2 (X_rule u s) f) := vv_callV (ci := 0) (C := RX1) (T := TX1) (N := 49) (ar := 0) (av := []) (con_X_rule l u s) (fun h => h) (fun h => h) (fun _ => rfl) (fun _ => hLk) rfl sk0 hd hn rfl (Nat.le_of_ble_eq_true hc) (ble2 hr) (lw_V q552 q553 q554 q97 q555) rfl (by decide +kernel) (fun b _ h => kk b.1 b.2 h.2.2.1)
theorem k0_41 {β : Type} {l : Launch} {al : Bool} {ek : β → Option Value × Sg} {cc : ByteArray} {mn : String} {nL fr lo : Nat} {rt : Option FieldType} {s : Sg} {pc n : Nat} {L : List (Nat × Value)} {st : List Value} {u : Nat}  {f : Int32 → Sg → Option β} (hd : decode cc pc = .ok (.invokevirtual 41, 3)) (hn : pc + 3 = n) (hc : Nat.ble (st.map fun v => v.category).sum 8 = true) (hr : (Nat.ble (1202 + 1) fr && Nat.ble (8 + (3 + 11) + 40042) lo) = true) (kk : ∀ v τ, VC l true al ek cc RX0 mn nL fr lo rt τ n L (.int v :: st) (f v τ)) : VC l true al ek cc RX0 mn nL fr lo rt s pc L (.ref 45 :: st) (b2 (M_rule u s) f) := vv_callV (ci := 2) (C := RX3) (T := TX3) (N := 43) (ar := 0) (av := []) (con_M_rule l u s) (fun h => h) (fun h => h) (fun h => by cases h) (fun h => by cases h) rfl sk45 hd hn rfl (Nat.le_of_ble_eq_true hc) (ble2 hr) (lw_V q1278 q1279 q1280 q99 q1281) rfl (by decide +kernel) (fun b _ _ => kk b.1 b.2)
theorem k0_47 {β : Type} {l : Launch} {al : Bool} {ek : β → Option Value × Sg} {cc : ByteArray} {mn : String} {nL fr lo : Nat} {rt : Option FieldType} {s : Sg} {pc n : Nat} {L : List (Nat × Value)} {st : List Value} {u : Nat} {p0 : Int32} {p1 : Int32} {f : Int32 → Sg → Option β} (hd : decode cc pc = .ok (.invokevirtual 47, 3)) (hn : pc + 3 = n) (hc : Nat.ble (st.map fun v => v.category).sum 8 = true) (hr : (Nat.ble (1202 + 1) fr && Nat.ble (8 + (3 + 11) + 40045) lo) = true) (kk : ∀ v τ, VC l true al ek cc RX0 mn nL fr lo rt τ n L (.int v :: st) (f v τ)) : VC l true al ek cc RX0 mn nL fr lo rt s pc L (.int p1 :: .int p0 :: .ref 45 :: st) (b2 (M_lake u s p0 p1) f) := vv_callV (ci := 2) (C := RX3) (T := TX3) (N := 43) (ar := 2) (av := [.int p0, .int p1]) (con_M_lake l u s p0 p1) (fun h => h) (fun h => h) (fun h => by cases h) (fun h => by cases h) rfl sk45 hd hn rfl (Nat.le_of_ble_eq_true hc) (ble2 hr) (lw_V q1313 q1314 q1315 q99 q1316) rfl (by decide +kernel) (fun b _ _ => kk b.1 b.2)
theorem k0_48 {β : Type} {l : Launch} {al : Bool} {ek : β → Option Value × Sg} {cc : ByteArray} {mn : String} {nL fr lo : Nat} {rt : Option FieldType} {s : Sg} {pc n : Nat} {L : List (Nat × Value)} {st : List Value}  {f : Int32 → Option β} (hd : decode cc pc = .ok (.invokevirtual 48, 3)) (hn : pc + 3 = n) (hc : Nat.ble (st.map fun v => v.category).sum 8 = true) (hr : (Nat.ble (0 + 1) fr && Nat.ble (8 + (1 + 11) + 0) lo) = true) (kk : ∀ v, VC l true al ek cc RX0 mn nL fr lo rt s n L (.int v :: st) (f v)) : VC l true al ek cc RX0 mn nL fr lo rt s pc L (.ref 45 :: st) ((M_thrown s).bind f) := vv_callV (ci := 2) (C := RX3) (T := TX3) (N := 43) (ar := 0) (av := []) (con_M_thrown l s) (fun h => h) (fun h => h) (fun h => by cases h) (fun h => by cases h) rfl sk45 hd hn rfl (Nat.le_of_ble_eq_true hc) (ble2 hr) (lw_V q1223 q1224 q1225 q99 q1226) rfl (by decide +kernel) (fun b _ _ => kk b)
theorem k0_51 {β : Type} {l : Launch} {al : Bool} {ek : β → Option Value × Sg} {cc : ByteArray} {mn : String} {nL fr lo : Nat} {rt : Option FieldType} {s : Sg} {pc n : Nat} {L : List (Nat × Value)} {st : List Value} {u : Nat} {p0 : Int32} {p1 : Int32} {p2 : Int32} {p3 : Int32} {f : Int32 → Sg → Option β} (hd : decode cc pc = .ok (.invokevirtual 51, 3)) (hn : pc + 3 = n) (hc : Nat.ble (st.map fun v => v.category).sum 8 = true) (hr : (Nat.ble (3 + 1) fr && Nat.ble (8 + (8 + 11) + 66) lo) = true) (kk : ∀ v τ, VC l true al ek cc RX0 mn nL fr lo rt τ n L (.int v :: st) (f v τ)) : VC l true al ek cc RX0 mn nL fr lo rt s pc L (.int p3 :: .int p2 :: .int p1 :: .int p0 :: .ref 0 :: st) (b2 (X_sheet u s p0 p1 p2 p3) f) := vv_callV (ci := 0) (C := RX1) (T := TX1) (N := 49) (ar := 4) (av := [.int p0, .int p1, .int p2, .int p3]) (con_X_sheet l u s p0 p1 p2 p3) (fun h => h) (fun h => h) (fun h => by cases h) (fun h => by cases h) rfl sk0 hd hn rfl (Nat.le_of_ble_eq_true hc) (ble2 hr) (lw_V q642 q643 q644 q97 q645) rfl (by decide +kernel) (fun b _ _ => kk b.1 b.2)
theorem k0_55 {β : Type} {l : Launch} {al : Bool} {ek : β → Option Value × Sg} {cc : ByteArray} {mn : String} {nL fr lo : Nat} {rt : Option FieldType} {s : Sg} {pc n : Nat} {L : List (Nat × Value)} {st : List Value} {u : Nat} {p0 : Int32} {p1 : Int32} {p2 : Int32} {p3 : Int32} {f : Int32 → Sg → Option β} (hd : decode cc pc = .ok (.invokevirtual 55, 3)) (hn : pc + 3 = n) (hc : Nat.ble (st.map fun v => v.category).sum 8 = true) (hr : (Nat.ble (1 + 1) fr && Nat.ble (8 + (8 + 11) + 24) lo) = true) (kk : ∀ v τ, VC l true al ek cc RX0 mn nL fr lo rt τ n L (.int v :: st) (f v τ)) : VC l true al ek cc RX0 mn nL fr lo rt s pc L (.int p3 :: .int p2 :: .int p1 :: .int p0 :: .ref 45 :: st) (b2 (M_sheet u s p0 p1 p2 p3) f) := vv_callV (ci := 2) (C := RX3) (T := TX3) (N := 43) (ar := 4) (av := [.int p0, .int p1, .int p2, .int p3]) (con_M_sheet l u s p0 p1 p2 p3) (fun h => h) (fun h => h) (fun h => by cases h) (fun h => by cases h) rfl sk45 hd hn rfl (Nat.le_of_ble_eq_true hc) (ble2 hr) (lw_V q1336 q1337 q1338 q99 q1339) rfl (by decide +kernel) (fun b _ _ => kk b.1 b.2)
theorem k0_56 {β : Type} {l : Launch} {ek : β → Option Value × Sg} {cc : ByteArray} {mn : String} {nL fr lo : Nat} {rt : Option FieldType} {s : Sg} {pc n : Nat} {L : List (Nat × Value)} {st : List Value} {u : Nat} {p0 : Int32} {f : Int32 → Sg → Option β} (hLk : Ok true s → (∀ q ∈ L, vok (gN s) q.2) ∧ ∀ v ∈ st, vok (gN s) v) (hd : decode cc pc = .ok (.invokevirtual 56, 3)) (hn : pc + 3 = n) (hc : Nat.ble (st.map fun v => v.category).sum 8 = true) (hr : (Nat.ble (1205 + 1) fr && Nat.ble (8 + (4 + 11) + 40122) lo) = true) (kk : ∀ v τ, gN s ≤ gN τ → VC l true true ek cc RX0 mn nL fr lo rt τ n L (.int v :: st) (f v τ)) : VC l true true ek cc RX0 mn nL fr lo rt s pc L (.int p0 :: .ref 0 :: st) (b2 (X_days u s p0) f) := vv_callV (ci := 0) (C := RX1) (T := TX1) (N := 49) (ar := 1) (av := [.int p0]) (con_X_days l u s p0) (fun h => h) (fun h => h) (fun _ => rfl) (fun _ => hLk) rfl sk0 hd hn rfl (Nat.le_of_ble_eq_true hc) (ble2 hr) (lw_V q672 q673 q674 q97 q675) rfl (by decide +kernel) (fun b _ h => kk b.1 b.2 h.2.2.1)
theorem k0_59 {β : Type} {l : Launch} {al : Bool} {ek : β → Option Value × Sg} {cc : ByteArray} {mn : String} {nL fr lo : Nat} {rt : Option FieldType} {s : Sg} {pc n : Nat} {L : List (Nat × Value)} {st : List Value} {u : Nat} {p0 : Int32} {f : Int32 → Sg → Option β} (hd : decode cc pc = .ok (.invokevirtual 59, 3)) (hn : pc + 3 = n) (hc : Nat.ble (st.map fun v => v.category).sum 8 = true) (hr : (Nat.ble (1204 + 1) fr && Nat.ble (8 + (4 + 11) + 40092) lo) = true) (kk : ∀ v τ, VC l true al ek cc RX0 mn nL fr lo rt τ n L (.int v :: st) (f v τ)) : VC l true al ek cc RX0 mn nL fr lo rt s pc L (.int p0 :: .ref 45 :: st) (b2 (M_days u s p0) f) := vv_callV (ci := 2) (C := RX3) (T := TX3) (N := 43) (ar := 1) (av := [.int p0]) (con_M_days l u s p0) (fun h => h) (fun h => h) (fun h => by cases h) (fun h => by cases h) rfl sk45 hd hn rfl (Nat.le_of_ble_eq_true hc) (ble2 hr) (lw_V q1344 q1345 q1346 q99 q1347) rfl (by decide +kernel) (fun b _ _ => kk b.1 b.2)
theorem k0_60 {β : Type} {l : Launch} {ek : β → Option Value × Sg} {cc : ByteArray} {mn : String} {nL fr lo : Nat} {rt : Option FieldType} {s : Sg} {pc n : Nat} {L : List (Nat × Value)} {st : List Value} {u : Nat} {p0 : Int32} {f : Int32 → Sg → Option β} (hLk : Ok true s → (∀ q ∈ L, vok (gN s) q.2) ∧ ∀ v ∈ st, vok (gN s) v) (hd : decode cc pc = .ok (.invokevirtual 60, 3)) (hn : pc + 3 = n) (hc : Nat.ble (st.map fun v => v.category).sum 8 = true) (hr : (Nat.ble (5 + 1) fr && Nat.ble (8 + (2 + 11) + 105) lo) = true) (kk : ∀ v τ, gN s ≤ gN τ → VC l true true ek cc RX0 mn nL fr lo rt τ n L (.int v :: st) (f v τ)) : VC l true true ek cc RX0 mn nL fr lo rt s pc L (.int p0 :: .ref 0 :: st) (b2 (X_pulls u s p0) f) := vv_callV (ci := 0) (C := RX1) (T := TX1) (N := 49) (ar := 1) (av := [.int p0]) (con_X_pulls l u s p0) (fun h => h) (fun h => h) (fun _ => rfl) (fun _ => hLk) rfl sk0 hd hn rfl (Nat.le_of_ble_eq_true hc) (ble2 hr) (lw_V q724 q725 q726 q97 q727) rfl (by decide +kernel) (fun b _ h => kk b.1 b.2 h.2.2.1)
theorem k0_63 {β : Type} {l : Launch} {al : Bool} {ek : β → Option Value × Sg} {cc : ByteArray} {mn : String} {nL fr lo : Nat} {rt : Option FieldType} {s : Sg} {pc n : Nat} {L : List (Nat × Value)} {st : List Value} {u : Nat} {p0 : Int32} {f : Int32 → Sg → Option β} (hd : decode cc pc = .ok (.invokevirtual 63, 3)) (hn : pc + 3 = n) (hc : Nat.ble (st.map fun v => v.category).sum 8 = true) (hr : (Nat.ble (4 + 1) fr && Nat.ble (8 + (2 + 11) + 88) lo) = true) (kk : ∀ v τ, VC l true al ek cc RX0 mn nL fr lo rt τ n L (.int v :: st) (f v τ)) : VC l true al ek cc RX0 mn nL fr lo rt s pc L (.int p0 :: .ref 45 :: st) (b2 (M_pulls u s p0) f) := vv_callV (ci := 2) (C := RX3) (T := TX3) (N := 43) (ar := 1) (av := [.int p0]) (con_M_pulls l u s p0) (fun h => h) (fun h => h) (fun h => by cases h) (fun h => by cases h) rfl sk45 hd hn rfl (Nat.le_of_ble_eq_true hc) (ble2 hr) (lw_V q1367 q1368 q1369 q99 q1370) rfl (by decide +kernel) (fun b _ _ => kk b.1 b.2)
theorem k0_64 {β : Type} {l : Launch} {ek : β → Option Value × Sg} {cc : ByteArray} {mn : String} {nL fr lo : Nat} {rt : Option FieldType} {s : Sg} {pc n : Nat} {L : List (Nat × Value)} {st : List Value} {u : Nat} {p0 : Int32} {f : Int32 → Sg → Option β} (hLk : Ok true s → (∀ q ∈ L, vok (gN s) q.2) ∧ ∀ v ∈ st, vok (gN s) v) (hd : decode cc pc = .ok (.invokevirtual 64, 3)) (hn : pc + 3 = n) (hc : Nat.ble (st.map fun v => v.category).sum 8 = true) (hr : (Nat.ble (5 + 1) fr && Nat.ble (8 + (2 + 11) + 105) lo) = true) (kk : ∀ v τ, gN s ≤ gN τ → VC l true true ek cc RX0 mn nL fr lo rt τ n L (.int v :: st) (f v τ)) : VC l true true ek cc RX0 mn nL fr lo rt s pc L (.int p0 :: .ref 0 :: st) (b2 (X_stops u s p0) f) := vv_callV (ci := 0) (C := RX1) (T := TX1) (N := 49) (ar := 1) (av := [.int p0]) (con_X_stops l u s p0) (fun h => h) (fun h => h) (fun _ => rfl) (fun _ => hLk) rfl sk0 hd hn rfl (Nat.le_of_ble_eq_true hc) (ble2 hr) (lw_V q741 q742 q743 q97 q744) rfl (by decide +kernel) (fun b _ h => kk b.1 b.2 h.2.2.1)
theorem k0_67 {β : Type} {l : Launch} {al : Bool} {ek : β → Option Value × Sg} {cc : ByteArray} {mn : String} {nL fr lo : Nat} {rt : Option FieldType} {s : Sg} {pc n : Nat} {L : List (Nat × Value)} {st : List Value} {u : Nat} {p0 : Int32} {f : Int32 → Sg → Option β} (hd : decode cc pc = .ok (.invokevirtual 67, 3)) (hn : pc + 3 = n) (hc : Nat.ble (st.map fun v => v.category).sum 8 = true) (hr : (Nat.ble (4 + 1) fr && Nat.ble (8 + (2 + 11) + 88) lo) = true) (kk : ∀ v τ, VC l true al ek cc RX0 mn nL fr lo rt τ n L (.int v :: st) (f v τ)) : VC l true al ek cc RX0 mn nL fr lo rt s pc L (.int p0 :: .ref 45 :: st) (b2 (M_stops u s p0) f) := vv_callV (ci := 2) (C := RX3) (T := TX3) (N := 43) (ar := 1) (av := [.int p0]) (con_M_stops l u s p0) (fun h => h) (fun h => h) (fun h => by cases h) (fun h => by cases h) rfl sk45 hd hn rfl (Nat.le_of_ble_eq_true hc) (ble2 hr) (lw_V q1379 q1380 q1381 q99 q1382) rfl (by decide +kernel) (fun b _ _ => kk b.1 b.2)
theorem k0_68 {β : Type} {l : Launch} {ek : β → Option Value × Sg} {cc : ByteArray} {mn : String} {nL fr lo : Nat} {rt : Option FieldType} {s : Sg} {pc n : Nat} {L : List (Nat × Value)} {st : List Value} {u : Nat} {p0 : Int32} {f : Int32 → Sg → Option β} (hLk : Ok true s → (∀ q ∈ L, vok (gN s) q.2) ∧ ∀ v ∈ st, vok (gN s) v) (hd : decode cc pc = .ok (.invokevirtual 68, 3)) (hn : pc + 3 = n) (hc : Nat.ble (st.map fun v => v.category).sum 8 = true) (hr : (Nat.ble (5 + 1) fr && Nat.ble (8 + (2 + 11) + 105) lo) = true) (kk : ∀ v τ, gN s ≤ gN τ → VC l true true ek cc RX0 mn nL fr lo rt τ n L (.int v :: st) (f v τ)) : VC l true true ek cc RX0 mn nL fr lo rt s pc L (.int p0 :: .ref 0 :: st) (b2 (X_combs u s p0) f) := vv_callV (ci := 0) (C := RX1) (T := TX1) (N := 49) (ar := 1) (av := [.int p0]) (con_X_combs l u s p0) (fun h => h) (fun h => h) (fun _ => rfl) (fun _ => hLk) rfl sk0 hd hn rfl (Nat.le_of_ble_eq_true hc) (ble2 hr) (lw_V q745 q746 q747 q97 q748) rfl (by decide +kernel) (fun b _ h => kk b.1 b.2 h.2.2.1)
theorem k0_71 {β : Type} {l : Launch} {al : Bool} {ek : β → Option Value × Sg} {cc : ByteArray} {mn : String} {nL fr lo : Nat} {rt : Option FieldType} {s : Sg} {pc n : Nat} {L : List (Nat × Value)} {st : List Value} {u : Nat} {p0 : Int32} {f : Int32 → Sg → Option β} (hd : decode cc pc = .ok (.invokevirtual 71, 3)) (hn : pc + 3 = n) (hc : Nat.ble (st.map fun v => v.category).sum 8 = true) (hr : (Nat.ble (3 + 1) fr && Nat.ble (8 + (4 + 11) + 64) lo) = true) (kk : ∀ v τ, VC l true al ek cc RX0 mn nL fr lo rt τ n L (.int v :: st) (f v τ)) : VC l true al ek cc RX0 mn nL fr lo rt s pc L (.int p0 :: .ref 45 :: st) (b2 (M_combs u s p0) f) := vv_callV (ci := 2) (C := RX3) (T := TX3) (N := 43) (ar := 1) (av := [.int p0]) (con_M_combs l u s p0) (fun h => h) (fun h => h) (fun h => by cases h) (fun h => by cases h) rfl sk45 hd hn rfl (Nat.le_of_ble_eq_true hc) (ble2 hr) (lw_V q1383 q1384 q1385 q99 q1386) rfl (by decide +kernel) (fun b _ _ => kk b.1 b.2)
theorem k0_72 {β : Type} {l : Launch} {ek : β → Option Value × Sg} {cc : ByteArray} {mn : String} {nL fr lo : Nat} {rt : Option FieldType} {s : Sg} {pc n : Nat} {L : List (Nat × Value)} {st : List Value} {u : Nat} {p0 : Int32} {p1 : Int32} {f : Int32 → Sg → Option β} (hLk : Ok true s → (∀ q ∈ L, vok (gN s) q.2) ∧ ∀ v ∈ st, vok (gN s) v) (hd : decode cc pc = .ok (.invokevirtual 72, 3)) (hn : pc + 3 = n) (hc : Nat.ble (st.map fun v => v.category).sum 8 = true) (hr : (Nat.ble (5 + 1) fr && Nat.ble (8 + (3 + 11) + 105) lo) = true) (kk : ∀ v τ, gN s ≤ gN τ → VC l true true ek cc RX0 mn nL fr lo rt τ n L (.int v :: st) (f v τ)) : VC l true true ek cc RX0 mn nL fr lo rt s pc L (.int p1 :: .int p0 :: .ref 0 :: st) (b2 (X_taps u s p0 p1) f) := vv_callV (ci := 0) (C := RX1) (T := TX1) (N := 49) (ar := 2) (av := [.int p0, .int p1]) (con_X_taps l u s p0 p1) (fun h => h) (fun h => h) (fun _ => rfl) (fun _ => hLk) rfl sk0 hd hn rfl (Nat.le_of_ble_eq_true hc) (ble2 hr) (lw_V q753 q754 q755 q97 q756) rfl (by decide +kernel) (fun b _ h => kk b.1 b.2 h.2.2.1)
theorem k0_75 {β : Type} {l : Launch} {al : Bool} {ek : β → Option Value × Sg} {cc : ByteArray} {mn : String} {nL fr lo : Nat} {rt : Option FieldType} {s : Sg} {pc n : Nat} {L : List (Nat × Value)} {st : List Value} {u : Nat} {p0 : Int32} {p1 : Int32} {f : Int32 → Sg → Option β} (hd : decode cc pc = .ok (.invokevirtual 75, 3)) (hn : pc + 3 = n) (hc : Nat.ble (st.map fun v => v.category).sum 8 = true) (hr : (Nat.ble (4 + 1) fr && Nat.ble (8 + (3 + 11) + 93) lo) = true) (kk : ∀ v τ, VC l true al ek cc RX0 mn nL fr lo rt τ n L (.int v :: st) (f v τ)) : VC l true al ek cc RX0 mn nL fr lo rt s pc L (.int p1 :: .int p0 :: .ref 45 :: st) (b2 (M_taps u s p0 p1) f) := vv_callV (ci := 2) (C := RX3) (T := TX3) (N := 43) (ar := 2) (av := [.int p0, .int p1]) (con_M_taps l u s p0 p1) (fun h => h) (fun h => h) (fun h => by cases h) (fun h => by cases h) rfl sk45 hd hn rfl (Nat.le_of_ble_eq_true hc) (ble2 hr) (lw_V q1391 q1392 q1393 q99 q1394) rfl (by decide +kernel) (fun b _ _ => kk b.1 b.2)
theorem k0_76 {β : Type} {l : Launch} {ek : β → Option Value × Sg} {cc : ByteArray} {mn : String} {nL fr lo : Nat} {rt : Option FieldType} {s : Sg} {pc n : Nat} {L : List (Nat × Value)} {st : List Value} {u : Nat} {p0 : Int32} {p1 : Int32} {f : Int32 → Sg → Option β} (hLk : Ok true s → (∀ q ∈ L, vok (gN s) q.2) ∧ ∀ v ∈ st, vok (gN s) v) (hd : decode cc pc = .ok (.invokevirtual 76, 3)) (hn : pc + 3 = n) (hc : Nat.ble (st.map fun v => v.category).sum 8 = true) (hr : (Nat.ble (5 + 1) fr && Nat.ble (8 + (3 + 11) + 105) lo) = true) (kk : ∀ v τ, gN s ≤ gN τ → VC l true true ek cc RX0 mn nL fr lo rt τ n L (.int v :: st) (f v τ)) : VC l true true ek cc RX0 mn nL fr lo rt s pc L (.int p1 :: .int p0 :: .ref 0 :: st) (b2 (X_gives u s p0 p1) f) := vv_callV (ci := 0) (C := RX1) (T := TX1) (N := 49) (ar := 2) (av := [.int p0, .int p1]) (con_X_gives l u s p0 p1) (fun h => h) (fun h => h) (fun _ => rfl) (fun _ => hLk) rfl sk0 hd hn rfl (Nat.le_of_ble_eq_true hc) (ble2 hr) (lw_V q762 q763 q764 q97 q765) rfl (by decide +kernel) (fun b _ h => kk b.1 b.2 h.2.2.1)
theorem k0_79 {β : Type} {l : Launch} {al : Bool} {ek : β → Option Value × Sg} {cc : ByteArray} {mn : String} {nL fr lo : Nat} {rt : Option FieldType} {s : Sg} {pc n : Nat} {L : List (Nat × Value)} {st : List Value} {u : Nat} {p0 : Int32} {p1 : Int32} {f : Int32 → Sg → Option β} (hd : decode cc pc = .ok (.invokevirtual 79, 3)) (hn : pc + 3 = n) (hc : Nat.ble (st.map fun v => v.category).sum 8 = true) (hr : (Nat.ble (4 + 1) fr && Nat.ble (8 + (3 + 11) + 93) lo) = true) (kk : ∀ v τ, VC l true al ek cc RX0 mn nL fr lo rt τ n L (.int v :: st) (f v τ)) : VC l true al ek cc RX0 mn nL fr lo rt s pc L (.int p1 :: .int p0 :: .ref 45 :: st) (b2 (M_gives u s p0 p1) f) := vv_callV (ci := 2) (C := RX3) (T := TX3) (N := 43) (ar := 2) (av := [.int p0, .int p1]) (con_M_gives l u s p0 p1) (fun h => h) (fun h => h) (fun h => by cases h) (fun h => by cases h) rfl sk45 hd hn rfl (Nat.le_of_ble_eq_true hc) (ble2 hr) (lw_V q1403 q1404 q1405 q99 q1406) rfl (by decide +kernel) (fun b _ _ => kk b.1 b.2)
theorem k0_80 {β : Type} {l : Launch} {ek : β → Option Value × Sg} {cc : ByteArray} {mn : String} {nL fr lo : Nat} {rt : Option FieldType} {s : Sg} {pc n : Nat} {L : List (Nat × Value)} {st : List Value} {u : Nat}  {f : Int32 → Sg → Option β} (hLk : Ok true s → (∀ q ∈ L, vok (gN s) q.2) ∧ ∀ v ∈ st, vok (gN s) v) (hd : decode cc pc = .ok (.invokevirtual 80, 3)) (hn : pc + 3 = n) (hc : Nat.ble (st.map fun v => v.category).sum 8 = true) (hr : (Nat.ble (1206 + 1) fr && Nat.ble (8 + (5 + 11) + 40144) lo) = true) (kk : ∀ v τ, gN s ≤ gN τ → VC l true true ek cc RX0 mn nL fr lo rt τ n L (.int v :: st) (f v τ)) : VC l true true ek cc RX0 mn nL fr lo rt s pc L (.ref 0 :: st) (b2 (X_year u s) f) := vv_callV (ci := 0) (C := RX1) (T := TX1) (N := 49) (ar := 0) (av := []) (con_X_year l u s) (fun h => h) (fun h => h) (fun _ => rfl) (fun _ => hLk) rfl sk0 hd hn rfl (Nat.le_of_ble_eq_true hc) (ble2 hr) (lw_V q770 q771 q772 q97 q773) rfl (by decide +kernel) (fun b _ h => kk b.1 b.2 h.2.2.1)
theorem k0_83 {β : Type} {l : Launch} {al : Bool} {ek : β → Option Value × Sg} {cc : ByteArray} {mn : String} {nL fr lo : Nat} {rt : Option FieldType} {s : Sg} {pc n : Nat} {L : List (Nat × Value)} {st : List Value} {u : Nat}  {f : Int32 → Sg → Option β} (hd : decode cc pc = .ok (.invokevirtual 83, 3)) (hn : pc + 3 = n) (hc : Nat.ble (st.map fun v => v.category).sum 8 = true) (hr : (Nat.ble (1205 + 1) fr && Nat.ble (8 + (3 + 11) + 40116) lo) = true) (kk : ∀ v τ, VC l true al ek cc RX0 mn nL fr lo rt τ n L (.int v :: st) (f v τ)) : VC l true al ek cc RX0 mn nL fr lo rt s pc L (.ref 45 :: st) (b2 (M_year u s) f) := vv_callV (ci := 2) (C := RX3) (T := TX3) (N := 43) (ar := 0) (av := []) (con_M_year l u s) (fun h => h) (fun h => h) (fun h => by cases h) (fun h => by cases h) rfl sk45 hd hn rfl (Nat.le_of_ble_eq_true hc) (ble2 hr) (lw_V q1407 q1408 q1409 q99 q1410) rfl (by decide +kernel) (fun b _ _ => kk b.1 b.2)
theorem k0_84 {β : Type} {l : Launch} {al : Bool} {ek : β → Option Value × Sg} {cc : ByteArray} {mn : String} {nL fr lo : Nat} {rt : Option FieldType} {s : Sg} {pc n : Nat} {L : List (Nat × Value)} {st : List Value}  {f : Int32 → Sg → Option β} (hd : decode cc pc = .ok (.invokevirtual 84, 3)) (hn : pc + 3 = n) (hc : Nat.ble (st.map fun v => v.category).sum 8 = true) (hr : (Nat.ble (2 + 1) fr && Nat.ble (8 + (1 + 11) + 53) lo) = true) (kk : ∀ v τ, VC l true al ek cc RX0 mn nL fr lo rt τ n L (.int v :: st) (f v τ)) : VC l true al ek cc RX0 mn nL fr lo rt s pc L (.ref 0 :: st) (b2 (X_undo s) f) := vv_callV (ci := 0) (C := RX1) (T := TX1) (N := 49) (ar := 0) (av := []) (con_X_undo l s) (fun h => h) (fun h => h) (fun h => by cases h) (fun h => by cases h) rfl sk0 hd hn rfl (Nat.le_of_ble_eq_true hc) (ble2 hr) (lw_V q663 q664 q665 q97 q666) rfl (by decide +kernel) (fun b _ _ => kk b.1 b.2)
theorem k0_87 {β : Type} {l : Launch} {al : Bool} {ek : β → Option Value × Sg} {cc : ByteArray} {mn : String} {nL fr lo : Nat} {rt : Option FieldType} {s : Sg} {pc n : Nat} {L : List (Nat × Value)} {st : List Value} {u : Nat}  {f : Int32 → Sg → Option β} (hd : decode cc pc = .ok (.invokevirtual 87, 3)) (hn : pc + 3 = n) (hc : Nat.ble (st.map fun v => v.category).sum 8 = true) (hr : (Nat.ble (0 + 1) fr && Nat.ble (8 + (2 + 11) + 0) lo) = true) (kk : ∀ v τ, VC l true al ek cc RX0 mn nL fr lo rt τ n L (.int v :: st) (f v τ)) : VC l true al ek cc RX0 mn nL fr lo rt s pc L (.ref 45 :: st) (b2 (M_undo u s) f) := vv_callV (ci := 2) (C := RX3) (T := TX3) (N := 43) (ar := 0) (av := []) (con_M_undo l u s) (fun h => h) (fun h => h) (fun h => by cases h) (fun h => by cases h) rfl sk45 hd hn rfl (Nat.le_of_ble_eq_true hc) (ble2 hr) (lw_V q1419 q1420 q1421 q99 q1422) rfl (by decide +kernel) (fun b _ _ => kk b.1 b.2)
theorem k0_88 {β : Type} {l : Launch} {al : Bool} {ek : β → Option Value × Sg} {cc : ByteArray} {mn : String} {nL fr lo : Nat} {rt : Option FieldType} {s : Sg} {pc n : Nat} {L : List (Nat × Value)} {st : List Value} {u : Nat} {p0 : Int32} {p1 : Int32} {f : Int32 → Sg → Option β} (hd : decode cc pc = .ok (.invokevirtual 88, 3)) (hn : pc + 3 = n) (hc : Nat.ble (st.map fun v => v.category).sum 8 = true) (hr : (Nat.ble (1205 + 1) fr && Nat.ble (8 + (4 + 11) + 40122) lo) = true) (kk : ∀ v τ, VC l true al ek cc RX0 mn nL fr lo rt τ n L (.int v :: st) (f v τ)) : VC l true al ek cc RX0 mn nL fr lo rt s pc L (.int p1 :: .int p0 :: .ref 0 :: st) (b2 (X_later u s p0 p1) f) := vv_callV (ci := 0) (C := RX1) (T := TX1) (N := 49) (ar := 2) (av := [.int p0, .int p1]) (con_X_later l u s p0 p1) (fun h => h) (fun h => h) (fun h => by cases h) (fun h => by cases h) rfl sk0 hd hn rfl (Nat.le_of_ble_eq_true hc) (ble2 hr) (lw_V q783 q784 q785 q97 q786) rfl (by decide +kernel) (fun b _ _ => kk b.1 b.2)
theorem k0_91 {β : Type} {l : Launch} {al : Bool} {ek : β → Option Value × Sg} {cc : ByteArray} {mn : String} {nL fr lo : Nat} {rt : Option FieldType} {s : Sg} {pc n : Nat} {L : List (Nat × Value)} {st : List Value} {u : Nat} {p0 : Int32} {p1 : Int32} {f : Int32 → Sg → Option β} (hd : decode cc pc = .ok (.invokevirtual 91, 3)) (hn : pc + 3 = n) (hc : Nat.ble (st.map fun v => v.category).sum 8 = true) (hr : (Nat.ble (1205 + 1) fr && Nat.ble (8 + (4 + 11) + 40113) lo) = true) (kk : ∀ v τ, VC l true al ek cc RX0 mn nL fr lo rt τ n L (.int v :: st) (f v τ)) : VC l true al ek cc RX0 mn nL fr lo rt s pc L (.int p1 :: .int p0 :: .ref 45 :: st) (b2 (M_later u s p0 p1) f) := vv_callV (ci := 2) (C := RX3) (T := TX3) (N := 43) (ar := 2) (av := [.int p0, .int p1]) (con_M_later l u s p0 p1) (fun h => h) (fun h => h) (fun h => by cases h) (fun h => by cases h) rfl sk45 hd hn rfl (Nat.le_of_ble_eq_true hc) (ble2 hr) (lw_V q1423 q1424 q1425 q99 q1426) rfl (by decide +kernel) (fun b _ _ => kk b.1 b.2)
theorem k0_92 {β : Type} {l : Launch} {al : Bool} {ek : β → Option Value × Sg} {cc : ByteArray} {mn : String} {nL fr lo : Nat} {rt : Option FieldType} {s : Sg} {pc n : Nat} {L : List (Nat × Value)} {st : List Value} {u : Nat} {p0 : Int32} {f : Int32 → Sg → Option β} (hd : decode cc pc = .ok (.invokevirtual 92, 3)) (hn : pc + 3 = n) (hc : Nat.ble (st.map fun v => v.category).sum 8 = true) (hr : (Nat.ble (1205 + 1) fr && Nat.ble (8 + (3 + 11) + 40122) lo) = true) (kk : ∀ v τ, VC l true al ek cc RX0 mn nL fr lo rt τ n L (.int v :: st) (f v τ)) : VC l true al ek cc RX0 mn nL fr lo rt s pc L (.int p0 :: .ref 0 :: st) (b2 (X_dries u s p0) f) := vv_callV (ci := 0) (C := RX1) (T := TX1) (N := 49) (ar := 1) (av := [.int p0]) (con_X_dries l u s p0) (fun h => h) (fun h => h) (fun h => by cases h) (fun h => by cases h) rfl sk0 hd hn rfl (Nat.le_of_ble_eq_true hc) (ble2 hr) (lw_V q788 q789 q790 q97 q791) rfl (by decide +kernel) (fun b _ _ => kk b.1 b.2)
theorem k0_95 {β : Type} {l : Launch} {al : Bool} {ek : β → Option Value × Sg} {cc : ByteArray} {mn : String} {nL fr lo : Nat} {rt : Option FieldType} {s : Sg} {pc n : Nat} {L : List (Nat × Value)} {st : List Value} {u : Nat} {p0 : Int32} {f : Int32 → Sg → Option β} (hd : decode cc pc = .ok (.invokevirtual 95, 3)) (hn : pc + 3 = n) (hc : Nat.ble (st.map fun v => v.category).sum 8 = true) (hr : (Nat.ble (1203 + 1) fr && Nat.ble (8 + (3 + 11) + 40069) lo) = true) (kk : ∀ v τ, VC l true al ek cc RX0 mn nL fr lo rt τ n L (.int v :: st) (f v τ)) : VC l true al ek cc RX0 mn nL fr lo rt s pc L (.int p0 :: .ref 45 :: st) (b2 (M_dries u s p0) f) := vv_callV (ci := 2) (C := RX3) (T := TX3) (N := 43) (ar := 1) (av := [.int p0]) (con_M_dries l u s p0) (fun h => h) (fun h => h) (fun h => by cases h) (fun h => by cases h) rfl sk45 hd hn rfl (Nat.le_of_ble_eq_true hc) (ble2 hr) (lw_V q1431 q1432 q1433 q99 q1434) rfl (by decide +kernel) (fun b _ _ => kk b.1 b.2)
theorem k0_96 {β : Type} {l : Launch} {al : Bool} {ek : β → Option Value × Sg} {cc : ByteArray} {mn : String} {nL fr lo : Nat} {rt : Option FieldType} {s : Sg} {pc n : Nat} {L : List (Nat × Value)} {st : List Value} {u : Nat} {p0 : Int32} {f : Int32 → Sg → Option β} (hd : decode cc pc = .ok (.invokevirtual 96, 3)) (hn : pc + 3 = n) (hc : Nat.ble (st.map fun v => v.category).sum 8 = true) (hr : (Nat.ble (1205 + 1) fr && Nat.ble (8 + (3 + 11) + 40122) lo) = true) (kk : ∀ v τ, VC l true al ek cc RX0 mn nL fr lo rt τ n L (.int v :: st) (f v τ)) : VC l true al ek cc RX0 mn nL fr lo rt s pc L (.int p0 :: .ref 0 :: st) (b2 (X_brims u s p0) f) := vv_callV (ci := 0) (C := RX1) (T := TX1) (N := 49) (ar := 1) (av := [.int p0]) (con_X_brims l u s p0) (fun h => h) (fun h => h) (fun h => by cases h) (fun h => by cases h) rfl sk0 hd hn rfl (Nat.le_of_ble_eq_true hc) (ble2 hr) (lw_V q796 q797 q798 q97 q799) rfl (by decide +kernel) (fun b _ _ => kk b.1 b.2)
theorem k0_99 {β : Type} {l : Launch} {al : Bool} {ek : β → Option Value × Sg} {cc : ByteArray} {mn : String} {nL fr lo : Nat} {rt : Option FieldType} {s : Sg} {pc n : Nat} {L : List (Nat × Value)} {st : List Value} {u : Nat} {p0 : Int32} {f : Int32 → Sg → Option β} (hd : decode cc pc = .ok (.invokevirtual 99, 3)) (hn : pc + 3 = n) (hc : Nat.ble (st.map fun v => v.category).sum 8 = true) (hr : (Nat.ble (1203 + 1) fr && Nat.ble (8 + (3 + 11) + 40069) lo) = true) (kk : ∀ v τ, VC l true al ek cc RX0 mn nL fr lo rt τ n L (.int v :: st) (f v τ)) : VC l true al ek cc RX0 mn nL fr lo rt s pc L (.int p0 :: .ref 45 :: st) (b2 (M_brims u s p0) f) := vv_callV (ci := 2) (C := RX3) (T := TX3) (N := 43) (ar := 1) (av := [.int p0]) (con_M_brims l u s p0) (fun h => h) (fun h => h) (fun h => by cases h) (fun h => by cases h) rfl sk45 hd hn rfl (Nat.le_of_ble_eq_true hc) (ble2 hr) (lw_V q1435 q1436 q1437 q99 q1438) rfl (by decide +kernel) (fun b _ _ => kk b.1 b.2)
theorem k0_100 {β : Type} {l : Launch} {al : Bool} {ek : β → Option Value × Sg} {cc : ByteArray} {mn : String} {nL fr lo : Nat} {rt : Option FieldType} {s : Sg} {pc n : Nat} {L : List (Nat × Value)} {st : List Value} {u : Nat} {p0 : Int32} {p1 : Int32} {f : Int32 → Sg → Option β} (hd : decode cc pc = .ok (.invokevirtual 100, 3)) (hn : pc + 3 = n) (hc : Nat.ble (st.map fun v => v.category).sum 8 = true) (hr : (Nat.ble (1204 + 1) fr && Nat.ble (8 + (9 + 11) + 40099) lo) = true) (kk : ∀ v τ, VC l true al ek cc RX0 mn nL fr lo rt τ n L (.int v :: st) (f v τ)) : VC l true al ek cc RX0 mn nL fr lo rt s pc L (.int p1 :: .int p0 :: .ref 0 :: st) (b2 (X_marks u s p0 p1) f) := vv_callV (ci := 0) (C := RX1) (T := TX1) (N := 49) (ar := 2) (av := [.int p0, .int p1]) (con_X_marks l u s p0 p1) (fun h => h) (fun h => h) (fun h => by cases h) (fun h => by cases h) rfl sk0 hd hn rfl (Nat.le_of_ble_eq_true hc) (ble2 hr) (lw_V q800 q801 q802 q97 q803) rfl (by decide +kernel) (fun b _ _ => kk b.1 b.2)
theorem k0_103 {β : Type} {l : Launch} {al : Bool} {ek : β → Option Value × Sg} {cc : ByteArray} {mn : String} {nL fr lo : Nat} {rt : Option FieldType} {s : Sg} {pc n : Nat} {L : List (Nat × Value)} {st : List Value} {u : Nat} {p0 : Int32} {p1 : Int32} {f : Int32 → Sg → Option β} (hd : decode cc pc = .ok (.invokevirtual 103, 3)) (hn : pc + 3 = n) (hc : Nat.ble (st.map fun v => v.category).sum 8 = true) (hr : (Nat.ble (1203 + 1) fr && Nat.ble (8 + (8 + 11) + 40069) lo) = true) (kk : ∀ v τ, VC l true al ek cc RX0 mn nL fr lo rt τ n L (.int v :: st) (f v τ)) : VC l true al ek cc RX0 mn nL fr lo rt s pc L (.int p1 :: .int p0 :: .ref 45 :: st) (b2 (M_marks u s p0 p1) f) := vv_callV (ci := 2) (C := RX3) (T := TX3) (N := 43) (ar := 2) (av := [.int p0, .int p1]) (con_M_marks l u s p0 p1) (fun h => h) (fun h => h) (fun h => by cases h) (fun h => by cases h) rfl sk45 hd hn rfl (Nat.le_of_ble_eq_true hc) (ble2 hr) (lw_V q1439 q1440 q1441 q99 q1442) rfl (by decide +kernel) (fun b _ _ => kk b.1 b.2)
theorem k0_104 {β : Type} {l : Launch} {al : Bool} {ek : β → Option Value × Sg} {cc : ByteArray} {mn : String} {nL fr lo : Nat} {rt : Option FieldType} {s : Sg} {pc n : Nat} {L : List (Nat × Value)} {st : List Value} {u : Nat} {p0 : Int32} {f : Int32 → Sg → Option β} (hd : decode cc pc = .ok (.invokevirtual 104, 3)) (hn : pc + 3 = n) (hc : Nat.ble (st.map fun v => v.category).sum 8 = true) (hr : (Nat.ble (2 + 1) fr && Nat.ble (8 + (3 + 11) + 45) lo) = true) (kk : ∀ v τ, VC l true al ek cc RX0 mn nL fr lo rt τ n L (.int v :: st) (f v τ)) : VC l true al ek cc RX0 mn nL fr lo rt s pc L (.int p0 :: .ref 0 :: st) (b2 (X_realm u s p0) f) := vv_callV (ci := 0) (C := RX1) (T := TX1) (N := 49) (ar := 1) (av := [.int p0]) (con_X_realm l u s p0) (fun h => h) (fun h => h) (fun h => by cases h) (fun h => by cases h) rfl sk0 hd hn rfl (Nat.le_of_ble_eq_true hc) (ble2 hr) (lw_V q804 q805 q806 q97 q807) rfl (by decide +kernel) (fun b _ _ => kk b.1 b.2)
theorem k0_107 {β : Type} {l : Launch} {al : Bool} {ek : β → Option Value × Sg} {cc : ByteArray} {mn : String} {nL fr lo : Nat} {rt : Option FieldType} {s : Sg} {pc n : Nat} {L : List (Nat × Value)} {st : List Value} {u : Nat} {p0 : Int32} {f : Int32 → Sg → Option β} (hd : decode cc pc = .ok (.invokevirtual 107, 3)) (hn : pc + 3 = n) (hc : Nat.ble (st.map fun v => v.category).sum 8 = true) (hr : (Nat.ble (2 + 1) fr && Nat.ble (8 + (5 + 11) + 45) lo) = true) (kk : ∀ v τ, VC l true al ek cc RX0 mn nL fr lo rt τ n L (.int v :: st) (f v τ)) : VC l true al ek cc RX0 mn nL fr lo rt s pc L (.int p0 :: .ref 45 :: st) (b2 (M_realm u s p0) f) := vv_callV (ci := 2) (C := RX3) (T := TX3) (N := 43) (ar := 1) (av := [.int p0]) (con_M_realm l u s p0) (fun h => h) (fun h => h) (fun h => by cases h) (fun h => by cases h) rfl sk45 hd hn rfl (Nat.le_of_ble_eq_true hc) (ble2 hr) (lw_V q1443 q1444 q1445 q99 q1446) rfl (by decide +kernel) (fun b _ _ => kk b.1 b.2)
theorem k0_108 {β : Type} {l : Launch} {al : Bool} {ek : β → Option Value × Sg} {cc : ByteArray} {mn : String} {nL fr lo : Nat} {rt : Option FieldType} {s : Sg} {pc n : Nat} {L : List (Nat × Value)} {st : List Value} {u : Nat} {p0 : Int32} {f : Int32 → Sg → Option β} (hd : decode cc pc = .ok (.invokevirtual 108, 3)) (hn : pc + 3 = n) (hc : Nat.ble (st.map fun v => v.category).sum 8 = true) (hr : (Nat.ble (2 + 1) fr && Nat.ble (8 + (3 + 11) + 46) lo) = true) (kk : ∀ v τ, VC l true al ek cc RX0 mn nL fr lo rt τ n L (.int v :: st) (f v τ)) : VC l true al ek cc RX0 mn nL fr lo rt s pc L (.int p0 :: .ref 0 :: st) (b2 (X_course u s p0) f) := vv_callV (ci := 0) (C := RX1) (T := TX1) (N := 49) (ar := 1) (av := [.int p0]) (con_X_course l u s p0) (fun h => h) (fun h => h) (fun h => by cases h) (fun h => by cases h) rfl sk0 hd hn rfl (Nat.le_of_ble_eq_true hc) (ble2 hr) (lw_V q812 q813 q814 q97 q815) rfl (by decide +kernel) (fun b _ _ => kk b.1 b.2)
theorem k0_111 {β : Type} {l : Launch} {al : Bool} {ek : β → Option Value × Sg} {cc : ByteArray} {mn : String} {nL fr lo : Nat} {rt : Option FieldType} {s : Sg} {pc n : Nat} {L : List (Nat × Value)} {st : List Value} {u : Nat} {p0 : Int32} {f : Int32 → Sg → Option β} (hd : decode cc pc = .ok (.invokevirtual 111, 3)) (hn : pc + 3 = n) (hc : Nat.ble (st.map fun v => v.category).sum 8 = true) (hr : (Nat.ble (2 + 1) fr && Nat.ble (8 + (3 + 11) + 43) lo) = true) (kk : ∀ v τ, VC l true al ek cc RX0 mn nL fr lo rt τ n L (.int v :: st) (f v τ)) : VC l true al ek cc RX0 mn nL fr lo rt s pc L (.int p0 :: .ref 45 :: st) (b2 (M_course u s p0) f) := vv_callV (ci := 2) (C := RX3) (T := TX3) (N := 43) (ar := 1) (av := [.int p0]) (con_M_course l u s p0) (fun h => h) (fun h => h) (fun h => by cases h) (fun h => by cases h) rfl sk45 hd hn rfl (Nat.le_of_ble_eq_true hc) (ble2 hr) (lw_V q1461 q1462 q1463 q99 q1464) rfl (by decide +kernel) (fun b _ _ => kk b.1 b.2)
theorem k0_112 {β : Type} {l : Launch} {al : Bool} {ek : β → Option Value × Sg} {cc : ByteArray} {mn : String} {nL fr lo : Nat} {rt : Option FieldType} {s : Sg} {pc n : Nat} {L : List (Nat × Value)} {st : List Value} {u : Nat} {p0 : Int32} {f : Int32 → Sg → Option β} (hd : decode cc pc = .ok (.invokevirtual 112, 3)) (hn : pc + 3 = n) (hc : Nat.ble (st.map fun v => v.category).sum 8 = true) (hr : (Nat.ble (2 + 1) fr && Nat.ble (8 + (5 + 11) + 46) lo) = true) (kk : ∀ v τ, VC l true al ek cc RX0 mn nL fr lo rt τ n L (.int v :: st) (f v τ)) : VC l true al ek cc RX0 mn nL fr lo rt s pc L (.int p0 :: .ref 0 :: st) (b2 (X_basin u s p0) f) := vv_callV (ci := 0) (C := RX1) (T := TX1) (N := 49) (ar := 1) (av := [.int p0]) (con_X_basin l u s p0) (fun h => h) (fun h => h) (fun h => by cases h) (fun h => by cases h) rfl sk0 hd hn rfl (Nat.le_of_ble_eq_true hc) (ble2 hr) (lw_V q816 q817 q818 q97 q819) rfl (by decide +kernel) (fun b _ _ => kk b.1 b.2)
theorem k0_115 {β : Type} {l : Launch} {al : Bool} {ek : β → Option Value × Sg} {cc : ByteArray} {mn : String} {nL fr lo : Nat} {rt : Option FieldType} {s : Sg} {pc n : Nat} {L : List (Nat × Value)} {st : List Value} {u : Nat} {p0 : Int32} {f : Int32 → Sg → Option β} (hd : decode cc pc = .ok (.invokevirtual 115, 3)) (hn : pc + 3 = n) (hc : Nat.ble (st.map fun v => v.category).sum 8 = true) (hr : (Nat.ble (2 + 1) fr && Nat.ble (8 + (6 + 11) + 45) lo) = true) (kk : ∀ v τ, VC l true al ek cc RX0 mn nL fr lo rt τ n L (.int v :: st) (f v τ)) : VC l true al ek cc RX0 mn nL fr lo rt s pc L (.int p0 :: .ref 45 :: st) (b2 (M_basin u s p0) f) := vv_callV (ci := 2) (C := RX3) (T := TX3) (N := 43) (ar := 1) (av := [.int p0]) (con_M_basin l u s p0) (fun h => h) (fun h => h) (fun h => by cases h) (fun h => by cases h) rfl sk45 hd hn rfl (Nat.le_of_ble_eq_true hc) (ble2 hr) (lw_V q1465 q1466 q1467 q99 q1468) rfl (by decide +kernel) (fun b _ _ => kk b.1 b.2)
theorem k0_116 {β : Type} {l : Launch} {al : Bool} {ek : β → Option Value × Sg} {cc : ByteArray} {mn : String} {nL fr lo : Nat} {rt : Option FieldType} {s : Sg} {pc n : Nat} {L : List (Nat × Value)} {st : List Value} {u : Nat} {p0 : Int32} {f : Int32 → Sg → Option β} (hd : decode cc pc = .ok (.invokevirtual 116, 3)) (hn : pc + 3 = n) (hc : Nat.ble (st.map fun v => v.category).sum 8 = true) (hr : (Nat.ble (1204 + 1) fr && Nat.ble (8 + (6 + 11) + 40099) lo) = true) (kk : ∀ v τ, VC l true al ek cc RX0 mn nL fr lo rt τ n L (.int v :: st) (f v τ)) : VC l true al ek cc RX0 mn nL fr lo rt s pc L (.int p0 :: .ref 0 :: st) (b2 (X_order u s p0) f) := vv_callV (ci := 0) (C := RX1) (T := TX1) (N := 49) (ar := 1) (av := [.int p0]) (con_X_order l u s p0) (fun h => h) (fun h => h) (fun h => by cases h) (fun h => by cases h) rfl sk0 hd hn rfl (Nat.le_of_ble_eq_true hc) (ble2 hr) (lw_V q820 q821 q822 q97 q823) rfl (by decide +kernel) (fun b _ _ => kk b.1 b.2)
theorem k0_119 {β : Type} {l : Launch} {al : Bool} {ek : β → Option Value × Sg} {cc : ByteArray} {mn : String} {nL fr lo : Nat} {rt : Option FieldType} {s : Sg} {pc n : Nat} {L : List (Nat × Value)} {st : List Value} {u : Nat} {p0 : Int32} {f : Int32 → Sg → Option β} (hd : decode cc pc = .ok (.invokevirtual 119, 3)) (hn : pc + 3 = n) (hc : Nat.ble (st.map fun v => v.category).sum 8 = true) (hr : (Nat.ble (1203 + 1) fr && Nat.ble (8 + (5 + 11) + 40069) lo) = true) (kk : ∀ v τ, VC l true al ek cc RX0 mn nL fr lo rt τ n L (.int v :: st) (f v τ)) : VC l true al ek cc RX0 mn nL fr lo rt s pc L (.int p0 :: .ref 45 :: st) (b2 (M_order u s p0) f) := vv_callV (ci := 2) (C := RX3) (T := TX3) (N := 43) (ar := 1) (av := [.int p0]) (con_M_order l u s p0) (fun h => h) (fun h => h) (fun h => by cases h) (fun h => by cases h) rfl sk45 hd hn rfl (Nat.le_of_ble_eq_true hc) (ble2 hr) (lw_V q1469 q1470 q1471 q99 q1472) rfl (by decide +kernel) (fun b _ _ => kk b.1 b.2)
theorem k0_120 {β : Type} {l : Launch} {al : Bool} {ek : β → Option Value × Sg} {cc : ByteArray} {mn : String} {nL fr lo : Nat} {rt : Option FieldType} {s : Sg} {pc n : Nat} {L : List (Nat × Value)} {st : List Value} {u : Nat} {p0 : Int32} {p1 : Int32} {f : Int32 → Sg → Option β} (hd : decode cc pc = .ok (.invokevirtual 120, 3)) (hn : pc + 3 = n) (hc : Nat.ble (st.map fun v => v.category).sum 8 = true) (hr : (Nat.ble (1204 + 1) fr && Nat.ble (8 + (4 + 11) + 40099) lo) = true) (kk : ∀ v τ, VC l true al ek cc RX0 mn nL fr lo rt τ n L (.int v :: st) (f v τ)) : VC l true al ek cc RX0 mn nL fr lo rt s pc L (.int p1 :: .int p0 :: .ref 0 :: st) (b2 (X_meets u s p0 p1) f) := vv_callV (ci := 0) (C := RX1) (T := TX1) (N := 49) (ar := 2) (av := [.int p0, .int p1]) (con_X_meets l u s p0 p1) (fun h => h) (fun h => h) (fun h => by cases h) (fun h => by cases h) rfl sk0 hd hn rfl (Nat.le_of_ble_eq_true hc) (ble2 hr) (lw_V q828 q829 q830 q97 q831) rfl (by decide +kernel) (fun b _ _ => kk b.1 b.2)
theorem k0_123 {β : Type} {l : Launch} {al : Bool} {ek : β → Option Value × Sg} {cc : ByteArray} {mn : String} {nL fr lo : Nat} {rt : Option FieldType} {s : Sg} {pc n : Nat} {L : List (Nat × Value)} {st : List Value} {u : Nat} {p0 : Int32} {p1 : Int32} {f : Int32 → Sg → Option β} (hd : decode cc pc = .ok (.invokevirtual 123, 3)) (hn : pc + 3 = n) (hc : Nat.ble (st.map fun v => v.category).sum 8 = true) (hr : (Nat.ble (1203 + 1) fr && Nat.ble (8 + (4 + 11) + 40069) lo) = true) (kk : ∀ v τ, VC l true al ek cc RX0 mn nL fr lo rt τ n L (.int v :: st) (f v τ)) : VC l true al ek cc RX0 mn nL fr lo rt s pc L (.int p1 :: .int p0 :: .ref 45 :: st) (b2 (M_meets u s p0 p1) f) := vv_callV (ci := 2) (C := RX3) (T := TX3) (N := 43) (ar := 2) (av := [.int p0, .int p1]) (con_M_meets l u s p0 p1) (fun h => h) (fun h => h) (fun h => by cases h) (fun h => by cases h) rfl sk45 hd hn rfl (Nat.le_of_ble_eq_true hc) (ble2 hr) (lw_V q1473 q1474 q1475 q99 q1476) rfl (by decide +kernel) (fun b _ _ => kk b.1 b.2)
theorem k0_124 {β : Type} {l : Launch} {al : Bool} {ek : β → Option Value × Sg} {cc : ByteArray} {mn : String} {nL fr lo : Nat} {rt : Option FieldType} {s : Sg} {pc n : Nat} {L : List (Nat × Value)} {st : List Value} {u : Nat} {p0 : Int32} {f : Int32 → Sg → Option β} (hd : decode cc pc = .ok (.invokevirtual 124, 3)) (hn : pc + 3 = n) (hc : Nat.ble (st.map fun v => v.category).sum 8 = true) (hr : (Nat.ble (1205 + 1) fr && Nat.ble (8 + (6 + 11) + 40122) lo) = true) (kk : ∀ v τ, VC l true al ek cc RX0 mn nL fr lo rt τ n L (.int v :: st) (f v τ)) : VC l true al ek cc RX0 mn nL fr lo rt s pc L (.int p0 :: .ref 0 :: st) (b2 (X_richest u s p0) f) := vv_callV (ci := 0) (C := RX1) (T := TX1) (N := 49) (ar := 1) (av := [.int p0]) (con_X_richest l u s p0) (fun h => h) (fun h => h) (fun h => by cases h) (fun h => by cases h) rfl sk0 hd hn rfl (Nat.le_of_ble_eq_true hc) (ble2 hr) (lw_V q832 q833 q834 q97 q835) rfl (by decide +kernel) (fun b _ _ => kk b.1 b.2)
theorem k0_127 {β : Type} {l : Launch} {al : Bool} {ek : β → Option Value × Sg} {cc : ByteArray} {mn : String} {nL fr lo : Nat} {rt : Option FieldType} {s : Sg} {pc n : Nat} {L : List (Nat × Value)} {st : List Value} {u : Nat} {p0 : Int32} {f : Int32 → Sg → Option β} (hd : decode cc pc = .ok (.invokevirtual 127, 3)) (hn : pc + 3 = n) (hc : Nat.ble (st.map fun v => v.category).sum 8 = true) (hr : (Nat.ble (1205 + 1) fr && Nat.ble (8 + (4 + 11) + 40113) lo) = true) (kk : ∀ v τ, VC l true al ek cc RX0 mn nL fr lo rt τ n L (.int v :: st) (f v τ)) : VC l true al ek cc RX0 mn nL fr lo rt s pc L (.int p0 :: .ref 45 :: st) (b2 (M_richest u s p0) f) := vv_callV (ci := 2) (C := RX3) (T := TX3) (N := 43) (ar := 1) (av := [.int p0]) (con_M_richest l u s p0) (fun h => h) (fun h => h) (fun h => by cases h) (fun h => by cases h) rfl sk45 hd hn rfl (Nat.le_of_ble_eq_true hc) (ble2 hr) (lw_V q1481 q1482 q1483 q99 q1484) rfl (by decide +kernel) (fun b _ _ => kk b.1 b.2)
theorem k0_128 {β : Type} {l : Launch} {al : Bool} {ek : β → Option Value × Sg} {cc : ByteArray} {mn : String} {nL fr lo : Nat} {rt : Option FieldType} {s : Sg} {pc n : Nat} {L : List (Nat × Value)} {st : List Value} {u : Nat} {p0 : Int32} {p1 : Int32} {p2 : Int32} {f : Int32 → Sg → Option β} (hd : decode cc pc = .ok (.invokevirtual 128, 3)) (hn : pc + 3 = n) (hc : Nat.ble (st.map fun v => v.category).sum 8 = true) (hr : (Nat.ble (1204 + 1) fr && Nat.ble (8 + (10 + 11) + 40099) lo) = true) (kk : ∀ v τ, VC l true al ek cc RX0 mn nL fr lo rt τ n L (.int v :: st) (f v τ)) : VC l true al ek cc RX0 mn nL fr lo rt s pc L (.int p2 :: .int p1 :: .int p0 :: .ref 0 :: st) (b2 (X_swims u s p0 p1 p2) f) := vv_callV (ci := 0) (C := RX1) (T := TX1) (N := 49) (ar := 3) (av := [.int p0, .int p1, .int p2]) (con_X_swims l u s p0 p1 p2) (fun h => h) (fun h => h) (fun h => by cases h) (fun h => by cases h) rfl sk0 hd hn rfl (Nat.le_of_ble_eq_true hc) (ble2 hr) (lw_V q836 q837 q838 q97 q839) rfl (by decide +kernel) (fun b _ _ => kk b.1 b.2)
theorem k0_132 {β : Type} {l : Launch} {al : Bool} {ek : β → Option Value × Sg} {cc : ByteArray} {mn : String} {nL fr lo : Nat} {rt : Option FieldType} {s : Sg} {pc n : Nat} {L : List (Nat × Value)} {st : List Value} {u : Nat} {p0 : Int32} {p1 : Int32} {p2 : Int32} {f : Int32 → Sg → Option β} (hd : decode cc pc = .ok (.invokevirtual 132, 3)) (hn : pc + 3 = n) (hc : Nat.ble (st.map fun v => v.category).sum 8 = true) (hr : (Nat.ble (1203 + 1) fr && Nat.ble (8 + (9 + 11) + 40069) lo) = true) (kk : ∀ v τ, VC l true al ek cc RX0 mn nL fr lo rt τ n L (.int v :: st) (f v τ)) : VC l true al ek cc RX0 mn nL fr lo rt s pc L (.int p2 :: .int p1 :: .int p0 :: .ref 45 :: st) (b2 (M_swims u s p0 p1 p2) f) := vv_callV (ci := 2) (C := RX3) (T := TX3) (N := 43) (ar := 3) (av := [.int p0, .int p1, .int p2]) (con_M_swims l u s p0 p1 p2) (fun h => h) (fun h => h) (fun h => by cases h) (fun h => by cases h) rfl sk45 hd hn rfl (Nat.le_of_ble_eq_true hc) (ble2 hr) (lw_V q1485 q1486 q1487 q99 q1488) rfl (by decide +kernel) (fun b _ _ => kk b.1 b.2)
theorem k0_133 {β : Type} {l : Launch} {al : Bool} {ek : β → Option Value × Sg} {cc : ByteArray} {mn : String} {nL fr lo : Nat} {rt : Option FieldType} {s : Sg} {pc n : Nat} {L : List (Nat × Value)} {st : List Value} {u : Nat} {p0 : Int32} {p1 : Int32} {f : Int32 → Sg → Option β} (hd : decode cc pc = .ok (.invokevirtual 133, 3)) (hn : pc + 3 = n) (hc : Nat.ble (st.map fun v => v.category).sum 8 = true) (hr : (Nat.ble (1206 + 1) fr && Nat.ble (8 + (5 + 11) + 40144) lo) = true) (kk : ∀ v τ, VC l true al ek cc RX0 mn nL fr lo rt τ n L (.int v :: st) (f v τ)) : VC l true al ek cc RX0 mn nL fr lo rt s pc L (.int p1 :: .int p0 :: .ref 0 :: st) (b2 (X_lets u s p0 p1) f) := vv_callV (ci := 0) (C := RX1) (T := TX1) (N := 49) (ar := 2) (av := [.int p0, .int p1]) (con_X_lets l u s p0 p1) (fun h => h) (fun h => h) (fun h => by cases h) (fun h => by cases h) rfl sk0 hd hn rfl (Nat.le_of_ble_eq_true hc) (ble2 hr) (lw_V q840 q841 q842 q97 q843) rfl (by decide +kernel) (fun b _ _ => kk b.1 b.2)
theorem k0_136 {β : Type} {l : Launch} {al : Bool} {ek : β → Option Value × Sg} {cc : ByteArray} {mn : String} {nL fr lo : Nat} {rt : Option FieldType} {s : Sg} {pc n : Nat} {L : List (Nat × Value)} {st : List Value} {u : Nat} {p0 : Int32} {p1 : Int32} {f : Int32 → Sg → Option β} (hd : decode cc pc = .ok (.invokevirtual 136, 3)) (hn : pc + 3 = n) (hc : Nat.ble (st.map fun v => v.category).sum 8 = true) (hr : (Nat.ble (1206 + 1) fr && Nat.ble (8 + (3 + 11) + 40140) lo) = true) (kk : ∀ v τ, VC l true al ek cc RX0 mn nL fr lo rt τ n L (.int v :: st) (f v τ)) : VC l true al ek cc RX0 mn nL fr lo rt s pc L (.int p1 :: .int p0 :: .ref 45 :: st) (b2 (M_lets u s p0 p1) f) := vv_callV (ci := 2) (C := RX3) (T := TX3) (N := 43) (ar := 2) (av := [.int p0, .int p1]) (con_M_lets l u s p0 p1) (fun h => h) (fun h => h) (fun h => by cases h) (fun h => by cases h) rfl sk45 hd hn rfl (Nat.le_of_ble_eq_true hc) (ble2 hr) (lw_V q1489 q1490 q1491 q99 q1492) rfl (by decide +kernel) (fun b _ _ => kk b.1 b.2)
theorem k0_137 {β : Type} {l : Launch} {al : Bool} {ek : β → Option Value × Sg} {cc : ByteArray} {mn : String} {nL fr lo : Nat} {rt : Option FieldType} {s : Sg} {pc n : Nat} {L : List (Nat × Value)} {st : List Value} {u : Nat} {p0 : Int32} {p1 : Int32} {f : Int32 → Sg → Option β} (hd : decode cc pc = .ok (.invokevirtual 137, 3)) (hn : pc + 3 = n) (hc : Nat.ble (st.map fun v => v.category).sum 8 = true) (hr : (Nat.ble (1206 + 1) fr && Nat.ble (8 + (5 + 11) + 40144) lo) = true) (kk : ∀ v τ, VC l true al ek cc RX0 mn nL fr lo rt τ n L (.int v :: st) (f v τ)) : VC l true al ek cc RX0 mn nL fr lo rt s pc L (.int p1 :: .int p0 :: .ref 0 :: st) (b2 (X_just u s p0 p1) f) := vv_callV (ci := 0) (C := RX1) (T := TX1) (N := 49) (ar := 2) (av := [.int p0, .int p1]) (con_X_just l u s p0 p1) (fun h => h) (fun h => h) (fun h => by cases h) (fun h => by cases h) rfl sk0 hd hn rfl (Nat.le_of_ble_eq_true hc) (ble2 hr) (lw_V q856 q857 q858 q97 q859) rfl (by decide +kernel) (fun b _ _ => kk b.1 b.2)
theorem k0_140 {β : Type} {l : Launch} {al : Bool} {ek : β → Option Value × Sg} {cc : ByteArray} {mn : String} {nL fr lo : Nat} {rt : Option FieldType} {s : Sg} {pc n : Nat} {L : List (Nat × Value)} {st : List Value} {u : Nat} {p0 : Int32} {p1 : Int32} {f : Int32 → Sg → Option β} (hd : decode cc pc = .ok (.invokevirtual 140, 3)) (hn : pc + 3 = n) (hc : Nat.ble (st.map fun v => v.category).sum 8 = true) (hr : (Nat.ble (1206 + 1) fr && Nat.ble (8 + (3 + 11) + 40140) lo) = true) (kk : ∀ v τ, VC l true al ek cc RX0 mn nL fr lo rt τ n L (.int v :: st) (f v τ)) : VC l true al ek cc RX0 mn nL fr lo rt s pc L (.int p1 :: .int p0 :: .ref 45 :: st) (b2 (M_just u s p0 p1) f) := vv_callV (ci := 2) (C := RX3) (T := TX3) (N := 43) (ar := 2) (av := [.int p0, .int p1]) (con_M_just l u s p0 p1) (fun h => h) (fun h => h) (fun h => by cases h) (fun h => by cases h) rfl sk45 hd hn rfl (Nat.le_of_ble_eq_true hc) (ble2 hr) (lw_V q1509 q1510 q1511 q99 q1512) rfl (by decide +kernel) (fun b _ _ => kk b.1 b.2)
theorem k0_141 {β : Type} {l : Launch} {al : Bool} {ek : β → Option Value × Sg} {cc : ByteArray} {mn : String} {nL fr lo : Nat} {rt : Option FieldType} {s : Sg} {pc n : Nat} {L : List (Nat × Value)} {st : List Value} {u : Nat} {p0 : Int32} {p1 : Int32} {f : Int32 → Sg → Option β} (hd : decode cc pc = .ok (.invokevirtual 141, 3)) (hn : pc + 3 = n) (hc : Nat.ble (st.map fun v => v.category).sum 8 = true) (hr : (Nat.ble (1206 + 1) fr && Nat.ble (8 + (6 + 11) + 40144) lo) = true) (kk : ∀ v τ, VC l true al ek cc RX0 mn nL fr lo rt τ n L (.int v :: st) (f v τ)) : VC l true al ek cc RX0 mn nL fr lo rt s pc L (.int p1 :: .int p0 :: .ref 0 :: st) (b2 (X_fills u s p0 p1) f) := vv_callV (ci := 0) (C := RX1) (T := TX1) (N := 49) (ar := 2) (av := [.int p0, .int p1]) (con_X_fills l u s p0 p1) (fun h => h) (fun h => h) (fun h => by cases h) (fun h => by cases h) rfl sk0 hd hn rfl (Nat.le_of_ble_eq_true hc) (ble2 hr) (lw_V q864 q865 q866 q97 q867) rfl (by decide +kernel) (fun b _ _ => kk b.1 b.2)
theorem k0_144 {β : Type} {l : Launch} {al : Bool} {ek : β → Option Value × Sg} {cc : ByteArray} {mn : String} {nL fr lo : Nat} {rt : Option FieldType} {s : Sg} {pc n : Nat} {L : List (Nat × Value)} {st : List Value} {u : Nat} {p0 : Int32} {p1 : Int32} {f : Int32 → Sg → Option β} (hd : decode cc pc = .ok (.invokevirtual 144, 3)) (hn : pc + 3 = n) (hc : Nat.ble (st.map fun v => v.category).sum 8 = true) (hr : (Nat.ble (1205 + 1) fr && Nat.ble (8 + (6 + 11) + 40115) lo) = true) (kk : ∀ v τ, VC l true al ek cc RX0 mn nL fr lo rt τ n L (.int v :: st) (f v τ)) : VC l true al ek cc RX0 mn nL fr lo rt s pc L (.int p1 :: .int p0 :: .ref 45 :: st) (b2 (M_fills u s p0 p1) f) := vv_callV (ci := 2) (C := RX3) (T := TX3) (N := 43) (ar := 2) (av := [.int p0, .int p1]) (con_M_fills l u s p0 p1) (fun h => h) (fun h => h) (fun h => by cases h) (fun h => by cases h) rfl sk45 hd hn rfl (Nat.le_of_ble_eq_true hc) (ble2 hr) (lw_V q1513 q1514 q1515 q99 q1516) rfl (by decide +kernel) (fun b _ _ => kk b.1 b.2)
theorem k0_145 {β : Type} {l : Launch} {al : Bool} {ek : β → Option Value × Sg} {cc : ByteArray} {mn : String} {nL fr lo : Nat} {rt : Option FieldType} {s : Sg} {pc n : Nat} {L : List (Nat × Value)} {st : List Value} {u : Nat} {p0 : Int32} {p1 : Int32} {p2 : Int32} {f : Int32 → Sg → Option β} (hd : decode cc pc = .ok (.invokevirtual 145, 3)) (hn : pc + 3 = n) (hc : Nat.ble (st.map fun v => v.category).sum 8 = true) (hr : (Nat.ble (1205 + 1) fr && Nat.ble (8 + (5 + 11) + 40122) lo) = true) (kk : ∀ v τ, VC l true al ek cc RX0 mn nL fr lo rt τ n L (.int v :: st) (f v τ)) : VC l true al ek cc RX0 mn nL fr lo rt s pc L (.int p2 :: .int p1 :: .int p0 :: .ref 0 :: st) (b2 (X_needs u s p0 p1 p2) f) := vv_callV (ci := 0) (C := RX1) (T := TX1) (N := 49) (ar := 3) (av := [.int p0, .int p1, .int p2]) (con_X_needs l u s p0 p1 p2) (fun h => h) (fun h => h) (fun h => by cases h) (fun h => by cases h) rfl sk0 hd hn rfl (Nat.le_of_ble_eq_true hc) (ble2 hr) (lw_V q869 q870 q871 q97 q872) rfl (by decide +kernel) (fun b _ _ => kk b.1 b.2)
theorem k0_148 {β : Type} {l : Launch} {al : Bool} {ek : β → Option Value × Sg} {cc : ByteArray} {mn : String} {nL fr lo : Nat} {rt : Option FieldType} {s : Sg} {pc n : Nat} {L : List (Nat × Value)} {st : List Value} {u : Nat} {p0 : Int32} {p1 : Int32} {p2 : Int32} {f : Int32 → Sg → Option β} (hd : decode cc pc = .ok (.invokevirtual 148, 3)) (hn : pc + 3 = n) (hc : Nat.ble (st.map fun v => v.category).sum 8 = true) (hr : (Nat.ble (1204 + 1) fr && Nat.ble (8 + (5 + 11) + 40092) lo) = true) (kk : ∀ v τ, VC l true al ek cc RX0 mn nL fr lo rt τ n L (.int v :: st) (f v τ)) : VC l true al ek cc RX0 mn nL fr lo rt s pc L (.int p2 :: .int p1 :: .int p0 :: .ref 45 :: st) (b2 (M_needs u s p0 p1 p2) f) := vv_callV (ci := 2) (C := RX3) (T := TX3) (N := 43) (ar := 3) (av := [.int p0, .int p1, .int p2]) (con_M_needs l u s p0 p1 p2) (fun h => h) (fun h => h) (fun h => by cases h) (fun h => by cases h) rfl sk45 hd hn rfl (Nat.le_of_ble_eq_true hc) (ble2 hr) (lw_V q1517 q1518 q1519 q99 q1520) rfl (by decide +kernel) (fun b _ _ => kk b.1 b.2)
theorem k0_149 {β : Type} {l : Launch} {al : Bool} {ek : β → Option Value × Sg} {cc : ByteArray} {mn : String} {nL fr lo : Nat} {rt : Option FieldType} {s : Sg} {pc n : Nat} {L : List (Nat × Value)} {st : List Value} {u : Nat} {p0 : Int32} {f : Int32 → Sg → Option β} (hd : decode cc pc = .ok (.invokevirtual 149, 3)) (hn : pc + 3 = n) (hc : Nat.ble (st.map fun v => v.category).sum 8 = true) (hr : (Nat.ble (1206 + 1) fr && Nat.ble (8 + (7 + 11) + 40144) lo) = true) (kk : ∀ v τ, VC l true al ek cc RX0 mn nL fr lo rt τ n L (.int v :: st) (f v τ)) : VC l true al ek cc RX0 mn nL fr lo rt s pc L (.int p0 :: .ref 0 :: st) (b2 (X_crosses u s p0) f) := vv_callV (ci := 0) (C := RX1) (T := TX1) (N := 49) (ar := 1) (av := [.int p0]) (con_X_crosses l u s p0) (fun h => h) (fun h => h) (fun h => by cases h) (fun h => by cases h) rfl sk0 hd hn rfl (Nat.le_of_ble_eq_true hc) (ble2 hr) (lw_V q873 q874 q875 q97 q876) rfl (by decide +kernel) (fun b _ _ => kk b.1 b.2)
theorem k0_152 {β : Type} {l : Launch} {al : Bool} {ek : β → Option Value × Sg} {cc : ByteArray} {mn : String} {nL fr lo : Nat} {rt : Option FieldType} {s : Sg} {pc n : Nat} {L : List (Nat × Value)} {st : List Value} {u : Nat} {p0 : Int32} {f : Int32 → Sg → Option β} (hd : decode cc pc = .ok (.invokevirtual 152, 3)) (hn : pc + 3 = n) (hc : Nat.ble (st.map fun v => v.category).sum 8 = true) (hr : (Nat.ble (1205 + 1) fr && Nat.ble (8 + (5 + 11) + 40113) lo) = true) (kk : ∀ v τ, VC l true al ek cc RX0 mn nL fr lo rt τ n L (.int v :: st) (f v τ)) : VC l true al ek cc RX0 mn nL fr lo rt s pc L (.int p0 :: .ref 45 :: st) (b2 (M_crosses u s p0) f) := vv_callV (ci := 2) (C := RX3) (T := TX3) (N := 43) (ar := 1) (av := [.int p0]) (con_M_crosses l u s p0) (fun h => h) (fun h => h) (fun h => by cases h) (fun h => by cases h) rfl sk45 hd hn rfl (Nat.le_of_ble_eq_true hc) (ble2 hr) (lw_V q1521 q1522 q1523 q99 q1524) rfl (by decide +kernel) (fun b _ _ => kk b.1 b.2)
theorem k0_153 {β : Type} {l : Launch} {al : Bool} {ek : β → Option Value × Sg} {cc : ByteArray} {mn : String} {nL fr lo : Nat} {rt : Option FieldType} {s : Sg} {pc n : Nat} {L : List (Nat × Value)} {st : List Value} {p0 : Int32} {p1 : Int32} {p2 : Int32} {f : Int32 → Sg → Option β} (hd : decode cc pc = .ok (.invokevirtual 153, 3)) (hn : pc + 3 = n) (hc : Nat.ble (st.map fun v => v.category).sum 8 = true) (hr : (Nat.ble (2 + 1) fr && Nat.ble (8 + (4 + 11) + 46) lo) = true) (kk : ∀ v τ, VC l true al ek cc RX0 mn nL fr lo rt τ n L (.int v :: st) (f v τ)) : VC l true al ek cc RX0 mn nL fr lo rt s pc L (.int p2 :: .int p1 :: .int p0 :: .ref 0 :: st) (b2 (X_ring s p0 p1 p2) f) := vv_callV (ci := 0) (C := RX1) (T := TX1) (N := 49) (ar := 3) (av := [.int p0, .int p1, .int p2]) (con_X_ring l s p0 p1 p2) (fun h => h) (fun h => h) (fun h => by cases h) (fun h => by cases h) rfl sk0 hd hn rfl (Nat.le_of_ble_eq_true hc) (ble2 hr) (lw_V q878 q879 q880 q97 q881) rfl (by decide +kernel) (fun b _ _ => kk b.1 b.2)
theorem k0_156 {β : Type} {l : Launch} {al : Bool} {ek : β → Option Value × Sg} {cc : ByteArray} {mn : String} {nL fr lo : Nat} {rt : Option FieldType} {s : Sg} {pc n : Nat} {L : List (Nat × Value)} {st : List Value} {p0 : Int32} {p1 : Int32} {p2 : Int32} {f : Int32 → Sg → Option β} (hd : decode cc pc = .ok (.invokevirtual 156, 3)) (hn : pc + 3 = n) (hc : Nat.ble (st.map fun v => v.category).sum 8 = true) (hr : (Nat.ble (2 + 1) fr && Nat.ble (8 + (4 + 11) + 43) lo) = true) (kk : ∀ v τ, VC l true al ek cc RX0 mn nL fr lo rt τ n L (.int v :: st) (f v τ)) : VC l true al ek cc RX0 mn nL fr lo rt s pc L (.int p2 :: .int p1 :: .int p0 :: .ref 45 :: st) (b2 (M_ring s p0 p1 p2) f) := vv_callV (ci := 2) (C := RX3) (T := TX3) (N := 43) (ar := 3) (av := [.int p0, .int p1, .int p2]) (con_M_ring l s p0 p1 p2) (fun h => h) (fun h => h) (fun h => by cases h) (fun h => by cases h) rfl sk45 hd hn rfl (Nat.le_of_ble_eq_true hc) (ble2 hr) (lw_V q1526 q1527 q1528 q99 q1529) rfl (by decide +kernel) (fun b _ _ => kk b.1 b.2)
theorem k0_157 {β : Type} {l : Launch} {al : Bool} {ek : β → Option Value × Sg} {cc : ByteArray} {mn : String} {nL fr lo : Nat} {rt : Option FieldType} {s : Sg} {pc n : Nat} {L : List (Nat × Value)} {st : List Value}  {f : Int32 → Sg → Option β} (hd : decode cc pc = .ok (.invokevirtual 157, 3)) (hn : pc + 3 = n) (hc : Nat.ble (st.map fun v => v.category).sum 8 = true) (hr : (Nat.ble (0 + 1) fr && Nat.ble (8 + (2 + 11) + 0) lo) = true) (kk : ∀ v τ, VC l true al ek cc RX0 mn nL fr lo rt τ n L (.int v :: st) (f v τ)) : VC l true al ek cc RX0 mn nL fr lo rt s pc L (.ref 0 :: st) (b2 (X_washes s) f) := vv_callV (ci := 0) (C := RX1) (T := TX1) (N := 49) (ar := 0) (av := []) (con_X_washes l s) (fun h => h) (fun h => h) (fun h => by cases h) (fun h => by cases h) rfl sk0 hd hn rfl (Nat.le_of_ble_eq_true hc) (ble2 hr) (lw_V q883 q884 q885 q97 q886) rfl (by decide +kernel) (fun b _ _ => kk b.1 b.2)
theorem k0_160 {β : Type} {l : Launch} {al : Bool} {ek : β → Option Value × Sg} {cc : ByteArray} {mn : String} {nL fr lo : Nat} {rt : Option FieldType} {s : Sg} {pc n : Nat} {L : List (Nat × Value)} {st : List Value}  {f : Int32 → Sg → Option β} (hd : decode cc pc = .ok (.invokevirtual 160, 3)) (hn : pc + 3 = n) (hc : Nat.ble (st.map fun v => v.category).sum 8 = true) (hr : (Nat.ble (0 + 1) fr && Nat.ble (8 + (2 + 11) + 0) lo) = true) (kk : ∀ v τ, VC l true al ek cc RX0 mn nL fr lo rt τ n L (.int v :: st) (f v τ)) : VC l true al ek cc RX0 mn nL fr lo rt s pc L (.ref 45 :: st) (b2 (M_washes s) f) := vv_callV (ci := 2) (C := RX3) (T := TX3) (N := 43) (ar := 0) (av := []) (con_M_washes l s) (fun h => h) (fun h => h) (fun h => by cases h) (fun h => by cases h) rfl sk45 hd hn rfl (Nat.le_of_ble_eq_true hc) (ble2 hr) (lw_V q1530 q1531 q1532 q99 q1533) rfl (by decide +kernel) (fun b _ _ => kk b.1 b.2)
theorem k0_161 {β : Type} {l : Launch} {al : Bool} {ek : β → Option Value × Sg} {cc : ByteArray} {mn : String} {nL fr lo : Nat} {rt : Option FieldType} {s : Sg} {pc n : Nat} {L : List (Nat × Value)} {st : List Value} {u : Nat}  {f : Int32 → Sg → Option β} (hd : decode cc pc = .ok (.invokevirtual 161, 3)) (hn : pc + 3 = n) (hc : Nat.ble (st.map fun v => v.category).sum 8 = true) (hr : (Nat.ble (1205 + 1) fr && Nat.ble (8 + (3 + 11) + 40123) lo) = true) (kk : ∀ v τ, VC l true al ek cc RX0 mn nL fr lo rt τ n L (.int v :: st) (f v τ)) : VC l true al ek cc RX0 mn nL fr lo rt s pc L (.ref 0 :: st) (b2 (X_leaks u s) f) := vv_callV (ci := 0) (C := RX1) (T := TX1) (N := 49) (ar := 0) (av := []) (con_X_leaks l u s) (fun h => h) (fun h => h) (fun h => by cases h) (fun h => by cases h) rfl sk0 hd hn rfl (Nat.le_of_ble_eq_true hc) (ble2 hr) (lw_V q887 q888 q889 q97 q890) rfl (by decide +kernel) (fun b _ _ => kk b.1 b.2)
theorem k0_164 {β : Type} {l : Launch} {al : Bool} {ek : β → Option Value × Sg} {cc : ByteArray} {mn : String} {nL fr lo : Nat} {rt : Option FieldType} {s : Sg} {pc n : Nat} {L : List (Nat × Value)} {st : List Value} {u : Nat}  {f : Int32 → Sg → Option β} (hd : decode cc pc = .ok (.invokevirtual 164, 3)) (hn : pc + 3 = n) (hc : Nat.ble (st.map fun v => v.category).sum 8 = true) (hr : (Nat.ble (1204 + 1) fr && Nat.ble (8 + (4 + 11) + 40094) lo) = true) (kk : ∀ v τ, VC l true al ek cc RX0 mn nL fr lo rt τ n L (.int v :: st) (f v τ)) : VC l true al ek cc RX0 mn nL fr lo rt s pc L (.ref 45 :: st) (b2 (M_leaks u s) f) := vv_callV (ci := 2) (C := RX3) (T := TX3) (N := 43) (ar := 0) (av := []) (con_M_leaks l u s) (fun h => h) (fun h => h) (fun h => by cases h) (fun h => by cases h) rfl sk45 hd hn rfl (Nat.le_of_ble_eq_true hc) (ble2 hr) (lw_V q1534 q1535 q1536 q99 q1537) rfl (by decide +kernel) (fun b _ _ => kk b.1 b.2)
theorem k0_165 {β : Type} {l : Launch} {al : Bool} {ek : β → Option Value × Sg} {cc : ByteArray} {mn : String} {nL fr lo : Nat} {rt : Option FieldType} {s : Sg} {pc n : Nat} {L : List (Nat × Value)} {st : List Value} {u : Nat}  {f : Int32 → Sg → Option β} (hd : decode cc pc = .ok (.invokevirtual 165, 3)) (hn : pc + 3 = n) (hc : Nat.ble (st.map fun v => v.category).sum 8 = true) (hr : (Nat.ble (1205 + 1) fr && Nat.ble (8 + (6 + 11) + 40123) lo) = true) (kk : ∀ v τ, VC l true al ek cc RX0 mn nL fr lo rt τ n L (.int v :: st) (f v τ)) : VC l true al ek cc RX0 mn nL fr lo rt s pc L (.ref 0 :: st) (b2 (X_reads u s) f) := vv_callV (ci := 0) (C := RX1) (T := TX1) (N := 49) (ar := 0) (av := []) (con_X_reads l u s) (fun h => h) (fun h => h) (fun h => by cases h) (fun h => by cases h) rfl sk0 hd hn rfl (Nat.le_of_ble_eq_true hc) (ble2 hr) (lw_V q902 q903 q904 q97 q905) rfl (by decide +kernel) (fun b _ _ => kk b.1 b.2)
theorem k0_168 {β : Type} {l : Launch} {al : Bool} {ek : β → Option Value × Sg} {cc : ByteArray} {mn : String} {nL fr lo : Nat} {rt : Option FieldType} {s : Sg} {pc n : Nat} {L : List (Nat × Value)} {st : List Value} {u : Nat}  {f : Int32 → Sg → Option β} (hd : decode cc pc = .ok (.invokevirtual 168, 3)) (hn : pc + 3 = n) (hc : Nat.ble (st.map fun v => v.category).sum 8 = true) (hr : (Nat.ble (1204 + 1) fr && Nat.ble (8 + (8 + 11) + 40094) lo) = true) (kk : ∀ v τ, VC l true al ek cc RX0 mn nL fr lo rt τ n L (.int v :: st) (f v τ)) : VC l true al ek cc RX0 mn nL fr lo rt s pc L (.ref 45 :: st) (b2 (M_reads u s) f) := vv_callV (ci := 2) (C := RX3) (T := TX3) (N := 43) (ar := 0) (av := []) (con_M_reads l u s) (fun h => h) (fun h => h) (fun h => by cases h) (fun h => by cases h) rfl sk45 hd hn rfl (Nat.le_of_ble_eq_true hc) (ble2 hr) (lw_V q1542 q1543 q1544 q99 q1545) rfl (by decide +kernel) (fun b _ _ => kk b.1 b.2)
theorem k0_169 {β : Type} {l : Launch} {al : Bool} {ek : β → Option Value × Sg} {cc : ByteArray} {mn : String} {nL fr lo : Nat} {rt : Option FieldType} {s : Sg} {pc n : Nat} {L : List (Nat × Value)} {st : List Value} {u : Nat} {p0 : Int32} {f : Int32 → Sg → Option β} (hd : decode cc pc = .ok (.invokevirtual 169, 3)) (hn : pc + 3 = n) (hc : Nat.ble (st.map fun v => v.category).sum 8 = true) (hr : (Nat.ble (2 + 1) fr && Nat.ble (8 + (4 + 11) + 46) lo) = true) (kk : ∀ v τ, VC l true al ek cc RX0 mn nL fr lo rt τ n L (.int v :: st) (f v τ)) : VC l true al ek cc RX0 mn nL fr lo rt s pc L (.int p0 :: .ref 0 :: st) (b2 (X_threat u s p0) f) := vv_callV (ci := 0) (C := RX1) (T := TX1) (N := 49) (ar := 1) (av := [.int p0]) (con_X_threat l u s p0) (fun h => h) (fun h => h) (fun h => by cases h) (fun h => by cases h) rfl sk0 hd hn rfl (Nat.le_of_ble_eq_true hc) (ble2 hr) (lw_V q911 q912 q913 q97 q914) rfl (by decide +kernel) (fun b _ _ => kk b.1 b.2)
theorem k0_172 {β : Type} {l : Launch} {al : Bool} {ek : β → Option Value × Sg} {cc : ByteArray} {mn : String} {nL fr lo : Nat} {rt : Option FieldType} {s : Sg} {pc n : Nat} {L : List (Nat × Value)} {st : List Value} {u : Nat} {p0 : Int32} {f : Int32 → Sg → Option β} (hd : decode cc pc = .ok (.invokevirtual 172, 3)) (hn : pc + 3 = n) (hc : Nat.ble (st.map fun v => v.category).sum 8 = true) (hr : (Nat.ble (1 + 1) fr && Nat.ble (8 + (4 + 11) + 22) lo) = true) (kk : ∀ v τ, VC l true al ek cc RX0 mn nL fr lo rt τ n L (.int v :: st) (f v τ)) : VC l true al ek cc RX0 mn nL fr lo rt s pc L (.int p0 :: .ref 45 :: st) (b2 (M_threat u s p0) f) := vv_callV (ci := 2) (C := RX3) (T := TX3) (N := 43) (ar := 1) (av := [.int p0]) (con_M_threat l u s p0) (fun h => h) (fun h => h) (fun h => by cases h) (fun h => by cases h) rfl sk45 hd hn rfl (Nat.le_of_ble_eq_true hc) (ble2 hr) (lw_V q1549 q1550 q1551 q99 q1552) rfl (by decide +kernel) (fun b _ _ => kk b.1 b.2)
theorem k0_173 {β : Type} {l : Launch} {al : Bool} {ek : β → Option Value × Sg} {cc : ByteArray} {mn : String} {nL fr lo : Nat} {rt : Option FieldType} {s : Sg} {pc n : Nat} {L : List (Nat × Value)} {st : List Value} {u : Nat} {p0 : Int32} {f : Int32 → Sg → Option β} (hd : decode cc pc = .ok (.invokevirtual 173, 3)) (hn : pc + 3 = n) (hc : Nat.ble (st.map fun v => v.category).sum 8 = true) (hr : (Nat.ble (3 + 1) fr && Nat.ble (8 + (6 + 11) + 68) lo) = true) (kk : ∀ v τ, VC l true al ek cc RX0 mn nL fr lo rt τ n L (.int v :: st) (f v τ)) : VC l true al ek cc RX0 mn nL fr lo rt s pc L (.int p0 :: .ref 0 :: st) (b2 (X_treaty u s p0) f) := vv_callV (ci := 0) (C := RX1) (T := TX1) (N := 49) (ar := 1) (av := [.int p0]) (con_X_treaty l u s p0) (fun h => h) (fun h => h) (fun h => by cases h) (fun h => by cases h) rfl sk0 hd hn rfl (Nat.le_of_ble_eq_true hc) (ble2 hr) (lw_V q915 q916 q917 q97 q918) rfl (by decide +kernel) (fun b _ _ => kk b.1 b.2)
theorem k0_176 {β : Type} {l : Launch} {al : Bool} {ek : β → Option Value × Sg} {cc : ByteArray} {mn : String} {nL fr lo : Nat} {rt : Option FieldType} {s : Sg} {pc n : Nat} {L : List (Nat × Value)} {st : List Value} {u : Nat} {p0 : Int32} {f : Int32 → Sg → Option β} (hd : decode cc pc = .ok (.invokevirtual 176, 3)) (hn : pc + 3 = n) (hc : Nat.ble (st.map fun v => v.category).sum 8 = true) (hr : (Nat.ble (2 + 1) fr && Nat.ble (8 + (8 + 11) + 44) lo) = true) (kk : ∀ v τ, VC l true al ek cc RX0 mn nL fr lo rt τ n L (.int v :: st) (f v τ)) : VC l true al ek cc RX0 mn nL fr lo rt s pc L (.int p0 :: .ref 45 :: st) (b2 (M_treaty u s p0) f) := vv_callV (ci := 2) (C := RX3) (T := TX3) (N := 43) (ar := 1) (av := [.int p0]) (con_M_treaty l u s p0) (fun h => h) (fun h => h) (fun h => by cases h) (fun h => by cases h) rfl sk45 hd hn rfl (Nat.le_of_ble_eq_true hc) (ble2 hr) (lw_V q1553 q1554 q1555 q99 q1556) rfl (by decide +kernel) (fun b _ _ => kk b.1 b.2)
theorem k0_177 {β : Type} {l : Launch} {al : Bool} {ek : β → Option Value × Sg} {cc : ByteArray} {mn : String} {nL fr lo : Nat} {rt : Option FieldType} {s : Sg} {pc n : Nat} {L : List (Nat × Value)} {st : List Value} {u : Nat} {p0 : Int32} {f : Int32 → Sg → Option β} (hd : decode cc pc = .ok (.invokevirtual 177, 3)) (hn : pc + 3 = n) (hc : Nat.ble (st.map fun v => v.category).sum 8 = true) (hr : (Nat.ble (3 + 1) fr && Nat.ble (8 + (6 + 11) + 66) lo) = true) (kk : ∀ v τ, VC l true al ek cc RX0 mn nL fr lo rt τ n L (.int v :: st) (f v τ)) : VC l true al ek cc RX0 mn nL fr lo rt s pc L (.int p0 :: .ref 0 :: st) (b2 (X_wants u s p0) f) := vv_callV (ci := 0) (C := RX1) (T := TX1) (N := 49) (ar := 1) (av := [.int p0]) (con_X_wants l u s p0) (fun h => h) (fun h => h) (fun h => by cases h) (fun h => by cases h) rfl sk0 hd hn rfl (Nat.le_of_ble_eq_true hc) (ble2 hr) (lw_V q928 q929 q930 q97 q931) rfl (by decide +kernel) (fun b _ _ => kk b.1 b.2)
theorem k0_180 {β : Type} {l : Launch} {al : Bool} {ek : β → Option Value × Sg} {cc : ByteArray} {mn : String} {nL fr lo : Nat} {rt : Option FieldType} {s : Sg} {pc n : Nat} {L : List (Nat × Value)} {st : List Value} {u : Nat} {p0 : Int32} {f : Int32 → Sg → Option β} (hd : decode cc pc = .ok (.invokevirtual 180, 3)) (hn : pc + 3 = n) (hc : Nat.ble (st.map fun v => v.category).sum 8 = true) (hr : (Nat.ble (2 + 1) fr && Nat.ble (8 + (5 + 11) + 45) lo) = true) (kk : ∀ v τ, VC l true al ek cc RX0 mn nL fr lo rt τ n L (.int v :: st) (f v τ)) : VC l true al ek cc RX0 mn nL fr lo rt s pc L (.int p0 :: .ref 45 :: st) (b2 (M_wants u s p0) f) := vv_callV (ci := 2) (C := RX3) (T := TX3) (N := 43) (ar := 1) (av := [.int p0]) (con_M_wants l u s p0) (fun h => h) (fun h => h) (fun h => by cases h) (fun h => by cases h) rfl sk45 hd hn rfl (Nat.le_of_ble_eq_true hc) (ble2 hr) (lw_V q1561 q1562 q1563 q99 q1564) rfl (by decide +kernel) (fun b _ _ => kk b.1 b.2)
theorem k0_181 {β : Type} {l : Launch} {al : Bool} {ek : β → Option Value × Sg} {cc : ByteArray} {mn : String} {nL fr lo : Nat} {rt : Option FieldType} {s : Sg} {pc n : Nat} {L : List (Nat × Value)} {st : List Value} {u : Nat}  {f : Int32 → Sg → Option β} (hd : decode cc pc = .ok (.invokevirtual 181, 3)) (hn : pc + 3 = n) (hc : Nat.ble (st.map fun v => v.category).sum 8 = true) (hr : (Nat.ble (3 + 1) fr && Nat.ble (8 + (5 + 11) + 66) lo) = true) (kk : ∀ v τ, VC l true al ek cc RX0 mn nL fr lo rt τ n L (.int v :: st) (f v τ)) : VC l true al ek cc RX0 mn nL fr lo rt s pc L (.ref 0 :: st) (b2 (X_evens u s) f) := vv_callV (ci := 0) (C := RX1) (T := TX1) (N := 49) (ar := 0) (av := []) (con_X_evens l u s) (fun h => h) (fun h => h) (fun h => by cases h) (fun h => by cases h) rfl sk0 hd hn rfl (Nat.le_of_ble_eq_true hc) (ble2 hr) (lw_V q932 q933 q934 q97 q935) rfl (by decide +kernel) (fun b _ _ => kk b.1 b.2)
theorem k0_184 {β : Type} {l : Launch} {al : Bool} {ek : β → Option Value × Sg} {cc : ByteArray} {mn : String} {nL fr lo : Nat} {rt : Option FieldType} {s : Sg} {pc n : Nat} {L : List (Nat × Value)} {st : List Value} {u : Nat}  {f : Int32 → Sg → Option β} (hd : decode cc pc = .ok (.invokevirtual 184, 3)) (hn : pc + 3 = n) (hc : Nat.ble (st.map fun v => v.category).sum 8 = true) (hr : (Nat.ble (2 + 1) fr && Nat.ble (8 + (4 + 11) + 45) lo) = true) (kk : ∀ v τ, VC l true al ek cc RX0 mn nL fr lo rt τ n L (.int v :: st) (f v τ)) : VC l true al ek cc RX0 mn nL fr lo rt s pc L (.ref 45 :: st) (b2 (M_evens u s) f) := vv_callV (ci := 2) (C := RX3) (T := TX3) (N := 43) (ar := 0) (av := []) (con_M_evens l u s) (fun h => h) (fun h => h) (fun h => by cases h) (fun h => by cases h) rfl sk45 hd hn rfl (Nat.le_of_ble_eq_true hc) (ble2 hr) (lw_V q1565 q1566 q1567 q99 q1568) rfl (by decide +kernel) (fun b _ _ => kk b.1 b.2)
theorem k0_185 {β : Type} {l : Launch} {al : Bool} {ek : β → Option Value × Sg} {cc : ByteArray} {mn : String} {nL fr lo : Nat} {rt : Option FieldType} {s : Sg} {pc n : Nat} {L : List (Nat × Value)} {st : List Value} {u : Nat}  {f : Int32 → Sg → Option β} (hd : decode cc pc = .ok (.invokevirtual 185, 3)) (hn : pc + 3 = n) (hc : Nat.ble (st.map fun v => v.category).sum 8 = true) (hr : (Nat.ble (2 + 1) fr && Nat.ble (8 + (5 + 11) + 44) lo) = true) (kk : ∀ v τ, VC l true al ek cc RX0 mn nL fr lo rt τ n L (.int v :: st) (f v τ)) : VC l true al ek cc RX0 mn nL fr lo rt s pc L (.ref 0 :: st) (b2 (X_feared u s) f) := vv_callV (ci := 0) (C := RX1) (T := TX1) (N := 49) (ar := 0) (av := []) (con_X_feared l u s) (fun h => h) (fun h => h) (fun h => by cases h) (fun h => by cases h) rfl sk0 hd hn rfl (Nat.le_of_ble_eq_true hc) (ble2 hr) (lw_V q939 q940 q941 q97 q942) rfl (by decide +kernel) (fun b _ _ => kk b.1 b.2)
theorem k0_188 {β : Type} {l : Launch} {al : Bool} {ek : β → Option Value × Sg} {cc : ByteArray} {mn : String} {nL fr lo : Nat} {rt : Option FieldType} {s : Sg} {pc n : Nat} {L : List (Nat × Value)} {st : List Value} {u : Nat}  {f : Int32 → Sg → Option β} (hd : decode cc pc = .ok (.invokevirtual 188, 3)) (hn : pc + 3 = n) (hc : Nat.ble (st.map fun v => v.category).sum 8 = true) (hr : (Nat.ble (2 + 1) fr && Nat.ble (8 + (3 + 11) + 45) lo) = true) (kk : ∀ v τ, VC l true al ek cc RX0 mn nL fr lo rt τ n L (.int v :: st) (f v τ)) : VC l true al ek cc RX0 mn nL fr lo rt s pc L (.ref 45 :: st) (b2 (M_feared u s) f) := vv_callV (ci := 2) (C := RX3) (T := TX3) (N := 43) (ar := 0) (av := []) (con_M_feared l u s) (fun h => h) (fun h => h) (fun h => by cases h) (fun h => by cases h) rfl sk45 hd hn rfl (Nat.le_of_ble_eq_true hc) (ble2 hr) (lw_V q1570 q1571 q1572 q99 q1573) rfl (by decide +kernel) (fun b _ _ => kk b.1 b.2)
theorem k0_189 {β : Type} {l : Launch} {al : Bool} {ek : β → Option Value × Sg} {cc : ByteArray} {mn : String} {nL fr lo : Nat} {rt : Option FieldType} {s : Sg} {pc n : Nat} {L : List (Nat × Value)} {st : List Value} {u : Nat}  {f : Int32 → Sg → Option β} (hd : decode cc pc = .ok (.invokevirtual 189, 3)) (hn : pc + 3 = n) (hc : Nat.ble (st.map fun v => v.category).sum 8 = true) (hr : (Nat.ble (1201 + 1) fr && Nat.ble (8 + (3 + 11) + 40025) lo) = true) (kk : ∀ v τ, VC l true al ek cc RX0 mn nL fr lo rt τ n L (.int v :: st) (f v τ)) : VC l true al ek cc RX0 mn nL fr lo rt s pc L (.ref 0 :: st) (b2 (X_heirs u s) f) := vv_callV (ci := 0) (C := RX1) (T := TX1) (N := 49) (ar := 0) (av := []) (con_X_heirs l u s) (fun h => h) (fun h => h) (fun h => by cases h) (fun h => by cases h) rfl sk0 hd hn rfl (Nat.le_of_ble_eq_true hc) (ble2 hr) (lw_V q943 q944 q945 q97 q946) rfl (by decide +kernel) (fun b _ _ => kk b.1 b.2)
theorem k0_192 {β : Type} {l : Launch} {al : Bool} {ek : β → Option Value × Sg} {cc : ByteArray} {mn : String} {nL fr lo : Nat} {rt : Option FieldType} {s : Sg} {pc n : Nat} {L : List (Nat × Value)} {st : List Value} {u : Nat}  {f : Int32 → Sg → Option β} (hd : decode cc pc = .ok (.invokevirtual 192, 3)) (hn : pc + 3 = n) (hc : Nat.ble (st.map fun v => v.category).sum 8 = true) (hr : (Nat.ble (3 + 1) fr && Nat.ble (8 + (6 + 11) + 63) lo) = true) (kk : ∀ v τ, VC l true al ek cc RX0 mn nL fr lo rt τ n L (.int v :: st) (f v τ)) : VC l true al ek cc RX0 mn nL fr lo rt s pc L (.ref 45 :: st) (b2 (M_heirs u s) f) := vv_callV (ci := 2) (C := RX3) (T := TX3) (N := 43) (ar := 0) (av := []) (con_M_heirs l u s) (fun h => h) (fun h => h) (fun h => by cases h) (fun h => by cases h) rfl sk45 hd hn rfl (Nat.le_of_ble_eq_true hc) (ble2 hr) (lw_V q1574 q1575 q1576 q99 q1577) rfl (by decide +kernel) (fun b _ _ => kk b.1 b.2)
theorem k0_193 {β : Type} {l : Launch} {al : Bool} {ek : β → Option Value × Sg} {cc : ByteArray} {mn : String} {nL fr lo : Nat} {rt : Option FieldType} {s : Sg} {pc n : Nat} {L : List (Nat × Value)} {st : List Value} {u : Nat} {p0 : Int32} {p1 : Int32} {p2 : Int32} {f : Int32 → Sg → Option β} (hd : decode cc pc = .ok (.invokevirtual 193, 3)) (hn : pc + 3 = n) (hc : Nat.ble (st.map fun v => v.category).sum 8 = true) (hr : (Nat.ble (1201 + 1) fr && Nat.ble (8 + (8 + 11) + 40023) lo) = true) (kk : ∀ v τ, VC l true al ek cc RX0 mn nL fr lo rt τ n L (.int v :: st) (f v τ)) : VC l true al ek cc RX0 mn nL fr lo rt s pc L (.int p2 :: .int p1 :: .int p0 :: .ref 0 :: st) (b2 (X_duck u s p0 p1 p2) f) := vv_callV (ci := 0) (C := RX1) (T := TX1) (N := 49) (ar := 3) (av := [.int p0, .int p1, .int p2]) (con_X_duck l u s p0 p1 p2) (fun h => h) (fun h => h) (fun h => by cases h) (fun h => by cases h) rfl sk0 hd hn rfl (Nat.le_of_ble_eq_true hc) (ble2 hr) (lw_V q952 q953 q954 q97 q955) rfl (by decide +kernel) (fun b _ _ => kk b.1 b.2)
theorem k0_196 {β : Type} {l : Launch} {al : Bool} {ek : β → Option Value × Sg} {cc : ByteArray} {mn : String} {nL fr lo : Nat} {rt : Option FieldType} {s : Sg} {pc n : Nat} {L : List (Nat × Value)} {st : List Value} {u : Nat} {p0 : Int32} {p1 : Int32} {p2 : Int32} {f : Int32 → Sg → Option β} (hd : decode cc pc = .ok (.invokevirtual 196, 3)) (hn : pc + 3 = n) (hc : Nat.ble (st.map fun v => v.category).sum 8 = true) (hr : (Nat.ble (1201 + 1) fr && Nat.ble (8 + (8 + 11) + 40023) lo) = true) (kk : ∀ v τ, VC l true al ek cc RX0 mn nL fr lo rt τ n L (.int v :: st) (f v τ)) : VC l true al ek cc RX0 mn nL fr lo rt s pc L (.int p2 :: .int p1 :: .int p0 :: .ref 45 :: st) (b2 (M_duck u s p0 p1 p2) f) := vv_callV (ci := 2) (C := RX3) (T := TX3) (N := 43) (ar := 3) (av := [.int p0, .int p1, .int p2]) (con_M_duck l u s p0 p1 p2) (fun h => h) (fun h => h) (fun h => by cases h) (fun h => by cases h) rfl sk45 hd hn rfl (Nat.le_of_ble_eq_true hc) (ble2 hr) (lw_V q1582 q1583 q1584 q99 q1585) rfl (by decide +kernel) (fun b _ _ => kk b.1 b.2)
theorem k0_197 {β : Type} {l : Launch} {al : Bool} {ek : β → Option Value × Sg} {cc : ByteArray} {mn : String} {nL fr lo : Nat} {rt : Option FieldType} {s : Sg} {pc n : Nat} {L : List (Nat × Value)} {st : List Value} {u : Nat} {p0 : Int32} {p1 : Int32} {p2 : Int32} {f : Int32 → Sg → Option β} (hd : decode cc pc = .ok (.invokevirtual 197, 3)) (hn : pc + 3 = n) (hc : Nat.ble (st.map fun v => v.category).sum 8 = true) (hr : (Nat.ble (1204 + 1) fr && Nat.ble (8 + (7 + 11) + 40099) lo) = true) (kk : ∀ v τ, VC l true al ek cc RX0 mn nL fr lo rt τ n L (.int v :: st) (f v τ)) : VC l true al ek cc RX0 mn nL fr lo rt s pc L (.int p2 :: .int p1 :: .int p0 :: .ref 0 :: st) (b2 (X_spoon u s p0 p1 p2) f) := vv_callV (ci := 0) (C := RX1) (T := TX1) (N := 49) (ar := 3) (av := [.int p0, .int p1, .int p2]) (con_X_spoon l u s p0 p1 p2) (fun h => h) (fun h => h) (fun h => by cases h) (fun h => by cases h) rfl sk0 hd hn rfl (Nat.le_of_ble_eq_true hc) (ble2 hr) (lw_V q968 q969 q970 q97 q971) rfl (by decide +kernel) (fun b _ _ => kk b.1 b.2)
theorem k0_200 {β : Type} {l : Launch} {al : Bool} {ek : β → Option Value × Sg} {cc : ByteArray} {mn : String} {nL fr lo : Nat} {rt : Option FieldType} {s : Sg} {pc n : Nat} {L : List (Nat × Value)} {st : List Value} {u : Nat} {p0 : Int32} {p1 : Int32} {p2 : Int32} {f : Int32 → Sg → Option β} (hd : decode cc pc = .ok (.invokevirtual 200, 3)) (hn : pc + 3 = n) (hc : Nat.ble (st.map fun v => v.category).sum 8 = true) (hr : (Nat.ble (1203 + 1) fr && Nat.ble (8 + (7 + 11) + 40069) lo) = true) (kk : ∀ v τ, VC l true al ek cc RX0 mn nL fr lo rt τ n L (.int v :: st) (f v τ)) : VC l true al ek cc RX0 mn nL fr lo rt s pc L (.int p2 :: .int p1 :: .int p0 :: .ref 45 :: st) (b2 (M_spoon u s p0 p1 p2) f) := vv_callV (ci := 2) (C := RX3) (T := TX3) (N := 43) (ar := 3) (av := [.int p0, .int p1, .int p2]) (con_M_spoon l u s p0 p1 p2) (fun h => h) (fun h => h) (fun h => by cases h) (fun h => by cases h) rfl sk45 hd hn rfl (Nat.le_of_ble_eq_true hc) (ble2 hr) (lw_V q1598 q1599 q1600 q99 q1601) rfl (by decide +kernel) (fun b _ _ => kk b.1 b.2)
theorem k0_201 {β : Type} {l : Launch} {al : Bool} {ek : β → Option Value × Sg} {cc : ByteArray} {mn : String} {nL fr lo : Nat} {rt : Option FieldType} {s : Sg} {pc n : Nat} {L : List (Nat × Value)} {st : List Value} {u : Nat} {p0 : Int32} {f : Int32 → Sg → Option β} (hd : decode cc pc = .ok (.invokevirtual 201, 3)) (hn : pc + 3 = n) (hc : Nat.ble (st.map fun v => v.category).sum 8 = true) (hr : (Nat.ble (2 + 1) fr && Nat.ble (8 + (5 + 11) + 45) lo) = true) (kk : ∀ v τ, VC l true al ek cc RX0 mn nL fr lo rt τ n L (.int v :: st) (f v τ)) : VC l true al ek cc RX0 mn nL fr lo rt s pc L (.int p0 :: .ref 0 :: st) (b2 (X_rests u s p0) f) := vv_callV (ci := 0) (C := RX1) (T := TX1) (N := 49) (ar := 1) (av := [.int p0]) (con_X_rests l u s p0) (fun h => h) (fun h => h) (fun h => by cases h) (fun h => by cases h) rfl sk0 hd hn rfl (Nat.le_of_ble_eq_true hc) (ble2 hr) (lw_V q972 q973 q974 q97 q975) rfl (by decide +kernel) (fun b _ _ => kk b.1 b.2)
theorem k0_204 {β : Type} {l : Launch} {al : Bool} {ek : β → Option Value × Sg} {cc : ByteArray} {mn : String} {nL fr lo : Nat} {rt : Option FieldType} {s : Sg} {pc n : Nat} {L : List (Nat × Value)} {st : List Value} {u : Nat} {p0 : Int32} {f : Int32 → Sg → Option β} (hd : decode cc pc = .ok (.invokevirtual 204, 3)) (hn : pc + 3 = n) (hc : Nat.ble (st.map fun v => v.category).sum 8 = true) (hr : (Nat.ble (2 + 1) fr && Nat.ble (8 + (5 + 11) + 45) lo) = true) (kk : ∀ v τ, VC l true al ek cc RX0 mn nL fr lo rt τ n L (.int v :: st) (f v τ)) : VC l true al ek cc RX0 mn nL fr lo rt s pc L (.int p0 :: .ref 45 :: st) (b2 (M_rests u s p0) f) := vv_callV (ci := 2) (C := RX3) (T := TX3) (N := 43) (ar := 1) (av := [.int p0]) (con_M_rests l u s p0) (fun h => h) (fun h => h) (fun h => by cases h) (fun h => by cases h) rfl sk45 hd hn rfl (Nat.le_of_ble_eq_true hc) (ble2 hr) (lw_V q1602 q1603 q1604 q99 q1605) rfl (by decide +kernel) (fun b _ _ => kk b.1 b.2)
theorem k0_205 {β : Type} {l : Launch} {ek : β → Option Value × Sg} {cc : ByteArray} {mn : String} {nL fr lo : Nat} {rt : Option FieldType} {s : Sg} {pc n : Nat} {L : List (Nat × Value)} {st : List Value} {u : Nat}  {f : Int32 → Sg → Option β} (hLk : Ok true s → (∀ q ∈ L, vok (gN s) q.2) ∧ ∀ v ∈ st, vok (gN s) v) (hd : decode cc pc = .ok (.invokevirtual 205, 3)) (hn : pc + 3 = n) (hc : Nat.ble (st.map fun v => v.category).sum 8 = true) (hr : (Nat.ble (1206 + 1) fr && Nat.ble (8 + (4 + 11) + 40144) lo) = true) (kk : ∀ v τ, gN s ≤ gN τ → VC l true true ek cc RX0 mn nL fr lo rt τ n L (.int v :: st) (f v τ)) : VC l true true ek cc RX0 mn nL fr lo rt s pc L (.ref 0 :: st) (b2 (X_law u s) f) := vv_callV (ci := 0) (C := RX1) (T := TX1) (N := 49) (ar := 0) (av := []) (con_X_law l u s) (fun h => h) (fun h => h) (fun _ => rfl) (fun _ => hLk) rfl sk0 hd hn rfl (Nat.le_of_ble_eq_true hc) (ble2 hr) (lw_V q982 q983 q984 q97 q985) rfl (by decide +kernel) (fun b _ h => kk b.1 b.2 h.2.2.1)
theorem k0_208 {β : Type} {l : Launch} {al : Bool} {ek : β → Option Value × Sg} {cc : ByteArray} {mn : String} {nL fr lo : Nat} {rt : Option FieldType} {s : Sg} {pc n : Nat} {L : List (Nat × Value)} {st : List Value} {u : Nat}  {f : Int32 → Sg → Option β} (hd : decode cc pc = .ok (.invokevirtual 208, 3)) (hn : pc + 3 = n) (hc : Nat.ble (st.map fun v => v.category).sum 8 = true) (hr : (Nat.ble (1206 + 1) fr && Nat.ble (8 + (6 + 11) + 40133) lo) = true) (kk : ∀ v τ, VC l true al ek cc RX0 mn nL fr lo rt τ n L (.int v :: st) (f v τ)) : VC l true al ek cc RX0 mn nL fr lo rt s pc L (.ref 45 :: st) (b2 (M_law u s) f) := vv_callV (ci := 2) (C := RX3) (T := TX3) (N := 43) (ar := 0) (av := []) (con_M_law l u s) (fun h => h) (fun h => h) (fun h => by cases h) (fun h => by cases h) rfl sk45 hd hn rfl (Nat.le_of_ble_eq_true hc) (ble2 hr) (lw_V q1612 q1613 q1614 q99 q1615) rfl (by decide +kernel) (fun b _ _ => kk b.1 b.2)
theorem k0_209 {β : Type} {l : Launch} {al : Bool} {ek : β → Option Value × Sg} {cc : ByteArray} {mn : String} {nL fr lo : Nat} {rt : Option FieldType} {s : Sg} {pc n : Nat} {L : List (Nat × Value)} {st : List Value} {u : Nat} {p0 : Int32} {p1 : Int32} {f : Int32 → Sg → Option β} (hd : decode cc pc = .ok (.invokevirtual 209, 3)) (hn : pc + 3 = n) (hc : Nat.ble (st.map fun v => v.category).sum 8 = true) (hr : (Nat.ble (1204 + 1) fr && Nat.ble (8 + (6 + 11) + 40099) lo) = true) (kk : ∀ v τ, VC l true al ek cc RX0 mn nL fr lo rt τ n L (.int v :: st) (f v τ)) : VC l true al ek cc RX0 mn nL fr lo rt s pc L (.int p1 :: .int p0 :: .ref 0 :: st) (b2 (X_years u s p0 p1) f) := vv_callV (ci := 0) (C := RX1) (T := TX1) (N := 49) (ar := 2) (av := [.int p0, .int p1]) (con_X_years l u s p0 p1) (fun h => h) (fun h => h) (fun h => by cases h) (fun h => by cases h) rfl sk0 hd hn rfl (Nat.le_of_ble_eq_true hc) (ble2 hr) (lw_V q986 q987 q988 q97 q989) rfl (by decide +kernel) (fun b _ _ => kk b.1 b.2)
theorem k0_212 {β : Type} {l : Launch} {al : Bool} {ek : β → Option Value × Sg} {cc : ByteArray} {mn : String} {nL fr lo : Nat} {rt : Option FieldType} {s : Sg} {pc n : Nat} {L : List (Nat × Value)} {st : List Value} {u : Nat} {p0 : Int32} {p1 : Int32} {f : Int32 → Sg → Option β} (hd : decode cc pc = .ok (.invokevirtual 212, 3)) (hn : pc + 3 = n) (hc : Nat.ble (st.map fun v => v.category).sum 8 = true) (hr : (Nat.ble (1203 + 1) fr && Nat.ble (8 + (6 + 11) + 40069) lo) = true) (kk : ∀ v τ, VC l true al ek cc RX0 mn nL fr lo rt τ n L (.int v :: st) (f v τ)) : VC l true al ek cc RX0 mn nL fr lo rt s pc L (.int p1 :: .int p0 :: .ref 45 :: st) (b2 (M_years u s p0 p1) f) := vv_callV (ci := 2) (C := RX3) (T := TX3) (N := 43) (ar := 2) (av := [.int p0, .int p1]) (con_M_years l u s p0 p1) (fun h => h) (fun h => h) (fun h => by cases h) (fun h => by cases h) rfl sk45 hd hn rfl (Nat.le_of_ble_eq_true hc) (ble2 hr) (lw_V q1620 q1621 q1622 q99 q1623) rfl (by decide +kernel) (fun b _ _ => kk b.1 b.2)
theorem k0_213 {β : Type} {l : Launch} {ek : β → Option Value × Sg} {cc : ByteArray} {mn : String} {nL fr lo : Nat} {rt : Option FieldType} {s : Sg} {pc n : Nat} {L : List (Nat × Value)} {st : List Value} {p0 : Int32} {f : Int32 → Sg → Option β} (hLk : Ok true s → (∀ q ∈ L, vok (gN s) q.2) ∧ ∀ v ∈ st, vok (gN s) v) (hd : decode cc pc = .ok (.invokevirtual 213, 3)) (hn : pc + 3 = n) (hc : Nat.ble (st.map fun v => v.category).sum 8 = true) (hr : (Nat.ble (3 + 1) fr && Nat.ble (8 + (2 + 11) + 61) lo) = true) (kk : ∀ v τ, gN s ≤ gN τ → VC l true true ek cc RX0 mn nL fr lo rt τ n L (.int v :: st) (f v τ)) : VC l true true ek cc RX0 mn nL fr lo rt s pc L (.int p0 :: .ref 0 :: st) (b2 (X_keep s p0) f) := vv_callV (ci := 0) (C := RX1) (T := TX1) (N := 49) (ar := 1) (av := [.int p0]) (con_X_keep l s p0) (fun h => h) (fun h => h) (fun _ => rfl) (fun _ => hLk) rfl sk0 hd hn rfl (Nat.le_of_ble_eq_true hc) (ble2 hr) (lw_V q995 q996 q997 q97 q998) rfl (by decide +kernel) (fun b _ h => kk b.1 b.2 h.2.2.1)
theorem k0_216 {β : Type} {l : Launch} {al : Bool} {ek : β → Option Value × Sg} {cc : ByteArray} {mn : String} {nL fr lo : Nat} {rt : Option FieldType} {s : Sg} {pc n : Nat} {L : List (Nat × Value)} {st : List Value} {u : Nat} {p0 : Int32} {f : Int32 → Sg → Option β} (hd : decode cc pc = .ok (.invokevirtual 216, 3)) (hn : pc + 3 = n) (hc : Nat.ble (st.map fun v => v.category).sum 8 = true) (hr : (Nat.ble (1 + 1) fr && Nat.ble (8 + (2 + 11) + 23) lo) = true) (kk : ∀ v τ, VC l true al ek cc RX0 mn nL fr lo rt τ n L (.int v :: st) (f v τ)) : VC l true al ek cc RX0 mn nL fr lo rt s pc L (.int p0 :: .ref 45 :: st) (b2 (M_keep u s p0) f) := vv_callV (ci := 2) (C := RX3) (T := TX3) (N := 43) (ar := 1) (av := [.int p0]) (con_M_keep l u s p0) (fun h => h) (fun h => h) (fun h => by cases h) (fun h => by cases h) rfl sk45 hd hn rfl (Nat.le_of_ble_eq_true hc) (ble2 hr) (lw_V q1629 q1630 q1631 q99 q1632) rfl (by decide +kernel) (fun b _ _ => kk b.1 b.2)
theorem k0_217 {β : Type} {l : Launch} {al : Bool} {ek : β → Option Value × Sg} {cc : ByteArray} {mn : String} {nL fr lo : Nat} {rt : Option FieldType} {s : Sg} {pc n : Nat} {L : List (Nat × Value)} {st : List Value} {p0 : Int32} {f : Int32 → Sg → Option β} (hd : decode cc pc = .ok (.invokevirtual 217, 3)) (hn : pc + 3 = n) (hc : Nat.ble (st.map fun v => v.category).sum 8 = true) (hr : (Nat.ble (2 + 1) fr && Nat.ble (8 + (2 + 11) + 53) lo) = true) (kk : ∀ v τ, VC l true al ek cc RX0 mn nL fr lo rt τ n L (.int v :: st) (f v τ)) : VC l true al ek cc RX0 mn nL fr lo rt s pc L (.int p0 :: .ref 0 :: st) (b2 (X_again s p0) f) := vv_callV (ci := 0) (C := RX1) (T := TX1) (N := 49) (ar := 1) (av := [.int p0]) (con_X_again l s p0) (fun h => h) (fun h => h) (fun h => by cases h) (fun h => by cases h) rfl sk0 hd hn rfl (Nat.le_of_ble_eq_true hc) (ble2 hr) (lw_V q999 q1000 q1001 q97 q1002) rfl (by decide +kernel) (fun b _ _ => kk b.1 b.2)
theorem k0_220 {β : Type} {l : Launch} {al : Bool} {ek : β → Option Value × Sg} {cc : ByteArray} {mn : String} {nL fr lo : Nat} {rt : Option FieldType} {s : Sg} {pc n : Nat} {L : List (Nat × Value)} {st : List Value} {u : Nat} {p0 : Int32} {f : Int32 → Sg → Option β} (hd : decode cc pc = .ok (.invokevirtual 220, 3)) (hn : pc + 3 = n) (hc : Nat.ble (st.map fun v => v.category).sum 8 = true) (hr : (Nat.ble (1 + 1) fr && Nat.ble (8 + (3 + 11) + 22) lo) = true) (kk : ∀ v τ, VC l true al ek cc RX0 mn nL fr lo rt τ n L (.int v :: st) (f v τ)) : VC l true al ek cc RX0 mn nL fr lo rt s pc L (.int p0 :: .ref 45 :: st) (b2 (M_again u s p0) f) := vv_callV (ci := 2) (C := RX3) (T := TX3) (N := 43) (ar := 1) (av := [.int p0]) (con_M_again l u s p0) (fun h => h) (fun h => h) (fun h => by cases h) (fun h => by cases h) rfl sk45 hd hn rfl (Nat.le_of_ble_eq_true hc) (ble2 hr) (lw_V q1633 q1634 q1635 q99 q1636) rfl (by decide +kernel) (fun b _ _ => kk b.1 b.2)
theorem k0_221 {β : Type} {l : Launch} {al : Bool} {ek : β → Option Value × Sg} {cc : ByteArray} {mn : String} {nL fr lo : Nat} {rt : Option FieldType} {s : Sg} {pc n : Nat} {L : List (Nat × Value)} {st : List Value} {u : Nat} {p0 : Int32} {f : Int32 → Option β} (hd : decode cc pc = .ok (.invokevirtual 221, 3)) (hn : pc + 3 = n) (hc : Nat.ble (st.map fun v => v.category).sum 8 = true) (hr : (Nat.ble (3 + 1) fr && Nat.ble (8 + (2 + 11) + 66) lo) = true) (kk : ∀ v, VC l true al ek cc RX0 mn nL fr lo rt s n L (.int v :: st) (f v)) : VC l true al ek cc RX0 mn nL fr lo rt s pc L (.int p0 :: .ref 0 :: st) ((X_count u s p0).bind f) := vv_callV (ci := 0) (C := RX1) (T := TX1) (N := 49) (ar := 1) (av := [.int p0]) (con_X_count l u s p0) (fun h => h) (fun h => h) (fun h => by cases h) (fun h => by cases h) rfl sk0 hd hn rfl (Nat.le_of_ble_eq_true hc) (ble2 hr) (lw_V q1003 q1004 q1005 q97 q1006) rfl (by decide +kernel) (fun b _ _ => kk b)
theorem k0_224 {β : Type} {l : Launch} {al : Bool} {ek : β → Option Value × Sg} {cc : ByteArray} {mn : String} {nL fr lo : Nat} {rt : Option FieldType} {s : Sg} {pc n : Nat} {L : List (Nat × Value)} {st : List Value} {u : Nat} {p0 : Int32} {f : Int32 → Sg → Option β} (hd : decode cc pc = .ok (.invokevirtual 224, 3)) (hn : pc + 3 = n) (hc : Nat.ble (st.map fun v => v.category).sum 8 = true) (hr : (Nat.ble (1 + 1) fr && Nat.ble (8 + (2 + 11) + 24) lo) = true) (kk : ∀ v τ, VC l true al ek cc RX0 mn nL fr lo rt τ n L (.int v :: st) (f v τ)) : VC l true al ek cc RX0 mn nL fr lo rt s pc L (.int p0 :: .ref 45 :: st) (b2 (M_count u s p0) f) := vv_callV (ci := 2) (C := RX3) (T := TX3) (N := 43) (ar := 1) (av := [.int p0]) (con_M_count l u s p0) (fun h => h) (fun h => h) (fun h => by cases h) (fun h => by cases h) rfl sk45 hd hn rfl (Nat.le_of_ble_eq_true hc) (ble2 hr) (lw_V q1637 q1638 q1639 q99 q1640) rfl (by decide +kernel) (fun b _ _ => kk b.1 b.2)
theorem k0_228 {β : Type} {l : Launch} {al : Bool} {ek : β → Option Value × Sg} {cc : ByteArray} {mn : String} {nL fr lo : Nat} {rt : Option FieldType} {s : Sg} {pc n : Nat} {L : List (Nat × Value)} {st : List Value} {p0 : Int32} {f : Int64 → Sg → Option β} (hd : decode cc pc = .ok (.invokevirtual 228, 3)) (hn : pc + 3 = n) (hc : Nat.ble (st.map fun v => v.category).sum 8 = true) (hr : (Nat.ble (1 + 1) fr && Nat.ble (8 + (2 + 11) + 22) lo) = true) (kk : ∀ v τ, VC l true al ek cc RX0 mn nL fr lo rt τ n L (.long v :: st) (f v τ)) : VC l true al ek cc RX0 mn nL fr lo rt s pc L (.int p0 :: .ref 45 :: st) (b2 (M_row s p0) f) := vv_callV (ci := 2) (C := RX3) (T := TX3) (N := 43) (ar := 1) (av := [.int p0]) (con_M_row l s p0) (fun h => h) (fun h => h) (fun h => by cases h) (fun h => by cases h) rfl sk45 hd hn rfl (Nat.le_of_ble_eq_true hc) (ble2 hr) (lw_V q1645 q1646 q1647 q99 q1648) rfl (by decide +kernel) (fun b _ _ => kk b.1 b.2)
def L_law_23b (u : Nat) (K23 : Sg → Int32 → Option (Int32 × Sg)) (s : Sg) (x4 : Int32) : Option (Int32 × Sg) := if ((Int32.ofNat (gS s).1) - 5) < x4 then (some (1, s)) else ((aS s x4).bind fun v1 => if (v1 &&& 63) = 0 then ((aS s (x4 + 1)).bind fun v2 => b2 (X_sign u s v2) fun v3 s4 => (aS s4 (x4 + 1)).bind fun v5 => b2 (M_sign u s4 v5) fun v6 s7 => if v3 = v6 then (K23 s7 (x4 + 5)) else (some (0, s7))) else if (v1 &&& 63) = 1 then ((aS s (x4 + 1)).bind fun v8 => b2 (X_end s v8) fun v9 s10 => (aS s10 (x4 + 1)).bind fun v11 => b2 (M_end s10 v11) fun v12 s13 => if v9 = v12 then (K23 s13 (x4 + 5)) else (some (0, s13))) else if (v1 &&& 63) = 2 then (b2 (X_lakes u s) fun v14 s15 => b2 (M_lakes u s15) fun v16 s17 => if v14 = v16 then (K23 s17 (x4 + 5)) else (some (0, s17))) else if (v1 &&& 63) = 3 then (b2 (X_rule u s) fun v18 s19 => b2 (M_rule u s19) fun v20 s21 => if v18 = v20 then (K23 s21 (x4 + 5)) else (some (0, s21))) else if (v1 &&& 63) = 4 then ((aS s (x4 + 1)).bind fun v22 => (aS s (x4 + 2)).bind fun v23 => b2 (L_lake s v22 v23) fun v24 s25 => (aS s25 (x4 + 1)).bind fun v26 => (aS s25 (x4 + 2)).bind fun v27 => b2 (M_lake u s25 v26 v27) fun v28 s29 => (M_thrown s29).bind fun v30 => if v30 = v24 then (if v24 = 0 then ((aJ s29 72 1 0).bind fun v31 => if (lg_cmp v31 ((v28 : Int32).toInt64)) = 0 then (K23 s29 (x4 + 5)) else (some (0, s29))) else (K23 s29 (x4 + 5))) else (some (0, s29))) else if (v1 &&& 63) = 5 then ((aS s (x4 + 1)).bind fun v32 => (aS s (x4 + 2)).bind fun v33 => (aS s (x4 + 3)).bind fun v34 => (aS s (x4 + 4)).bind fun v35 => b2 (X_sheet u s v32 v33 v34 v35) fun v36 s37 => (aS s37 (x4 + 1)).bind fun v38 => (aS s37 (x4 + 2)).bind fun v39 => (aS s37 (x4 + 3)).bind fun v40 => (aS s37 (x4 + 4)).bind fun v41 => b2 (M_sheet u s37 v38 v39 v40 v41) fun v42 s43 => if v36 = v42 then (K23 s43 (x4 + 5)) else (some (0, s43))) else if (v1 &&& 63) = 6 then ((aS s (x4 + 1)).bind fun v44 => b2 (X_days u s v44) fun v45 s46 => (aS s46 (x4 + 1)).bind fun v47 => b2 (M_days u s46 v47) fun v48 s49 => if v45 = v48 then (K23 s49 (x4 + 5)) else (some (0, s49))) else if (v1 &&& 63) = 7 then ((aS s (x4 + 1)).bind fun v50 => b2 (X_pulls u s v50) fun v51 s52 => (aS s52 (x4 + 1)).bind fun v53 => b2 (M_pulls u s52 v53) fun v54 s55 => if v51 = v54 then (K23 s55 (x4 + 5)) else (some (0, s55))) else if (v1 &&& 63) = 8 then ((aS s (x4 + 1)).bind fun v56 => b2 (X_stops u s v56) fun v57 s58 => (aS s58 (x4 + 1)).bind fun v59 => b2 (M_stops u s58 v59) fun v60 s61 => if v57 = v60 then (K23 s61 (x4 + 5)) else (some (0, s61))) else if (v1 &&& 63) = 9 then ((aS s (x4 + 1)).bind fun v62 => b2 (X_combs u s v62) fun v63 s64 => (aS s64 (x4 + 1)).bind fun v65 => b2 (M_combs u s64 v65) fun v66 s67 => if v63 = v66 then (K23 s67 (x4 + 5)) else (some (0, s67))) else if (v1 &&& 63) = 10 then ((aS s (x4 + 1)).bind fun v68 => (aS s (x4 + 2)).bind fun v69 => b2 (X_taps u s v68 v69) fun v70 s71 => (aS s71 (x4 + 1)).bind fun v72 => (aS s71 (x4 + 2)).bind fun v73 => b2 (M_taps u s71 v72 v73) fun v74 s75 => if v70 = v74 then (K23 s75 (x4 + 5)) else (some (0, s75))) else if (v1 &&& 63) = 11 then ((aS s (x4 + 1)).bind fun v76 => (aS s (x4 + 2)).bind fun v77 => b2 (X_gives u s v76 v77) fun v78 s79 => (aS s79 (x4 + 1)).bind fun v80 => (aS s79 (x4 + 2)).bind fun v81 => b2 (M_gives u s79 v80 v81) fun v82 s83 => if v78 = v82 then (K23 s83 (x4 + 5)) else (some (0, s83))) else if (v1 &&& 63) = 12 then (b2 (X_year u s) fun v84 s85 => b2 (M_year u s85) fun v86 s87 => if v84 = v86 then (K23 s87 (x4 + 5)) else (some (0, s87))) else if (v1 &&& 63) = 13 then (b2 (X_undo s) fun v88 s89 => b2 (M_undo u s89) fun v90 s91 => if v88 = v90 then (K23 s91 (x4 + 5)) else (some (0, s91))) else if (v1 &&& 63) = 14 then ((aS s (x4 + 1)).bind fun v92 => (aS s (x4 + 2)).bind fun v93 => b2 (X_later u s v92 v93) fun v94 s95 => (aS s95 (x4 + 1)).bind fun v96 => (aS s95 (x4 + 2)).bind fun v97 => b2 (M_later u s95 v96 v97) fun v98 s99 => if v94 = v98 then (K23 s99 (x4 + 5)) else (some (0, s99))) else if (v1 &&& 63) = 15 then ((aS s (x4 + 1)).bind fun v100 => b2 (X_dries u s v100) fun v101 s102 => (aS s102 (x4 + 1)).bind fun v103 => b2 (M_dries u s102 v103) fun v104 s105 => if v101 = v104 then (K23 s105 (x4 + 5)) else (some (0, s105))) else if (v1 &&& 63) = 16 then ((aS s (x4 + 1)).bind fun v106 => b2 (X_brims u s v106) fun v107 s108 => (aS s108 (x4 + 1)).bind fun v109 => b2 (M_brims u s108 v109) fun v110 s111 => if v107 = v110 then (K23 s111 (x4 + 5)) else (some (0, s111))) else if (v1 &&& 63) = 17 then ((aS s (x4 + 1)).bind fun v112 => (aS s (x4 + 2)).bind fun v113 => b2 (X_marks u s v112 v113) fun v114 s115 => (aS s115 (x4 + 1)).bind fun v116 => (aS s115 (x4 + 2)).bind fun v117 => b2 (M_marks u s115 v116 v117) fun v118 s119 => if v114 = v118 then (K23 s119 (x4 + 5)) else (some (0, s119))) else if (v1 &&& 63) = 18 then ((aS s (x4 + 1)).bind fun v120 => b2 (X_realm u s v120) fun v121 s122 => (aS s122 (x4 + 1)).bind fun v123 => b2 (M_realm u s122 v123) fun v124 s125 => if v121 = v124 then (K23 s125 (x4 + 5)) else (some (0, s125))) else if (v1 &&& 63) = 19 then ((aS s (x4 + 1)).bind fun v126 => b2 (X_course u s v126) fun v127 s128 => (aS s128 (x4 + 1)).bind fun v129 => b2 (M_course u s128 v129) fun v130 s131 => if v127 = v130 then (K23 s131 (x4 + 5)) else (some (0, s131))) else if (v1 &&& 63) = 20 then ((aS s (x4 + 1)).bind fun v132 => b2 (X_basin u s v132) fun v133 s134 => (aS s134 (x4 + 1)).bind fun v135 => b2 (M_basin u s134 v135) fun v136 s137 => if v133 = v136 then (K23 s137 (x4 + 5)) else (some (0, s137))) else if (v1 &&& 63) = 21 then ((aS s (x4 + 1)).bind fun v138 => b2 (X_order u s v138) fun v139 s140 => (aS s140 (x4 + 1)).bind fun v141 => b2 (M_order u s140 v141) fun v142 s143 => if v139 = v142 then (K23 s143 (x4 + 5)) else (some (0, s143))) else if (v1 &&& 63) = 22 then ((aS s (x4 + 1)).bind fun v144 => (aS s (x4 + 2)).bind fun v145 => b2 (X_meets u s v144 v145) fun v146 s147 => (aS s147 (x4 + 1)).bind fun v148 => (aS s147 (x4 + 2)).bind fun v149 => b2 (M_meets u s147 v148 v149) fun v150 s151 => if v146 = v150 then (K23 s151 (x4 + 5)) else (some (0, s151))) else if (v1 &&& 63) = 23 then ((aS s (x4 + 1)).bind fun v152 => b2 (X_richest u s v152) fun v153 s154 => (aS s154 (x4 + 1)).bind fun v155 => b2 (M_richest u s154 v155) fun v156 s157 => if v153 = v156 then (K23 s157 (x4 + 5)) else (some (0, s157))) else if (v1 &&& 63) = 24 then ((aS s (x4 + 1)).bind fun v158 => (aS s (x4 + 2)).bind fun v159 => (aS s (x4 + 3)).bind fun v160 => b2 (X_swims u s v158 v159 v160) fun v161 s162 => (aS s162 (x4 + 1)).bind fun v163 => (aS s162 (x4 + 2)).bind fun v164 => (aS s162 (x4 + 3)).bind fun v165 => b2 (M_swims u s162 v163 v164 v165) fun v166 s167 => if v161 = v166 then (K23 s167 (x4 + 5)) else (some (0, s167))) else if (v1 &&& 63) = 25 then ((aS s (x4 + 1)).bind fun v168 => (aS s (x4 + 2)).bind fun v169 => b2 (X_lets u s v168 v169) fun v170 s171 => (aS s171 (x4 + 1)).bind fun v172 => (aS s171 (x4 + 2)).bind fun v173 => b2 (M_lets u s171 v172 v173) fun v174 s175 => if v170 = v174 then (K23 s175 (x4 + 5)) else (some (0, s175))) else if (v1 &&& 63) = 26 then ((aS s (x4 + 1)).bind fun v176 => (aS s (x4 + 2)).bind fun v177 => b2 (X_just u s v176 v177) fun v178 s179 => (aS s179 (x4 + 1)).bind fun v180 => (aS s179 (x4 + 2)).bind fun v181 => b2 (M_just u s179 v180 v181) fun v182 s183 => if v178 = v182 then (K23 s183 (x4 + 5)) else (some (0, s183))) else if (v1 &&& 63) = 27 then ((aS s (x4 + 1)).bind fun v184 => (aS s (x4 + 2)).bind fun v185 => b2 (X_fills u s v184 v185) fun v186 s187 => (aS s187 (x4 + 1)).bind fun v188 => (aS s187 (x4 + 2)).bind fun v189 => b2 (M_fills u s187 v188 v189) fun v190 s191 => if v186 = v190 then (K23 s191 (x4 + 5)) else (some (0, s191))) else if (v1 &&& 63) = 28 then ((aS s (x4 + 1)).bind fun v192 => (aS s (x4 + 2)).bind fun v193 => (aS s (x4 + 3)).bind fun v194 => b2 (X_needs u s v192 v193 v194) fun v195 s196 => (aS s196 (x4 + 1)).bind fun v197 => (aS s196 (x4 + 2)).bind fun v198 => (aS s196 (x4 + 3)).bind fun v199 => b2 (M_needs u s196 v197 v198 v199) fun v200 s201 => if v195 = v200 then (K23 s201 (x4 + 5)) else (some (0, s201))) else if (v1 &&& 63) = 29 then ((aS s (x4 + 1)).bind fun v202 => b2 (X_crosses u s v202) fun v203 s204 => (aS s204 (x4 + 1)).bind fun v205 => b2 (M_crosses u s204 v205) fun v206 s207 => if v203 = v206 then (K23 s207 (x4 + 5)) else (some (0, s207))) else if (v1 &&& 63) = 30 then ((aS s (x4 + 1)).bind fun v208 => (aS s (x4 + 2)).bind fun v209 => (aS s (x4 + 3)).bind fun v210 => b2 (X_ring s v208 v209 v210) fun v211 s212 => (aS s212 (x4 + 1)).bind fun v213 => (aS s212 (x4 + 2)).bind fun v214 => (aS s212 (x4 + 3)).bind fun v215 => b2 (M_ring s212 v213 v214 v215) fun v216 s217 => if v211 = v216 then (K23 s217 (x4 + 5)) else (some (0, s217))) else if (v1 &&& 63) = 31 then (b2 (X_washes s) fun v218 s219 => b2 (M_washes s219) fun v220 s221 => if v218 = v220 then (K23 s221 (x4 + 5)) else (some (0, s221))) else if (v1 &&& 63) = 32 then (b2 (X_leaks u s) fun v222 s223 => b2 (M_leaks u s223) fun v224 s225 => if v222 = v224 then (K23 s225 (x4 + 5)) else (some (0, s225))) else if (v1 &&& 63) = 33 then (b2 (X_reads u s) fun v226 s227 => b2 (M_reads u s227) fun v228 s229 => if v226 = v228 then (K23 s229 (x4 + 5)) else (some (0, s229))) else if (v1 &&& 63) = 34 then ((aS s (x4 + 1)).bind fun v230 => b2 (X_threat u s v230) fun v231 s232 => (aS s232 (x4 + 1)).bind fun v233 => b2 (M_threat u s232 v233) fun v234 s235 => if v231 = v234 then (K23 s235 (x4 + 5)) else (some (0, s235))) else if (v1 &&& 63) = 35 then ((aS s (x4 + 1)).bind fun v236 => b2 (X_treaty u s v236) fun v237 s238 => (aS s238 (x4 + 1)).bind fun v239 => b2 (M_treaty u s238 v239) fun v240 s241 => if v237 = v240 then (K23 s241 (x4 + 5)) else (some (0, s241))) else if (v1 &&& 63) = 36 then ((aS s (x4 + 1)).bind fun v242 => b2 (X_wants u s v242) fun v243 s244 => (aS s244 (x4 + 1)).bind fun v245 => b2 (M_wants u s244 v245) fun v246 s247 => if v243 = v246 then (K23 s247 (x4 + 5)) else (some (0, s247))) else if (v1 &&& 63) = 37 then (b2 (X_evens u s) fun v248 s249 => b2 (M_evens u s249) fun v250 s251 => if v248 = v250 then (K23 s251 (x4 + 5)) else (some (0, s251))) else if (v1 &&& 63) = 38 then (b2 (X_feared u s) fun v252 s253 => b2 (M_feared u s253) fun v254 s255 => if v252 = v254 then (K23 s255 (x4 + 5)) else (some (0, s255))) else if (v1 &&& 63) = 39 then (b2 (X_heirs u s) fun v256 s257 => b2 (M_heirs u s257) fun v258 s259 => if v256 = v258 then (K23 s259 (x4 + 5)) else (some (0, s259))) else if (v1 &&& 63) = 40 then ((aS s (x4 + 1)).bind fun v260 => (aS s (x4 + 2)).bind fun v261 => (aS s (x4 + 3)).bind fun v262 => b2 (X_duck u s v260 v261 v262) fun v263 s264 => (aS s264 (x4 + 1)).bind fun v265 => (aS s264 (x4 + 2)).bind fun v266 => (aS s264 (x4 + 3)).bind fun v267 => b2 (M_duck u s264 v265 v266 v267) fun v268 s269 => if v263 = v268 then (K23 s269 (x4 + 5)) else (some (0, s269))) else if (v1 &&& 63) = 41 then ((aS s (x4 + 1)).bind fun v270 => (aS s (x4 + 2)).bind fun v271 => (aS s (x4 + 3)).bind fun v272 => b2 (X_spoon u s v270 v271 v272) fun v273 s274 => (aS s274 (x4 + 1)).bind fun v275 => (aS s274 (x4 + 2)).bind fun v276 => (aS s274 (x4 + 3)).bind fun v277 => b2 (M_spoon u s274 v275 v276 v277) fun v278 s279 => if v273 = v278 then (K23 s279 (x4 + 5)) else (some (0, s279))) else if (v1 &&& 63) = 42 then ((aS s (x4 + 1)).bind fun v280 => b2 (X_rests u s v280) fun v281 s282 => (aS s282 (x4 + 1)).bind fun v283 => b2 (M_rests u s282 v283) fun v284 s285 => if v281 = v284 then (K23 s285 (x4 + 5)) else (some (0, s285))) else if (v1 &&& 63) = 43 then (b2 (X_law u s) fun v286 s287 => b2 (M_law u s287) fun v288 s289 => if v286 = v288 then (K23 s289 (x4 + 5)) else (some (0, s289))) else if (v1 &&& 63) = 44 then ((aS s (x4 + 1)).bind fun v290 => (aS s (x4 + 2)).bind fun v291 => b2 (X_years u s v290 v291) fun v292 s293 => (aS s293 (x4 + 1)).bind fun v294 => (aS s293 (x4 + 2)).bind fun v295 => b2 (M_years u s293 v294 v295) fun v296 s297 => if v292 = v296 then (K23 s297 (x4 + 5)) else (some (0, s297))) else if (v1 &&& 63) = 45 then ((aS s (x4 + 1)).bind fun v298 => b2 (X_keep s v298) fun v299 s300 => (aS s300 (x4 + 1)).bind fun v301 => b2 (M_keep u s300 v301) fun v302 s303 => if v299 = v302 then (K23 s303 (x4 + 5)) else (some (0, s303))) else if (v1 &&& 63) = 46 then ((aS s (x4 + 1)).bind fun v304 => b2 (X_again s v304) fun v305 s306 => (aS s306 (x4 + 1)).bind fun v307 => b2 (M_again u s306 v307) fun v308 s309 => if v305 = v308 then (K23 s309 (x4 + 5)) else (some (0, s309))) else if (v1 &&& 63) = 47 then ((aS s (x4 + 1)).bind fun v310 => (X_count u s v310).bind fun v311 => (aS s (x4 + 1)).bind fun v312 => b2 (M_count u s v312) fun v313 s314 => if v311 = v313 then (K23 s314 (x4 + 5)) else (some (0, s314))) else if (v1 &&& 63) = 48 then ((aS s (x4 + 1)).bind fun v315 => b2 (L_row s v315) fun v316 s317 => (aS s317 (x4 + 1)).bind fun v318 => b2 (M_row s317 v318) fun v319 s320 => (M_thrown s320).bind fun v321 => if v321 = v316 then (if v316 = 0 then ((aJ s320 72 1 0).bind fun v322 => if (lg_cmp v322 v319) = 0 then (K23 s320 (x4 + 5)) else (some (0, s320))) else (K23 s320 (x4 + 5))) else (some (0, s320))) else (K23 s (x4 + 5)))
theorem vc_L_law_23b (l : Launch) (u : Nat) (K23 : Sg → Int32 → Option (Int32 × Sg)) (hK23 : ∀ (s : Sg) (x4 : Int32), VC l true true eSI cL_law RX0 "law" 8 1207 40170 (some .boolean) s 23 [(0, .retAddr 17), (1, .ref 0), (2, .ref 45), (3, .ref 72), (4, .int x4)] [] (K23 s x4)) (s : Sg) (x4 : Int32) : VC l true true eSI cL_law RX0 "law" 8 1207 40170 (some .boolean) s 23 [(0, .retAddr 17), (1, .ref 0), (2, .ref 45), (3, .ref 72), (4, .int x4)] [] (L_law_23b u K23 s x4) := by
  unfold L_law_23b
  refine vv_iload (n := 25) dL_law_23 rfl 4 rfl ?_
  refine vv_aloadv_n (n := 26) isR_17 dL_law_25 rfl 0 rfl ?_
  refine vv_slen (n := 27) dL_law_26 rfl ?_
  refine vv_iconst (n := 28) (v := 5) dL_law_27 rfl (by decide) ?_
  refine vv_isub (n := 29) dL_law_28 rfl ?_
  refine vv_icmp_gt (tgt := 1684) (n := 32) dL_law_29 (by decide) rfl ?_ ?_
  · refine vv_iconst (n := 1685) (v := 1) dL_law_1684 rfl (by decide) ?_
    exact vv_zret1 dL_law_1685 rfl rfl
  · refine vv_aloadv_n (n := 33) isR_17 dL_law_32 rfl 0 rfl ?_
    refine vv_iload (n := 35) dL_law_33 rfl 4 rfl ?_
    refine vv_sld (n := 36) dL_law_35 rfl (fun v1 => ?_)
    refine vv_bipush (n := 38) (v := 63) dL_law_36 rfl (by decide) ?_
    refine vv_iand (n := 39) dL_law_38 rfl ?_
    refine vv_case (fun h0 => ?_) (fun h0 => ?_)
    · refine vv_tabC (c := 0) (tgt := 248) dL_law_39 h0 (by decide) (by decide) rfl (by decide) ?_
      refine vv_aload_n (n := 249) dL_law_248 rfl 1 rfl ?_
      refine vv_aloadv_n (n := 250) isR_17 dL_law_249 rfl 0 rfl ?_
      refine vv_iload (n := 252) dL_law_250 rfl 4 rfl ?_
      refine vv_iconst (n := 253) (v := 1) dL_law_252 rfl (by decide) ?_
      refine vv_iadd (n := 254) dL_law_253 rfl ?_
      refine vv_sld (n := 255) dL_law_254 rfl (fun v2 => ?_)
      refine k0_23 (n := 258) dL_law_255 rfl rfl rfl (fun v3 s4 => ?_)
      refine vv_aload_n (n := 259) dL_law_258 rfl 2 rfl ?_
      refine vv_aloadv_n (n := 260) isR_17 dL_law_259 rfl 0 rfl ?_
      refine vv_iload (n := 262) dL_law_260 rfl 4 rfl ?_
      refine vv_iconst (n := 263) (v := 1) dL_law_262 rfl (by decide) ?_
      refine vv_iadd (n := 264) dL_law_263 rfl ?_
      refine vv_sld (n := 265) dL_law_264 rfl (fun v5 => ?_)
      refine k0_27 (n := 268) dL_law_265 rfl rfl rfl (fun v6 s7 => ?_)
      refine vv_icmp_eq (tgt := 1678) (n := 271) dL_law_268 (by decide) rfl ?_ ?_
      · refine vv_iinc (n := 1681) (v := 5) (L' := [(4, .int (x4 + 5)), (0, .retAddr 17), (1, .ref 0), (2, .ref 45), (3, .ref 72)]) dL_law_1678 rfl 4 rfl (by decide) (Nat.le_of_ble_eq_true rfl) rfl ?_
        refine vv_goto (n := 23) dL_law_1681 (by decide) ?_
        exact VC.sub [1, 2, 3, 4, 0] rfl (hK23 s7 (x4 + 5))
      · refine vv_iconst (n := 272) (v := 0) dL_law_271 rfl (by decide) ?_
        exact vv_zret1 dL_law_272 rfl rfl
    refine vv_case (fun h1 => ?_) (fun h1 => ?_)
    · refine vv_tabC (c := 1) (tgt := 273) dL_law_39 h1 (by decide) (by decide) rfl (by decide) ?_
      refine vv_aload_n (n := 274) dL_law_273 rfl 1 rfl ?_
      refine vv_aloadv_n (n := 275) isR_17 dL_law_274 rfl 0 rfl ?_
      refine vv_iload (n := 277) dL_law_275 rfl 4 rfl ?_
      refine vv_iconst (n := 278) (v := 1) dL_law_277 rfl (by decide) ?_
      refine vv_iadd (n := 279) dL_law_278 rfl ?_
      refine vv_sld (n := 280) dL_law_279 rfl (fun v8 => ?_)
      refine k0_28 (n := 283) dL_law_280 rfl rfl rfl (fun v9 s10 => ?_)
      refine vv_aload_n (n := 284) dL_law_283 rfl 2 rfl ?_
      refine vv_aloadv_n (n := 285) isR_17 dL_law_284 rfl 0 rfl ?_
      refine vv_iload (n := 287) dL_law_285 rfl 4 rfl ?_
      refine vv_iconst (n := 288) (v := 1) dL_law_287 rfl (by decide) ?_
      refine vv_iadd (n := 289) dL_law_288 rfl ?_
      refine vv_sld (n := 290) dL_law_289 rfl (fun v11 => ?_)
      refine k0_32 (n := 293) dL_law_290 rfl rfl rfl (fun v12 s13 => ?_)
      refine vv_icmp_eq (tgt := 1678) (n := 296) dL_law_293 (by decide) rfl ?_ ?_
      · refine vv_iinc (n := 1681) (v := 5) (L' := [(4, .int (x4 + 5)), (0, .retAddr 17), (1, .ref 0), (2, .ref 45), (3, .ref 72)]) dL_law_1678 rfl 4 rfl (by decide) (Nat.le_of_ble_eq_true rfl) rfl ?_
        refine vv_goto (n := 23) dL_law_1681 (by decide) ?_
        exact VC.sub [1, 2, 3, 4, 0] rfl (hK23 s13 (x4 + 5))
      · refine vv_iconst (n := 297) (v := 0) dL_law_296 rfl (by decide) ?_
        exact vv_zret1 dL_law_297 rfl rfl
    refine vv_case (fun h2 => ?_) (fun h2 => ?_)
    · refine vv_tabC (c := 2) (tgt := 298) dL_law_39 h2 (by decide) (by decide) rfl (by decide) ?_
      refine vv_aload_n (n := 299) dL_law_298 rfl 1 rfl ?_
      refine k0_33 (n := 302) (fun h => ⟨(vlc trivial (vlc (sk0 h).2 (vlc (sk45 h).2 (vlc (sk72 h).2 (vlc trivial vl0))))), vs0⟩) dL_law_299 rfl rfl rfl (fun v14 s15 _ => ?_)
      refine vv_aload_n (n := 303) dL_law_302 rfl 2 rfl ?_
      refine k0_37 (n := 306) dL_law_303 rfl rfl rfl (fun v16 s17 => ?_)
      refine vv_icmp_eq (tgt := 1678) (n := 309) dL_law_306 (by decide) rfl ?_ ?_
      · refine vv_iinc (n := 1681) (v := 5) (L' := [(4, .int (x4 + 5)), (0, .retAddr 17), (1, .ref 0), (2, .ref 45), (3, .ref 72)]) dL_law_1678 rfl 4 rfl (by decide) (Nat.le_of_ble_eq_true rfl) rfl ?_
        refine vv_goto (n := 23) dL_law_1681 (by decide) ?_
        exact VC.sub [1, 2, 3, 4, 0] rfl (hK23 s17 (x4 + 5))
      · refine vv_iconst (n := 310) (v := 0) dL_law_309 rfl (by decide) ?_
        exact vv_zret1 dL_law_310 rfl rfl
    refine vv_case (fun h3 => ?_) (fun h3 => ?_)
    · refine vv_tabC (c := 3) (tgt := 311) dL_law_39 h3 (by decide) (by decide) rfl (by decide) ?_
      refine vv_aload_n (n := 312) dL_law_311 rfl 1 rfl ?_
      refine k0_38 (n := 315) (fun h => ⟨(vlc trivial (vlc (sk0 h).2 (vlc (sk45 h).2 (vlc (sk72 h).2 (vlc trivial vl0))))), vs0⟩) dL_law_312 rfl rfl rfl (fun v18 s19 _ => ?_)
      refine vv_aload_n (n := 316) dL_law_315 rfl 2 rfl ?_
      refine k0_41 (n := 319) dL_law_316 rfl rfl rfl (fun v20 s21 => ?_)
      refine vv_icmp_eq (tgt := 1678) (n := 322) dL_law_319 (by decide) rfl ?_ ?_
      · refine vv_iinc (n := 1681) (v := 5) (L' := [(4, .int (x4 + 5)), (0, .retAddr 17), (1, .ref 0), (2, .ref 45), (3, .ref 72)]) dL_law_1678 rfl 4 rfl (by decide) (Nat.le_of_ble_eq_true rfl) rfl ?_
        refine vv_goto (n := 23) dL_law_1681 (by decide) ?_
        exact VC.sub [1, 2, 3, 4, 0] rfl (hK23 s21 (x4 + 5))
      · refine vv_iconst (n := 323) (v := 0) dL_law_322 rfl (by decide) ?_
        exact vv_zret1 dL_law_323 rfl rfl
    refine vv_case (fun h4 => ?_) (fun h4 => ?_)
    · refine vv_tabC (c := 4) (tgt := 324) dL_law_39 h4 (by decide) (by decide) rfl (by decide) ?_
      refine vv_aload_n (n := 325) dL_law_324 rfl 1 rfl ?_
      refine vv_aloadv_n (n := 326) isR_17 dL_law_325 rfl 0 rfl ?_
      refine vv_iload (n := 328) dL_law_326 rfl 4 rfl ?_
      refine vv_iconst (n := 329) (v := 1) dL_law_328 rfl (by decide) ?_
      refine vv_iadd (n := 330) dL_law_329 rfl ?_
      refine vv_sld (n := 331) dL_law_330 rfl (fun v22 => ?_)
      refine vv_aloadv_n (n := 332) isR_17 dL_law_331 rfl 0 rfl ?_
      refine vv_iload (n := 334) dL_law_332 rfl 4 rfl ?_
      refine vv_iconst (n := 335) (v := 2) dL_law_334 rfl (by decide) ?_
      refine vv_iadd (n := 336) dL_law_335 rfl ?_
      refine vv_sld (n := 337) dL_law_336 rfl (fun v23 => ?_)
      refine vv_aload_n (n := 338) dL_law_337 rfl 3 rfl ?_
      refine vv_callH (n := 341) (ar := 4) (rest := []) (con_L_lake l s v22 v23) dL_law_338 rfl rfl (by decide) ⟨by decide, by decide⟩ (lw_SW q1011 q1012 q96 q1013) rfl (by decide +kernel) (fun v24 s25 => ?_)
      refine vv_istore (n := 343) (L' := [(5, .int v24), (0, .retAddr 17), (1, .ref 0), (2, .ref 45), (3, .ref 72), (4, .int x4)]) dL_law_341 rfl (Nat.le_of_ble_eq_true rfl) rfl ?_
      refine vv_aload_n (n := 344) dL_law_343 rfl 3 rfl ?_
      refine vv_aloadv_n (n := 345) isR_17 dL_law_344 rfl 1 rfl ?_
      refine vv_iload (n := 347) dL_law_345 rfl 5 rfl ?_
      refine vv_iconst (n := 348) (v := 1) dL_law_347 rfl (by decide) ?_
      refine vv_iadd (n := 349) dL_law_348 rfl ?_
      refine vv_sld (n := 350) dL_law_349 rfl (fun v26 => ?_)
      refine vv_aloadv_n (n := 351) isR_17 dL_law_350 rfl 1 rfl ?_
      refine vv_iload (n := 353) dL_law_351 rfl 5 rfl ?_
      refine vv_iconst (n := 354) (v := 2) dL_law_353 rfl (by decide) ?_
      refine vv_iadd (n := 355) dL_law_354 rfl ?_
      refine vv_sld (n := 356) dL_law_355 rfl (fun v27 => ?_)
      refine k0_47 (n := 359) dL_law_356 rfl rfl rfl (fun v28 s29 => ?_)
      refine vv_istore (n := 361) (L' := [(6, .int v28), (5, .int v24), (0, .retAddr 17), (1, .ref 0), (2, .ref 45), (3, .ref 72), (4, .int x4)]) dL_law_359 rfl (Nat.le_of_ble_eq_true rfl) rfl ?_
      refine vv_aload_n (n := 362) dL_law_361 rfl 4 rfl ?_
      refine k0_48 (n := 365) dL_law_362 rfl rfl rfl (fun v30 => ?_)
      refine vv_iload (n := 367) dL_law_365 rfl 1 rfl ?_
      refine vv_icmp_eq (tgt := 372) (n := 370) dL_law_367 (by decide) rfl ?_ ?_
      · refine vv_iload (n := 374) dL_law_372 rfl 1 rfl ?_
        refine vv_if_ne (tgt := 389) (n := 377) dL_law_374 (by decide) rfl ?_ ?_
        · refine vv_goto (n := 1678) dL_law_389 (by decide) ?_
          refine vv_iinc (n := 1681) (v := 5) (L' := [(4, .int (x4 + 5)), (6, .int v28), (5, .int v24), (0, .retAddr 17), (1, .ref 0), (2, .ref 45), (3, .ref 72)]) dL_law_1678 rfl 6 rfl (by decide) (Nat.le_of_ble_eq_true rfl) rfl ?_
          refine vv_goto (n := 23) dL_law_1681 (by decide) ?_
          exact VC.sub [3, 4, 5, 6, 0] rfl (hK23 s29 (x4 + 5))
        · refine vv_aload_n (n := 378) dL_law_377 rfl 5 rfl ?_
          refine vv_iconst (n := 379) (v := 0) dL_law_378 rfl (by decide) ?_
          refine vv_lald (n := 380) sk72 dL_law_379 rfl (fun v31 => ?_)
          refine vv_iload (n := 382) dL_law_380 rfl 0 rfl ?_
          refine vv_i2l (n := 383) dL_law_382 rfl ?_
          refine vv_lcmp (n := 384) dL_law_383 rfl ?_
          refine vv_if_eq (tgt := 389) (n := 387) dL_law_384 (by decide) rfl ?_ ?_
          · refine vv_goto (n := 1678) dL_law_389 (by decide) ?_
            refine vv_iinc (n := 1681) (v := 5) (L' := [(4, .int (x4 + 5)), (6, .int v28), (5, .int v24), (0, .retAddr 17), (1, .ref 0), (2, .ref 45), (3, .ref 72)]) dL_law_1678 rfl 6 rfl (by decide) (Nat.le_of_ble_eq_true rfl) rfl ?_
            refine vv_goto (n := 23) dL_law_1681 (by decide) ?_
            exact VC.sub [3, 4, 5, 6, 0] rfl (hK23 s29 (x4 + 5))
          · refine vv_iconst (n := 388) (v := 0) dL_law_387 rfl (by decide) ?_
            exact vv_zret1 dL_law_388 rfl rfl
      · refine vv_iconst (n := 371) (v := 0) dL_law_370 rfl (by decide) ?_
        exact vv_zret1 dL_law_371 rfl rfl
    refine vv_case (fun h5 => ?_) (fun h5 => ?_)
    · refine vv_tabC (c := 5) (tgt := 392) dL_law_39 h5 (by decide) (by decide) rfl (by decide) ?_
      refine vv_aload_n (n := 393) dL_law_392 rfl 1 rfl ?_
      refine vv_aloadv_n (n := 394) isR_17 dL_law_393 rfl 0 rfl ?_
      refine vv_iload (n := 396) dL_law_394 rfl 4 rfl ?_
      refine vv_iconst (n := 397) (v := 1) dL_law_396 rfl (by decide) ?_
      refine vv_iadd (n := 398) dL_law_397 rfl ?_
      refine vv_sld (n := 399) dL_law_398 rfl (fun v32 => ?_)
      refine vv_aloadv_n (n := 400) isR_17 dL_law_399 rfl 0 rfl ?_
      refine vv_iload (n := 402) dL_law_400 rfl 4 rfl ?_
      refine vv_iconst (n := 403) (v := 2) dL_law_402 rfl (by decide) ?_
      refine vv_iadd (n := 404) dL_law_403 rfl ?_
      refine vv_sld (n := 405) dL_law_404 rfl (fun v33 => ?_)
      refine vv_aloadv_n (n := 406) isR_17 dL_law_405 rfl 0 rfl ?_
      refine vv_iload (n := 408) dL_law_406 rfl 4 rfl ?_
      refine vv_iconst (n := 409) (v := 3) dL_law_408 rfl (by decide) ?_
      refine vv_iadd (n := 410) dL_law_409 rfl ?_
      refine vv_sld (n := 411) dL_law_410 rfl (fun v34 => ?_)
      refine vv_aloadv_n (n := 412) isR_17 dL_law_411 rfl 0 rfl ?_
      refine vv_iload (n := 414) dL_law_412 rfl 4 rfl ?_
      refine vv_iconst (n := 415) (v := 4) dL_law_414 rfl (by decide) ?_
      refine vv_iadd (n := 416) dL_law_415 rfl ?_
      refine vv_sld (n := 417) dL_law_416 rfl (fun v35 => ?_)
      refine k0_51 (n := 420) dL_law_417 rfl rfl rfl (fun v36 s37 => ?_)
      refine vv_aload_n (n := 421) dL_law_420 rfl 2 rfl ?_
      refine vv_aloadv_n (n := 422) isR_17 dL_law_421 rfl 0 rfl ?_
      refine vv_iload (n := 424) dL_law_422 rfl 4 rfl ?_
      refine vv_iconst (n := 425) (v := 1) dL_law_424 rfl (by decide) ?_
      refine vv_iadd (n := 426) dL_law_425 rfl ?_
      refine vv_sld (n := 427) dL_law_426 rfl (fun v38 => ?_)
      refine vv_aloadv_n (n := 428) isR_17 dL_law_427 rfl 0 rfl ?_
      refine vv_iload (n := 430) dL_law_428 rfl 4 rfl ?_
      refine vv_iconst (n := 431) (v := 2) dL_law_430 rfl (by decide) ?_
      refine vv_iadd (n := 432) dL_law_431 rfl ?_
      refine vv_sld (n := 433) dL_law_432 rfl (fun v39 => ?_)
      refine vv_aloadv_n (n := 434) isR_17 dL_law_433 rfl 0 rfl ?_
      refine vv_iload (n := 436) dL_law_434 rfl 4 rfl ?_
      refine vv_iconst (n := 437) (v := 3) dL_law_436 rfl (by decide) ?_
      refine vv_iadd (n := 438) dL_law_437 rfl ?_
      refine vv_sld (n := 439) dL_law_438 rfl (fun v40 => ?_)
      refine vv_aloadv_n (n := 440) isR_17 dL_law_439 rfl 0 rfl ?_
      refine vv_iload (n := 442) dL_law_440 rfl 4 rfl ?_
      refine vv_iconst (n := 443) (v := 4) dL_law_442 rfl (by decide) ?_
      refine vv_iadd (n := 444) dL_law_443 rfl ?_
      refine vv_sld (n := 445) dL_law_444 rfl (fun v41 => ?_)
      refine k0_55 (n := 448) dL_law_445 rfl rfl rfl (fun v42 s43 => ?_)
      refine vv_icmp_eq (tgt := 1678) (n := 451) dL_law_448 (by decide) rfl ?_ ?_
      · refine vv_iinc (n := 1681) (v := 5) (L' := [(4, .int (x4 + 5)), (0, .retAddr 17), (1, .ref 0), (2, .ref 45), (3, .ref 72)]) dL_law_1678 rfl 4 rfl (by decide) (Nat.le_of_ble_eq_true rfl) rfl ?_
        refine vv_goto (n := 23) dL_law_1681 (by decide) ?_
        exact VC.sub [1, 2, 3, 4, 0] rfl (hK23 s43 (x4 + 5))
      · refine vv_iconst (n := 452) (v := 0) dL_law_451 rfl (by decide) ?_
        exact vv_zret1 dL_law_452 rfl rfl
    refine vv_case (fun h6 => ?_) (fun h6 => ?_)
    · refine vv_tabC (c := 6) (tgt := 453) dL_law_39 h6 (by decide) (by decide) rfl (by decide) ?_
      refine vv_aload_n (n := 454) dL_law_453 rfl 1 rfl ?_
      refine vv_aloadv_n (n := 455) isR_17 dL_law_454 rfl 0 rfl ?_
      refine vv_iload (n := 457) dL_law_455 rfl 4 rfl ?_
      refine vv_iconst (n := 458) (v := 1) dL_law_457 rfl (by decide) ?_
      refine vv_iadd (n := 459) dL_law_458 rfl ?_
      refine vv_sld (n := 460) dL_law_459 rfl (fun v44 => ?_)
      refine k0_56 (n := 463) (fun h => ⟨(vlc trivial (vlc (sk0 h).2 (vlc (sk45 h).2 (vlc (sk72 h).2 (vlc trivial vl0))))), vs0⟩) dL_law_460 rfl rfl rfl (fun v45 s46 _ => ?_)
      refine vv_aload_n (n := 464) dL_law_463 rfl 2 rfl ?_
      refine vv_aloadv_n (n := 465) isR_17 dL_law_464 rfl 0 rfl ?_
      refine vv_iload (n := 467) dL_law_465 rfl 4 rfl ?_
      refine vv_iconst (n := 468) (v := 1) dL_law_467 rfl (by decide) ?_
      refine vv_iadd (n := 469) dL_law_468 rfl ?_
      refine vv_sld (n := 470) dL_law_469 rfl (fun v47 => ?_)
      refine k0_59 (n := 473) dL_law_470 rfl rfl rfl (fun v48 s49 => ?_)
      refine vv_icmp_eq (tgt := 1678) (n := 476) dL_law_473 (by decide) rfl ?_ ?_
      · refine vv_iinc (n := 1681) (v := 5) (L' := [(4, .int (x4 + 5)), (0, .retAddr 17), (1, .ref 0), (2, .ref 45), (3, .ref 72)]) dL_law_1678 rfl 4 rfl (by decide) (Nat.le_of_ble_eq_true rfl) rfl ?_
        refine vv_goto (n := 23) dL_law_1681 (by decide) ?_
        exact VC.sub [1, 2, 3, 4, 0] rfl (hK23 s49 (x4 + 5))
      · refine vv_iconst (n := 477) (v := 0) dL_law_476 rfl (by decide) ?_
        exact vv_zret1 dL_law_477 rfl rfl
    refine vv_case (fun h7 => ?_) (fun h7 => ?_)
    · refine vv_tabC (c := 7) (tgt := 478) dL_law_39 h7 (by decide) (by decide) rfl (by decide) ?_
      refine vv_aload_n (n := 479) dL_law_478 rfl 1 rfl ?_
      refine vv_aloadv_n (n := 480) isR_17 dL_law_479 rfl 0 rfl ?_
      refine vv_iload (n := 482) dL_law_480 rfl 4 rfl ?_
      refine vv_iconst (n := 483) (v := 1) dL_law_482 rfl (by decide) ?_
      refine vv_iadd (n := 484) dL_law_483 rfl ?_
      refine vv_sld (n := 485) dL_law_484 rfl (fun v50 => ?_)
      refine k0_60 (n := 488) (fun h => ⟨(vlc trivial (vlc (sk0 h).2 (vlc (sk45 h).2 (vlc (sk72 h).2 (vlc trivial vl0))))), vs0⟩) dL_law_485 rfl rfl rfl (fun v51 s52 _ => ?_)
      refine vv_aload_n (n := 489) dL_law_488 rfl 2 rfl ?_
      refine vv_aloadv_n (n := 490) isR_17 dL_law_489 rfl 0 rfl ?_
      refine vv_iload (n := 492) dL_law_490 rfl 4 rfl ?_
      refine vv_iconst (n := 493) (v := 1) dL_law_492 rfl (by decide) ?_
      refine vv_iadd (n := 494) dL_law_493 rfl ?_
      refine vv_sld (n := 495) dL_law_494 rfl (fun v53 => ?_)
      refine k0_63 (n := 498) dL_law_495 rfl rfl rfl (fun v54 s55 => ?_)
      refine vv_icmp_eq (tgt := 1678) (n := 501) dL_law_498 (by decide) rfl ?_ ?_
      · refine vv_iinc (n := 1681) (v := 5) (L' := [(4, .int (x4 + 5)), (0, .retAddr 17), (1, .ref 0), (2, .ref 45), (3, .ref 72)]) dL_law_1678 rfl 4 rfl (by decide) (Nat.le_of_ble_eq_true rfl) rfl ?_
        refine vv_goto (n := 23) dL_law_1681 (by decide) ?_
        exact VC.sub [1, 2, 3, 4, 0] rfl (hK23 s55 (x4 + 5))
      · refine vv_iconst (n := 502) (v := 0) dL_law_501 rfl (by decide) ?_
        exact vv_zret1 dL_law_502 rfl rfl
    refine vv_case (fun h8 => ?_) (fun h8 => ?_)
    · refine vv_tabC (c := 8) (tgt := 503) dL_law_39 h8 (by decide) (by decide) rfl (by decide) ?_
      refine vv_aload_n (n := 504) dL_law_503 rfl 1 rfl ?_
      refine vv_aloadv_n (n := 505) isR_17 dL_law_504 rfl 0 rfl ?_
      refine vv_iload (n := 507) dL_law_505 rfl 4 rfl ?_
      refine vv_iconst (n := 508) (v := 1) dL_law_507 rfl (by decide) ?_
      refine vv_iadd (n := 509) dL_law_508 rfl ?_
      refine vv_sld (n := 510) dL_law_509 rfl (fun v56 => ?_)
      refine k0_64 (n := 513) (fun h => ⟨(vlc trivial (vlc (sk0 h).2 (vlc (sk45 h).2 (vlc (sk72 h).2 (vlc trivial vl0))))), vs0⟩) dL_law_510 rfl rfl rfl (fun v57 s58 _ => ?_)
      refine vv_aload_n (n := 514) dL_law_513 rfl 2 rfl ?_
      refine vv_aloadv_n (n := 515) isR_17 dL_law_514 rfl 0 rfl ?_
      refine vv_iload (n := 517) dL_law_515 rfl 4 rfl ?_
      refine vv_iconst (n := 518) (v := 1) dL_law_517 rfl (by decide) ?_
      refine vv_iadd (n := 519) dL_law_518 rfl ?_
      refine vv_sld (n := 520) dL_law_519 rfl (fun v59 => ?_)
      refine k0_67 (n := 523) dL_law_520 rfl rfl rfl (fun v60 s61 => ?_)
      refine vv_icmp_eq (tgt := 1678) (n := 526) dL_law_523 (by decide) rfl ?_ ?_
      · refine vv_iinc (n := 1681) (v := 5) (L' := [(4, .int (x4 + 5)), (0, .retAddr 17), (1, .ref 0), (2, .ref 45), (3, .ref 72)]) dL_law_1678 rfl 4 rfl (by decide) (Nat.le_of_ble_eq_true rfl) rfl ?_
        refine vv_goto (n := 23) dL_law_1681 (by decide) ?_
        exact VC.sub [1, 2, 3, 4, 0] rfl (hK23 s61 (x4 + 5))
      · refine vv_iconst (n := 527) (v := 0) dL_law_526 rfl (by decide) ?_
        exact vv_zret1 dL_law_527 rfl rfl
    refine vv_case (fun h9 => ?_) (fun h9 => ?_)
    · refine vv_tabC (c := 9) (tgt := 528) dL_law_39 h9 (by decide) (by decide) rfl (by decide) ?_
      refine vv_aload_n (n := 529) dL_law_528 rfl 1 rfl ?_
      refine vv_aloadv_n (n := 530) isR_17 dL_law_529 rfl 0 rfl ?_
      refine vv_iload (n := 532) dL_law_530 rfl 4 rfl ?_
      refine vv_iconst (n := 533) (v := 1) dL_law_532 rfl (by decide) ?_
      refine vv_iadd (n := 534) dL_law_533 rfl ?_
      refine vv_sld (n := 535) dL_law_534 rfl (fun v62 => ?_)
      refine k0_68 (n := 538) (fun h => ⟨(vlc trivial (vlc (sk0 h).2 (vlc (sk45 h).2 (vlc (sk72 h).2 (vlc trivial vl0))))), vs0⟩) dL_law_535 rfl rfl rfl (fun v63 s64 _ => ?_)
      refine vv_aload_n (n := 539) dL_law_538 rfl 2 rfl ?_
      refine vv_aloadv_n (n := 540) isR_17 dL_law_539 rfl 0 rfl ?_
      refine vv_iload (n := 542) dL_law_540 rfl 4 rfl ?_
      refine vv_iconst (n := 543) (v := 1) dL_law_542 rfl (by decide) ?_
      refine vv_iadd (n := 544) dL_law_543 rfl ?_
      refine vv_sld (n := 545) dL_law_544 rfl (fun v65 => ?_)
      refine k0_71 (n := 548) dL_law_545 rfl rfl rfl (fun v66 s67 => ?_)
      refine vv_icmp_eq (tgt := 1678) (n := 551) dL_law_548 (by decide) rfl ?_ ?_
      · refine vv_iinc (n := 1681) (v := 5) (L' := [(4, .int (x4 + 5)), (0, .retAddr 17), (1, .ref 0), (2, .ref 45), (3, .ref 72)]) dL_law_1678 rfl 4 rfl (by decide) (Nat.le_of_ble_eq_true rfl) rfl ?_
        refine vv_goto (n := 23) dL_law_1681 (by decide) ?_
        exact VC.sub [1, 2, 3, 4, 0] rfl (hK23 s67 (x4 + 5))
      · refine vv_iconst (n := 552) (v := 0) dL_law_551 rfl (by decide) ?_
        exact vv_zret1 dL_law_552 rfl rfl
    refine vv_case (fun h10 => ?_) (fun h10 => ?_)
    · refine vv_tabC (c := 10) (tgt := 553) dL_law_39 h10 (by decide) (by decide) rfl (by decide) ?_
      refine vv_aload_n (n := 554) dL_law_553 rfl 1 rfl ?_
      refine vv_aloadv_n (n := 555) isR_17 dL_law_554 rfl 0 rfl ?_
      refine vv_iload (n := 557) dL_law_555 rfl 4 rfl ?_
      refine vv_iconst (n := 558) (v := 1) dL_law_557 rfl (by decide) ?_
      refine vv_iadd (n := 559) dL_law_558 rfl ?_
      refine vv_sld (n := 560) dL_law_559 rfl (fun v68 => ?_)
      refine vv_aloadv_n (n := 561) isR_17 dL_law_560 rfl 0 rfl ?_
      refine vv_iload (n := 563) dL_law_561 rfl 4 rfl ?_
      refine vv_iconst (n := 564) (v := 2) dL_law_563 rfl (by decide) ?_
      refine vv_iadd (n := 565) dL_law_564 rfl ?_
      refine vv_sld (n := 566) dL_law_565 rfl (fun v69 => ?_)
      refine k0_72 (n := 569) (fun h => ⟨(vlc trivial (vlc (sk0 h).2 (vlc (sk45 h).2 (vlc (sk72 h).2 (vlc trivial vl0))))), vs0⟩) dL_law_566 rfl rfl rfl (fun v70 s71 _ => ?_)
      refine vv_aload_n (n := 570) dL_law_569 rfl 2 rfl ?_
      refine vv_aloadv_n (n := 571) isR_17 dL_law_570 rfl 0 rfl ?_
      refine vv_iload (n := 573) dL_law_571 rfl 4 rfl ?_
      refine vv_iconst (n := 574) (v := 1) dL_law_573 rfl (by decide) ?_
      refine vv_iadd (n := 575) dL_law_574 rfl ?_
      refine vv_sld (n := 576) dL_law_575 rfl (fun v72 => ?_)
      refine vv_aloadv_n (n := 577) isR_17 dL_law_576 rfl 0 rfl ?_
      refine vv_iload (n := 579) dL_law_577 rfl 4 rfl ?_
      refine vv_iconst (n := 580) (v := 2) dL_law_579 rfl (by decide) ?_
      refine vv_iadd (n := 581) dL_law_580 rfl ?_
      refine vv_sld (n := 582) dL_law_581 rfl (fun v73 => ?_)
      refine k0_75 (n := 585) dL_law_582 rfl rfl rfl (fun v74 s75 => ?_)
      refine vv_icmp_eq (tgt := 1678) (n := 588) dL_law_585 (by decide) rfl ?_ ?_
      · refine vv_iinc (n := 1681) (v := 5) (L' := [(4, .int (x4 + 5)), (0, .retAddr 17), (1, .ref 0), (2, .ref 45), (3, .ref 72)]) dL_law_1678 rfl 4 rfl (by decide) (Nat.le_of_ble_eq_true rfl) rfl ?_
        refine vv_goto (n := 23) dL_law_1681 (by decide) ?_
        exact VC.sub [1, 2, 3, 4, 0] rfl (hK23 s75 (x4 + 5))
      · refine vv_iconst (n := 589) (v := 0) dL_law_588 rfl (by decide) ?_
        exact vv_zret1 dL_law_589 rfl rfl
    refine vv_case (fun h11 => ?_) (fun h11 => ?_)
    · refine vv_tabC (c := 11) (tgt := 590) dL_law_39 h11 (by decide) (by decide) rfl (by decide) ?_
      refine vv_aload_n (n := 591) dL_law_590 rfl 1 rfl ?_
      refine vv_aloadv_n (n := 592) isR_17 dL_law_591 rfl 0 rfl ?_
      refine vv_iload (n := 594) dL_law_592 rfl 4 rfl ?_
      refine vv_iconst (n := 595) (v := 1) dL_law_594 rfl (by decide) ?_
      refine vv_iadd (n := 596) dL_law_595 rfl ?_
      refine vv_sld (n := 597) dL_law_596 rfl (fun v76 => ?_)
      refine vv_aloadv_n (n := 598) isR_17 dL_law_597 rfl 0 rfl ?_
      refine vv_iload (n := 600) dL_law_598 rfl 4 rfl ?_
      refine vv_iconst (n := 601) (v := 2) dL_law_600 rfl (by decide) ?_
      refine vv_iadd (n := 602) dL_law_601 rfl ?_
      refine vv_sld (n := 603) dL_law_602 rfl (fun v77 => ?_)
      refine k0_76 (n := 606) (fun h => ⟨(vlc trivial (vlc (sk0 h).2 (vlc (sk45 h).2 (vlc (sk72 h).2 (vlc trivial vl0))))), vs0⟩) dL_law_603 rfl rfl rfl (fun v78 s79 _ => ?_)
      refine vv_aload_n (n := 607) dL_law_606 rfl 2 rfl ?_
      refine vv_aloadv_n (n := 608) isR_17 dL_law_607 rfl 0 rfl ?_
      refine vv_iload (n := 610) dL_law_608 rfl 4 rfl ?_
      refine vv_iconst (n := 611) (v := 1) dL_law_610 rfl (by decide) ?_
      refine vv_iadd (n := 612) dL_law_611 rfl ?_
      refine vv_sld (n := 613) dL_law_612 rfl (fun v80 => ?_)
      refine vv_aloadv_n (n := 614) isR_17 dL_law_613 rfl 0 rfl ?_
      refine vv_iload (n := 616) dL_law_614 rfl 4 rfl ?_
      refine vv_iconst (n := 617) (v := 2) dL_law_616 rfl (by decide) ?_
      refine vv_iadd (n := 618) dL_law_617 rfl ?_
      refine vv_sld (n := 619) dL_law_618 rfl (fun v81 => ?_)
      refine k0_79 (n := 622) dL_law_619 rfl rfl rfl (fun v82 s83 => ?_)
      refine vv_icmp_eq (tgt := 1678) (n := 625) dL_law_622 (by decide) rfl ?_ ?_
      · refine vv_iinc (n := 1681) (v := 5) (L' := [(4, .int (x4 + 5)), (0, .retAddr 17), (1, .ref 0), (2, .ref 45), (3, .ref 72)]) dL_law_1678 rfl 4 rfl (by decide) (Nat.le_of_ble_eq_true rfl) rfl ?_
        refine vv_goto (n := 23) dL_law_1681 (by decide) ?_
        exact VC.sub [1, 2, 3, 4, 0] rfl (hK23 s83 (x4 + 5))
      · refine vv_iconst (n := 626) (v := 0) dL_law_625 rfl (by decide) ?_
        exact vv_zret1 dL_law_626 rfl rfl
    refine vv_case (fun h12 => ?_) (fun h12 => ?_)
    · refine vv_tabC (c := 12) (tgt := 627) dL_law_39 h12 (by decide) (by decide) rfl (by decide) ?_
      refine vv_aload_n (n := 628) dL_law_627 rfl 1 rfl ?_
      refine k0_80 (n := 631) (fun h => ⟨(vlc trivial (vlc (sk0 h).2 (vlc (sk45 h).2 (vlc (sk72 h).2 (vlc trivial vl0))))), vs0⟩) dL_law_628 rfl rfl rfl (fun v84 s85 _ => ?_)
      refine vv_aload_n (n := 632) dL_law_631 rfl 2 rfl ?_
      refine k0_83 (n := 635) dL_law_632 rfl rfl rfl (fun v86 s87 => ?_)
      refine vv_icmp_eq (tgt := 1678) (n := 638) dL_law_635 (by decide) rfl ?_ ?_
      · refine vv_iinc (n := 1681) (v := 5) (L' := [(4, .int (x4 + 5)), (0, .retAddr 17), (1, .ref 0), (2, .ref 45), (3, .ref 72)]) dL_law_1678 rfl 4 rfl (by decide) (Nat.le_of_ble_eq_true rfl) rfl ?_
        refine vv_goto (n := 23) dL_law_1681 (by decide) ?_
        exact VC.sub [1, 2, 3, 4, 0] rfl (hK23 s87 (x4 + 5))
      · refine vv_iconst (n := 639) (v := 0) dL_law_638 rfl (by decide) ?_
        exact vv_zret1 dL_law_639 rfl rfl
    refine vv_case (fun h13 => ?_) (fun h13 => ?_)
    · refine vv_tabC (c := 13) (tgt := 640) dL_law_39 h13 (by decide) (by decide) rfl (by decide) ?_
      refine vv_aload_n (n := 641) dL_law_640 rfl 1 rfl ?_
      refine k0_84 (n := 644) dL_law_641 rfl rfl rfl (fun v88 s89 => ?_)
      refine vv_aload_n (n := 645) dL_law_644 rfl 2 rfl ?_
      refine k0_87 (n := 648) dL_law_645 rfl rfl rfl (fun v90 s91 => ?_)
      refine vv_icmp_eq (tgt := 1678) (n := 651) dL_law_648 (by decide) rfl ?_ ?_
      · refine vv_iinc (n := 1681) (v := 5) (L' := [(4, .int (x4 + 5)), (0, .retAddr 17), (1, .ref 0), (2, .ref 45), (3, .ref 72)]) dL_law_1678 rfl 4 rfl (by decide) (Nat.le_of_ble_eq_true rfl) rfl ?_
        refine vv_goto (n := 23) dL_law_1681 (by decide) ?_
        exact VC.sub [1, 2, 3, 4, 0] rfl (hK23 s91 (x4 + 5))
      · refine vv_iconst (n := 652) (v := 0) dL_law_651 rfl (by decide) ?_
        exact vv_zret1 dL_law_652 rfl rfl
    refine vv_case (fun h14 => ?_) (fun h14 => ?_)
    · refine vv_tabC (c := 14) (tgt := 653) dL_law_39 h14 (by decide) (by decide) rfl (by decide) ?_
      refine vv_aload_n (n := 654) dL_law_653 rfl 1 rfl ?_
      refine vv_aloadv_n (n := 655) isR_17 dL_law_654 rfl 0 rfl ?_
      refine vv_iload (n := 657) dL_law_655 rfl 4 rfl ?_
      refine vv_iconst (n := 658) (v := 1) dL_law_657 rfl (by decide) ?_
      refine vv_iadd (n := 659) dL_law_658 rfl ?_
      refine vv_sld (n := 660) dL_law_659 rfl (fun v92 => ?_)
      refine vv_aloadv_n (n := 661) isR_17 dL_law_660 rfl 0 rfl ?_
      refine vv_iload (n := 663) dL_law_661 rfl 4 rfl ?_
      refine vv_iconst (n := 664) (v := 2) dL_law_663 rfl (by decide) ?_
      refine vv_iadd (n := 665) dL_law_664 rfl ?_
      refine vv_sld (n := 666) dL_law_665 rfl (fun v93 => ?_)
      refine k0_88 (n := 669) dL_law_666 rfl rfl rfl (fun v94 s95 => ?_)
      refine vv_aload_n (n := 670) dL_law_669 rfl 2 rfl ?_
      refine vv_aloadv_n (n := 671) isR_17 dL_law_670 rfl 0 rfl ?_
      refine vv_iload (n := 673) dL_law_671 rfl 4 rfl ?_
      refine vv_iconst (n := 674) (v := 1) dL_law_673 rfl (by decide) ?_
      refine vv_iadd (n := 675) dL_law_674 rfl ?_
      refine vv_sld (n := 676) dL_law_675 rfl (fun v96 => ?_)
      refine vv_aloadv_n (n := 677) isR_17 dL_law_676 rfl 0 rfl ?_
      refine vv_iload (n := 679) dL_law_677 rfl 4 rfl ?_
      refine vv_iconst (n := 680) (v := 2) dL_law_679 rfl (by decide) ?_
      refine vv_iadd (n := 681) dL_law_680 rfl ?_
      refine vv_sld (n := 682) dL_law_681 rfl (fun v97 => ?_)
      refine k0_91 (n := 685) dL_law_682 rfl rfl rfl (fun v98 s99 => ?_)
      refine vv_icmp_eq (tgt := 1678) (n := 688) dL_law_685 (by decide) rfl ?_ ?_
      · refine vv_iinc (n := 1681) (v := 5) (L' := [(4, .int (x4 + 5)), (0, .retAddr 17), (1, .ref 0), (2, .ref 45), (3, .ref 72)]) dL_law_1678 rfl 4 rfl (by decide) (Nat.le_of_ble_eq_true rfl) rfl ?_
        refine vv_goto (n := 23) dL_law_1681 (by decide) ?_
        exact VC.sub [1, 2, 3, 4, 0] rfl (hK23 s99 (x4 + 5))
      · refine vv_iconst (n := 689) (v := 0) dL_law_688 rfl (by decide) ?_
        exact vv_zret1 dL_law_689 rfl rfl
    refine vv_case (fun h15 => ?_) (fun h15 => ?_)
    · refine vv_tabC (c := 15) (tgt := 690) dL_law_39 h15 (by decide) (by decide) rfl (by decide) ?_
      refine vv_aload_n (n := 691) dL_law_690 rfl 1 rfl ?_
      refine vv_aloadv_n (n := 692) isR_17 dL_law_691 rfl 0 rfl ?_
      refine vv_iload (n := 694) dL_law_692 rfl 4 rfl ?_
      refine vv_iconst (n := 695) (v := 1) dL_law_694 rfl (by decide) ?_
      refine vv_iadd (n := 696) dL_law_695 rfl ?_
      refine vv_sld (n := 697) dL_law_696 rfl (fun v100 => ?_)
      refine k0_92 (n := 700) dL_law_697 rfl rfl rfl (fun v101 s102 => ?_)
      refine vv_aload_n (n := 701) dL_law_700 rfl 2 rfl ?_
      refine vv_aloadv_n (n := 702) isR_17 dL_law_701 rfl 0 rfl ?_
      refine vv_iload (n := 704) dL_law_702 rfl 4 rfl ?_
      refine vv_iconst (n := 705) (v := 1) dL_law_704 rfl (by decide) ?_
      refine vv_iadd (n := 706) dL_law_705 rfl ?_
      refine vv_sld (n := 707) dL_law_706 rfl (fun v103 => ?_)
      refine k0_95 (n := 710) dL_law_707 rfl rfl rfl (fun v104 s105 => ?_)
      refine vv_icmp_eq (tgt := 1678) (n := 713) dL_law_710 (by decide) rfl ?_ ?_
      · refine vv_iinc (n := 1681) (v := 5) (L' := [(4, .int (x4 + 5)), (0, .retAddr 17), (1, .ref 0), (2, .ref 45), (3, .ref 72)]) dL_law_1678 rfl 4 rfl (by decide) (Nat.le_of_ble_eq_true rfl) rfl ?_
        refine vv_goto (n := 23) dL_law_1681 (by decide) ?_
        exact VC.sub [1, 2, 3, 4, 0] rfl (hK23 s105 (x4 + 5))
      · refine vv_iconst (n := 714) (v := 0) dL_law_713 rfl (by decide) ?_
        exact vv_zret1 dL_law_714 rfl rfl
    refine vv_case (fun h16 => ?_) (fun h16 => ?_)
    · refine vv_tabC (c := 16) (tgt := 715) dL_law_39 h16 (by decide) (by decide) rfl (by decide) ?_
      refine vv_aload_n (n := 716) dL_law_715 rfl 1 rfl ?_
      refine vv_aloadv_n (n := 717) isR_17 dL_law_716 rfl 0 rfl ?_
      refine vv_iload (n := 719) dL_law_717 rfl 4 rfl ?_
      refine vv_iconst (n := 720) (v := 1) dL_law_719 rfl (by decide) ?_
      refine vv_iadd (n := 721) dL_law_720 rfl ?_
      refine vv_sld (n := 722) dL_law_721 rfl (fun v106 => ?_)
      refine k0_96 (n := 725) dL_law_722 rfl rfl rfl (fun v107 s108 => ?_)
      refine vv_aload_n (n := 726) dL_law_725 rfl 2 rfl ?_
      refine vv_aloadv_n (n := 727) isR_17 dL_law_726 rfl 0 rfl ?_
      refine vv_iload (n := 729) dL_law_727 rfl 4 rfl ?_
      refine vv_iconst (n := 730) (v := 1) dL_law_729 rfl (by decide) ?_
      refine vv_iadd (n := 731) dL_law_730 rfl ?_
      refine vv_sld (n := 732) dL_law_731 rfl (fun v109 => ?_)
      refine k0_99 (n := 735) dL_law_732 rfl rfl rfl (fun v110 s111 => ?_)
      refine vv_icmp_eq (tgt := 1678) (n := 738) dL_law_735 (by decide) rfl ?_ ?_
      · refine vv_iinc (n := 1681) (v := 5) (L' := [(4, .int (x4 + 5)), (0, .retAddr 17), (1, .ref 0), (2, .ref 45), (3, .ref 72)]) dL_law_1678 rfl 4 rfl (by decide) (Nat.le_of_ble_eq_true rfl) rfl ?_
        refine vv_goto (n := 23) dL_law_1681 (by decide) ?_
        exact VC.sub [1, 2, 3, 4, 0] rfl (hK23 s111 (x4 + 5))
      · refine vv_iconst (n := 739) (v := 0) dL_law_738 rfl (by decide) ?_
        exact vv_zret1 dL_law_739 rfl rfl
    refine vv_case (fun h17 => ?_) (fun h17 => ?_)
    · refine vv_tabC (c := 17) (tgt := 740) dL_law_39 h17 (by decide) (by decide) rfl (by decide) ?_
      refine vv_aload_n (n := 741) dL_law_740 rfl 1 rfl ?_
      refine vv_aloadv_n (n := 742) isR_17 dL_law_741 rfl 0 rfl ?_
      refine vv_iload (n := 744) dL_law_742 rfl 4 rfl ?_
      refine vv_iconst (n := 745) (v := 1) dL_law_744 rfl (by decide) ?_
      refine vv_iadd (n := 746) dL_law_745 rfl ?_
      refine vv_sld (n := 747) dL_law_746 rfl (fun v112 => ?_)
      refine vv_aloadv_n (n := 748) isR_17 dL_law_747 rfl 0 rfl ?_
      refine vv_iload (n := 750) dL_law_748 rfl 4 rfl ?_
      refine vv_iconst (n := 751) (v := 2) dL_law_750 rfl (by decide) ?_
      refine vv_iadd (n := 752) dL_law_751 rfl ?_
      refine vv_sld (n := 753) dL_law_752 rfl (fun v113 => ?_)
      refine k0_100 (n := 756) dL_law_753 rfl rfl rfl (fun v114 s115 => ?_)
      refine vv_aload_n (n := 757) dL_law_756 rfl 2 rfl ?_
      refine vv_aloadv_n (n := 758) isR_17 dL_law_757 rfl 0 rfl ?_
      refine vv_iload (n := 760) dL_law_758 rfl 4 rfl ?_
      refine vv_iconst (n := 761) (v := 1) dL_law_760 rfl (by decide) ?_
      refine vv_iadd (n := 762) dL_law_761 rfl ?_
      refine vv_sld (n := 763) dL_law_762 rfl (fun v116 => ?_)
      refine vv_aloadv_n (n := 764) isR_17 dL_law_763 rfl 0 rfl ?_
      refine vv_iload (n := 766) dL_law_764 rfl 4 rfl ?_
      refine vv_iconst (n := 767) (v := 2) dL_law_766 rfl (by decide) ?_
      refine vv_iadd (n := 768) dL_law_767 rfl ?_
      refine vv_sld (n := 769) dL_law_768 rfl (fun v117 => ?_)
      refine k0_103 (n := 772) dL_law_769 rfl rfl rfl (fun v118 s119 => ?_)
      refine vv_icmp_eq (tgt := 1678) (n := 775) dL_law_772 (by decide) rfl ?_ ?_
      · refine vv_iinc (n := 1681) (v := 5) (L' := [(4, .int (x4 + 5)), (0, .retAddr 17), (1, .ref 0), (2, .ref 45), (3, .ref 72)]) dL_law_1678 rfl 4 rfl (by decide) (Nat.le_of_ble_eq_true rfl) rfl ?_
        refine vv_goto (n := 23) dL_law_1681 (by decide) ?_
        exact VC.sub [1, 2, 3, 4, 0] rfl (hK23 s119 (x4 + 5))
      · refine vv_iconst (n := 776) (v := 0) dL_law_775 rfl (by decide) ?_
        exact vv_zret1 dL_law_776 rfl rfl
    refine vv_case (fun h18 => ?_) (fun h18 => ?_)
    · refine vv_tabC (c := 18) (tgt := 777) dL_law_39 h18 (by decide) (by decide) rfl (by decide) ?_
      refine vv_aload_n (n := 778) dL_law_777 rfl 1 rfl ?_
      refine vv_aloadv_n (n := 779) isR_17 dL_law_778 rfl 0 rfl ?_
      refine vv_iload (n := 781) dL_law_779 rfl 4 rfl ?_
      refine vv_iconst (n := 782) (v := 1) dL_law_781 rfl (by decide) ?_
      refine vv_iadd (n := 783) dL_law_782 rfl ?_
      refine vv_sld (n := 784) dL_law_783 rfl (fun v120 => ?_)
      refine k0_104 (n := 787) dL_law_784 rfl rfl rfl (fun v121 s122 => ?_)
      refine vv_aload_n (n := 788) dL_law_787 rfl 2 rfl ?_
      refine vv_aloadv_n (n := 789) isR_17 dL_law_788 rfl 0 rfl ?_
      refine vv_iload (n := 791) dL_law_789 rfl 4 rfl ?_
      refine vv_iconst (n := 792) (v := 1) dL_law_791 rfl (by decide) ?_
      refine vv_iadd (n := 793) dL_law_792 rfl ?_
      refine vv_sld (n := 794) dL_law_793 rfl (fun v123 => ?_)
      refine k0_107 (n := 797) dL_law_794 rfl rfl rfl (fun v124 s125 => ?_)
      refine vv_icmp_eq (tgt := 1678) (n := 800) dL_law_797 (by decide) rfl ?_ ?_
      · refine vv_iinc (n := 1681) (v := 5) (L' := [(4, .int (x4 + 5)), (0, .retAddr 17), (1, .ref 0), (2, .ref 45), (3, .ref 72)]) dL_law_1678 rfl 4 rfl (by decide) (Nat.le_of_ble_eq_true rfl) rfl ?_
        refine vv_goto (n := 23) dL_law_1681 (by decide) ?_
        exact VC.sub [1, 2, 3, 4, 0] rfl (hK23 s125 (x4 + 5))
      · refine vv_iconst (n := 801) (v := 0) dL_law_800 rfl (by decide) ?_
        exact vv_zret1 dL_law_801 rfl rfl
    refine vv_case (fun h19 => ?_) (fun h19 => ?_)
    · refine vv_tabC (c := 19) (tgt := 802) dL_law_39 h19 (by decide) (by decide) rfl (by decide) ?_
      refine vv_aload_n (n := 803) dL_law_802 rfl 1 rfl ?_
      refine vv_aloadv_n (n := 804) isR_17 dL_law_803 rfl 0 rfl ?_
      refine vv_iload (n := 806) dL_law_804 rfl 4 rfl ?_
      refine vv_iconst (n := 807) (v := 1) dL_law_806 rfl (by decide) ?_
      refine vv_iadd (n := 808) dL_law_807 rfl ?_
      refine vv_sld (n := 809) dL_law_808 rfl (fun v126 => ?_)
      refine k0_108 (n := 812) dL_law_809 rfl rfl rfl (fun v127 s128 => ?_)
      refine vv_aload_n (n := 813) dL_law_812 rfl 2 rfl ?_
      refine vv_aloadv_n (n := 814) isR_17 dL_law_813 rfl 0 rfl ?_
      refine vv_iload (n := 816) dL_law_814 rfl 4 rfl ?_
      refine vv_iconst (n := 817) (v := 1) dL_law_816 rfl (by decide) ?_
      refine vv_iadd (n := 818) dL_law_817 rfl ?_
      refine vv_sld (n := 819) dL_law_818 rfl (fun v129 => ?_)
      refine k0_111 (n := 822) dL_law_819 rfl rfl rfl (fun v130 s131 => ?_)
      refine vv_icmp_eq (tgt := 1678) (n := 825) dL_law_822 (by decide) rfl ?_ ?_
      · refine vv_iinc (n := 1681) (v := 5) (L' := [(4, .int (x4 + 5)), (0, .retAddr 17), (1, .ref 0), (2, .ref 45), (3, .ref 72)]) dL_law_1678 rfl 4 rfl (by decide) (Nat.le_of_ble_eq_true rfl) rfl ?_
        refine vv_goto (n := 23) dL_law_1681 (by decide) ?_
        exact VC.sub [1, 2, 3, 4, 0] rfl (hK23 s131 (x4 + 5))
      · refine vv_iconst (n := 826) (v := 0) dL_law_825 rfl (by decide) ?_
        exact vv_zret1 dL_law_826 rfl rfl
    refine vv_case (fun h20 => ?_) (fun h20 => ?_)
    · refine vv_tabC (c := 20) (tgt := 827) dL_law_39 h20 (by decide) (by decide) rfl (by decide) ?_
      refine vv_aload_n (n := 828) dL_law_827 rfl 1 rfl ?_
      refine vv_aloadv_n (n := 829) isR_17 dL_law_828 rfl 0 rfl ?_
      refine vv_iload (n := 831) dL_law_829 rfl 4 rfl ?_
      refine vv_iconst (n := 832) (v := 1) dL_law_831 rfl (by decide) ?_
      refine vv_iadd (n := 833) dL_law_832 rfl ?_
      refine vv_sld (n := 834) dL_law_833 rfl (fun v132 => ?_)
      refine k0_112 (n := 837) dL_law_834 rfl rfl rfl (fun v133 s134 => ?_)
      refine vv_aload_n (n := 838) dL_law_837 rfl 2 rfl ?_
      refine vv_aloadv_n (n := 839) isR_17 dL_law_838 rfl 0 rfl ?_
      refine vv_iload (n := 841) dL_law_839 rfl 4 rfl ?_
      refine vv_iconst (n := 842) (v := 1) dL_law_841 rfl (by decide) ?_
      refine vv_iadd (n := 843) dL_law_842 rfl ?_
      refine vv_sld (n := 844) dL_law_843 rfl (fun v135 => ?_)
      refine k0_115 (n := 847) dL_law_844 rfl rfl rfl (fun v136 s137 => ?_)
      refine vv_icmp_eq (tgt := 1678) (n := 850) dL_law_847 (by decide) rfl ?_ ?_
      · refine vv_iinc (n := 1681) (v := 5) (L' := [(4, .int (x4 + 5)), (0, .retAddr 17), (1, .ref 0), (2, .ref 45), (3, .ref 72)]) dL_law_1678 rfl 4 rfl (by decide) (Nat.le_of_ble_eq_true rfl) rfl ?_
        refine vv_goto (n := 23) dL_law_1681 (by decide) ?_
        exact VC.sub [1, 2, 3, 4, 0] rfl (hK23 s137 (x4 + 5))
      · refine vv_iconst (n := 851) (v := 0) dL_law_850 rfl (by decide) ?_
        exact vv_zret1 dL_law_851 rfl rfl
    refine vv_case (fun h21 => ?_) (fun h21 => ?_)
    · refine vv_tabC (c := 21) (tgt := 852) dL_law_39 h21 (by decide) (by decide) rfl (by decide) ?_
      refine vv_aload_n (n := 853) dL_law_852 rfl 1 rfl ?_
      refine vv_aloadv_n (n := 854) isR_17 dL_law_853 rfl 0 rfl ?_
      refine vv_iload (n := 856) dL_law_854 rfl 4 rfl ?_
      refine vv_iconst (n := 857) (v := 1) dL_law_856 rfl (by decide) ?_
      refine vv_iadd (n := 858) dL_law_857 rfl ?_
      refine vv_sld (n := 859) dL_law_858 rfl (fun v138 => ?_)
      refine k0_116 (n := 862) dL_law_859 rfl rfl rfl (fun v139 s140 => ?_)
      refine vv_aload_n (n := 863) dL_law_862 rfl 2 rfl ?_
      refine vv_aloadv_n (n := 864) isR_17 dL_law_863 rfl 0 rfl ?_
      refine vv_iload (n := 866) dL_law_864 rfl 4 rfl ?_
      refine vv_iconst (n := 867) (v := 1) dL_law_866 rfl (by decide) ?_
      refine vv_iadd (n := 868) dL_law_867 rfl ?_
      refine vv_sld (n := 869) dL_law_868 rfl (fun v141 => ?_)
      refine k0_119 (n := 872) dL_law_869 rfl rfl rfl (fun v142 s143 => ?_)
      refine vv_icmp_eq (tgt := 1678) (n := 875) dL_law_872 (by decide) rfl ?_ ?_
      · refine vv_iinc (n := 1681) (v := 5) (L' := [(4, .int (x4 + 5)), (0, .retAddr 17), (1, .ref 0), (2, .ref 45), (3, .ref 72)]) dL_law_1678 rfl 4 rfl (by decide) (Nat.le_of_ble_eq_true rfl) rfl ?_
        refine vv_goto (n := 23) dL_law_1681 (by decide) ?_
        exact VC.sub [1, 2, 3, 4, 0] rfl (hK23 s143 (x4 + 5))
      · refine vv_iconst (n := 876) (v := 0) dL_law_875 rfl (by decide) ?_
        exact vv_zret1 dL_law_876 rfl rfl
    refine vv_case (fun h22 => ?_) (fun h22 => ?_)
    · refine vv_tabC (c := 22) (tgt := 877) dL_law_39 h22 (by decide) (by decide) rfl (by decide) ?_
      refine vv_aload_n (n := 878) dL_law_877 rfl 1 rfl ?_
      refine vv_aloadv_n (n := 879) isR_17 dL_law_878 rfl 0 rfl ?_
      refine vv_iload (n := 881) dL_law_879 rfl 4 rfl ?_
      refine vv_iconst (n := 882) (v := 1) dL_law_881 rfl (by decide) ?_
      refine vv_iadd (n := 883) dL_law_882 rfl ?_
      refine vv_sld (n := 884) dL_law_883 rfl (fun v144 => ?_)
      refine vv_aloadv_n (n := 885) isR_17 dL_law_884 rfl 0 rfl ?_
      refine vv_iload (n := 887) dL_law_885 rfl 4 rfl ?_
      refine vv_iconst (n := 888) (v := 2) dL_law_887 rfl (by decide) ?_
      refine vv_iadd (n := 889) dL_law_888 rfl ?_
      refine vv_sld (n := 890) dL_law_889 rfl (fun v145 => ?_)
      refine k0_120 (n := 893) dL_law_890 rfl rfl rfl (fun v146 s147 => ?_)
      refine vv_aload_n (n := 894) dL_law_893 rfl 2 rfl ?_
      refine vv_aloadv_n (n := 895) isR_17 dL_law_894 rfl 0 rfl ?_
      refine vv_iload (n := 897) dL_law_895 rfl 4 rfl ?_
      refine vv_iconst (n := 898) (v := 1) dL_law_897 rfl (by decide) ?_
      refine vv_iadd (n := 899) dL_law_898 rfl ?_
      refine vv_sld (n := 900) dL_law_899 rfl (fun v148 => ?_)
      refine vv_aloadv_n (n := 901) isR_17 dL_law_900 rfl 0 rfl ?_
      refine vv_iload (n := 903) dL_law_901 rfl 4 rfl ?_
      refine vv_iconst (n := 904) (v := 2) dL_law_903 rfl (by decide) ?_
      refine vv_iadd (n := 905) dL_law_904 rfl ?_
      refine vv_sld (n := 906) dL_law_905 rfl (fun v149 => ?_)
      refine k0_123 (n := 909) dL_law_906 rfl rfl rfl (fun v150 s151 => ?_)
      refine vv_icmp_eq (tgt := 1678) (n := 912) dL_law_909 (by decide) rfl ?_ ?_
      · refine vv_iinc (n := 1681) (v := 5) (L' := [(4, .int (x4 + 5)), (0, .retAddr 17), (1, .ref 0), (2, .ref 45), (3, .ref 72)]) dL_law_1678 rfl 4 rfl (by decide) (Nat.le_of_ble_eq_true rfl) rfl ?_
        refine vv_goto (n := 23) dL_law_1681 (by decide) ?_
        exact VC.sub [1, 2, 3, 4, 0] rfl (hK23 s151 (x4 + 5))
      · refine vv_iconst (n := 913) (v := 0) dL_law_912 rfl (by decide) ?_
        exact vv_zret1 dL_law_913 rfl rfl
    refine vv_case (fun h23 => ?_) (fun h23 => ?_)
    · refine vv_tabC (c := 23) (tgt := 914) dL_law_39 h23 (by decide) (by decide) rfl (by decide) ?_
      refine vv_aload_n (n := 915) dL_law_914 rfl 1 rfl ?_
      refine vv_aloadv_n (n := 916) isR_17 dL_law_915 rfl 0 rfl ?_
      refine vv_iload (n := 918) dL_law_916 rfl 4 rfl ?_
      refine vv_iconst (n := 919) (v := 1) dL_law_918 rfl (by decide) ?_
      refine vv_iadd (n := 920) dL_law_919 rfl ?_
      refine vv_sld (n := 921) dL_law_920 rfl (fun v152 => ?_)
      refine k0_124 (n := 924) dL_law_921 rfl rfl rfl (fun v153 s154 => ?_)
      refine vv_aload_n (n := 925) dL_law_924 rfl 2 rfl ?_
      refine vv_aloadv_n (n := 926) isR_17 dL_law_925 rfl 0 rfl ?_
      refine vv_iload (n := 928) dL_law_926 rfl 4 rfl ?_
      refine vv_iconst (n := 929) (v := 1) dL_law_928 rfl (by decide) ?_
      refine vv_iadd (n := 930) dL_law_929 rfl ?_
      refine vv_sld (n := 931) dL_law_930 rfl (fun v155 => ?_)
      refine k0_127 (n := 934) dL_law_931 rfl rfl rfl (fun v156 s157 => ?_)
      refine vv_icmp_eq (tgt := 1678) (n := 937) dL_law_934 (by decide) rfl ?_ ?_
      · refine vv_iinc (n := 1681) (v := 5) (L' := [(4, .int (x4 + 5)), (0, .retAddr 17), (1, .ref 0), (2, .ref 45), (3, .ref 72)]) dL_law_1678 rfl 4 rfl (by decide) (Nat.le_of_ble_eq_true rfl) rfl ?_
        refine vv_goto (n := 23) dL_law_1681 (by decide) ?_
        exact VC.sub [1, 2, 3, 4, 0] rfl (hK23 s157 (x4 + 5))
      · refine vv_iconst (n := 938) (v := 0) dL_law_937 rfl (by decide) ?_
        exact vv_zret1 dL_law_938 rfl rfl
    refine vv_case (fun h24 => ?_) (fun h24 => ?_)
    · refine vv_tabC (c := 24) (tgt := 939) dL_law_39 h24 (by decide) (by decide) rfl (by decide) ?_
      refine vv_aload_n (n := 940) dL_law_939 rfl 1 rfl ?_
      refine vv_aloadv_n (n := 941) isR_17 dL_law_940 rfl 0 rfl ?_
      refine vv_iload (n := 943) dL_law_941 rfl 4 rfl ?_
      refine vv_iconst (n := 944) (v := 1) dL_law_943 rfl (by decide) ?_
      refine vv_iadd (n := 945) dL_law_944 rfl ?_
      refine vv_sld (n := 946) dL_law_945 rfl (fun v158 => ?_)
      refine vv_aloadv_n (n := 947) isR_17 dL_law_946 rfl 0 rfl ?_
      refine vv_iload (n := 949) dL_law_947 rfl 4 rfl ?_
      refine vv_iconst (n := 950) (v := 2) dL_law_949 rfl (by decide) ?_
      refine vv_iadd (n := 951) dL_law_950 rfl ?_
      refine vv_sld (n := 952) dL_law_951 rfl (fun v159 => ?_)
      refine vv_aloadv_n (n := 953) isR_17 dL_law_952 rfl 0 rfl ?_
      refine vv_iload (n := 955) dL_law_953 rfl 4 rfl ?_
      refine vv_iconst (n := 956) (v := 3) dL_law_955 rfl (by decide) ?_
      refine vv_iadd (n := 957) dL_law_956 rfl ?_
      refine vv_sld (n := 958) dL_law_957 rfl (fun v160 => ?_)
      refine k0_128 (n := 961) dL_law_958 rfl rfl rfl (fun v161 s162 => ?_)
      refine vv_aload_n (n := 962) dL_law_961 rfl 2 rfl ?_
      refine vv_aloadv_n (n := 963) isR_17 dL_law_962 rfl 0 rfl ?_
      refine vv_iload (n := 965) dL_law_963 rfl 4 rfl ?_
      refine vv_iconst (n := 966) (v := 1) dL_law_965 rfl (by decide) ?_
      refine vv_iadd (n := 967) dL_law_966 rfl ?_
      refine vv_sld (n := 968) dL_law_967 rfl (fun v163 => ?_)
      refine vv_aloadv_n (n := 969) isR_17 dL_law_968 rfl 0 rfl ?_
      refine vv_iload (n := 971) dL_law_969 rfl 4 rfl ?_
      refine vv_iconst (n := 972) (v := 2) dL_law_971 rfl (by decide) ?_
      refine vv_iadd (n := 973) dL_law_972 rfl ?_
      refine vv_sld (n := 974) dL_law_973 rfl (fun v164 => ?_)
      refine vv_aloadv_n (n := 975) isR_17 dL_law_974 rfl 0 rfl ?_
      refine vv_iload (n := 977) dL_law_975 rfl 4 rfl ?_
      refine vv_iconst (n := 978) (v := 3) dL_law_977 rfl (by decide) ?_
      refine vv_iadd (n := 979) dL_law_978 rfl ?_
      refine vv_sld (n := 980) dL_law_979 rfl (fun v165 => ?_)
      refine k0_132 (n := 983) dL_law_980 rfl rfl rfl (fun v166 s167 => ?_)
      refine vv_icmp_eq (tgt := 1678) (n := 986) dL_law_983 (by decide) rfl ?_ ?_
      · refine vv_iinc (n := 1681) (v := 5) (L' := [(4, .int (x4 + 5)), (0, .retAddr 17), (1, .ref 0), (2, .ref 45), (3, .ref 72)]) dL_law_1678 rfl 4 rfl (by decide) (Nat.le_of_ble_eq_true rfl) rfl ?_
        refine vv_goto (n := 23) dL_law_1681 (by decide) ?_
        exact VC.sub [1, 2, 3, 4, 0] rfl (hK23 s167 (x4 + 5))
      · refine vv_iconst (n := 987) (v := 0) dL_law_986 rfl (by decide) ?_
        exact vv_zret1 dL_law_987 rfl rfl
    refine vv_case (fun h25 => ?_) (fun h25 => ?_)
    · refine vv_tabC (c := 25) (tgt := 988) dL_law_39 h25 (by decide) (by decide) rfl (by decide) ?_
      refine vv_aload_n (n := 989) dL_law_988 rfl 1 rfl ?_
      refine vv_aloadv_n (n := 990) isR_17 dL_law_989 rfl 0 rfl ?_
      refine vv_iload (n := 992) dL_law_990 rfl 4 rfl ?_
      refine vv_iconst (n := 993) (v := 1) dL_law_992 rfl (by decide) ?_
      refine vv_iadd (n := 994) dL_law_993 rfl ?_
      refine vv_sld (n := 995) dL_law_994 rfl (fun v168 => ?_)
      refine vv_aloadv_n (n := 996) isR_17 dL_law_995 rfl 0 rfl ?_
      refine vv_iload (n := 998) dL_law_996 rfl 4 rfl ?_
      refine vv_iconst (n := 999) (v := 2) dL_law_998 rfl (by decide) ?_
      refine vv_iadd (n := 1000) dL_law_999 rfl ?_
      refine vv_sld (n := 1001) dL_law_1000 rfl (fun v169 => ?_)
      refine k0_133 (n := 1004) dL_law_1001 rfl rfl rfl (fun v170 s171 => ?_)
      refine vv_aload_n (n := 1005) dL_law_1004 rfl 2 rfl ?_
      refine vv_aloadv_n (n := 1006) isR_17 dL_law_1005 rfl 0 rfl ?_
      refine vv_iload (n := 1008) dL_law_1006 rfl 4 rfl ?_
      refine vv_iconst (n := 1009) (v := 1) dL_law_1008 rfl (by decide) ?_
      refine vv_iadd (n := 1010) dL_law_1009 rfl ?_
      refine vv_sld (n := 1011) dL_law_1010 rfl (fun v172 => ?_)
      refine vv_aloadv_n (n := 1012) isR_17 dL_law_1011 rfl 0 rfl ?_
      refine vv_iload (n := 1014) dL_law_1012 rfl 4 rfl ?_
      refine vv_iconst (n := 1015) (v := 2) dL_law_1014 rfl (by decide) ?_
      refine vv_iadd (n := 1016) dL_law_1015 rfl ?_
      refine vv_sld (n := 1017) dL_law_1016 rfl (fun v173 => ?_)
      refine k0_136 (n := 1020) dL_law_1017 rfl rfl rfl (fun v174 s175 => ?_)
      refine vv_icmp_eq (tgt := 1678) (n := 1023) dL_law_1020 (by decide) rfl ?_ ?_
      · refine vv_iinc (n := 1681) (v := 5) (L' := [(4, .int (x4 + 5)), (0, .retAddr 17), (1, .ref 0), (2, .ref 45), (3, .ref 72)]) dL_law_1678 rfl 4 rfl (by decide) (Nat.le_of_ble_eq_true rfl) rfl ?_
        refine vv_goto (n := 23) dL_law_1681 (by decide) ?_
        exact VC.sub [1, 2, 3, 4, 0] rfl (hK23 s175 (x4 + 5))
      · refine vv_iconst (n := 1024) (v := 0) dL_law_1023 rfl (by decide) ?_
        exact vv_zret1 dL_law_1024 rfl rfl
    refine vv_case (fun h26 => ?_) (fun h26 => ?_)
    · refine vv_tabC (c := 26) (tgt := 1025) dL_law_39 h26 (by decide) (by decide) rfl (by decide) ?_
      refine vv_aload_n (n := 1026) dL_law_1025 rfl 1 rfl ?_
      refine vv_aloadv_n (n := 1027) isR_17 dL_law_1026 rfl 0 rfl ?_
      refine vv_iload (n := 1029) dL_law_1027 rfl 4 rfl ?_
      refine vv_iconst (n := 1030) (v := 1) dL_law_1029 rfl (by decide) ?_
      refine vv_iadd (n := 1031) dL_law_1030 rfl ?_
      refine vv_sld (n := 1032) dL_law_1031 rfl (fun v176 => ?_)
      refine vv_aloadv_n (n := 1033) isR_17 dL_law_1032 rfl 0 rfl ?_
      refine vv_iload (n := 1035) dL_law_1033 rfl 4 rfl ?_
      refine vv_iconst (n := 1036) (v := 2) dL_law_1035 rfl (by decide) ?_
      refine vv_iadd (n := 1037) dL_law_1036 rfl ?_
      refine vv_sld (n := 1038) dL_law_1037 rfl (fun v177 => ?_)
      refine k0_137 (n := 1041) dL_law_1038 rfl rfl rfl (fun v178 s179 => ?_)
      refine vv_aload_n (n := 1042) dL_law_1041 rfl 2 rfl ?_
      refine vv_aloadv_n (n := 1043) isR_17 dL_law_1042 rfl 0 rfl ?_
      refine vv_iload (n := 1045) dL_law_1043 rfl 4 rfl ?_
      refine vv_iconst (n := 1046) (v := 1) dL_law_1045 rfl (by decide) ?_
      refine vv_iadd (n := 1047) dL_law_1046 rfl ?_
      refine vv_sld (n := 1048) dL_law_1047 rfl (fun v180 => ?_)
      refine vv_aloadv_n (n := 1049) isR_17 dL_law_1048 rfl 0 rfl ?_
      refine vv_iload (n := 1051) dL_law_1049 rfl 4 rfl ?_
      refine vv_iconst (n := 1052) (v := 2) dL_law_1051 rfl (by decide) ?_
      refine vv_iadd (n := 1053) dL_law_1052 rfl ?_
      refine vv_sld (n := 1054) dL_law_1053 rfl (fun v181 => ?_)
      refine k0_140 (n := 1057) dL_law_1054 rfl rfl rfl (fun v182 s183 => ?_)
      refine vv_icmp_eq (tgt := 1678) (n := 1060) dL_law_1057 (by decide) rfl ?_ ?_
      · refine vv_iinc (n := 1681) (v := 5) (L' := [(4, .int (x4 + 5)), (0, .retAddr 17), (1, .ref 0), (2, .ref 45), (3, .ref 72)]) dL_law_1678 rfl 4 rfl (by decide) (Nat.le_of_ble_eq_true rfl) rfl ?_
        refine vv_goto (n := 23) dL_law_1681 (by decide) ?_
        exact VC.sub [1, 2, 3, 4, 0] rfl (hK23 s183 (x4 + 5))
      · refine vv_iconst (n := 1061) (v := 0) dL_law_1060 rfl (by decide) ?_
        exact vv_zret1 dL_law_1061 rfl rfl
    refine vv_case (fun h27 => ?_) (fun h27 => ?_)
    · refine vv_tabC (c := 27) (tgt := 1062) dL_law_39 h27 (by decide) (by decide) rfl (by decide) ?_
      refine vv_aload_n (n := 1063) dL_law_1062 rfl 1 rfl ?_
      refine vv_aloadv_n (n := 1064) isR_17 dL_law_1063 rfl 0 rfl ?_
      refine vv_iload (n := 1066) dL_law_1064 rfl 4 rfl ?_
      refine vv_iconst (n := 1067) (v := 1) dL_law_1066 rfl (by decide) ?_
      refine vv_iadd (n := 1068) dL_law_1067 rfl ?_
      refine vv_sld (n := 1069) dL_law_1068 rfl (fun v184 => ?_)
      refine vv_aloadv_n (n := 1070) isR_17 dL_law_1069 rfl 0 rfl ?_
      refine vv_iload (n := 1072) dL_law_1070 rfl 4 rfl ?_
      refine vv_iconst (n := 1073) (v := 2) dL_law_1072 rfl (by decide) ?_
      refine vv_iadd (n := 1074) dL_law_1073 rfl ?_
      refine vv_sld (n := 1075) dL_law_1074 rfl (fun v185 => ?_)
      refine k0_141 (n := 1078) dL_law_1075 rfl rfl rfl (fun v186 s187 => ?_)
      refine vv_aload_n (n := 1079) dL_law_1078 rfl 2 rfl ?_
      refine vv_aloadv_n (n := 1080) isR_17 dL_law_1079 rfl 0 rfl ?_
      refine vv_iload (n := 1082) dL_law_1080 rfl 4 rfl ?_
      refine vv_iconst (n := 1083) (v := 1) dL_law_1082 rfl (by decide) ?_
      refine vv_iadd (n := 1084) dL_law_1083 rfl ?_
      refine vv_sld (n := 1085) dL_law_1084 rfl (fun v188 => ?_)
      refine vv_aloadv_n (n := 1086) isR_17 dL_law_1085 rfl 0 rfl ?_
      refine vv_iload (n := 1088) dL_law_1086 rfl 4 rfl ?_
      refine vv_iconst (n := 1089) (v := 2) dL_law_1088 rfl (by decide) ?_
      refine vv_iadd (n := 1090) dL_law_1089 rfl ?_
      refine vv_sld (n := 1091) dL_law_1090 rfl (fun v189 => ?_)
      refine k0_144 (n := 1094) dL_law_1091 rfl rfl rfl (fun v190 s191 => ?_)
      refine vv_icmp_eq (tgt := 1678) (n := 1097) dL_law_1094 (by decide) rfl ?_ ?_
      · refine vv_iinc (n := 1681) (v := 5) (L' := [(4, .int (x4 + 5)), (0, .retAddr 17), (1, .ref 0), (2, .ref 45), (3, .ref 72)]) dL_law_1678 rfl 4 rfl (by decide) (Nat.le_of_ble_eq_true rfl) rfl ?_
        refine vv_goto (n := 23) dL_law_1681 (by decide) ?_
        exact VC.sub [1, 2, 3, 4, 0] rfl (hK23 s191 (x4 + 5))
      · refine vv_iconst (n := 1098) (v := 0) dL_law_1097 rfl (by decide) ?_
        exact vv_zret1 dL_law_1098 rfl rfl
    refine vv_case (fun h28 => ?_) (fun h28 => ?_)
    · refine vv_tabC (c := 28) (tgt := 1099) dL_law_39 h28 (by decide) (by decide) rfl (by decide) ?_
      refine vv_aload_n (n := 1100) dL_law_1099 rfl 1 rfl ?_
      refine vv_aloadv_n (n := 1101) isR_17 dL_law_1100 rfl 0 rfl ?_
      refine vv_iload (n := 1103) dL_law_1101 rfl 4 rfl ?_
      refine vv_iconst (n := 1104) (v := 1) dL_law_1103 rfl (by decide) ?_
      refine vv_iadd (n := 1105) dL_law_1104 rfl ?_
      refine vv_sld (n := 1106) dL_law_1105 rfl (fun v192 => ?_)
      refine vv_aloadv_n (n := 1107) isR_17 dL_law_1106 rfl 0 rfl ?_
      refine vv_iload (n := 1109) dL_law_1107 rfl 4 rfl ?_
      refine vv_iconst (n := 1110) (v := 2) dL_law_1109 rfl (by decide) ?_
      refine vv_iadd (n := 1111) dL_law_1110 rfl ?_
      refine vv_sld (n := 1112) dL_law_1111 rfl (fun v193 => ?_)
      refine vv_aloadv_n (n := 1113) isR_17 dL_law_1112 rfl 0 rfl ?_
      refine vv_iload (n := 1115) dL_law_1113 rfl 4 rfl ?_
      refine vv_iconst (n := 1116) (v := 3) dL_law_1115 rfl (by decide) ?_
      refine vv_iadd (n := 1117) dL_law_1116 rfl ?_
      refine vv_sld (n := 1118) dL_law_1117 rfl (fun v194 => ?_)
      refine k0_145 (n := 1121) dL_law_1118 rfl rfl rfl (fun v195 s196 => ?_)
      refine vv_aload_n (n := 1122) dL_law_1121 rfl 2 rfl ?_
      refine vv_aloadv_n (n := 1123) isR_17 dL_law_1122 rfl 0 rfl ?_
      refine vv_iload (n := 1125) dL_law_1123 rfl 4 rfl ?_
      refine vv_iconst (n := 1126) (v := 1) dL_law_1125 rfl (by decide) ?_
      refine vv_iadd (n := 1127) dL_law_1126 rfl ?_
      refine vv_sld (n := 1128) dL_law_1127 rfl (fun v197 => ?_)
      refine vv_aloadv_n (n := 1129) isR_17 dL_law_1128 rfl 0 rfl ?_
      refine vv_iload (n := 1131) dL_law_1129 rfl 4 rfl ?_
      refine vv_iconst (n := 1132) (v := 2) dL_law_1131 rfl (by decide) ?_
      refine vv_iadd (n := 1133) dL_law_1132 rfl ?_
      refine vv_sld (n := 1134) dL_law_1133 rfl (fun v198 => ?_)
      refine vv_aloadv_n (n := 1135) isR_17 dL_law_1134 rfl 0 rfl ?_
      refine vv_iload (n := 1137) dL_law_1135 rfl 4 rfl ?_
      refine vv_iconst (n := 1138) (v := 3) dL_law_1137 rfl (by decide) ?_
      refine vv_iadd (n := 1139) dL_law_1138 rfl ?_
      refine vv_sld (n := 1140) dL_law_1139 rfl (fun v199 => ?_)
      refine k0_148 (n := 1143) dL_law_1140 rfl rfl rfl (fun v200 s201 => ?_)
      refine vv_icmp_eq (tgt := 1678) (n := 1146) dL_law_1143 (by decide) rfl ?_ ?_
      · refine vv_iinc (n := 1681) (v := 5) (L' := [(4, .int (x4 + 5)), (0, .retAddr 17), (1, .ref 0), (2, .ref 45), (3, .ref 72)]) dL_law_1678 rfl 4 rfl (by decide) (Nat.le_of_ble_eq_true rfl) rfl ?_
        refine vv_goto (n := 23) dL_law_1681 (by decide) ?_
        exact VC.sub [1, 2, 3, 4, 0] rfl (hK23 s201 (x4 + 5))
      · refine vv_iconst (n := 1147) (v := 0) dL_law_1146 rfl (by decide) ?_
        exact vv_zret1 dL_law_1147 rfl rfl
    refine vv_case (fun h29 => ?_) (fun h29 => ?_)
    · refine vv_tabC (c := 29) (tgt := 1148) dL_law_39 h29 (by decide) (by decide) rfl (by decide) ?_
      refine vv_aload_n (n := 1149) dL_law_1148 rfl 1 rfl ?_
      refine vv_aloadv_n (n := 1150) isR_17 dL_law_1149 rfl 0 rfl ?_
      refine vv_iload (n := 1152) dL_law_1150 rfl 4 rfl ?_
      refine vv_iconst (n := 1153) (v := 1) dL_law_1152 rfl (by decide) ?_
      refine vv_iadd (n := 1154) dL_law_1153 rfl ?_
      refine vv_sld (n := 1155) dL_law_1154 rfl (fun v202 => ?_)
      refine k0_149 (n := 1158) dL_law_1155 rfl rfl rfl (fun v203 s204 => ?_)
      refine vv_aload_n (n := 1159) dL_law_1158 rfl 2 rfl ?_
      refine vv_aloadv_n (n := 1160) isR_17 dL_law_1159 rfl 0 rfl ?_
      refine vv_iload (n := 1162) dL_law_1160 rfl 4 rfl ?_
      refine vv_iconst (n := 1163) (v := 1) dL_law_1162 rfl (by decide) ?_
      refine vv_iadd (n := 1164) dL_law_1163 rfl ?_
      refine vv_sld (n := 1165) dL_law_1164 rfl (fun v205 => ?_)
      refine k0_152 (n := 1168) dL_law_1165 rfl rfl rfl (fun v206 s207 => ?_)
      refine vv_icmp_eq (tgt := 1678) (n := 1171) dL_law_1168 (by decide) rfl ?_ ?_
      · refine vv_iinc (n := 1681) (v := 5) (L' := [(4, .int (x4 + 5)), (0, .retAddr 17), (1, .ref 0), (2, .ref 45), (3, .ref 72)]) dL_law_1678 rfl 4 rfl (by decide) (Nat.le_of_ble_eq_true rfl) rfl ?_
        refine vv_goto (n := 23) dL_law_1681 (by decide) ?_
        exact VC.sub [1, 2, 3, 4, 0] rfl (hK23 s207 (x4 + 5))
      · refine vv_iconst (n := 1172) (v := 0) dL_law_1171 rfl (by decide) ?_
        exact vv_zret1 dL_law_1172 rfl rfl
    refine vv_case (fun h30 => ?_) (fun h30 => ?_)
    · refine vv_tabC (c := 30) (tgt := 1173) dL_law_39 h30 (by decide) (by decide) rfl (by decide) ?_
      refine vv_aload_n (n := 1174) dL_law_1173 rfl 1 rfl ?_
      refine vv_aloadv_n (n := 1175) isR_17 dL_law_1174 rfl 0 rfl ?_
      refine vv_iload (n := 1177) dL_law_1175 rfl 4 rfl ?_
      refine vv_iconst (n := 1178) (v := 1) dL_law_1177 rfl (by decide) ?_
      refine vv_iadd (n := 1179) dL_law_1178 rfl ?_
      refine vv_sld (n := 1180) dL_law_1179 rfl (fun v208 => ?_)
      refine vv_aloadv_n (n := 1181) isR_17 dL_law_1180 rfl 0 rfl ?_
      refine vv_iload (n := 1183) dL_law_1181 rfl 4 rfl ?_
      refine vv_iconst (n := 1184) (v := 2) dL_law_1183 rfl (by decide) ?_
      refine vv_iadd (n := 1185) dL_law_1184 rfl ?_
      refine vv_sld (n := 1186) dL_law_1185 rfl (fun v209 => ?_)
      refine vv_aloadv_n (n := 1187) isR_17 dL_law_1186 rfl 0 rfl ?_
      refine vv_iload (n := 1189) dL_law_1187 rfl 4 rfl ?_
      refine vv_iconst (n := 1190) (v := 3) dL_law_1189 rfl (by decide) ?_
      refine vv_iadd (n := 1191) dL_law_1190 rfl ?_
      refine vv_sld (n := 1192) dL_law_1191 rfl (fun v210 => ?_)
      refine k0_153 (n := 1195) dL_law_1192 rfl rfl rfl (fun v211 s212 => ?_)
      refine vv_aload_n (n := 1196) dL_law_1195 rfl 2 rfl ?_
      refine vv_aloadv_n (n := 1197) isR_17 dL_law_1196 rfl 0 rfl ?_
      refine vv_iload (n := 1199) dL_law_1197 rfl 4 rfl ?_
      refine vv_iconst (n := 1200) (v := 1) dL_law_1199 rfl (by decide) ?_
      refine vv_iadd (n := 1201) dL_law_1200 rfl ?_
      refine vv_sld (n := 1202) dL_law_1201 rfl (fun v213 => ?_)
      refine vv_aloadv_n (n := 1203) isR_17 dL_law_1202 rfl 0 rfl ?_
      refine vv_iload (n := 1205) dL_law_1203 rfl 4 rfl ?_
      refine vv_iconst (n := 1206) (v := 2) dL_law_1205 rfl (by decide) ?_
      refine vv_iadd (n := 1207) dL_law_1206 rfl ?_
      refine vv_sld (n := 1208) dL_law_1207 rfl (fun v214 => ?_)
      refine vv_aloadv_n (n := 1209) isR_17 dL_law_1208 rfl 0 rfl ?_
      refine vv_iload (n := 1211) dL_law_1209 rfl 4 rfl ?_
      refine vv_iconst (n := 1212) (v := 3) dL_law_1211 rfl (by decide) ?_
      refine vv_iadd (n := 1213) dL_law_1212 rfl ?_
      refine vv_sld (n := 1214) dL_law_1213 rfl (fun v215 => ?_)
      refine k0_156 (n := 1217) dL_law_1214 rfl rfl rfl (fun v216 s217 => ?_)
      refine vv_icmp_eq (tgt := 1678) (n := 1220) dL_law_1217 (by decide) rfl ?_ ?_
      · refine vv_iinc (n := 1681) (v := 5) (L' := [(4, .int (x4 + 5)), (0, .retAddr 17), (1, .ref 0), (2, .ref 45), (3, .ref 72)]) dL_law_1678 rfl 4 rfl (by decide) (Nat.le_of_ble_eq_true rfl) rfl ?_
        refine vv_goto (n := 23) dL_law_1681 (by decide) ?_
        exact VC.sub [1, 2, 3, 4, 0] rfl (hK23 s217 (x4 + 5))
      · refine vv_iconst (n := 1221) (v := 0) dL_law_1220 rfl (by decide) ?_
        exact vv_zret1 dL_law_1221 rfl rfl
    refine vv_case (fun h31 => ?_) (fun h31 => ?_)
    · refine vv_tabC (c := 31) (tgt := 1222) dL_law_39 h31 (by decide) (by decide) rfl (by decide) ?_
      refine vv_aload_n (n := 1223) dL_law_1222 rfl 1 rfl ?_
      refine k0_157 (n := 1226) dL_law_1223 rfl rfl rfl (fun v218 s219 => ?_)
      refine vv_aload_n (n := 1227) dL_law_1226 rfl 2 rfl ?_
      refine k0_160 (n := 1230) dL_law_1227 rfl rfl rfl (fun v220 s221 => ?_)
      refine vv_icmp_eq (tgt := 1678) (n := 1233) dL_law_1230 (by decide) rfl ?_ ?_
      · refine vv_iinc (n := 1681) (v := 5) (L' := [(4, .int (x4 + 5)), (0, .retAddr 17), (1, .ref 0), (2, .ref 45), (3, .ref 72)]) dL_law_1678 rfl 4 rfl (by decide) (Nat.le_of_ble_eq_true rfl) rfl ?_
        refine vv_goto (n := 23) dL_law_1681 (by decide) ?_
        exact VC.sub [1, 2, 3, 4, 0] rfl (hK23 s221 (x4 + 5))
      · refine vv_iconst (n := 1234) (v := 0) dL_law_1233 rfl (by decide) ?_
        exact vv_zret1 dL_law_1234 rfl rfl
    refine vv_case (fun h32 => ?_) (fun h32 => ?_)
    · refine vv_tabC (c := 32) (tgt := 1235) dL_law_39 h32 (by decide) (by decide) rfl (by decide) ?_
      refine vv_aload_n (n := 1236) dL_law_1235 rfl 1 rfl ?_
      refine k0_161 (n := 1239) dL_law_1236 rfl rfl rfl (fun v222 s223 => ?_)
      refine vv_aload_n (n := 1240) dL_law_1239 rfl 2 rfl ?_
      refine k0_164 (n := 1243) dL_law_1240 rfl rfl rfl (fun v224 s225 => ?_)
      refine vv_icmp_eq (tgt := 1678) (n := 1246) dL_law_1243 (by decide) rfl ?_ ?_
      · refine vv_iinc (n := 1681) (v := 5) (L' := [(4, .int (x4 + 5)), (0, .retAddr 17), (1, .ref 0), (2, .ref 45), (3, .ref 72)]) dL_law_1678 rfl 4 rfl (by decide) (Nat.le_of_ble_eq_true rfl) rfl ?_
        refine vv_goto (n := 23) dL_law_1681 (by decide) ?_
        exact VC.sub [1, 2, 3, 4, 0] rfl (hK23 s225 (x4 + 5))
      · refine vv_iconst (n := 1247) (v := 0) dL_law_1246 rfl (by decide) ?_
        exact vv_zret1 dL_law_1247 rfl rfl
    refine vv_case (fun h33 => ?_) (fun h33 => ?_)
    · refine vv_tabC (c := 33) (tgt := 1248) dL_law_39 h33 (by decide) (by decide) rfl (by decide) ?_
      refine vv_aload_n (n := 1249) dL_law_1248 rfl 1 rfl ?_
      refine k0_165 (n := 1252) dL_law_1249 rfl rfl rfl (fun v226 s227 => ?_)
      refine vv_aload_n (n := 1253) dL_law_1252 rfl 2 rfl ?_
      refine k0_168 (n := 1256) dL_law_1253 rfl rfl rfl (fun v228 s229 => ?_)
      refine vv_icmp_eq (tgt := 1678) (n := 1259) dL_law_1256 (by decide) rfl ?_ ?_
      · refine vv_iinc (n := 1681) (v := 5) (L' := [(4, .int (x4 + 5)), (0, .retAddr 17), (1, .ref 0), (2, .ref 45), (3, .ref 72)]) dL_law_1678 rfl 4 rfl (by decide) (Nat.le_of_ble_eq_true rfl) rfl ?_
        refine vv_goto (n := 23) dL_law_1681 (by decide) ?_
        exact VC.sub [1, 2, 3, 4, 0] rfl (hK23 s229 (x4 + 5))
      · refine vv_iconst (n := 1260) (v := 0) dL_law_1259 rfl (by decide) ?_
        exact vv_zret1 dL_law_1260 rfl rfl
    refine vv_case (fun h34 => ?_) (fun h34 => ?_)
    · refine vv_tabC (c := 34) (tgt := 1261) dL_law_39 h34 (by decide) (by decide) rfl (by decide) ?_
      refine vv_aload_n (n := 1262) dL_law_1261 rfl 1 rfl ?_
      refine vv_aloadv_n (n := 1263) isR_17 dL_law_1262 rfl 0 rfl ?_
      refine vv_iload (n := 1265) dL_law_1263 rfl 4 rfl ?_
      refine vv_iconst (n := 1266) (v := 1) dL_law_1265 rfl (by decide) ?_
      refine vv_iadd (n := 1267) dL_law_1266 rfl ?_
      refine vv_sld (n := 1268) dL_law_1267 rfl (fun v230 => ?_)
      refine k0_169 (n := 1271) dL_law_1268 rfl rfl rfl (fun v231 s232 => ?_)
      refine vv_aload_n (n := 1272) dL_law_1271 rfl 2 rfl ?_
      refine vv_aloadv_n (n := 1273) isR_17 dL_law_1272 rfl 0 rfl ?_
      refine vv_iload (n := 1275) dL_law_1273 rfl 4 rfl ?_
      refine vv_iconst (n := 1276) (v := 1) dL_law_1275 rfl (by decide) ?_
      refine vv_iadd (n := 1277) dL_law_1276 rfl ?_
      refine vv_sld (n := 1278) dL_law_1277 rfl (fun v233 => ?_)
      refine k0_172 (n := 1281) dL_law_1278 rfl rfl rfl (fun v234 s235 => ?_)
      refine vv_icmp_eq (tgt := 1678) (n := 1284) dL_law_1281 (by decide) rfl ?_ ?_
      · refine vv_iinc (n := 1681) (v := 5) (L' := [(4, .int (x4 + 5)), (0, .retAddr 17), (1, .ref 0), (2, .ref 45), (3, .ref 72)]) dL_law_1678 rfl 4 rfl (by decide) (Nat.le_of_ble_eq_true rfl) rfl ?_
        refine vv_goto (n := 23) dL_law_1681 (by decide) ?_
        exact VC.sub [1, 2, 3, 4, 0] rfl (hK23 s235 (x4 + 5))
      · refine vv_iconst (n := 1285) (v := 0) dL_law_1284 rfl (by decide) ?_
        exact vv_zret1 dL_law_1285 rfl rfl
    refine vv_case (fun h35 => ?_) (fun h35 => ?_)
    · refine vv_tabC (c := 35) (tgt := 1286) dL_law_39 h35 (by decide) (by decide) rfl (by decide) ?_
      refine vv_aload_n (n := 1287) dL_law_1286 rfl 1 rfl ?_
      refine vv_aloadv_n (n := 1288) isR_17 dL_law_1287 rfl 0 rfl ?_
      refine vv_iload (n := 1290) dL_law_1288 rfl 4 rfl ?_
      refine vv_iconst (n := 1291) (v := 1) dL_law_1290 rfl (by decide) ?_
      refine vv_iadd (n := 1292) dL_law_1291 rfl ?_
      refine vv_sld (n := 1293) dL_law_1292 rfl (fun v236 => ?_)
      refine k0_173 (n := 1296) dL_law_1293 rfl rfl rfl (fun v237 s238 => ?_)
      refine vv_aload_n (n := 1297) dL_law_1296 rfl 2 rfl ?_
      refine vv_aloadv_n (n := 1298) isR_17 dL_law_1297 rfl 0 rfl ?_
      refine vv_iload (n := 1300) dL_law_1298 rfl 4 rfl ?_
      refine vv_iconst (n := 1301) (v := 1) dL_law_1300 rfl (by decide) ?_
      refine vv_iadd (n := 1302) dL_law_1301 rfl ?_
      refine vv_sld (n := 1303) dL_law_1302 rfl (fun v239 => ?_)
      refine k0_176 (n := 1306) dL_law_1303 rfl rfl rfl (fun v240 s241 => ?_)
      refine vv_icmp_eq (tgt := 1678) (n := 1309) dL_law_1306 (by decide) rfl ?_ ?_
      · refine vv_iinc (n := 1681) (v := 5) (L' := [(4, .int (x4 + 5)), (0, .retAddr 17), (1, .ref 0), (2, .ref 45), (3, .ref 72)]) dL_law_1678 rfl 4 rfl (by decide) (Nat.le_of_ble_eq_true rfl) rfl ?_
        refine vv_goto (n := 23) dL_law_1681 (by decide) ?_
        exact VC.sub [1, 2, 3, 4, 0] rfl (hK23 s241 (x4 + 5))
      · refine vv_iconst (n := 1310) (v := 0) dL_law_1309 rfl (by decide) ?_
        exact vv_zret1 dL_law_1310 rfl rfl
    refine vv_case (fun h36 => ?_) (fun h36 => ?_)
    · refine vv_tabC (c := 36) (tgt := 1311) dL_law_39 h36 (by decide) (by decide) rfl (by decide) ?_
      refine vv_aload_n (n := 1312) dL_law_1311 rfl 1 rfl ?_
      refine vv_aloadv_n (n := 1313) isR_17 dL_law_1312 rfl 0 rfl ?_
      refine vv_iload (n := 1315) dL_law_1313 rfl 4 rfl ?_
      refine vv_iconst (n := 1316) (v := 1) dL_law_1315 rfl (by decide) ?_
      refine vv_iadd (n := 1317) dL_law_1316 rfl ?_
      refine vv_sld (n := 1318) dL_law_1317 rfl (fun v242 => ?_)
      refine k0_177 (n := 1321) dL_law_1318 rfl rfl rfl (fun v243 s244 => ?_)
      refine vv_aload_n (n := 1322) dL_law_1321 rfl 2 rfl ?_
      refine vv_aloadv_n (n := 1323) isR_17 dL_law_1322 rfl 0 rfl ?_
      refine vv_iload (n := 1325) dL_law_1323 rfl 4 rfl ?_
      refine vv_iconst (n := 1326) (v := 1) dL_law_1325 rfl (by decide) ?_
      refine vv_iadd (n := 1327) dL_law_1326 rfl ?_
      refine vv_sld (n := 1328) dL_law_1327 rfl (fun v245 => ?_)
      refine k0_180 (n := 1331) dL_law_1328 rfl rfl rfl (fun v246 s247 => ?_)
      refine vv_icmp_eq (tgt := 1678) (n := 1334) dL_law_1331 (by decide) rfl ?_ ?_
      · refine vv_iinc (n := 1681) (v := 5) (L' := [(4, .int (x4 + 5)), (0, .retAddr 17), (1, .ref 0), (2, .ref 45), (3, .ref 72)]) dL_law_1678 rfl 4 rfl (by decide) (Nat.le_of_ble_eq_true rfl) rfl ?_
        refine vv_goto (n := 23) dL_law_1681 (by decide) ?_
        exact VC.sub [1, 2, 3, 4, 0] rfl (hK23 s247 (x4 + 5))
      · refine vv_iconst (n := 1335) (v := 0) dL_law_1334 rfl (by decide) ?_
        exact vv_zret1 dL_law_1335 rfl rfl
    refine vv_case (fun h37 => ?_) (fun h37 => ?_)
    · refine vv_tabC (c := 37) (tgt := 1336) dL_law_39 h37 (by decide) (by decide) rfl (by decide) ?_
      refine vv_aload_n (n := 1337) dL_law_1336 rfl 1 rfl ?_
      refine k0_181 (n := 1340) dL_law_1337 rfl rfl rfl (fun v248 s249 => ?_)
      refine vv_aload_n (n := 1341) dL_law_1340 rfl 2 rfl ?_
      refine k0_184 (n := 1344) dL_law_1341 rfl rfl rfl (fun v250 s251 => ?_)
      refine vv_icmp_eq (tgt := 1678) (n := 1347) dL_law_1344 (by decide) rfl ?_ ?_
      · refine vv_iinc (n := 1681) (v := 5) (L' := [(4, .int (x4 + 5)), (0, .retAddr 17), (1, .ref 0), (2, .ref 45), (3, .ref 72)]) dL_law_1678 rfl 4 rfl (by decide) (Nat.le_of_ble_eq_true rfl) rfl ?_
        refine vv_goto (n := 23) dL_law_1681 (by decide) ?_
        exact VC.sub [1, 2, 3, 4, 0] rfl (hK23 s251 (x4 + 5))
      · refine vv_iconst (n := 1348) (v := 0) dL_law_1347 rfl (by decide) ?_
        exact vv_zret1 dL_law_1348 rfl rfl
    refine vv_case (fun h38 => ?_) (fun h38 => ?_)
    · refine vv_tabC (c := 38) (tgt := 1349) dL_law_39 h38 (by decide) (by decide) rfl (by decide) ?_
      refine vv_aload_n (n := 1350) dL_law_1349 rfl 1 rfl ?_
      refine k0_185 (n := 1353) dL_law_1350 rfl rfl rfl (fun v252 s253 => ?_)
      refine vv_aload_n (n := 1354) dL_law_1353 rfl 2 rfl ?_
      refine k0_188 (n := 1357) dL_law_1354 rfl rfl rfl (fun v254 s255 => ?_)
      refine vv_icmp_eq (tgt := 1678) (n := 1360) dL_law_1357 (by decide) rfl ?_ ?_
      · refine vv_iinc (n := 1681) (v := 5) (L' := [(4, .int (x4 + 5)), (0, .retAddr 17), (1, .ref 0), (2, .ref 45), (3, .ref 72)]) dL_law_1678 rfl 4 rfl (by decide) (Nat.le_of_ble_eq_true rfl) rfl ?_
        refine vv_goto (n := 23) dL_law_1681 (by decide) ?_
        exact VC.sub [1, 2, 3, 4, 0] rfl (hK23 s255 (x4 + 5))
      · refine vv_iconst (n := 1361) (v := 0) dL_law_1360 rfl (by decide) ?_
        exact vv_zret1 dL_law_1361 rfl rfl
    refine vv_case (fun h39 => ?_) (fun h39 => ?_)
    · refine vv_tabC (c := 39) (tgt := 1362) dL_law_39 h39 (by decide) (by decide) rfl (by decide) ?_
      refine vv_aload_n (n := 1363) dL_law_1362 rfl 1 rfl ?_
      refine k0_189 (n := 1366) dL_law_1363 rfl rfl rfl (fun v256 s257 => ?_)
      refine vv_aload_n (n := 1367) dL_law_1366 rfl 2 rfl ?_
      refine k0_192 (n := 1370) dL_law_1367 rfl rfl rfl (fun v258 s259 => ?_)
      refine vv_icmp_eq (tgt := 1678) (n := 1373) dL_law_1370 (by decide) rfl ?_ ?_
      · refine vv_iinc (n := 1681) (v := 5) (L' := [(4, .int (x4 + 5)), (0, .retAddr 17), (1, .ref 0), (2, .ref 45), (3, .ref 72)]) dL_law_1678 rfl 4 rfl (by decide) (Nat.le_of_ble_eq_true rfl) rfl ?_
        refine vv_goto (n := 23) dL_law_1681 (by decide) ?_
        exact VC.sub [1, 2, 3, 4, 0] rfl (hK23 s259 (x4 + 5))
      · refine vv_iconst (n := 1374) (v := 0) dL_law_1373 rfl (by decide) ?_
        exact vv_zret1 dL_law_1374 rfl rfl
    refine vv_case (fun h40 => ?_) (fun h40 => ?_)
    · refine vv_tabC (c := 40) (tgt := 1375) dL_law_39 h40 (by decide) (by decide) rfl (by decide) ?_
      refine vv_aload_n (n := 1376) dL_law_1375 rfl 1 rfl ?_
      refine vv_aloadv_n (n := 1377) isR_17 dL_law_1376 rfl 0 rfl ?_
      refine vv_iload (n := 1379) dL_law_1377 rfl 4 rfl ?_
      refine vv_iconst (n := 1380) (v := 1) dL_law_1379 rfl (by decide) ?_
      refine vv_iadd (n := 1381) dL_law_1380 rfl ?_
      refine vv_sld (n := 1382) dL_law_1381 rfl (fun v260 => ?_)
      refine vv_aloadv_n (n := 1383) isR_17 dL_law_1382 rfl 0 rfl ?_
      refine vv_iload (n := 1385) dL_law_1383 rfl 4 rfl ?_
      refine vv_iconst (n := 1386) (v := 2) dL_law_1385 rfl (by decide) ?_
      refine vv_iadd (n := 1387) dL_law_1386 rfl ?_
      refine vv_sld (n := 1388) dL_law_1387 rfl (fun v261 => ?_)
      refine vv_aloadv_n (n := 1389) isR_17 dL_law_1388 rfl 0 rfl ?_
      refine vv_iload (n := 1391) dL_law_1389 rfl 4 rfl ?_
      refine vv_iconst (n := 1392) (v := 3) dL_law_1391 rfl (by decide) ?_
      refine vv_iadd (n := 1393) dL_law_1392 rfl ?_
      refine vv_sld (n := 1394) dL_law_1393 rfl (fun v262 => ?_)
      refine k0_193 (n := 1397) dL_law_1394 rfl rfl rfl (fun v263 s264 => ?_)
      refine vv_aload_n (n := 1398) dL_law_1397 rfl 2 rfl ?_
      refine vv_aloadv_n (n := 1399) isR_17 dL_law_1398 rfl 0 rfl ?_
      refine vv_iload (n := 1401) dL_law_1399 rfl 4 rfl ?_
      refine vv_iconst (n := 1402) (v := 1) dL_law_1401 rfl (by decide) ?_
      refine vv_iadd (n := 1403) dL_law_1402 rfl ?_
      refine vv_sld (n := 1404) dL_law_1403 rfl (fun v265 => ?_)
      refine vv_aloadv_n (n := 1405) isR_17 dL_law_1404 rfl 0 rfl ?_
      refine vv_iload (n := 1407) dL_law_1405 rfl 4 rfl ?_
      refine vv_iconst (n := 1408) (v := 2) dL_law_1407 rfl (by decide) ?_
      refine vv_iadd (n := 1409) dL_law_1408 rfl ?_
      refine vv_sld (n := 1410) dL_law_1409 rfl (fun v266 => ?_)
      refine vv_aloadv_n (n := 1411) isR_17 dL_law_1410 rfl 0 rfl ?_
      refine vv_iload (n := 1413) dL_law_1411 rfl 4 rfl ?_
      refine vv_iconst (n := 1414) (v := 3) dL_law_1413 rfl (by decide) ?_
      refine vv_iadd (n := 1415) dL_law_1414 rfl ?_
      refine vv_sld (n := 1416) dL_law_1415 rfl (fun v267 => ?_)
      refine k0_196 (n := 1419) dL_law_1416 rfl rfl rfl (fun v268 s269 => ?_)
      refine vv_icmp_eq (tgt := 1678) (n := 1422) dL_law_1419 (by decide) rfl ?_ ?_
      · refine vv_iinc (n := 1681) (v := 5) (L' := [(4, .int (x4 + 5)), (0, .retAddr 17), (1, .ref 0), (2, .ref 45), (3, .ref 72)]) dL_law_1678 rfl 4 rfl (by decide) (Nat.le_of_ble_eq_true rfl) rfl ?_
        refine vv_goto (n := 23) dL_law_1681 (by decide) ?_
        exact VC.sub [1, 2, 3, 4, 0] rfl (hK23 s269 (x4 + 5))
      · refine vv_iconst (n := 1423) (v := 0) dL_law_1422 rfl (by decide) ?_
        exact vv_zret1 dL_law_1423 rfl rfl
    refine vv_case (fun h41 => ?_) (fun h41 => ?_)
    · refine vv_tabC (c := 41) (tgt := 1424) dL_law_39 h41 (by decide) (by decide) rfl (by decide) ?_
      refine vv_aload_n (n := 1425) dL_law_1424 rfl 1 rfl ?_
      refine vv_aloadv_n (n := 1426) isR_17 dL_law_1425 rfl 0 rfl ?_
      refine vv_iload (n := 1428) dL_law_1426 rfl 4 rfl ?_
      refine vv_iconst (n := 1429) (v := 1) dL_law_1428 rfl (by decide) ?_
      refine vv_iadd (n := 1430) dL_law_1429 rfl ?_
      refine vv_sld (n := 1431) dL_law_1430 rfl (fun v270 => ?_)
      refine vv_aloadv_n (n := 1432) isR_17 dL_law_1431 rfl 0 rfl ?_
      refine vv_iload (n := 1434) dL_law_1432 rfl 4 rfl ?_
      refine vv_iconst (n := 1435) (v := 2) dL_law_1434 rfl (by decide) ?_
      refine vv_iadd (n := 1436) dL_law_1435 rfl ?_
      refine vv_sld (n := 1437) dL_law_1436 rfl (fun v271 => ?_)
      refine vv_aloadv_n (n := 1438) isR_17 dL_law_1437 rfl 0 rfl ?_
      refine vv_iload (n := 1440) dL_law_1438 rfl 4 rfl ?_
      refine vv_iconst (n := 1441) (v := 3) dL_law_1440 rfl (by decide) ?_
      refine vv_iadd (n := 1442) dL_law_1441 rfl ?_
      refine vv_sld (n := 1443) dL_law_1442 rfl (fun v272 => ?_)
      refine k0_197 (n := 1446) dL_law_1443 rfl rfl rfl (fun v273 s274 => ?_)
      refine vv_aload_n (n := 1447) dL_law_1446 rfl 2 rfl ?_
      refine vv_aloadv_n (n := 1448) isR_17 dL_law_1447 rfl 0 rfl ?_
      refine vv_iload (n := 1450) dL_law_1448 rfl 4 rfl ?_
      refine vv_iconst (n := 1451) (v := 1) dL_law_1450 rfl (by decide) ?_
      refine vv_iadd (n := 1452) dL_law_1451 rfl ?_
      refine vv_sld (n := 1453) dL_law_1452 rfl (fun v275 => ?_)
      refine vv_aloadv_n (n := 1454) isR_17 dL_law_1453 rfl 0 rfl ?_
      refine vv_iload (n := 1456) dL_law_1454 rfl 4 rfl ?_
      refine vv_iconst (n := 1457) (v := 2) dL_law_1456 rfl (by decide) ?_
      refine vv_iadd (n := 1458) dL_law_1457 rfl ?_
      refine vv_sld (n := 1459) dL_law_1458 rfl (fun v276 => ?_)
      refine vv_aloadv_n (n := 1460) isR_17 dL_law_1459 rfl 0 rfl ?_
      refine vv_iload (n := 1462) dL_law_1460 rfl 4 rfl ?_
      refine vv_iconst (n := 1463) (v := 3) dL_law_1462 rfl (by decide) ?_
      refine vv_iadd (n := 1464) dL_law_1463 rfl ?_
      refine vv_sld (n := 1465) dL_law_1464 rfl (fun v277 => ?_)
      refine k0_200 (n := 1468) dL_law_1465 rfl rfl rfl (fun v278 s279 => ?_)
      refine vv_icmp_eq (tgt := 1678) (n := 1471) dL_law_1468 (by decide) rfl ?_ ?_
      · refine vv_iinc (n := 1681) (v := 5) (L' := [(4, .int (x4 + 5)), (0, .retAddr 17), (1, .ref 0), (2, .ref 45), (3, .ref 72)]) dL_law_1678 rfl 4 rfl (by decide) (Nat.le_of_ble_eq_true rfl) rfl ?_
        refine vv_goto (n := 23) dL_law_1681 (by decide) ?_
        exact VC.sub [1, 2, 3, 4, 0] rfl (hK23 s279 (x4 + 5))
      · refine vv_iconst (n := 1472) (v := 0) dL_law_1471 rfl (by decide) ?_
        exact vv_zret1 dL_law_1472 rfl rfl
    refine vv_case (fun h42 => ?_) (fun h42 => ?_)
    · refine vv_tabC (c := 42) (tgt := 1473) dL_law_39 h42 (by decide) (by decide) rfl (by decide) ?_
      refine vv_aload_n (n := 1474) dL_law_1473 rfl 1 rfl ?_
      refine vv_aloadv_n (n := 1475) isR_17 dL_law_1474 rfl 0 rfl ?_
      refine vv_iload (n := 1477) dL_law_1475 rfl 4 rfl ?_
      refine vv_iconst (n := 1478) (v := 1) dL_law_1477 rfl (by decide) ?_
      refine vv_iadd (n := 1479) dL_law_1478 rfl ?_
      refine vv_sld (n := 1480) dL_law_1479 rfl (fun v280 => ?_)
      refine k0_201 (n := 1483) dL_law_1480 rfl rfl rfl (fun v281 s282 => ?_)
      refine vv_aload_n (n := 1484) dL_law_1483 rfl 2 rfl ?_
      refine vv_aloadv_n (n := 1485) isR_17 dL_law_1484 rfl 0 rfl ?_
      refine vv_iload (n := 1487) dL_law_1485 rfl 4 rfl ?_
      refine vv_iconst (n := 1488) (v := 1) dL_law_1487 rfl (by decide) ?_
      refine vv_iadd (n := 1489) dL_law_1488 rfl ?_
      refine vv_sld (n := 1490) dL_law_1489 rfl (fun v283 => ?_)
      refine k0_204 (n := 1493) dL_law_1490 rfl rfl rfl (fun v284 s285 => ?_)
      refine vv_icmp_eq (tgt := 1678) (n := 1496) dL_law_1493 (by decide) rfl ?_ ?_
      · refine vv_iinc (n := 1681) (v := 5) (L' := [(4, .int (x4 + 5)), (0, .retAddr 17), (1, .ref 0), (2, .ref 45), (3, .ref 72)]) dL_law_1678 rfl 4 rfl (by decide) (Nat.le_of_ble_eq_true rfl) rfl ?_
        refine vv_goto (n := 23) dL_law_1681 (by decide) ?_
        exact VC.sub [1, 2, 3, 4, 0] rfl (hK23 s285 (x4 + 5))
      · refine vv_iconst (n := 1497) (v := 0) dL_law_1496 rfl (by decide) ?_
        exact vv_zret1 dL_law_1497 rfl rfl
    refine vv_case (fun h43 => ?_) (fun h43 => ?_)
    · refine vv_tabC (c := 43) (tgt := 1498) dL_law_39 h43 (by decide) (by decide) rfl (by decide) ?_
      refine vv_aload_n (n := 1499) dL_law_1498 rfl 1 rfl ?_
      refine k0_205 (n := 1502) (fun h => ⟨(vlc trivial (vlc (sk0 h).2 (vlc (sk45 h).2 (vlc (sk72 h).2 (vlc trivial vl0))))), vs0⟩) dL_law_1499 rfl rfl rfl (fun v286 s287 _ => ?_)
      refine vv_aload_n (n := 1503) dL_law_1502 rfl 2 rfl ?_
      refine k0_208 (n := 1506) dL_law_1503 rfl rfl rfl (fun v288 s289 => ?_)
      refine vv_icmp_eq (tgt := 1678) (n := 1509) dL_law_1506 (by decide) rfl ?_ ?_
      · refine vv_iinc (n := 1681) (v := 5) (L' := [(4, .int (x4 + 5)), (0, .retAddr 17), (1, .ref 0), (2, .ref 45), (3, .ref 72)]) dL_law_1678 rfl 4 rfl (by decide) (Nat.le_of_ble_eq_true rfl) rfl ?_
        refine vv_goto (n := 23) dL_law_1681 (by decide) ?_
        exact VC.sub [1, 2, 3, 4, 0] rfl (hK23 s289 (x4 + 5))
      · refine vv_iconst (n := 1510) (v := 0) dL_law_1509 rfl (by decide) ?_
        exact vv_zret1 dL_law_1510 rfl rfl
    refine vv_case (fun h44 => ?_) (fun h44 => ?_)
    · refine vv_tabC (c := 44) (tgt := 1511) dL_law_39 h44 (by decide) (by decide) rfl (by decide) ?_
      refine vv_aload_n (n := 1512) dL_law_1511 rfl 1 rfl ?_
      refine vv_aloadv_n (n := 1513) isR_17 dL_law_1512 rfl 0 rfl ?_
      refine vv_iload (n := 1515) dL_law_1513 rfl 4 rfl ?_
      refine vv_iconst (n := 1516) (v := 1) dL_law_1515 rfl (by decide) ?_
      refine vv_iadd (n := 1517) dL_law_1516 rfl ?_
      refine vv_sld (n := 1518) dL_law_1517 rfl (fun v290 => ?_)
      refine vv_aloadv_n (n := 1519) isR_17 dL_law_1518 rfl 0 rfl ?_
      refine vv_iload (n := 1521) dL_law_1519 rfl 4 rfl ?_
      refine vv_iconst (n := 1522) (v := 2) dL_law_1521 rfl (by decide) ?_
      refine vv_iadd (n := 1523) dL_law_1522 rfl ?_
      refine vv_sld (n := 1524) dL_law_1523 rfl (fun v291 => ?_)
      refine k0_209 (n := 1527) dL_law_1524 rfl rfl rfl (fun v292 s293 => ?_)
      refine vv_aload_n (n := 1528) dL_law_1527 rfl 2 rfl ?_
      refine vv_aloadv_n (n := 1529) isR_17 dL_law_1528 rfl 0 rfl ?_
      refine vv_iload (n := 1531) dL_law_1529 rfl 4 rfl ?_
      refine vv_iconst (n := 1532) (v := 1) dL_law_1531 rfl (by decide) ?_
      refine vv_iadd (n := 1533) dL_law_1532 rfl ?_
      refine vv_sld (n := 1534) dL_law_1533 rfl (fun v294 => ?_)
      refine vv_aloadv_n (n := 1535) isR_17 dL_law_1534 rfl 0 rfl ?_
      refine vv_iload (n := 1537) dL_law_1535 rfl 4 rfl ?_
      refine vv_iconst (n := 1538) (v := 2) dL_law_1537 rfl (by decide) ?_
      refine vv_iadd (n := 1539) dL_law_1538 rfl ?_
      refine vv_sld (n := 1540) dL_law_1539 rfl (fun v295 => ?_)
      refine k0_212 (n := 1543) dL_law_1540 rfl rfl rfl (fun v296 s297 => ?_)
      refine vv_icmp_eq (tgt := 1678) (n := 1546) dL_law_1543 (by decide) rfl ?_ ?_
      · refine vv_iinc (n := 1681) (v := 5) (L' := [(4, .int (x4 + 5)), (0, .retAddr 17), (1, .ref 0), (2, .ref 45), (3, .ref 72)]) dL_law_1678 rfl 4 rfl (by decide) (Nat.le_of_ble_eq_true rfl) rfl ?_
        refine vv_goto (n := 23) dL_law_1681 (by decide) ?_
        exact VC.sub [1, 2, 3, 4, 0] rfl (hK23 s297 (x4 + 5))
      · refine vv_iconst (n := 1547) (v := 0) dL_law_1546 rfl (by decide) ?_
        exact vv_zret1 dL_law_1547 rfl rfl
    refine vv_case (fun h45 => ?_) (fun h45 => ?_)
    · refine vv_tabC (c := 45) (tgt := 1548) dL_law_39 h45 (by decide) (by decide) rfl (by decide) ?_
      refine vv_aload_n (n := 1549) dL_law_1548 rfl 1 rfl ?_
      refine vv_aloadv_n (n := 1550) isR_17 dL_law_1549 rfl 0 rfl ?_
      refine vv_iload (n := 1552) dL_law_1550 rfl 4 rfl ?_
      refine vv_iconst (n := 1553) (v := 1) dL_law_1552 rfl (by decide) ?_
      refine vv_iadd (n := 1554) dL_law_1553 rfl ?_
      refine vv_sld (n := 1555) dL_law_1554 rfl (fun v298 => ?_)
      refine k0_213 (n := 1558) (fun h => ⟨(vlc trivial (vlc (sk0 h).2 (vlc (sk45 h).2 (vlc (sk72 h).2 (vlc trivial vl0))))), vs0⟩) dL_law_1555 rfl rfl rfl (fun v299 s300 _ => ?_)
      refine vv_aload_n (n := 1559) dL_law_1558 rfl 2 rfl ?_
      refine vv_aloadv_n (n := 1560) isR_17 dL_law_1559 rfl 0 rfl ?_
      refine vv_iload (n := 1562) dL_law_1560 rfl 4 rfl ?_
      refine vv_iconst (n := 1563) (v := 1) dL_law_1562 rfl (by decide) ?_
      refine vv_iadd (n := 1564) dL_law_1563 rfl ?_
      refine vv_sld (n := 1565) dL_law_1564 rfl (fun v301 => ?_)
      refine k0_216 (n := 1568) dL_law_1565 rfl rfl rfl (fun v302 s303 => ?_)
      refine vv_icmp_eq (tgt := 1678) (n := 1571) dL_law_1568 (by decide) rfl ?_ ?_
      · refine vv_iinc (n := 1681) (v := 5) (L' := [(4, .int (x4 + 5)), (0, .retAddr 17), (1, .ref 0), (2, .ref 45), (3, .ref 72)]) dL_law_1678 rfl 4 rfl (by decide) (Nat.le_of_ble_eq_true rfl) rfl ?_
        refine vv_goto (n := 23) dL_law_1681 (by decide) ?_
        exact VC.sub [1, 2, 3, 4, 0] rfl (hK23 s303 (x4 + 5))
      · refine vv_iconst (n := 1572) (v := 0) dL_law_1571 rfl (by decide) ?_
        exact vv_zret1 dL_law_1572 rfl rfl
    refine vv_case (fun h46 => ?_) (fun h46 => ?_)
    · refine vv_tabC (c := 46) (tgt := 1573) dL_law_39 h46 (by decide) (by decide) rfl (by decide) ?_
      refine vv_aload_n (n := 1574) dL_law_1573 rfl 1 rfl ?_
      refine vv_aloadv_n (n := 1575) isR_17 dL_law_1574 rfl 0 rfl ?_
      refine vv_iload (n := 1577) dL_law_1575 rfl 4 rfl ?_
      refine vv_iconst (n := 1578) (v := 1) dL_law_1577 rfl (by decide) ?_
      refine vv_iadd (n := 1579) dL_law_1578 rfl ?_
      refine vv_sld (n := 1580) dL_law_1579 rfl (fun v304 => ?_)
      refine k0_217 (n := 1583) dL_law_1580 rfl rfl rfl (fun v305 s306 => ?_)
      refine vv_aload_n (n := 1584) dL_law_1583 rfl 2 rfl ?_
      refine vv_aloadv_n (n := 1585) isR_17 dL_law_1584 rfl 0 rfl ?_
      refine vv_iload (n := 1587) dL_law_1585 rfl 4 rfl ?_
      refine vv_iconst (n := 1588) (v := 1) dL_law_1587 rfl (by decide) ?_
      refine vv_iadd (n := 1589) dL_law_1588 rfl ?_
      refine vv_sld (n := 1590) dL_law_1589 rfl (fun v307 => ?_)
      refine k0_220 (n := 1593) dL_law_1590 rfl rfl rfl (fun v308 s309 => ?_)
      refine vv_icmp_eq (tgt := 1678) (n := 1596) dL_law_1593 (by decide) rfl ?_ ?_
      · refine vv_iinc (n := 1681) (v := 5) (L' := [(4, .int (x4 + 5)), (0, .retAddr 17), (1, .ref 0), (2, .ref 45), (3, .ref 72)]) dL_law_1678 rfl 4 rfl (by decide) (Nat.le_of_ble_eq_true rfl) rfl ?_
        refine vv_goto (n := 23) dL_law_1681 (by decide) ?_
        exact VC.sub [1, 2, 3, 4, 0] rfl (hK23 s309 (x4 + 5))
      · refine vv_iconst (n := 1597) (v := 0) dL_law_1596 rfl (by decide) ?_
        exact vv_zret1 dL_law_1597 rfl rfl
    refine vv_case (fun h47 => ?_) (fun h47 => ?_)
    · refine vv_tabC (c := 47) (tgt := 1598) dL_law_39 h47 (by decide) (by decide) rfl (by decide) ?_
      refine vv_aload_n (n := 1599) dL_law_1598 rfl 1 rfl ?_
      refine vv_aloadv_n (n := 1600) isR_17 dL_law_1599 rfl 0 rfl ?_
      refine vv_iload (n := 1602) dL_law_1600 rfl 4 rfl ?_
      refine vv_iconst (n := 1603) (v := 1) dL_law_1602 rfl (by decide) ?_
      refine vv_iadd (n := 1604) dL_law_1603 rfl ?_
      refine vv_sld (n := 1605) dL_law_1604 rfl (fun v310 => ?_)
      refine k0_221 (n := 1608) dL_law_1605 rfl rfl rfl (fun v311 => ?_)
      refine vv_aload_n (n := 1609) dL_law_1608 rfl 2 rfl ?_
      refine vv_aloadv_n (n := 1610) isR_17 dL_law_1609 rfl 0 rfl ?_
      refine vv_iload (n := 1612) dL_law_1610 rfl 4 rfl ?_
      refine vv_iconst (n := 1613) (v := 1) dL_law_1612 rfl (by decide) ?_
      refine vv_iadd (n := 1614) dL_law_1613 rfl ?_
      refine vv_sld (n := 1615) dL_law_1614 rfl (fun v312 => ?_)
      refine k0_224 (n := 1618) dL_law_1615 rfl rfl rfl (fun v313 s314 => ?_)
      refine vv_icmp_eq (tgt := 1678) (n := 1621) dL_law_1618 (by decide) rfl ?_ ?_
      · refine vv_iinc (n := 1681) (v := 5) (L' := [(4, .int (x4 + 5)), (0, .retAddr 17), (1, .ref 0), (2, .ref 45), (3, .ref 72)]) dL_law_1678 rfl 4 rfl (by decide) (Nat.le_of_ble_eq_true rfl) rfl ?_
        refine vv_goto (n := 23) dL_law_1681 (by decide) ?_
        exact VC.sub [1, 2, 3, 4, 0] rfl (hK23 s314 (x4 + 5))
      · refine vv_iconst (n := 1622) (v := 0) dL_law_1621 rfl (by decide) ?_
        exact vv_zret1 dL_law_1622 rfl rfl
    refine vv_case (fun h48 => ?_) (fun h48 => ?_)
    · refine vv_tabC (c := 48) (tgt := 1623) dL_law_39 h48 (by decide) (by decide) rfl (by decide) ?_
      refine vv_aload_n (n := 1624) dL_law_1623 rfl 1 rfl ?_
      refine vv_aloadv_n (n := 1625) isR_17 dL_law_1624 rfl 0 rfl ?_
      refine vv_iload (n := 1627) dL_law_1625 rfl 4 rfl ?_
      refine vv_iconst (n := 1628) (v := 1) dL_law_1627 rfl (by decide) ?_
      refine vv_iadd (n := 1629) dL_law_1628 rfl ?_
      refine vv_sld (n := 1630) dL_law_1629 rfl (fun v315 => ?_)
      refine vv_aload_n (n := 1631) dL_law_1630 rfl 3 rfl ?_
      refine vv_callH (n := 1634) (ar := 3) (rest := []) (con_L_row l s v315) dL_law_1631 rfl rfl (by decide) ⟨by decide, by decide⟩ (lw_SW q1080 q1081 q96 q1082) rfl (by decide +kernel) (fun v316 s317 => ?_)
      refine vv_istore (n := 1636) (L' := [(5, .int v316), (0, .retAddr 17), (1, .ref 0), (2, .ref 45), (3, .ref 72), (4, .int x4)]) dL_law_1634 rfl (Nat.le_of_ble_eq_true rfl) rfl ?_
      refine vv_aload_n (n := 1637) dL_law_1636 rfl 3 rfl ?_
      refine vv_aloadv_n (n := 1638) isR_17 dL_law_1637 rfl 1 rfl ?_
      refine vv_iload (n := 1640) dL_law_1638 rfl 5 rfl ?_
      refine vv_iconst (n := 1641) (v := 1) dL_law_1640 rfl (by decide) ?_
      refine vv_iadd (n := 1642) dL_law_1641 rfl ?_
      refine vv_sld (n := 1643) dL_law_1642 rfl (fun v318 => ?_)
      refine k0_228 (n := 1646) dL_law_1643 rfl rfl rfl (fun v319 s320 => ?_)
      refine vv_lstore (n := 1648) (L' := [(6, .long v319), (5, .int v316), (0, .retAddr 17), (1, .ref 0), (2, .ref 45), (3, .ref 72), (4, .int x4)]) dL_law_1646 rfl (Nat.le_of_ble_eq_true rfl) rfl ?_
      refine vv_aload_n (n := 1649) dL_law_1648 rfl 4 rfl ?_
      refine k0_48 (n := 1652) dL_law_1649 rfl rfl rfl (fun v321 => ?_)
      refine vv_iload (n := 1654) dL_law_1652 rfl 1 rfl ?_
      refine vv_icmp_eq (tgt := 1659) (n := 1657) dL_law_1654 (by decide) rfl ?_ ?_
      · refine vv_iload (n := 1661) dL_law_1659 rfl 1 rfl ?_
        refine vv_if_ne (tgt := 1675) (n := 1664) dL_law_1661 (by decide) rfl ?_ ?_
        · refine vv_goto (n := 1678) dL_law_1675 (by decide) ?_
          refine vv_iinc (n := 1681) (v := 5) (L' := [(4, .int (x4 + 5)), (6, .long v319), (5, .int v316), (0, .retAddr 17), (1, .ref 0), (2, .ref 45), (3, .ref 72)]) dL_law_1678 rfl 6 rfl (by decide) (Nat.le_of_ble_eq_true rfl) rfl ?_
          refine vv_goto (n := 23) dL_law_1681 (by decide) ?_
          exact VC.sub [3, 4, 5, 6, 0] rfl (hK23 s320 (x4 + 5))
        · refine vv_aload_n (n := 1665) dL_law_1664 rfl 5 rfl ?_
          refine vv_iconst (n := 1666) (v := 0) dL_law_1665 rfl (by decide) ?_
          refine vv_lald (n := 1667) sk72 dL_law_1666 rfl (fun v322 => ?_)
          refine vv_lload (n := 1669) dL_law_1667 rfl 0 rfl ?_
          refine vv_lcmp (n := 1670) dL_law_1669 rfl ?_
          refine vv_if_eq (tgt := 1675) (n := 1673) dL_law_1670 (by decide) rfl ?_ ?_
          · refine vv_goto (n := 1678) dL_law_1675 (by decide) ?_
            refine vv_iinc (n := 1681) (v := 5) (L' := [(4, .int (x4 + 5)), (6, .long v319), (5, .int v316), (0, .retAddr 17), (1, .ref 0), (2, .ref 45), (3, .ref 72)]) dL_law_1678 rfl 6 rfl (by decide) (Nat.le_of_ble_eq_true rfl) rfl ?_
            refine vv_goto (n := 23) dL_law_1681 (by decide) ?_
            exact VC.sub [3, 4, 5, 6, 0] rfl (hK23 s320 (x4 + 5))
          · refine vv_iconst (n := 1674) (v := 0) dL_law_1673 rfl (by decide) ?_
            exact vv_zret1 dL_law_1674 rfl rfl
      · refine vv_iconst (n := 1658) (v := 0) dL_law_1657 rfl (by decide) ?_
        exact vv_zret1 dL_law_1658 rfl rfl
    refine vv_tabD (tgt := 1678) dL_law_39 (by have g0 : ((v1 &&& 63) : Int32).toInt ≠ 0 := fun e => h0 (i32_of e); have g1 : ((v1 &&& 63) : Int32).toInt ≠ 1 := fun e => h1 (i32_of e); have g2 : ((v1 &&& 63) : Int32).toInt ≠ 2 := fun e => h2 (i32_of e); have g3 : ((v1 &&& 63) : Int32).toInt ≠ 3 := fun e => h3 (i32_of e); have g4 : ((v1 &&& 63) : Int32).toInt ≠ 4 := fun e => h4 (i32_of e); have g5 : ((v1 &&& 63) : Int32).toInt ≠ 5 := fun e => h5 (i32_of e); have g6 : ((v1 &&& 63) : Int32).toInt ≠ 6 := fun e => h6 (i32_of e); have g7 : ((v1 &&& 63) : Int32).toInt ≠ 7 := fun e => h7 (i32_of e); have g8 : ((v1 &&& 63) : Int32).toInt ≠ 8 := fun e => h8 (i32_of e); have g9 : ((v1 &&& 63) : Int32).toInt ≠ 9 := fun e => h9 (i32_of e); have g10 : ((v1 &&& 63) : Int32).toInt ≠ 10 := fun e => h10 (i32_of e); have g11 : ((v1 &&& 63) : Int32).toInt ≠ 11 := fun e => h11 (i32_of e); have g12 : ((v1 &&& 63) : Int32).toInt ≠ 12 := fun e => h12 (i32_of e); have g13 : ((v1 &&& 63) : Int32).toInt ≠ 13 := fun e => h13 (i32_of e); have g14 : ((v1 &&& 63) : Int32).toInt ≠ 14 := fun e => h14 (i32_of e); have g15 : ((v1 &&& 63) : Int32).toInt ≠ 15 := fun e => h15 (i32_of e); have g16 : ((v1 &&& 63) : Int32).toInt ≠ 16 := fun e => h16 (i32_of e); have g17 : ((v1 &&& 63) : Int32).toInt ≠ 17 := fun e => h17 (i32_of e); have g18 : ((v1 &&& 63) : Int32).toInt ≠ 18 := fun e => h18 (i32_of e); have g19 : ((v1 &&& 63) : Int32).toInt ≠ 19 := fun e => h19 (i32_of e); have g20 : ((v1 &&& 63) : Int32).toInt ≠ 20 := fun e => h20 (i32_of e); have g21 : ((v1 &&& 63) : Int32).toInt ≠ 21 := fun e => h21 (i32_of e); have g22 : ((v1 &&& 63) : Int32).toInt ≠ 22 := fun e => h22 (i32_of e); have g23 : ((v1 &&& 63) : Int32).toInt ≠ 23 := fun e => h23 (i32_of e); have g24 : ((v1 &&& 63) : Int32).toInt ≠ 24 := fun e => h24 (i32_of e); have g25 : ((v1 &&& 63) : Int32).toInt ≠ 25 := fun e => h25 (i32_of e); have g26 : ((v1 &&& 63) : Int32).toInt ≠ 26 := fun e => h26 (i32_of e); have g27 : ((v1 &&& 63) : Int32).toInt ≠ 27 := fun e => h27 (i32_of e); have g28 : ((v1 &&& 63) : Int32).toInt ≠ 28 := fun e => h28 (i32_of e); have g29 : ((v1 &&& 63) : Int32).toInt ≠ 29 := fun e => h29 (i32_of e); have g30 : ((v1 &&& 63) : Int32).toInt ≠ 30 := fun e => h30 (i32_of e); have g31 : ((v1 &&& 63) : Int32).toInt ≠ 31 := fun e => h31 (i32_of e); have g32 : ((v1 &&& 63) : Int32).toInt ≠ 32 := fun e => h32 (i32_of e); have g33 : ((v1 &&& 63) : Int32).toInt ≠ 33 := fun e => h33 (i32_of e); have g34 : ((v1 &&& 63) : Int32).toInt ≠ 34 := fun e => h34 (i32_of e); have g35 : ((v1 &&& 63) : Int32).toInt ≠ 35 := fun e => h35 (i32_of e); have g36 : ((v1 &&& 63) : Int32).toInt ≠ 36 := fun e => h36 (i32_of e); have g37 : ((v1 &&& 63) : Int32).toInt ≠ 37 := fun e => h37 (i32_of e); have g38 : ((v1 &&& 63) : Int32).toInt ≠ 38 := fun e => h38 (i32_of e); have g39 : ((v1 &&& 63) : Int32).toInt ≠ 39 := fun e => h39 (i32_of e); have g40 : ((v1 &&& 63) : Int32).toInt ≠ 40 := fun e => h40 (i32_of e); have g41 : ((v1 &&& 63) : Int32).toInt ≠ 41 := fun e => h41 (i32_of e); have g42 : ((v1 &&& 63) : Int32).toInt ≠ 42 := fun e => h42 (i32_of e); have g43 : ((v1 &&& 63) : Int32).toInt ≠ 43 := fun e => h43 (i32_of e); have g44 : ((v1 &&& 63) : Int32).toInt ≠ 44 := fun e => h44 (i32_of e); have g45 : ((v1 &&& 63) : Int32).toInt ≠ 45 := fun e => h45 (i32_of e); have g46 : ((v1 &&& 63) : Int32).toInt ≠ 46 := fun e => h46 (i32_of e); have g47 : ((v1 &&& 63) : Int32).toInt ≠ 47 := fun e => h47 (i32_of e); have g48 : ((v1 &&& 63) : Int32).toInt ≠ 48 := fun e => h48 (i32_of e); omega) (by decide) ?_
    refine vv_iinc (n := 1681) (v := 5) (L' := [(4, .int (x4 + 5)), (0, .retAddr 17), (1, .ref 0), (2, .ref 45), (3, .ref 72)]) dL_law_1678 rfl 4 rfl (by decide) (Nat.le_of_ble_eq_true rfl) rfl ?_
    refine vv_goto (n := 23) dL_law_1681 (by decide) ?_
    exact VC.sub [1, 2, 3, 4, 0] rfl (hK23 s (x4 + 5))
def L_law_23 (u : Nat) (w : Nat) : Sg → Int32 → Option (Int32 × Sg) := itN (fun K => L_law_23b u K) (fun _ _ => none) w
theorem vc_L_law_23 (l : Launch) (u : Nat)  (w : Nat) : ∀ (s : Sg) (x4 : Int32), VC l true true eSI cL_law RX0 "law" 8 1207 40170 (some .boolean) s 23 [(0, .retAddr 17), (1, .ref 0), (2, .ref 45), (3, .ref 72), (4, .int x4)] [] (L_law_23 u w s x4) := by
  induction w with
  | zero => intro s x4; exact VC.non
  | succ w ih => intro s x4; exact vc_L_law_23b l u _ ih s x4
def L_law (u : Nat) (s : Sg) : Option (Int32 × Sg) := L_law_23 u u s 0
theorem vcl_L_law (l : Launch) (u : Nat) (s : Sg) : VC l true true eSI cL_law RX0 "law" 8 1207 40170 (some .boolean) s 20 [(0, .retAddr 17), (1, .ref 0), (2, .ref 45), (3, .ref 72)] [] (L_law u s) := by
  unfold L_law
  refine vv_iconst (n := 21) (v := 0) dL_law_20 rfl (by decide) ?_
  refine vv_istore (n := 23) (L' := [(4, .int 0), (0, .retAddr 17), (1, .ref 0), (2, .ref 45), (3, .ref 72)]) dL_law_21 rfl (Nat.le_of_ble_eq_true rfl) rfl ?_
  exact VC.sub [1, 2, 3, 4, 0] rfl (vc_L_law_23 l u u s 0)
