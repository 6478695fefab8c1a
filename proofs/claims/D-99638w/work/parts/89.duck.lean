/-! LAW: duck, who lies beside whom; a step of the duck -/
set_option maxRecDepth 100000
def bsd (g : Geo) (k j : Nat) : Bool := decide (oI (gd g k) = nI j) || decide (oI (gd g j) = nI k)
theorem X_bsd {g : Geo} {s : Sg} {k j : Nat} (hg : gn g ≤ 6) (h : XG g s) (hk : k < gn g) (hj : j < gn g) : X_areBeside s (nI k) (nI j) = some (bI (bsd g k j)) := by
  unfold X_areBeside bsd
  rw [aI_n (by omega) (by omega), bd_some, (h.2 k hk).2.2, aI_n (by omega) (by omega), bd_some, (h.2 j hj).2.2]
  by_cases e1 : oI (gd g k) = nI j
  · rw [if_pos e1, decide_eq_true e1]; rfl
  · rw [if_neg e1, decide_eq_false e1]
    by_cases e2 : oI (gd g j) = nI k
    · rw [if_pos e2, decide_eq_true e2]; rfl
    · rw [if_neg e2, decide_eq_false e2]; rfl
theorem M_bsd {g : Geo} {s : Sg} {k j : Nat} (hg : gn g ≤ 6) (h : MG g s) (hk : k < gn g) (hj : j < gn g) : M_areBeside s (nI k) (nI j) = some (bI (bsd g k j)) := by
  unfold M_areBeside bsd
  rw [aI_n (by omega) (by omega), bd_some, (h.2 k hk).2.2, aI_n (by omega) (by omega), bd_some, (h.2 j hj).2.2]
  by_cases e1 : oI (gd g k) = nI j
  · rw [if_pos e1, decide_eq_true e1]; rfl
  · rw [if_neg e1, decide_eq_false e1]
    by_cases e2 : oI (gd g j) = nI k
    · rw [if_pos e2, decide_eq_true e2]; rfl
    · rw [if_neg e2, decide_eq_false e2]; rfl
/-- how many of the first j lie beside k -/
def bsN (g : Geo) (k j : Nat) : Nat := sm (fun x => if bsd g k x then 1 else 0) j
def upL (h : Nat → Int64) (k : Nat) (v : Int64) : Nat → Int64 := fun x => if x = k then v else h x
/-- what lake k hands to the first j lakes -/
def dkJ (g : Geo) (f : Nat → Int64) (k : Nat) (h : Nat → Int64) (j : Nat) : Nat → Int64 := fo (fun x h => if bsd g k x then upL h x (h x + ((60 / nI (bsN g k (gn g))) : Int32).toInt64 * f k) else h) j h
def dkK (g : Geo) (f : Nat → Int64) (k : Nat) (h : Nat → Int64) : Nat → Int64 := dkJ g f k (if bsN g k (gn g) = 0 then upL h k (h k + (60 : Int64) * f k) else h) (gn g)
/-- one step -/
def dkS (g : Geo) (f : Nat → Int64) (k : Nat) : Nat → Int64 := fo (fun x h => dkK g f x h) k (fun _ => 0)
