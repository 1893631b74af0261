/-! BASE 15: a door's arrays when one place of it is changed; what an act leaves -/
set_option maxRecDepth 100000
theorem shF_u {d : Nat → Nat} {k x : Nat} (h : ∀ z, ¬ 4 + 5 * z + 1 = k) : shF (updN d k x) = shF d := funext fun z => updN_ne (h z)
theorem yeF_u {d : Nat → Nat} {k x : Nat} (h : ∀ z, ¬ 4 + 5 * z + 2 = k) : yeF (updN d k x) = yeF d := funext fun z => updN_ne (h z)
theorem noF_u {d : Nat → Nat} {k x : Nat} (h : ∀ z, ¬ 4 + 5 * z + 3 = k) : noF (updN d k x) = noF d := funext fun z => updN_ne (h z)
theorem seF_u {d : Nat → Nat} {k x : Nat} (h2 : ¬ 2 = k) (h : ∀ z, ¬ 4 + 5 * z + 4 = k) : seF (updN d k x) = seF d := by
  funext z
  unfold seF seO
  rw [updN_ne h2, updN_ne (h z)]
theorem caF_u {d : Nat → Nat} {k x : Nat} (h : k < 44) : caF (updN d k x) = caF d := funext fun z => updN_ne (by omega)
theorem eaF_u {d : Nat → Nat} {k x : Nat} (h : k < 44) : eaF (updN d k x) = eaF d := funext fun z => updN_ne (by omega)
theorem poF_u {d : Nat → Nat} {k x : Nat} (h : k < 44) : poF (updN d k x) = poF d := funext fun z => updN_ne (by omega)
theorem leF_u {d : Nat → Nat} {k x : Nat} (h : k < 44) : leF (updN d k x) = leF d := funext fun z => updN_ne (by omega)
theorem shF_s {d : Nat → Nat} {s x : Nat} : updN (shF d) s x = shF (updN d (4 + 5 * s + 1) x) := by
  funext z
  unfold shF updN
  by_cases h : z = s
  · rw [if_pos h, if_pos (by omega)]
  · rw [if_neg h, if_neg (by omega)]
theorem seF_s {d : Nat → Nat} {s x : Nat} (hs : s < d 2) : upd (seF d) s (nI x) = seF (updN d (4 + 5 * s + 4) (x + 1)) := by
  funext z
  show (if z = s then nI x else seF d z) = _
  unfold seF seO
  rw [updN_ne (show ¬ 2 = 4 + 5 * s + 4 by omega)]
  by_cases h : z = s
  · rw [if_pos h, if_pos (show z < d 2 by omega), h, show updN d (4 + 5 * s + 4) (x + 1) (4 + 5 * s + 4) = x + 1 from if_pos rfl, if_neg (by omega), Nat.add_sub_cancel]
    rfl
  · rw [if_neg h, updN_ne (show ¬ 4 + 5 * z + 4 = 4 + 5 * s + 4 by omega)]
theorem seF_at {d : Nat → Nat} {s x : Nat} (hs : s < d 2) : seF (updN d (4 + 5 * s + 4) (x + 1)) s = nI x := by
  rw [← seF_s hs]
  exact if_pos rfl
theorem updN_at {d : Nat → Nat} {k x : Nat} : updN d k x k = x := if_pos rfl
def actP (b : Bool) (p q : Nat → Option DR) : Nat → Option DR := if b = true then q else p
theorem actP_t {b : Bool} {p q : Nat → Option DR} (h : b = true) : actP b p q = q := if_pos h
theorem actP_f {b : Bool} {p q : Nat → Option DR} (h : b = false) : actP b p q = p := by unfold actP; rw [h]; rfl
theorem actA_t {b : Bool} {ac : Nat} (h : b = true) : actA b ac = keepA ac := if_pos h
theorem actA_f {b : Bool} {ac : Nat} (h : b = false) : actA b ac = ac := by unfold actA; rw [h]; rfl
theorem posB_t {d : Nat → Nat} {x y : Int32} {v s : Nat} (h1 : ixO x (d 3) = some v) (h2 : ixO y (2 ^ d 2) = some s) : posB d x y = true := by unfold posB; rw [h1, h2]; rfl
theorem posB_a {d : Nat → Nat} {x y : Int32} (h1 : ixO x (d 3) = none) : posB d x y = false := by unfold posB; rw [h1]; rfl
theorem posB_b {d : Nat → Nat} {x y : Int32} (h2 : ixO y (2 ^ d 2) = none) : posB d x y = false := by unfold posB; rw [h2]; exact Bool.and_false _
theorem posD_t {d : Nat → Nat} {x y : Int32} {v s : Nat} (h1 : ixO x (d 3) = some v) (h2 : ixO y (2 ^ d 2) = some s) : posD d x y = poseD d v s := by unfold posD; rw [h1]; dsimp only; rw [h2]
theorem posD_a {d : Nat → Nat} {x y : Int32} (h1 : ixO x (d 3) = none) : posD d x y = d := by unfold posD; rw [h1]
theorem posD_b {d : Nat → Nat} {x y : Int32} (h2 : ixO y (2 ^ d 2) = none) : posD d x y = d := by unfold posD; rw [h2]; cases ixO x (d 3) <;> rfl
theorem strB_t {d : Nat → Nat} {x : Int32} {n : Nat} (h : decide (0 < d 0) = true) (h2 : ixO x 9 = some n) : strB d x = true := by unfold strB; rw [h, h2]; rfl
theorem strB_a {d : Nat → Nat} {x : Int32} (h : decide (0 < d 0) = false) : strB d x = false := by unfold strB; rw [h]; rfl
theorem strB_b {d : Nat → Nat} {x : Int32} (h2 : ixO x 9 = none) : strB d x = false := by unfold strB; rw [h2]; exact Bool.and_false _
theorem strD_t {d : Nat → Nat} {x : Int32} {n : Nat} (h : decide (0 < d 0) = true) (h2 : ixO x 9 = some n) : strD d x = updN d 1 n := by unfold strD; rw [if_pos h, h2]
theorem strD_a {d : Nat → Nat} {x : Int32} (h : decide (0 < d 0) = false) : strD d x = d := by unfold strD; rw [h]; rfl
theorem strD_b {d : Nat → Nat} {x : Int32} (h2 : ixO x 9 = none) : strD d x = d := by unfold strD; rw [h2]; split <;> rfl
theorem shaB_t {d : Nat → Nat} {x y : Int32} {s n : Nat} (h1 : ixO x (d 2) = some s) (h2 : ixO y 10 = some n) : shaB d x y = true := by unfold shaB; rw [h1, h2]; rfl
theorem shaB_a {d : Nat → Nat} {x y : Int32} (h1 : ixO x (d 2) = none) : shaB d x y = false := by unfold shaB; rw [h1]; rfl
theorem shaB_b {d : Nat → Nat} {x y : Int32} (h2 : ixO y 10 = none) : shaB d x y = false := by unfold shaB; rw [h2]; exact Bool.and_false _
theorem shaD_t {d : Nat → Nat} {x y : Int32} {s n : Nat} (h1 : ixO x (d 2) = some s) (h2 : ixO y 10 = some n) : shaD d x y = updN d (4 + 5 * s + 1) n := by unfold shaD; rw [h1]; dsimp only; rw [h2]
theorem shaD_a {d : Nat → Nat} {x y : Int32} (h1 : ixO x (d 2) = none) : shaD d x y = d := by unfold shaD; rw [h1]
theorem shaD_b {d : Nat → Nat} {x y : Int32} (h2 : ixO y 10 = none) : shaD d x y = d := by unfold shaD; rw [h2]; cases ixO x (d 2) <;> rfl
theorem sttB_t {d : Nat → Nat} {x : Int32} {s : Nat} (h1 : ixO x (d 2) = some s) (h2 : cntD d s = false) : sttB d x = true := by unfold sttB; rw [h1]; dsimp only; rw [h2]; rfl
theorem sttB_a {d : Nat → Nat} {x : Int32} (h1 : ixO x (d 2) = none) : sttB d x = false := by unfold sttB; rw [h1]
theorem sttB_b {d : Nat → Nat} {x : Int32} {s : Nat} (h1 : ixO x (d 2) = some s) (h2 : cntD d s = true) : sttB d x = false := by unfold sttB; rw [h1]; dsimp only; rw [h2]; rfl
theorem sttD_t {d : Nat → Nat} {x : Int32} {s : Nat} (h1 : ixO x (d 2) = some s) (h2 : cntD d s = false) : sttD d x = updN d (4 + 5 * s + 4) (if d (4 + 5 * s + 2) ≤ d (4 + 5 * s + 3) then 1 else 2) := by unfold sttD; rw [h1]; dsimp only; rw [h2]; rfl
theorem sttD_a {d : Nat → Nat} {x : Int32} (h1 : ixO x (d 2) = none) : sttD d x = d := by unfold sttD; rw [h1]
theorem sttD_b {d : Nat → Nat} {x : Int32} {s : Nat} (h1 : ixO x (d 2) = some s) (h2 : cntD d s = true) : sttD d x = d := by unfold sttD; rw [h1]; dsimp only; rw [h2]; rfl
theorem sttD_0 {d : Nat → Nat} {x : Int32} {s : Nat} (h1 : ixO x (d 2) = some s) (h2 : cntD d s = false) (h : d (4 + 5 * s + 2) ≤ d (4 + 5 * s + 3)) : sttD d x = updN d (4 + 5 * s + 4) (0 + 1) := by rw [sttD_t h1 h2, if_pos h]
theorem sttD_1 {d : Nat → Nat} {x : Int32} {s : Nat} (h1 : ixO x (d 2) = some s) (h2 : cntD d s = false) (h : ¬ d (4 + 5 * s + 2) ≤ d (4 + 5 * s + 3)) : sttD d x = updN d (4 + 5 * s + 4) (1 + 1) := by rw [sttD_t h1 h2, if_neg h]
/-! what undo, restore bring back -/
def undE (pr : Nat → Option DR) (ac : Nat) (d : Nat → Nat) : Nat → Nat := if ac = 0 then d else (match pr (ac - 1) with
  | none => d
  | some q => q.2)
def undL (pr : Nat → Option DR) (ac : Nat) (lsq : Nat) : Nat := if ac = 0 then lsq else (match pr (ac - 1) with
  | none => lsq
  | some q => q.1 1)
theorem undE_0 {pr : Nat → Option DR} {d : Nat → Nat} {ac : Nat} (h : ac = 0) : undE pr ac d = d := if_pos h
theorem undL_0 {pr : Nat → Option DR} {lsq : Nat} {ac : Nat} (h : ac = 0) : undL pr ac lsq = lsq := if_pos h
theorem undE_s {pr : Nat → Option DR} {d : Nat → Nat} {ac : Nat} {ad e : Nat → Nat} (h : ¬ ac = 0) (hp : pr (ac - 1) = some (ad, e)) : undE pr ac d = e := by unfold undE; rw [if_neg h, hp]
theorem undL_s {pr : Nat → Option DR} {lsq : Nat} {ac : Nat} {ad e : Nat → Nat} (h : ¬ ac = 0) (hp : pr (ac - 1) = some (ad, e)) : undL pr ac lsq = ad 1 := by unfold undL; rw [if_neg h, hp]
def imgP (ir : Nat → Option DR) (d : Nat → Nat) (x : Int32) (q : DR) : Nat → Option DR := match ixO x 2 with
  | none => ir
  | some k => if decide (0 < d 0) = true then updO ir k (some q) else ir
theorem imgP_t {ir : Nat → Option DR} {d : Nat → Nat} {x : Int32} {q : DR} {k : Nat} (h1 : ixO x 2 = some k) (h : decide (0 < d 0) = true) : imgP ir d x q = updO ir k (some q) := by unfold imgP; rw [h1]; dsimp only; rw [if_pos h]
theorem imgP_a {ir : Nat → Option DR} {d : Nat → Nat} {x : Int32} {q : DR} (h1 : ixO x 2 = none) : imgP ir d x q = ir := by unfold imgP; rw [h1]
theorem imgP_b {ir : Nat → Option DR} {d : Nat → Nat} {x : Int32} {q : DR} (h : decide (0 < d 0) = false) : imgP ir d x q = ir := by unfold imgP; rw [h]; cases ixO x 2 <;> rfl
def resE (ir : Nat → Option DR) (d : Nat → Nat) (x : Int32) : Nat → Nat := match ixO x 2 with
  | none => d
  | some k => match ir k with
    | none => d
    | some q => q.2
def resL (ir : Nat → Option DR) (lsq : Nat) (x : Int32) : Nat := match ixO x 2 with
  | none => lsq
  | some k => match ir k with
    | none => lsq
    | some q => q.1 1
def resN (ir : Nat → Option DR) (ac : Nat) (x : Int32) : Nat := match ixO x 2 with
  | none => ac
  | some k => match ir k with
    | none => ac
    | some _ => 0
def resI (ir : Nat → Option DR) (x : Int32) : Int32 := match ixO x 2 with
  | none => -1000001
  | some k => match ir k with
    | none => -1000002
    | some _ => nI 1
theorem res_a {ir : Nat → Option DR} {d : Nat → Nat} {lsq ac : Nat} {x : Int32} (h1 : ixO x 2 = none) : resE ir d x = d ∧ resL ir lsq x = lsq ∧ resN ir ac x = ac ∧ resI ir x = -1000001 := by
  unfold resE resL resN resI
  rw [h1]
  exact ⟨rfl, rfl, rfl, rfl⟩
theorem res_b {ir : Nat → Option DR} {d : Nat → Nat} {lsq ac k : Nat} {x : Int32} (h1 : ixO x 2 = some k) (h2 : ir k = none) : resE ir d x = d ∧ resL ir lsq x = lsq ∧ resN ir ac x = ac ∧ resI ir x = -1000002 := by
  unfold resE resL resN resI
  rw [h1]
  dsimp only
  rw [h2]
  exact ⟨rfl, rfl, rfl, rfl⟩
theorem res_t {ir : Nat → Option DR} {d : Nat → Nat} {lsq ac k : Nat} {x : Int32} {ad e : Nat → Nat} (h1 : ixO x 2 = some k) (h2 : ir k = some (ad, e)) : resE ir d x = e ∧ resL ir lsq x = ad 1 ∧ resN ir ac x = 0 ∧ resI ir x = nI 1 := by
  unfold resE resL resN resI
  rw [h1]
  dsimp only
  rw [h2]
  exact ⟨rfl, rfl, rfl, rfl⟩
