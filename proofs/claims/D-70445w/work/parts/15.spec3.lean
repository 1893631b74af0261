/-! PURE 3: the answers -/
set_option maxRecDepth 100000
def ixO (x : Int32) (n : Nat) : Option Nat := if ltB x n = true then some x.toNatClampNeg else none
theorem ixO_t {j n : Nat} (h : j < n) (hj : j < 2147483648) : ixO (nI j) n = some j := by
  unfold ixO
  rw [ltB_nI hj, if_pos (by simpa using h), nI_clamp hj]
theorem ixO_f {x : Int32} {n : Nat} (h : ltB x n = false) : ixO x n = none := by
  unfold ixO
  rw [h]
  rfl
theorem ixO_out {x : Int32} {hi : Nat} (h : x.toInt < 0 ∨ (hi : Int) < x.toInt) : ixO x (hi + 1) = none := by
  refine ixO_f ?_
  unfold ltB
  exact decide_eq_false (by omega)
theorem ixO_s {x : Int32} {n j : Nat} (hn : n < 2147483648) (h : ixO x n = some j) : j < n ∧ x = nI j := by
  unfold ixO at h
  split at h
  · rename_i q
    obtain ⟨k, h1, rfl⟩ := (ltB_iff hn).mp q
    injection h with h
    rw [nI_clamp (by omega)] at h
    subst h
    exact ⟨h1, rfl⟩
  · cases h
def sqI (d : Nat → Nat) (x w : Int32) : Int32 := match ixO x (d 2) with
  | none => -1000001
  | some s => match ixO w 6 with
    | some 0 => nI (d (4 + 5 * s + 1))
    | some 1 => bI (decide (d 0 ≤ d (4 + 5 * s + 1)))
    | some 2 => bI (cntD d s)
    | some 3 => nI (d (4 + 5 * s + 2))
    | some 4 => nI (d (4 + 5 * s + 3))
    | some 5 => if d (4 + 5 * s + 4) = 0 then -1000000 else nI (d (4 + 5 * s + 4) - 1)
    | _ => -1000001
def visI (d : Nat → Nat) (x w : Int32) : Int32 := match ixO x (d 3) with
  | none => -1000001
  | some v => match ixO w 4 with
    | none => -1000001
    | some k => nI (d (44 + 4 * v + k))
def seeI (d : Nat → Nat) (x y : Int32) : Int32 := match ixO x (d 3) with
  | none => -1000001
  | some v => match ixO y (d 2) with
    | none => -1000001
    | some s => nI (seesN (d (4 + 5 * s + 0)) (d (4 + 5 * s + 1)) (d (44 + 4 * v + 0)) (d (44 + 4 * v + 1)))
def clkI (d : Nat → Nat) (x : Int32) : Int32 := match ixO x (d 3) with
  | none => -1000001
  | some v => nI (clkN d v (d 2))
def wroI (d : Nat → Nat) (x y : Int32) : Int32 := match ixO x (d 3) with
  | none => -1000001
  | some v => match ixO y (2 ^ d 2) with
    | none => -1000001
    | some s => nI (wroN d v s (d 2))
def gstI (d : Nat → Nat) (x : Int32) : Int32 := if 0 < d 0 then (match ixO x (2 ^ d 2) with
  | none => -1000001
  | some s => nI (gD d s)) else -1000002
def kinI (d : Nat → Nat) (x : Int32) : Int32 := match ixO x (d 2) with
  | none => -1000001
  | some s => nI (d (4 + 5 * s + 0))
theorem sub_le0 {a b : Nat} (ha : a < 1073741824) (hb : b < 1073741824) : nI a - nI b ≤ 0 ↔ a ≤ b := by
  rw [Int32.le_iff_toInt_le, pk_sub_toInt ha hb, Int32.toInt_zero]; omega
theorem sub_eq0 {a b : Nat} (ha : a < 1073741824) (hb : b < 1073741824) : nI a - nI b = 0 ↔ a = b := by
  constructor
  · intro h
    have := pk_sub_toInt ha hb
    rw [h, Int32.toInt_zero] at this
    omega
  · rintro rfl
    grind
theorem one_sub_sub {a b : Nat} (h : a ≤ b) : nI 1 - (nI a - nI b) = nI (1 + (b - a)) := by
  obtain ⟨k, rfl⟩ := Nat.exists_eq_add_of_le h
  rw [Nat.add_sub_cancel_left, ← nI_add, ← nI_add]
  grind
def lrnI (d : Nat → Nat) (x : Int32) : Int32 := match ixO x (d 2) with
  | none => -1000001
  | some s => if d (4 + 5 * s + 2) ≤ d (4 + 5 * s + 3) then (if d (4 + 5 * s + 2) = d (4 + 5 * s + 3) then nI 1 else nI 0) else nI 2
def neeI (d : Nat → Nat) (x : Int32) : Int32 := match ixO x (d 2) with
  | none => -1000001
  | some s => if cntD d s = true then -1000002 else if d (4 + 5 * s + 2) ≤ d (4 + 5 * s + 3) then nI (1 + (d (4 + 5 * s + 3) - d (4 + 5 * s + 2))) else nI (d (4 + 5 * s + 2) - d (4 + 5 * s + 3))
def trcI (tr : Nat → Nat) (trd : Nat) (x : Int32) : Int32 := match ixO x trd with
  | none => -1000000
  | some i => nI (tr i)
def fewI (d : Nat → Nat) (x w : Int32) : Int32 := if 0 < d 0 then (match ixO x (2 ^ d 3) with
  | none => -1000001
  | some vis => match ixO w 2 with
    | none => -1000001
    | some k => match fewN (gD d) (1 * 2 ^ d 2 - 1) vis (1 * 2 ^ d 2 - 1 + 1) with
      | none => -1000000
      | some b => if k = 1 then nI b else nI (bitN b 8)) else -1000002
def savI (d : Nat → Nat) (x w : Int32) : Int32 := if 0 < d 0 then (match ixO x (2 ^ d 2) with
  | none => -1000001
  | some s => match ixO w 2 with
    | none => -1000001
    | some k => match fewN (gD d) s (gD d s) (s + 1) with
      | none => -1000000
      | some b => if k = 1 then nI b else nI (bitN b 8)) else -1000002
theorem subN_self (a : Nat) : subN a a = true := by unfold subN; simp
theorem fewN_self (g : Nat → Nat) (s : Nat) : ¬ fewN g s (g s) (s + 1) = none := by
  intro h
  cases h2 : fewN g s (g s) s with
  | none => rw [fewN_y (subN_self s) (by rw [h2]; rfl) rfl] at h; cases h
  | some b =>
    by_cases h3 : lessO s (some b) = true
    · rw [fewN_y (subN_self s) (by rw [h2]; exact h3) rfl] at h; cases h
    · rw [fewN_n2 (by rw [h2]; simpa using h3), h2] at h; cases h
def harN (d : Nat → Nat) (vs set : Nat) : Nat → Nat
  | 0 => 0
  | n + 1 => if harN d vs set n < (if hasN vs n = true then wroN d n set (d 2) else 0) then (if hasN vs n = true then wroN d n set (d 2) else 0) else harN d vs set n
theorem harN_le (d : Nat → Nat) (vs set n : Nat) : harN d vs set n ≤ d 2 := by
  induction n with
  | zero => exact Nat.zero_le _
  | succ n ih =>
    unfold harN
    have := wroN_le d n set (d 2)
    repeat' split
    all_goals omega
def harI (d : Nat → Nat) (x y : Int32) : Int32 := if 0 < d 0 then (match ixO x (2 ^ d 3) with
  | none => -1000001
  | some vs => match ixO y (2 ^ d 2) with
    | none => -1000001
    | some s => nI (harN d vs s (d 3))) else -1000002
def lanN (la : Nat → Int32) : Nat → Nat
  | 0 => 0
  | n + 1 => lanN la n + if la n < 0 then 0 else 1
def cntI (d : Nat → Nat) (la : Nat → Int32) (ac tpd : Nat) (w : Int32) : Int32 := match ixO w 8 with
  | some 0 => nI (lanN la 8)
  | some 1 => nI (d 2)
  | some 2 => nI (d 3)
  | some 3 => nI (d 1)
  | some 4 => nI (setN (cntD d) (d 2))
  | some 5 => nI (vtN d (d 2))
  | some 6 => nI ac
  | some 7 => nI tpd
  | _ => -1000001
/-! acts -/
def shW (wa : Nat → Nat) (n : Nat) : Nat → Nat := fun k => if k < n then wa (k + 64) else wa k
def cpW (wa : Nat → Nat) (b : Nat) (d : Nat → Nat) (n : Nat) : Nat → Nat := fun k => if b ≤ k ∧ k < b + n then d (k - b) else wa k
def keepA (ac : Nat) : Nat := if ac = 24 then 24 - 1 + 1 else ac + 1
def keepW (wa : Nat → Nat) (ac : Nat) (d : Nat → Nat) : Nat → Nat := if ac = 24 then cpW (shW wa 1472) (64 * (24 - 1)) d 64 else cpW wa (64 * ac) d 64
def bv (b : Nat → Bool) : Nat → Int32 := fun j => bI (b j)
def updB (b : Nat → Bool) (k : Nat) (x : Bool) : Nat → Bool := fun j => if j = k then x else b j
theorem bv_upd (b : Nat → Bool) (k : Nat) (x : Bool) : upd (bv b) k (vp_nar .boolean (bI x)) = bv (updB b k x) := by
  funext j
  simp only [upd, bv, updB]
  split
  · cases x <;> rfl
  · rfl
def posB (d : Nat → Nat) (x y : Int32) : Bool := (ixO x (d 3)).isSome && (ixO y (2 ^ d 2)).isSome
def posR (d : Nat → Nat) (x y : Int32) : Int32 := match ixO x (d 3) with
  | none => -1000001
  | some v => match ixO y (2 ^ d 2) with
    | none => -1000001
    | some s => bI (letD d v s)
def posD (d : Nat → Nat) (x y : Int32) : Nat → Nat := match ixO x (d 3) with
  | none => d
  | some v => match ixO y (2 ^ d 2) with
    | none => d
    | some s => poseD d v s
def actW (b : Bool) (wa : Nat → Nat) (ac : Nat) (d : Nat → Nat) : Nat → Nat := if b = true then keepW wa ac d else wa
def actA (b : Bool) (ac : Nat) : Nat := if b = true then keepA ac else ac
def strB (d : Nat → Nat) (x : Int32) : Bool := decide (0 < d 0) && (ixO x 9).isSome
def strR (d : Nat → Nat) (x : Int32) : Int32 := if decide (0 < d 0) = true then (match ixO x 9 with
  | none => -1000001
  | some _ => nI (d 1)) else -1000002
def strD (d : Nat → Nat) (x : Int32) : Nat → Nat := if decide (0 < d 0) = true then (match ixO x 9 with
  | none => d
  | some n => updN d 1 n) else d
def shaB (d : Nat → Nat) (x y : Int32) : Bool := (ixO x (d 2)).isSome && (ixO y 10).isSome
def shaR (d : Nat → Nat) (x y : Int32) : Int32 := match ixO x (d 2) with
  | none => -1000001
  | some s => match ixO y 10 with
    | none => -1000001
    | some _ => nI (d (4 + 5 * s + 1))
def shaD (d : Nat → Nat) (x y : Int32) : Nat → Nat := match ixO x (d 2) with
  | none => d
  | some s => match ixO y 10 with
    | none => d
    | some n => updN d (4 + 5 * s + 1) n
def sttB (d : Nat → Nat) (x : Int32) : Bool := match ixO x (d 2) with
  | none => false
  | some s => !cntD d s
def sttR (d : Nat → Nat) (x : Int32) : Int32 := match ixO x (d 2) with
  | none => -1000001
  | some s => if cntD d s = true then -1000002 else if d (4 + 5 * s + 2) ≤ d (4 + 5 * s + 3) then nI 0 else nI 1
def sttD (d : Nat → Nat) (x : Int32) : Nat → Nat := match ixO x (d 2) with
  | none => d
  | some s => if cntD d s = true then d else updN d (4 + 5 * s + 4) (if d (4 + 5 * s + 2) ≤ d (4 + 5 * s + 3) then 1 else 2)
def undR (ac : Nat) : Int32 := if ac = 0 then -1000002 else nI (ac - 1)
def cpD (d e : Nat → Nat) (b n : Nat) : Nat → Nat := fun j => if j < n then e (b + j) else d j
def undD (wa : Nat → Nat) (ac : Nat) (d : Nat → Nat) : Nat → Nat := if ac = 0 then d else cpD d wa (64 * (ac - 1)) 64
def imgB (d : Nat → Nat) (x : Int32) : Bool := (ixO x 2).isSome && decide (0 < d 0)
def imgR (d : Nat → Nat) (x : Int32) : Int32 := match ixO x 2 with
  | none => -1000001
  | some _ => if decide (0 < d 0) = true then nI 1 else -1000002
def imgK (kp d : Nat → Nat) (x : Int32) : Nat → Nat := match ixO x 2 with
  | none => kp
  | some k => if decide (0 < d 0) = true then cpW kp (64 * k) d 64 else kp
def imgI (ib : Nat → Bool) (d : Nat → Nat) (x : Int32) : Nat → Bool := match ixO x 2 with
  | none => ib
  | some k => if decide (0 < d 0) = true then updB ib k true else ib
def resR (ib : Nat → Bool) (x : Int32) : Int32 := match ixO x 2 with
  | none => -1000001
  | some k => if ib k = true then nI 1 else -1000002
def resD (ib : Nat → Bool) (kp d : Nat → Nat) (x : Int32) : Nat → Nat := match ixO x 2 with
  | none => d
  | some k => if ib k = true then cpD d kp (64 * k) 64 else d
def resA (ib : Nat → Bool) (ac : Nat) (x : Int32) : Nat := match ixO x 2 with
  | none => ac
  | some k => if ib k = true then 0 else ac
