/-! PURE 6 -/
set_option maxRecDepth 100000
theorem drwO_y {d : Nat → Nat} {x y w : Int32} (h : (ltB y 1000000 && decide (y ≠ 0)) = false) : drwO d x y w = none := by
  unfold drwO
  split
  · cases ixO x 61 with
    | none => rfl
    | some n =>
      rw [Bool.and_eq_false_iff] at h
      rcases h with q | q
      · rw [ixO_f q]
      · rw [q]
        cases ixO y 1000000 <;> rfl
  · rfl
theorem drL_t {d : Nat → Nat} {sd n : Nat} (h : letD (drE d sd n) (drV (drE d sd n) (drX sd (n + 1))) (drS (drE d sd n) (drX sd (n + 1))) = true) : drL d sd n + 1 = drL d sd (n + 1) := by
  show _ = drL d sd n + _
  rw [h]; rfl
theorem drL_f {d : Nat → Nat} {sd n : Nat} (h : letD (drE d sd n) (drV (drE d sd n) (drX sd (n + 1))) (drS (drE d sd n) (drX sd (n + 1))) = false) : drL d sd n + 0 = drL d sd (n + 1) := by
  show _ = drL d sd n + _
  rw [h]; rfl
/-! a row copied within the rows -/
def mvI (it : Nat → Int32) (sp dp n : Nat) : Nat → Int32 := fun k => if dp ≤ k ∧ k < dp + n then it (sp + (k - dp)) else it k
def mvD (it : Nat → Int32) (sp dp n m : Nat) : Nat → Int32 := fun k => if dp + (n - m) ≤ k ∧ k < dp + n then it (sp + (k - dp)) else it k
def cpC (la : Nat → Int32) (ma : Nat → Nat) (a b : Nat) (x z w : Int32) : Nat := if 0 ≤ la a ∧ 0 ≤ la b then (if la a = la b then (if 0 ≤ x.toInt ∧ 0 ≤ z.toInt ∧ 0 ≤ w.toInt ∧ x.toInt + w.toInt ≤ ma a ∧ z.toInt + w.toInt ≤ ma b then 0 else 2) else 5) else 1
def cpyI (la : Nat → Int32) (ma : Nat → Nat) (x i y j w : Int32) : Int32 := match ixO x 8 with
  | none => -1000001
  | some a => match ixO y 8 with
    | none => -1000001
    | some b => if cpC la ma a b i j w = 0 then w else fnd (cpC la ma a b i j w)
def cpyS (la : Nat → Int32) (ma : Nat → Nat) (t x i y j w : Int32) : Int32 := match ixO x 8 with
  | none => t
  | some a => match ixO y 8 with
    | none => t
    | some b => nI (cpC la ma a b i j w)
def cpyT (la : Nat → Int32) (ma : Nat → Nat) (it : Nat → Int32) (x i y j w : Int32) : Nat → Int32 := match ixO x 8 with
  | none => it
  | some a => match ixO y 8 with
    | none => it
    | some b => if cpC la ma a b i j w = 0 then mvI it (40 * a + i.toNatClampNeg) (40 * b + j.toNatClampNeg) w.toNatClampNeg else it
theorem nn_of {x : Int32} (h : ¬ x < 0) : ∃ j : Nat, j < 2147483648 ∧ x = nI j := nI_of h
theorem ge0_int {x : Int32} (h : ¬ x < 0) : 0 ≤ x.toInt := by rw [Int32.lt_iff_toInt_lt, Int32.toInt_zero] at h; omega
theorem lt0_int {x : Int32} (h : x < 0) : ¬ 0 ≤ x.toInt := by rw [Int32.lt_iff_toInt_lt, Int32.toInt_zero] at h; omega
theorem lsum_gt {x y : Int32} {m : Nat} (hm : m < 2147483648) : (nI m).toInt64 < x.toInt64 + y.toInt64 ↔ (m : Int) < x.toInt + y.toInt := by rw [Int64.lt_iff_toInt_lt, lsum_toInt, i2l_toInt, nI_toInt hm]
theorem mv_up {it : Nat → Int32} {sp dp k : Nat} (h : dp ≤ sp ∨ sp + k < dp ∨ dp + k ≤ sp + k) : upd (mvI it sp dp k) (dp + k) (mvI it sp dp k (sp + k)) = mvI it sp dp (k + 1) := by
  have e : mvI it sp dp k (sp + k) = it (sp + k) := by
    unfold mvI
    rw [if_neg (by omega)]
  rw [e]
  funext j
  simp only [upd, mvI]
  (repeat' split) <;> first | rfl | (exfalso; omega) | (congr 1; omega)
theorem mv_dn {it : Nat → Int32} {sp dp n k : Nat} (hk : k < n) (h : sp ≤ dp ∨ dp + n ≤ sp + (n - 1 - k)) : upd (mvD it sp dp n k) (dp + (n - 1 - k)) (mvD it sp dp n k (sp + (n - 1 - k))) = mvD it sp dp n (k + 1) := by
  have e : mvD it sp dp n k (sp + (n - 1 - k)) = it (sp + (n - 1 - k)) := by
    unfold mvD
    rw [if_neg (by omega)]
  rw [e]
  funext j
  simp only [upd, mvD]
  (repeat' split) <;> first | rfl | (exfalso; omega) | (congr 1; omega)
theorem mvD_all (it : Nat → Int32) (sp dp n : Nat) : mvD it sp dp n n = mvI it sp dp n := by
  funext j
  simp [mvD, mvI]
theorem mvI_0 (it : Nat → Int32) (sp dp : Nat) : it = mvI it sp dp 0 := by
  funext j
  simp only [mvI]
  rw [if_neg (by omega)]
theorem mvD_0 (it : Nat → Int32) (sp dp n : Nat) : it = mvD it sp dp n 0 := by
  funext j
  simp only [mvD]
  rw [if_neg (by omega)]
