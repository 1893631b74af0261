/-! PURE 10: what the scanner is asked -/
set_option maxRecDepth 100000
def knO (x : Int32) : Option Nat := if x = nI 107 then some 1 else if x = nI 101 then some 2 else if x = nI 99 then some 3 else if x = nI 117 then some 4 else if x = nI 104 then some 5 else none
theorem knO_in {x : Int32} {k : Nat} (h : knO x = some k) : 1 ≤ k ∧ k ≤ 5 := by
  unfold knO at h
  repeat' split at h
  all_goals first | (injection h with h; omega) | cases h
def psLet (S : PS) (c : Nat) : Bool := decide (S.2.2.2.2.1 = 0) && decide (S.2.2.1 = 2) && decide (S.2.2.2.1 = nI c)
def psSort (S : PS) : Bool := decide (S.2.2.2.2.1 = 0) && decide (S.2.2.1 = 2) && (knO S.2.2.2.1).isSome
theorem psBad_ne {k : Nat} {S : PS} (h : k ≠ 0) : (psBad k S).2.2.2.2.1 ≠ 0 := by
  unfold psBad
  split
  · exact h
  · assumption
def psN1 (S : PS) : PS := if S.2.2.2.2.1 = 0 ∧ S.2.2.1 ≠ 3 then psBad 1 S else S
def rngB (x : Int32) (lo hi : Nat) : Bool := inB x.toInt64 (nI lo).toInt64 (nI hi).toInt64
def psN2 (lo hi : Nat) (S : PS) : PS := if S.2.2.2.2.1 = 0 ∧ rngB S.2.2.2.1 lo hi = false then psBad 2 S else S
def psNv (lo hi : Nat) (S : PS) : Nat := if (psN2 lo hi (psN1 S)).2.2.2.2.1 = 0 then S.2.2.2.1.toNatClampNeg else lo
def psNum (tp : Nat → Nat) (n lo hi : Nat) (S : PS) : PS := psMust tp n true (psN2 lo hi (psN1 S))
def psSgn (tp : Nat → Nat) (n c : Nat) (S : PS) : PS := psMust tp n (decide (S.2.2.1 = 4) && decide (S.2.2.2.1 = nI c)) S
def psBeg (tp : Nat → Nat) (n : Nat) (S : PS) : PS := psNext tp n (0, S.2.1, S.2.2.1, S.2.2.2.1, 0, S.2.2.2.2.2)
def psFin (S : PS) : PS := if S.2.2.2.2.1 = 0 ∧ S.2.2.1 ≠ 1 then psBad 1 S else S
theorem rng_nI {x : Int32} {lo hi : Nat} (hl : lo < 2147483648) (hh : hi < 2147483648) (h : rngB x lo hi = true) : lo ≤ x.toNatClampNeg ∧ x.toNatClampNeg ≤ hi ∧ x = nI x.toNatClampNeg := by
  unfold rngB inB at h
  simp only [Bool.and_eq_true, Bool.not_eq_true', decide_eq_false_iff_not, Int64.lt_iff_toInt_lt, i2l_toInt, nI_toInt hl, nI_toInt hh] at h
  obtain ⟨j, h1, rfl⟩ := nI_of (x := x) (by rw [Int32.lt_iff_toInt_lt, Int32.toInt_zero]; omega)
  rw [nI_toInt h1] at h
  rw [nI_clamp h1]
  exact ⟨by omega, by omega, rfl⟩
theorem psN2_ok {n lo hi : Nat} {S : PS} (h : psOK n S) : psOK n (psN2 lo hi S) := by
  unfold psN2
  split
  · exact psBad_ok h (by decide)
  · exact h
theorem psN1_ok {n : Nat} {S : PS} (h : psOK n S) : psOK n (psN1 S) := by
  unfold psN1
  split
  · exact psBad_ok h (by decide)
  · exact h
theorem psNum_ok {tp : Nat → Nat} {n lo hi : Nat} {S : PS} (h : psOK n S) : psOK n (psNum tp n lo hi S) := psMust_ok (psN2_ok (psN1_ok h))
theorem psSgn_ok {tp : Nat → Nat} {n c : Nat} {S : PS} (h : psOK n S) : psOK n (psSgn tp n c S) := psMust_ok h
