/-! PURE: what a door tells, over d : Nat → Nat (the model's row of 64 numbers) -/
set_option maxRecDepth 100000
def dv (d : Nat → Nat) : Nat → Int32 := fun j => nI (d j)
def ltB (x : Int32) (n : Nat) : Bool := decide (0 ≤ x.toInt ∧ x.toInt < (n : Int))
def inB (v lo hi : Int64) : Bool := !(decide (v < lo)) && !(decide (hi < v))
def dOK (d : Nat → Nat) : Prop := d 0 ≤ 9 ∧ d 1 ≤ 8 ∧ d 2 ≤ 8 ∧ d 3 ≤ 5 ∧ (∀ q, q < 8 → d (4 + 5 * q + 0) ≤ 5 ∧ d (4 + 5 * q + 1) ≤ 9 ∧ d (4 + 5 * q + 2) ≤ 99 ∧ d (4 + 5 * q + 3) ≤ 99 ∧ d (4 + 5 * q + 4) ≤ 2) ∧ (∀ v, v < 5 → d (44 + 4 * v + 0) ≤ 9 ∧ d (44 + 4 * v + 1) ≤ 9) ∧ (∀ q, q < d 2 → 1 ≤ d (4 + 5 * q + 0))
theorem ltB_iff {x : Int32} {n : Nat} (hn : n < 2147483648) : ltB x n = true ↔ ∃ j, j < n ∧ x = nI j := by
  unfold ltB
  rw [decide_eq_true_iff]
  constructor
  · intro h
    obtain ⟨j, h1, h2⟩ := nI_of (x := x) (by rw [Int32.lt_iff_toInt_lt, Int32.toInt_zero]; omega)
    refine ⟨j, ?_, h2⟩
    rw [h2, nI_toInt h1] at h
    omega
  · rintro ⟨j, h1, rfl⟩
    rw [nI_toInt (by omega)]
    omega
theorem ltB_nI {j n : Nat} (hj : j < 2147483648) : ltB (nI j) n = decide (j < n) := by
  unfold ltB
  rw [nI_toInt hj]
  exact decide_eq_decide.mpr (by omega)
theorem i2l_toInt (x : Int32) : x.toInt64.toInt = x.toInt := Int32.toInt_toInt64 x
theorem inB_0 {x y : Int32} : inB x.toInt64 0 y.toInt64 = decide (0 ≤ x.toInt ∧ x.toInt ≤ y.toInt) := by
  unfold inB
  rw [Bool.eq_iff_iff]
  simp only [Bool.and_eq_true, Bool.not_eq_true', decide_eq_false_iff_not, decide_eq_true_eq, Int64.lt_iff_toInt_lt, i2l_toInt, Int64.toInt_zero]
  omega
theorem inB_lt {x : Int32} {n : Nat} (hn : n < 1073741824) : inB x.toInt64 0 (nI n - nI 1).toInt64 = ltB x n := by
  rw [inB_0]
  unfold ltB
  rw [pk_sub_toInt hn (by decide)]
  exact decide_eq_decide.mpr (by omega)
theorem inB_le {x : Int32} {n k : Nat} (hk : k < 2147483648) (h : n = k + 1) : inB x.toInt64 0 (nI k).toInt64 = ltB x n := by
  rw [inB_0]
  unfold ltB
  rw [nI_toInt hk]
  exact decide_eq_decide.mpr (by omega)
theorem inB_c {x : Int32} {c : Int64} {n : Nat} (h : c.toInt + 1 = n) : inB x.toInt64 0 c = ltB x n := by
  unfold inB ltB
  rw [Bool.eq_iff_iff]
  simp only [Bool.and_eq_true, Bool.not_eq_true', decide_eq_false_iff_not, decide_eq_true_eq, Int64.lt_iff_toInt_lt, i2l_toInt, Int64.toInt_zero]
  omega
theorem sw_split (x : Int32) (hi : Nat) (h : hi < 2147483647) : (x.toInt < ((0 : Int)) ∨ (hi : Int) < x.toInt) ∨ ∃ j, j < hi + 1 ∧ x = nI j := by
  rcases pk_ix x (n := hi + 1) (by omega) with q | q | q
  · left; left
    rw [Int32.lt_iff_toInt_lt, Int32.toInt_zero] at q
    exact q
  · left; right
    rw [Int32.le_iff_toInt_le, nI_toInt (by omega)] at q
    omega
  · exact Or.inr q
def seesN (k sh ca ea : Nat) : Nat := if k = 2 then sh - 1 else if k = 3 then (if ca < 5 then 9 - sh else sh) else if k = 5 then (if 5 ≤ ea then sh else 0) else sh
def clkB (k sh ca ea : Nat) : Bool := decide (9 - ca < seesN k sh ca ea)
def clkD (d : Nat → Nat) (v s : Nat) : Bool := clkB (d (4 + 5 * s + 0)) (d (4 + 5 * s + 1)) (d (44 + 4 * v + 0)) (d (44 + 4 * v + 1))
def cntD (d : Nat → Nat) (s : Nat) : Bool := decide (d (4 + 5 * s + 0) < 4) || decide (0 < d (4 + 5 * s + 4))
def lmpD (d : Nat → Nat) (s : Nat) : Bool := if d (4 + 5 * s + 4) = 0 then decide (d 0 ≤ d (4 + 5 * s + 1)) else decide (d (4 + 5 * s + 4) = 2)
def wrgD (d : Nat → Nat) (v s : Nat) : Bool := cntD d s && (clkD d v s != lmpD d s)
def hasN (set k : Nat) : Bool := decide (set / 2 ^ k % 2 = 1)
def wroN (d : Nat → Nat) (v set : Nat) : Nat → Nat
  | 0 => 0
  | n + 1 => wroN d v set n + if hasN set n && wrgD d v n then 1 else 0
def bitN (set : Nat) : Nat → Nat
  | 0 => 0
  | n + 1 => bitN set n + set / 2 ^ n % 2
def vtN (d : Nat → Nat) : Nat → Nat
  | 0 => 0
  | n + 1 => vtN d n + (d (4 + 5 * n + 2) + d (4 + 5 * n + 3))
def setN (p : Nat → Bool) : Nat → Nat
  | 0 => 0
  | n + 1 => setN p n ||| (if p n then 1 * 2 ^ n else 0)
theorem setN_t (p : Nat → Bool) {n : Nat} (h : p n = true) : setN p (n + 1) = setN p n ||| (1 * 2 ^ n) := by simp [setN, h]
theorem setN_f (p : Nat → Bool) {n : Nat} (h : p n = false) : setN p (n + 1) = setN p n ||| 0 := by simp [setN, h]
theorem seesN_le {k sh ca ea : Nat} (h : sh ≤ 9) : seesN k sh ca ea ≤ 9 := by
  unfold seesN
  repeat' split
  all_goals omega
theorem and1 (a : Nat) : a &&& 1 = a % 2 := Nat.and_one_is_mod a
theorem bitN_le (set n : Nat) : bitN set n ≤ n := by
  induction n with
  | zero => exact Nat.le_refl _
  | succ n ih => unfold bitN; omega
theorem wroN_le (d : Nat → Nat) (v set n : Nat) : wroN d v set n ≤ n := by
  induction n with
  | zero => exact Nat.le_refl _
  | succ n ih => unfold wroN; split <;> omega
theorem setN_lt (p : Nat → Bool) (n : Nat) : setN p n < 2 ^ n := by
  induction n with
  | zero => exact Nat.one_pos
  | succ n ih =>
    unfold setN
    have h1 : setN p n < 2 ^ (n + 1) := Nat.lt_of_lt_of_le ih (Nat.pow_le_pow_right (by decide) (Nat.le_succ n))
    refine Nat.or_lt_two_pow h1 ?_
    split
    · rw [Nat.one_mul]; exact Nat.pow_lt_pow_right (by decide) (Nat.lt_succ_self n)
    · exact Nat.two_pow_pos _
theorem setN_8 (p : Nat → Bool) {n : Nat} (h : n ≤ 8) : setN p n < 256 := Nat.lt_of_lt_of_le (setN_lt p n) (Nat.pow_le_pow_right (by decide) h)
theorem pow_8 {n : Nat} (h : n ≤ 8) : 1 ≤ 2 ^ n ∧ 2 ^ n ≤ 256 := ⟨Nat.two_pow_pos n, Nat.pow_le_pow_right (by decide) h⟩
theorem pow_12 {n : Nat} (h : n ≤ 12) : 1 ≤ 2 ^ n ∧ 2 ^ n ≤ 4096 := ⟨Nat.two_pow_pos n, Nat.pow_le_pow_right (by decide) h⟩
def gstN (d : Nat → Nat) (set n : Nat) : Nat := setN (fun v => decide (wroN d v set (d 2) ≤ d 1)) n
def clkN (d : Nat → Nat) (v n : Nat) : Nat := setN (fun s => clkD d v s) n
theorem gstN_lt {d : Nat → Nat} {set n : Nat} (h : n ≤ 8) : gstN d set n < 256 := setN_8 _ h
theorem clkN_lt {d : Nat → Nat} {v n : Nat} (h : n ≤ 8) : clkN d v n < 256 := setN_8 _ h
def gD (d : Nat → Nat) (set : Nat) : Nat := gstN d set (d 3)
theorem gD_lt {d : Nat → Nat} {set : Nat} (h : d 3 ≤ 5) : gD d set < 256 := setN_8 _ (by omega)
/-- a number or none -/
def oI (o : Option Nat) : Int32 := match o with
  | none => -1000000
  | some n => nI n
def subN (set of : Nat) : Bool := decide (set &&& of = set)
def lessO (n : Nat) (o : Option Nat) : Bool := match o with
  | none => true
  | some b => decide (bitN n 8 < bitN b 8)
def fewN (g : Nat → Nat) (of vis : Nat) : Nat → Option Nat
  | 0 => none
  | n + 1 => if (subN n of && lessO n (fewN g of vis n) && decide (g n = vis)) = true then some n else fewN g of vis n
theorem fewN_lt {g : Nat → Nat} {of vis n b : Nat} (h : fewN g of vis n = some b) : b < n := by
  induction n with
  | zero => cases h
  | succ n ih =>
    unfold fewN at h
    split at h
    · injection h with h; omega
    · exact Nat.lt_succ_of_lt (ih h)
theorem fewN_y {g : Nat → Nat} {of vis n : Nat} (h1 : subN n of = true) (h2 : lessO n (fewN g of vis n) = true) (h3 : g n = vis) : fewN g of vis (n + 1) = some n := by
  show (if _ then _ else _) = _
  rw [if_pos (by simp [h1, h2, h3])]
theorem fewN_n1 {g : Nat → Nat} {of vis n : Nat} (h : ¬ subN n of = true) : fewN g of vis (n + 1) = fewN g of vis n := by
  show (if _ then _ else _) = _
  rw [if_neg (by simp [h])]
theorem fewN_n2 {g : Nat → Nat} {of vis n : Nat} (h : lessO n (fewN g of vis n) = false) : fewN g of vis (n + 1) = fewN g of vis n := by
  show (if _ then _ else _) = _
  rw [if_neg (by simp [h])]
theorem fewN_n3 {g : Nat → Nat} {of vis n : Nat} (h : g n ≠ vis) : fewN g of vis (n + 1) = fewN g of vis n := by
  show (if _ then _ else _) = _
  rw [if_neg (by simp [h])]
theorem nI_neN {n : Nat} (h : n < 2147483648) : ¬ nI n = (-1000000) := by
  intro q
  have := nI_toInt h
  rw [q] at this
  have h2 : (-1000000 : Int32).toInt = -1000000 := by decide
  rw [h2] at this
  omega
theorem ones32 (i : Nat) : (4294967295 : Nat).testBit i = decide (i < 32) := Nat.testBit_two_pow_sub_one 32 i
theorem subN_iff {a b : Nat} (ha : a < 256) : (nI a &&& (nI b ^^^ (-1))) = 0 ↔ subN a b = true := by
  rw [show (-1 : Int32) = nI 4294967295 from rfl, nx_xor, nx_and, nI_z (Nat.lt_of_le_of_lt Nat.and_le_left (by omega))]
  unfold subN
  rw [decide_eq_true_iff]
  have hb : ∀ i, ¬ i < 32 → a.testBit i = false := fun i hi => Nat.testBit_lt_two_pow (Nat.lt_of_lt_of_le ha (Nat.le_trans (by decide : 256 ≤ 2 ^ 8) (Nat.pow_le_pow_right (by decide) (by omega))))
  constructor
  · intro h
    apply Nat.eq_of_testBit_eq
    intro i
    have h2 := congrArg (fun z => z.testBit i) h
    simp only [Nat.testBit_and, Nat.testBit_xor, ones32, Nat.zero_testBit] at h2 ⊢
    by_cases hi : i < 32
    · simp only [hi, decide_true] at h2
      cases h3 : a.testBit i <;> cases h4 : b.testBit i <;> simp_all
    · simp [hb i hi]
  · intro h
    apply Nat.eq_of_testBit_eq
    intro i
    have h2 := congrArg (fun z => z.testBit i) h
    simp only [Nat.testBit_and, Nat.testBit_xor, ones32, Nat.zero_testBit] at h2 ⊢
    by_cases hi : i < 32
    · simp only [hi, decide_true]
      cases h3 : a.testBit i <;> cases h4 : b.testBit i <;> simp_all
    · simp [hb i hi]
