/-! PURE 7: keen, tells -/
set_option maxRecDepth 100000
def wrC (d : Nat → Nat) (s : Nat) : Nat → Nat
  | 0 => 0
  | n + 1 => wrC d s n + if wrgD d n s = true then 1 else 0
theorem wrC_le (d : Nat → Nat) (s n : Nat) : wrC d s n ≤ n := by
  induction n with
  | zero => exact Nat.le_refl _
  | succ n ih => unfold wrC; split <;> omega
theorem ac_t (p q : Nat) : nI p - nI q + nI 1 = nI (p + 1) - nI q := by rw [← nI_add]; grind
theorem ac_f (p q : Nat) : nI p - nI q + (-1) = nI p - nI (q + 1) := by
  rw [← nI_add, show nI 1 = 1 from rfl]; grind
theorem keC_t {d : Nat → Nat} {i j : Nat} (h : wrgD d j i = true) : nI (wrC d i j) - nI (j - wrC d i j) + nI 1 = nI (wrC d i (j + 1)) - nI (j + 1 - wrC d i (j + 1)) := by
  have e : wrC d i (j + 1) = wrC d i j + 1 := by show wrC d i j + _ = _; rw [h]; rfl
  rw [e, ac_t, show j + 1 - (wrC d i j + 1) = j - wrC d i j by omega]
theorem keC_f {d : Nat → Nat} {i j : Nat} (h : wrgD d j i = false) : nI (wrC d i j) - nI (j - wrC d i j) + (-1) = nI (wrC d i (j + 1)) - nI (j + 1 - wrC d i (j + 1)) := by
  have e : wrC d i (j + 1) = wrC d i j := by show wrC d i j + _ = _; rw [h]; rfl
  have := wrC_le d i j
  rw [e, ac_f, show j + 1 - wrC d i j = j - wrC d i j + 1 by omega]
def apN (d : Nat → Nat) (s : Nat) : Nat := if d 3 - wrC d s (d 3) ≤ wrC d s (d 3) then wrC d s (d 3) - (d 3 - wrC d s (d 3)) else d 3 - wrC d s (d 3) - wrC d s (d 3)
theorem apN_le (d : Nat → Nat) (s : Nat) : apN d s ≤ d 3 := by
  have := wrC_le d s (d 3)
  unfold apN
  split <;> omega
theorem ap_t {w u : Nat} (hw : w < 1073741824) (hu : u < 1073741824) (h : 0 ≤ nI w - nI u) : nI w - nI u = nI (if u ≤ w then w - u else u - w) := by
  rw [Int32.le_iff_toInt_le, pk_sub_toInt hw hu, Int32.toInt_zero] at h
  rw [if_pos (by omega), pk_sub (by omega)]
theorem ap_f {w u : Nat} (hw : w < 1073741824) (hu : u < 1073741824) (h : ¬ 0 ≤ nI w - nI u) : -(nI w - nI u) = nI (if u ≤ w then w - u else u - w) := by
  rw [Int32.le_iff_toInt_le, pk_sub_toInt hw hu, Int32.toInt_zero] at h
  rw [if_neg (by omega), ← pk_sub (by omega)]
  grind
def lsA (d : Nat → Nat) (n : Nat) (o : Option Nat) : Bool := match o with
  | none => true
  | some b => decide (apN d n < apN d b)
def keeN (d : Nat → Nat) : Nat → Option Nat
  | 0 => none
  | n + 1 => if (cntD d n && lsA d n (keeN d n)) = true then some n else keeN d n
theorem keeN_y {d : Nat → Nat} {n : Nat} (h1 : cntD d n = true) (h2 : lsA d n (keeN d n) = true) : keeN d (n + 1) = some n := by
  show (if _ then _ else _) = _
  rw [if_pos (by simp [h1, h2])]
theorem keeN_n {d : Nat → Nat} {n : Nat} (h : cntD d n = false ∨ lsA d n (keeN d n) = false) : keeN d (n + 1) = keeN d n := by
  show (if _ then _ else _) = _
  rw [if_neg (by rcases h with h | h <;> simp [h])]
theorem keeN_lt {d : Nat → Nat} {n b : Nat} (h : keeN d n = some b) : b < n := by
  induction n with
  | zero => cases h
  | succ n ih =>
    unfold keeN at h
    split at h
    · injection h with h; omega
    · exact Nat.lt_succ_of_lt (ih h)
def keeI (d : Nat → Nat) (w : Int32) : Int32 := if decide (0 < d 0) = true then (match ixO w 2 with
  | none => -1000001
  | some k => if k = 0 then oI (keeN d (d 2)) else oI ((keeN d (d 2)).map (apN d))) else -1000002
/-! tells: over al : two visitors click alike -/
def nB (al : Nat → Nat → Bool) (V a : Nat) : Nat → Nat
  | 0 => 0
  | m + 1 => nB al V a m + if al a (V - 1 - m) = true then 0 else 1
def fB (al : Nat → Nat → Bool) (V a : Nat) (f0 : Option Nat) : Nat → Option Nat
  | 0 => f0
  | m + 1 => if al a (V - 1 - m) = true then some (10 * a + (V - 1 - m)) else fB al V a f0 m
def nA (al : Nat → Nat → Bool) (V : Nat) : Nat → Nat
  | 0 => 0
  | k + 1 => nA al V k + nB al V (V - 1 - k) k
def fA (al : Nat → Nat → Bool) (V : Nat) : Nat → Option Nat
  | 0 => none
  | k + 1 => fB al V (V - 1 - k) (fA al V k) k
def alkB (d : Nat → Nat) (set a b : Nat) : Bool := decide ((clkN d a (d 2) ^^^ clkN d b (d 2)) &&& set = 0)
theorem nB_le (al : Nat → Nat → Bool) (V a m : Nat) : nB al V a m ≤ m := by
  induction m with
  | zero => exact Nat.le_refl _
  | succ m ih => unfold nB; split <;> omega
theorem nA_le (al : Nat → Nat → Bool) (V k : Nat) : nA al V k ≤ k * k := by
  induction k with
  | zero => exact Nat.le_refl _
  | succ k ih =>
    unfold nA
    have := nB_le al V (V - 1 - k) k
    have e : (k + 1) * (k + 1) = k * k + k + k + 1 := by rw [Nat.add_mul, Nat.mul_add]; omega
    omega
def telI (d : Nat → Nat) (x w : Int32) : Int32 := if decide (0 < d 0) = true then (match ixO x (2 ^ d 2) with
  | none => -1000001
  | some s => match ixO w 2 with
    | none => -1000001
    | some k => if k = 0 then nI (nA (alkB d s) (d 3) (d 3)) else oI (fA (alkB d s) (d 3) (d 3))) else -1000002
theorem sub1_lt0 {a : Nat} (ha : a < 1073741824) : nI a - nI 1 < 0 ↔ a = 0 := by
  rw [Int32.lt_iff_toInt_lt, pk_sub_toInt ha (by decide), Int32.toInt_zero]; omega
theorem add_m1 (x : Int32) : x + (-1) = x - nI 1 := by rw [show nI 1 = 1 from rfl]; grind
