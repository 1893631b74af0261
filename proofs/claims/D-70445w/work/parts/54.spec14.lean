/-! PURE 14: dullness; harsh by maxima; tells upwards -/
set_option maxRecDepth 100000
theorem du_t {d : Nat → Nat} {q i : Nat} (hc : cntD d q = true) (h : clkD d i q = lmpD d q) : nI (i - wrC d q i) - nI (wrC d q i) + nI 1 = nI (i + 1 - wrC d q (i + 1)) - nI (wrC d q (i + 1)) := by
  have hw : wrgD d i q = false := by unfold wrgD; rw [hc, h]; simp
  have e : wrC d q (i + 1) = wrC d q i := by show wrC d q i + _ = _; rw [hw]; rfl
  have := wrC_le d q i
  rw [e, ac_t, show i + 1 - wrC d q i = i - wrC d q i + 1 by omega]
theorem du_f {d : Nat → Nat} {q i : Nat} (hc : cntD d q = true) (h : ¬ clkD d i q = lmpD d q) : nI (i - wrC d q i) - nI (wrC d q i) + (-1) = nI (i + 1 - wrC d q (i + 1)) - nI (wrC d q (i + 1)) := by
  have hw : wrgD d i q = true := by unfold wrgD; rw [hc, Bool.true_and]; simpa using h
  have e : wrC d q (i + 1) = wrC d q i + 1 := by show wrC d q i + _ = _; rw [hw]; rfl
  rw [e, ac_f, show i + 1 - (wrC d q i + 1) = i - wrC d q i by omega]
theorem du_e {d : Nat → Nat} {q : Nat} (h3 : d 3 ≤ 5) : (if 0 ≤ nI (d 3 - wrC d q (d 3)) - nI (wrC d q (d 3)) then nI (d 3 - wrC d q (d 3)) - nI (wrC d q (d 3)) else 0 - (nI (d 3 - wrC d q (d 3)) - nI (wrC d q (d 3)))) = nI (apN d q) := by
  have hw := wrC_le d q (d 3)
  have he : (if wrC d q (d 3) ≤ d 3 - wrC d q (d 3) then d 3 - wrC d q (d 3) - wrC d q (d 3) else wrC d q (d 3) - (d 3 - wrC d q (d 3))) = apN d q := by
    unfold apN
    repeat' split
    all_goals omega
  split
  · rename_i h
    rw [ap_t (by omega) (by omega) h, he]
  · rename_i h
    rw [show (0 : Int32) - (nI (d 3 - wrC d q (d 3)) - nI (wrC d q (d 3))) = -(nI (d 3 - wrC d q (d 3)) - nI (wrC d q (d 3))) from by grind, ap_f (by omega) (by omega) h, he]
theorem har_t {d : Nat → Nat} {vs s i : Nat} (h : hasN vs i = true) (hd : d 2 ≤ 8) : (if nI (harN d vs s i) < nI (wroN d i s (d 2)) then nI (wroN d i s (d 2)) else nI (harN d vs s i)) = nI (harN d vs s (i + 1)) := by
  have h1 := harN_le d vs s i
  have h2 := wroN_le d i s (d 2)
  show _ = nI (if harN d vs s i < (if hasN vs i = true then wroN d i s (d 2) else 0) then (if hasN vs i = true then wroN d i s (d 2) else 0) else harN d vs s i)
  rw [h]
  simp only [if_true]
  by_cases hl : harN d vs s i < wroN d i s (d 2)
  · rw [if_pos ((nI_ltI (by omega) (by omega)).mpr hl), if_pos hl]
  · rw [if_neg (fun z => hl ((nI_ltI (by omega) (by omega)).mp z)), if_neg hl]
theorem har_f {d : Nat → Nat} {vs s i : Nat} (h : hasN vs i = false) : harN d vs s i = harN d vs s (i + 1) := by
  show _ = (if harN d vs s i < (if hasN vs i = true then wroN d i s (d 2) else 0) then (if hasN vs i = true then wroN d i s (d 2) else 0) else harN d vs s i)
  rw [h]
  simp
/-- two visitors upwards: how many tell apart, the first pair that doesn't -/
def nU (al : Nat → Nat → Bool) (a b : Nat) : Nat → Nat
  | 0 => 0
  | n + 1 => nU al a b n + if al a (b + n) = true then 0 else 1
def fU (al : Nat → Nat → Bool) (a b : Nat) (f0 : Option Nat) : Nat → Option Nat
  | 0 => f0
  | n + 1 => if al a (b + n) = true ∧ fU al a b f0 n = none then some (10 * a + (b + n)) else fU al a b f0 n
def nV (al : Nat → Nat → Bool) (V : Nat) : Nat → Nat
  | 0 => 0
  | a + 1 => nV al V a + nU al a (a + 1) (V - (a + 1))
def fV (al : Nat → Nat → Bool) (V : Nat) : Nat → Option Nat
  | 0 => none
  | a + 1 => fU al a (a + 1) (fV al V a) (V - (a + 1))
theorem nU_le (al : Nat → Nat → Bool) (a b n : Nat) : nU al a b n ≤ n := by
  induction n with
  | zero => exact Nat.le_refl _
  | succ n ih => unfold nU; split <;> omega
theorem nV_le (al : Nat → Nat → Bool) (V n : Nat) : nV al V n ≤ V * n := by
  induction n with
  | zero => exact Nat.le_refl _
  | succ n ih =>
    show nV al V n + _ ≤ _
    have := nU_le al n (n + 1) (V - (n + 1))
    rw [Nat.mul_succ]
    omega
def mB (al : Nat → Nat → Bool) (a : Nat) : Nat → Nat → Option Nat
  | _, 0 => none
  | lo, n + 1 => if al a lo = true then some (10 * a + lo) else mB al a (lo + 1) n
theorem mB_snoc (al : Nat → Nat → Bool) (a n : Nat) : ∀ b, mB al a b (n + 1) = (mB al a b n).or (if al a (b + n) = true then some (10 * a + (b + n)) else none) := by
  induction n with
  | zero =>
    intro b
    show (if al a b = true then some (10 * a + b) else none) = Option.or none _
    rw [Option.none_or]
    rfl
  | succ n ih =>
    intro b
    show (if al a b = true then some (10 * a + b) else mB al a (b + 1) (n + 1)) = Option.or (if al a b = true then some (10 * a + b) else mB al a (b + 1) n) _
    by_cases h : al a b = true
    · rw [if_pos h, if_pos h]; rfl
    · rw [if_neg h, if_neg h, ih (b + 1), show b + 1 + n = b + (n + 1) by omega]
theorem fU_or (al : Nat → Nat → Bool) (a b : Nat) (f0 : Option Nat) (n : Nat) : fU al a b f0 n = f0.or (mB al a b n) := by
  induction n with
  | zero => show f0 = f0.or none; rw [Option.or_none]
  | succ n ih =>
    show (if al a (b + n) = true ∧ fU al a b f0 n = none then some (10 * a + (b + n)) else fU al a b f0 n) = _
    rw [mB_snoc, ih, ← Option.or_assoc]
    cases hm : f0.or (mB al a b n) with
    | none =>
      rw [Option.none_or]
      by_cases h : al a (b + n) = true
      · rw [if_pos ⟨h, rfl⟩, if_pos h]
      · rw [if_neg (fun z => h z.1), if_neg h]
    | some z =>
      rw [if_neg (fun q => by cases q.2)]
      rfl
theorem fB_or (al : Nat → Nat → Bool) (V a : Nat) (f0 : Option Nat) : ∀ m, m ≤ V → fB al V a f0 m = (mB al a (V - m) m).or f0 := by
  intro m
  induction m with
  | zero => intro _; show f0 = Option.or none f0; rw [Option.none_or]
  | succ m ih =>
    intro hm
    show (if al a (V - 1 - m) = true then some (10 * a + (V - 1 - m)) else fB al V a f0 m) = Option.or (if al a (V - (m + 1)) = true then some (10 * a + (V - (m + 1))) else mB al a (V - (m + 1) + 1) m) f0
    rw [show V - 1 - m = V - (m + 1) by omega, show V - (m + 1) + 1 = V - m by omega]
    by_cases h : al a (V - (m + 1)) = true
    · rw [if_pos h, if_pos h]; rfl
    · rw [if_neg h, if_neg h, ih (by omega)]
theorem fV_fA (al : Nat → Nat → Bool) (V : Nat) : fV al V V = fA al V V := by
  have key : ∀ k, k ≤ V → (fV al V (V - k)).or (fA al V k) = fV al V V := by
    intro k
    induction k with
    | zero => intro _; show Option.or _ none = _; rw [Option.or_none, Nat.sub_zero]
    | succ k ih =>
      intro hk
      rw [← ih (by omega)]
      show Option.or _ (fB al V (V - 1 - k) (fA al V k) k) = _
      rw [fB_or al V _ _ k (by omega), ← Option.or_assoc]
      congr 1
      have e : V - k = V - (k + 1) + 1 := by omega
      rw [e]
      show _ = fU al (V - (k + 1)) (V - (k + 1) + 1) (fV al V (V - (k + 1))) (V - (V - (k + 1) + 1))
      rw [fU_or]
      rw [show V - 1 - k = V - (k + 1) by omega, show V - (V - (k + 1) + 1) = k by omega, ← e]
  have h := key V (Nat.le_refl V)
  rw [Nat.sub_self] at h
  rw [← h]
  show Option.or none _ = _
  rw [Option.none_or]
theorem nU_front (al : Nat → Nat → Bool) (a n : Nat) : ∀ b, nU al a b (n + 1) = (if al a b = true then 0 else 1) + nU al a (b + 1) n := by
  induction n with
  | zero =>
    intro b
    show 0 + (if al a (b + 0) = true then 0 else 1) = (if al a b = true then 0 else 1) + 0
    rw [Nat.add_zero, Nat.add_zero, Nat.zero_add]
  | succ n ih =>
    intro b
    show nU al a b (n + 1) + (if al a (b + (n + 1)) = true then 0 else 1) = _ + (nU al a (b + 1) n + (if al a (b + 1 + n) = true then 0 else 1))
    rw [ih b, show b + 1 + n = b + (n + 1) by omega]
    omega
theorem nB_U (al : Nat → Nat → Bool) (V a : Nat) : ∀ m, m ≤ V → nB al V a m = nU al a (V - m) m := by
  intro m
  induction m with
  | zero => intro _; rfl
  | succ m ih =>
    intro hm
    show nB al V a m + (if al a (V - 1 - m) = true then 0 else 1) = _
    rw [nU_front, ih (by omega), show V - (m + 1) + 1 = V - m by omega, show V - 1 - m = V - (m + 1) by omega]
    omega
theorem nV_nA (al : Nat → Nat → Bool) (V : Nat) : nV al V V = nA al V V := by
  have key : ∀ k, k ≤ V → nV al V (V - k) + nA al V k = nV al V V := by
    intro k
    induction k with
    | zero => intro _; show _ + 0 = _; rw [Nat.sub_zero, Nat.add_zero]
    | succ k ih =>
      intro hk
      rw [← ih (by omega)]
      show _ + (nA al V k + nB al V (V - 1 - k) k) = _
      rw [nB_U al V _ k (by omega)]
      have e : V - k = V - (k + 1) + 1 := by omega
      have e2 : nV al V (V - k) = nV al V (V - (k + 1)) + nU al (V - (k + 1)) (V - (k + 1) + 1) (V - (V - (k + 1) + 1)) := by rw [e]; rfl
      rw [e2, show V - 1 - k = V - (k + 1) by omega, show V - (V - (k + 1) + 1) = k by omega, ← e]
      omega
  have h := key V (Nat.le_refl V)
  rw [Nat.sub_self] at h
  rw [← h]
  show 0 + _ = _
  rw [Nat.zero_add]
theorem fU_lt {al : Nat → Nat → Bool} {a b n z : Nat} {f0 : Option Nat} (h : fU al a b f0 n = some z) (h0 : ∀ y, f0 = some y → y < 100) (ha : a < 5) (hb : b + n ≤ 5) : z < 100 := by
  induction n generalizing z with
  | zero => exact h0 z h
  | succ n ih =>
    unfold fU at h
    split at h
    · injection h with h; omega
    · exact ih h (by omega)
theorem fV_lt {al : Nat → Nat → Bool} {V : Nat} (hV : V ≤ 5) : ∀ (n : Nat), n ≤ V → ∀ z, fV al V n = some z → z < 100 := by
  intro n
  induction n with
  | zero => intro _ z h; cases h
  | succ n ih => intro hn z h; exact fU_lt h (fun y hy => ih (by omega) y hy) (by omega) (by omega)
theorem keeN_cnt {d : Nat → Nat} {n b : Nat} (h : keeN d n = some b) : cntD d b = true := by
  induction n with
  | zero => cases h
  | succ n ih =>
    unfold keeN at h
    split at h
    · rename_i hc
      injection h with h
      subst h
      rw [Bool.and_eq_true] at hc
      exact hc.1
    · exact ih h
