/-! PURE 17: a row of clicks held against a door -/
set_option maxRecDepth 100000
def allR (p : Nat → Bool) (f : Nat → Int32) : Nat → Bool
  | 0 => true
  | n + 1 => allR p f n && decide (bI (p n) = f n)
theorem allR_N (p : Nat → Bool) (it : Nat → Int32) (fr n : Nat) : allR p (fun z => it (fr + z)) n = allN p it fr n := by
  induction n with
  | zero => rfl
  | succ n ih =>
    show (allR p _ n && _) = (allN p it fr n && _)
    rw [ih]
theorem allR_congr {p : Nat → Bool} {f g : Nat → Int32} {n : Nat} (h : ∀ z, z < n → f z = g z) : allR p f n = allR p g n := by
  induction n with
  | zero => rfl
  | succ n ih =>
    show (allR p f n && _) = (allR p g n && _)
    rw [ih (fun z hz => h z (by omega)), h n (by omega)]
theorem bI_and1 (b : Bool) : bI b &&& nI 1 = bI b := by cases b <;> decide
theorem bI_and0 (b : Bool) : bI b &&& nI 0 = bI false := by cases b <;> decide
theorem al1 {p : Nat → Bool} {f : Nat → Int32} {i : Nat} (hc : p i = true) (h : f i = nI 1) : bI (allR p f i) &&& nI 1 = bI (allR p f (i + 1)) := by
  show _ = bI (allR p f i && decide (bI (p i) = f i))
  rw [bI_and1, hc, h, decide_eq_true (show bI true = nI 1 from rfl), Bool.and_true]
theorem al2 {p : Nat → Bool} {f : Nat → Int32} {i : Nat} (hc : p i = true) (h : ¬ f i = nI 1) : bI (allR p f i) &&& nI 0 = bI (allR p f (i + 1)) := by
  show _ = bI (allR p f i && decide (bI (p i) = f i))
  rw [bI_and0, hc, decide_eq_false (show ¬ bI true = f i from fun q => h q.symm), Bool.and_false]
theorem al3 {p : Nat → Bool} {f : Nat → Int32} {i : Nat} (hc : p i = false) (h : f i = nI 0) : bI (allR p f i) &&& nI 1 = bI (allR p f (i + 1)) := by
  show _ = bI (allR p f i && decide (bI (p i) = f i))
  rw [bI_and1, hc, h, decide_eq_true (show bI false = nI 0 from rfl), Bool.and_true]
theorem al4 {p : Nat → Bool} {f : Nat → Int32} {i : Nat} (hc : p i = false) (h : ¬ f i = nI 0) : bI (allR p f i) &&& nI 0 = bI (allR p f (i + 1)) := by
  show _ = bI (allR p f i && decide (bI (p i) = f i))
  rw [bI_and0, hc, decide_eq_false (show ¬ bI false = f i from fun q => h q.symm), Bool.and_false]
theorem setN_congr {p q : Nat → Bool} {n : Nat} (h : ∀ v, v < n → p v = q v) : setN p n = setN q n := by
  induction n with
  | zero => rfl
  | succ n ih =>
    show setN p n ||| _ = setN q n ||| _
    rw [ih (fun v hv => h v (by omega)), h n (by omega)]
theorem riF_in {it : Nat → Int32} {r j : Nat} (h : j < 40) : riF it r j = it (40 * r + j) := if_pos h
theorem rfC_ok {la : Nat → Int32} {ma : Nat → Nat} {r n : Nat} {x : Int32} (h : ¬ la r < 0) (h2 : 0 ≤ x.toInt ∧ x.toInt + n ≤ ma r) : rfC la ma r x n = 0 := by
  unfold rfC
  rw [if_pos (nl0.mp h), if_pos h2]
theorem rfC_2 {la : Nat → Int32} {ma : Nat → Nat} {r n : Nat} {x : Int32} (h : ¬ la r < 0) (h2 : ¬ (0 ≤ x.toInt ∧ x.toInt + n ≤ ma r)) : rfC la ma r x n = 2 := by
  unfold rfC
  rw [if_pos (nl0.mp h), if_neg h2]
theorem rfC_1 {la : Nat → Int32} {ma : Nat → Nat} {r n : Nat} {x : Int32} (h : la r < 0) : rfC la ma r x n = 1 := by
  unfold rfC
  rw [if_neg (fun q => nl0.mpr q h)]
theorem who_eq {d : Nat → Nat} {it : Nat → Int32} {r j : Nat} (h : j + d 2 ≤ 40) : setN (fun v => allR (fun z => clkB (d (4 + 5 * z + 0)) (d (4 + 5 * z + 1)) (d (44 + 4 * v + 0)) (d (44 + 4 * v + 1))) (fun z => riF it r (j + z)) (d 2)) (d 3) = setN (whoP d it (40 * r + j)) (d 3) := by
  refine setN_congr fun v _ => ?_
  unfold whoP
  rw [← allR_N]
  refine allR_congr fun z hz => ?_
  rw [riF_in (by omega), Nat.add_assoc]
theorem car_eq {d : Nat → Nat} {it : Nat → Int32} {r j ea : Nat} (h : j + d 2 ≤ 40) : setN (fun c => allR (fun z => clkB (d (4 + 5 * z + 0)) (d (4 + 5 * z + 1)) c ea) (fun z => riF it r (j + z)) (d 2)) 10 = setN (carP d it ea (40 * r + j)) 10 := by
  refine setN_congr fun v _ => ?_
  unfold carP
  rw [← allR_N]
  refine allR_congr fun z hz => ?_
  rw [riF_in (by omega), Nat.add_assoc]
theorem shr_eq {d : Nat → Nat} {it : Nat → Int32} {r j s : Nat} (h : j + d 3 ≤ 40) : setN (fun c => allR (fun v => clkB (d (4 + 5 * s + 0)) c (d (44 + 4 * v + 0)) (d (44 + 4 * v + 1))) (fun z => riF it r (j + z)) (d 3)) 10 = setN (shrP d it s (40 * r + j)) 10 := by
  refine setN_congr fun v _ => ?_
  unfold shrP
  rw [← allR_N]
  refine allR_congr fun z hz => ?_
  rw [riF_in (by omega), Nat.add_assoc]
theorem knd_t {i : Nat} {b : Bool} (h : b = true) : (decide (1 ≤ 1 + i) && b) = true := by rw [h, decide_eq_true (by omega)]; rfl
theorem knd_f {i : Nat} {b : Bool} (h : b = false) : (decide (1 ≤ 1 + i) && b) = false := by rw [h, Bool.and_false]
theorem knd_eq {d : Nat → Nat} {it : Nat → Int32} {r j s : Nat} (h : j + d 3 ≤ 40) : setN (fun k => decide (1 ≤ k) && allR (fun v => clkB k (d (4 + 5 * s + 1)) (d (44 + 4 * v + 0)) (d (44 + 4 * v + 1))) (fun z => riF it r (j + z)) (d 3)) (1 + 5) = setN (kndP d it s (40 * r + j)) 6 := by
  refine setN_congr fun v _ => ?_
  unfold kndP
  rw [← allR_N]
  refine congrArg _ (allR_congr fun z hz => ?_)
  rw [riF_in (by omega), Nat.add_assoc]
theorem knd_0 {b : Nat → Bool} : 0 = setN (fun k => decide (1 ≤ k) && b k) (1 + 0) := by simp [setN]
