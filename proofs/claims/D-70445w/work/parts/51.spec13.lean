/-! PURE 13: sets by their bits; what one is wrong at, counted by bits -/
set_option maxRecDepth 100000
theorem setN_bit (p : Nat → Bool) (n i : Nat) : (setN p n).testBit i = (decide (i < n) && p i) := by
  induction n with
  | zero => simp [setN]
  | succ n ih =>
    unfold setN
    rw [Nat.testBit_or, ih]
    by_cases hi : i = n
    · subst hi
      by_cases hp : p i = true
      · rw [if_pos hp, Nat.one_mul, Nat.testBit_two_pow]
        simp [hp]
      · rw [if_neg hp, Nat.zero_testBit]
        simp only [Bool.not_eq_true] at hp
        simp [hp]
    · have h1 : decide (i < n + 1) = decide (i < n) := decide_eq_decide.mpr (by omega)
      rw [h1]
      split
      · rw [Nat.one_mul, Nat.testBit_two_pow]
        simp [Ne.symm hi]
      · rw [Nat.zero_testBit, Bool.or_false]
theorem hasN_bit (s k : Nat) : hasN s k = s.testBit k := by
  unfold hasN
  rw [Nat.testBit_eq_decide_div_mod_eq]
theorem bitN_s (s n : Nat) : bitN s (n + 1) = bitN s n + if s.testBit n = true then 1 else 0 := by
  show bitN s n + s / 2 ^ n % 2 = _
  rw [← hasN_bit]
  unfold hasN
  split
  · rename_i h; rw [of_decide_eq_true h]
  · rename_i h
    have h2 : ¬ s / 2 ^ n % 2 = 1 := fun q => h (decide_eq_true q)
    omega
/-- a count of bits below n that are told by p -/
def cntP (p : Nat → Bool) : Nat → Nat
  | 0 => 0
  | n + 1 => cntP p n + if p n = true then 1 else 0
theorem bitN_cnt (s n : Nat) : bitN s n = cntP (fun i => s.testBit i) n := by
  induction n with
  | zero => rfl
  | succ n ih => rw [bitN_s, ih]; rfl
theorem cntP_congr {p q : Nat → Bool} {n : Nat} (h : ∀ i, i < n → p i = q i) : cntP p n = cntP q n := by
  induction n with
  | zero => rfl
  | succ n ih =>
    show cntP p n + _ = cntP q n + _
    rw [ih (fun i hi => h i (by omega)), h n (by omega)]
theorem cntP_ext {p : Nat → Bool} {n m : Nat} (hnm : n ≤ m) (h : ∀ i, n ≤ i → p i = false) : cntP p m = cntP p n := by
  induction m with
  | zero => rw [Nat.le_zero.mp hnm]
  | succ m ih =>
    by_cases hm : n ≤ m
    · show cntP p m + _ = _
      rw [ih hm, h m hm]
      rfl
    · rw [show n = m + 1 by omega]
theorem wroN_cnt (d : Nat → Nat) (v set n : Nat) : wroN d v set n = cntP (fun i => hasN set i && wrgD d v i) n := by
  induction n with
  | zero => rfl
  | succ n ih =>
    show wroN d v set n + _ = cntP _ n + _
    rw [ih]
/-- wrongIn: what is clicked (x), the lamps, the squares asked, those that count -/
def wrI (d : Nat → Nat) (x set : Nat) : Nat := bitN (((x ^^^ setN (lmpD d) (d 2)) &&& set) &&& setN (cntD d) (d 2)) 8
theorem wrI_cnt {d : Nat → Nat} {x set : Nat} (h2 : d 2 ≤ 8) : wrI d x set = cntP (fun i => (x.testBit i != lmpD d i) && hasN set i && cntD d i) (d 2) := by
  unfold wrI
  rw [bitN_cnt, cntP_ext (n := d 2) h2]
  · refine cntP_congr fun i hi => ?_
    simp only [Nat.testBit_and, Nat.testBit_xor, setN_bit, hi, decide_true, Bool.true_and, hasN_bit]
  · intro i hi
    have : ¬ i < d 2 := by omega
    simp [Nat.testBit_and, setN_bit, this]
theorem wrI_clk {d : Nat → Nat} {v set : Nat} (h2 : d 2 ≤ 8) : wrI d (clkN d v (d 2)) set = wroN d v set (d 2) := by
  rw [wrI_cnt h2, wroN_cnt]
  refine cntP_congr fun i hi => ?_
  unfold clkN wrgD
  rw [setN_bit]
  simp only [hi, decide_true, Bool.true_and]
  cases (clkD d v i != lmpD d i) <;> cases hasN set i <;> cases cntD d i <;> rfl
theorem setN_256 (p : Nat → Bool) {n : Nat} (h : n ≤ 8) : setN p n < 256 := setN_8 p h
theorem wr_lt {d : Nat → Nat} {x set : Nat} (h : set < 256) : ((x ^^^ setN (lmpD d) (d 2)) &&& set) &&& setN (cntD d) (d 2) < 256 := Nat.lt_of_le_of_lt Nat.and_le_left (Nat.lt_of_le_of_lt Nat.and_le_right h)
/-! what asking changes of a door: not what is seen -/
theorem vot_at {d : Nat → Nat} {v set k : Nat} (h : ∀ n, n < 8 → k ≠ 4 + 5 * n + 2 ∧ k ≠ 4 + 5 * n + 3) : ∀ i, i ≤ 8 → vot d v set i k = d k := by
  intro i
  induction i with
  | zero => intro _; rfl
  | succ i ih =>
    intro hi
    show votS (vot d v set i) v set i k = d k
    rw [votS_ne (h i (by omega)).1 (h i (by omega)).2]
    exact ih (by omega)
theorem vot_clk {d : Nat → Nat} {v set w q i : Nat} (hi : i ≤ 8) (hq : q < 8) (hw : w < 5) : clkD (vot d v set i) w q = clkD d w q := by
  unfold clkD
  rw [vot_at (k := 4 + 5 * q + 0) (fun n hn => by omega) i hi, vot_at (k := 4 + 5 * q + 1) (fun n hn => by omega) i hi, vot_at (k := 44 + 4 * w + 0) (fun n hn => by omega) i hi, vot_at (k := 44 + 4 * w + 1) (fun n hn => by omega) i hi]
theorem vot_cnt {d : Nat → Nat} {v set q i : Nat} (hi : i ≤ 8) (hq : q < 8) : cntD (vot d v set i) q = cntD d q := by
  unfold cntD
  rw [vot_at (k := 4 + 5 * q + 0) (fun n hn => by omega) i hi, vot_at (k := 4 + 5 * q + 4) (fun n hn => by omega) i hi]
theorem vo_h {d : Nat → Nat} {v set i : Nat} (h : set / 2 ^ i &&& 1 = 0) : vot d v set (i + 1) = vot d v set i := by
  have h1 : hasN set i = false := by unfold hasN; rw [and1] at h; rw [h]; rfl
  show votS (vot d v set i) v set i = _
  unfold votS
  rw [h1]
  rfl
theorem vo_c {d : Nat → Nat} {v set i : Nat} (hi : i < 8) (h : cntD d i = true) : vot d v set (i + 1) = vot d v set i := by
  show votS (vot d v set i) v set i = _
  unfold votS
  rw [vot_cnt (by omega) hi, h, Bool.not_true, Bool.and_false]
  rfl
theorem vo_e {d : Nat → Nat} {v set i : Nat} (hi : i < 8) (hv : v < 5) (h : ¬ set / 2 ^ i &&& 1 = 0) (hc : cntD d i = false) : vot d v set (i + 1) = if clkD d v i = true then bump (vot d v set i) (4 + 5 * i + 2) else bump (vot d v set i) (4 + 5 * i + 3) := by
  have h1 : hasN set i = true := by
    unfold hasN
    rw [and1] at h
    exact decide_eq_true (by omega)
  show votS (vot d v set i) v set i = _
  unfold votS
  rw [vot_cnt (by omega) hi, vot_clk (by omega) hi hv, h1, hc]
  rfl
theorem vo_y {d : Nat → Nat} {v set i : Nat} (hi : i < 8) (hv : v < 5) (h : ¬ set / 2 ^ i &&& 1 = 0) (hc : cntD d i = false) (hk : clkD d v i = true) : updN (yeF (vot d v set i)) i (yeF (vot d v set i) i + if yeF (vot d v set i) i < 99 then 1 else 0) = yeF (vot d v set (i + 1)) ∧ noF (vot d v set i) = noF (vot d v set (i + 1)) := by
  rw [vo_e hi hv h hc, if_pos hk]
  constructor
  · funext z
    unfold yeF bump updN
    by_cases hz : z = i
    · subst hz; simp
    · rw [if_neg hz, if_neg (by omega)]
  · funext z
    unfold noF
    rw [bump_ne (by omega)]
theorem vo_n {d : Nat → Nat} {v set i : Nat} (hi : i < 8) (hv : v < 5) (h : ¬ set / 2 ^ i &&& 1 = 0) (hc : cntD d i = false) (hk : clkD d v i = false) : updN (noF (vot d v set i)) i (noF (vot d v set i) i + if noF (vot d v set i) i < 99 then 1 else 0) = noF (vot d v set (i + 1)) ∧ yeF (vot d v set i) = yeF (vot d v set (i + 1)) := by
  have e : vot d v set (i + 1) = bump (vot d v set i) (4 + 5 * i + 3) := by rw [vo_e hi hv h hc, hk]; rfl
  rw [e]
  constructor
  · funext z
    unfold noF bump updN
    by_cases hz : z = i
    · subst hz; simp
    · rw [if_neg hz, if_neg (by omega)]
  · funext z
    unfold yeF
    rw [bump_ne (by omega)]
theorem min_all : ∀ a, a < 100 → (if nI (a + 1) < nI 99 then nI (a + 1) else nI 99) = nI (a + if a < 99 then 1 else 0) := by decide +kernel
theorem pose_at {d : Nat → Nat} {v set k : Nat} (h2 : k ≠ 44 + 4 * v + 2) (h3 : k ≠ 44 + 4 * v + 3) : poseD d v set k = poseE d v set k := by
  unfold poseD
  rw [updN_ne h3, updN_ne h2]
theorem pose_lo {d : Nat → Nat} {v set k : Nat} (hd2 : d 2 ≤ 8) (h2 : k ≠ 44 + 4 * v + 2) (h3 : k ≠ 44 + 4 * v + 3) (h : ∀ n, n < 8 → k ≠ 4 + 5 * n + 2 ∧ k ≠ 4 + 5 * n + 3) : poseD d v set k = d k := by
  rw [pose_at h2 h3]
  unfold poseE
  split
  · exact vot_at h _ hd2
  · rfl
theorem pose_sh {d : Nat → Nat} {v set q : Nat} (hd2 : d 2 ≤ 8) (hq : q < 8) : shF (poseD d v set) q = shF d q := pose_lo hd2 (by omega) (by omega) (fun n hn => by omega)
theorem pose_se {d : Nat → Nat} {v set q : Nat} (hd2 : d 2 ≤ 8) (hq : q < 8) : seF (poseD d v set) q = seF d q := by
  unfold seF seO
  rw [pose_lo hd2 (k := 4 + 5 * q + 4) (by omega) (by omega) (fun n hn => by omega), pose_lo hd2 (k := 2) (by omega) (by omega) (fun n hn => by omega)]
theorem pose_ca {d : Nat → Nat} {v set w : Nat} (hd2 : d 2 ≤ 8) (hw : w < 5) : caF (poseD d v set) w = caF d w := pose_lo hd2 (by omega) (by omega) (fun n hn => by omega)
theorem pose_ea {d : Nat → Nat} {v set w : Nat} (hd2 : d 2 ≤ 8) (hw : w < 5) : eaF (poseD d v set) w = eaF d w := pose_lo hd2 (by omega) (by omega) (fun n hn => by omega)
theorem pose_ye {d : Nat → Nat} {v set q : Nat} (hq : q < 8) : yeF (poseD d v set) q = yeF (poseE d v set) q := pose_at (by omega) (by omega)
theorem pose_no {d : Nat → Nat} {v set q : Nat} (hq : q < 8) : noF (poseD d v set) q = noF (poseE d v set) q := pose_at (by omega) (by omega)
theorem poseE_hi {d : Nat → Nat} {v set k : Nat} (hd2 : d 2 ≤ 8) (h : 44 ≤ k) (h4 : k < 64) (hk : k % 4 = 2 ∨ k % 4 = 3) : poseE d v set k = d k := by
  unfold poseE
  split
  · exact vot_at (fun n hn => by omega) _ hd2
  · rfl
theorem pose_po {d : Nat → Nat} {v set w : Nat} (hd2 : d 2 ≤ 8) (hv : v < 5) (hw : w < 5) : poF (poseD d v set) w = updN (poF d) v (poF d v + 1) w := by
  unfold poF poseD
  rw [updN_ne (by omega), poseE_hi hd2 (by omega) (by omega) (by omega)]
  unfold updN
  by_cases h : w = v
  · subst h; simp
  · rw [if_neg h, if_neg (by omega), poseE_hi hd2 (by omega) (by omega) (by omega)]
theorem pose_le {d : Nat → Nat} {v set w : Nat} (hd2 : d 2 ≤ 8) (hv : v < 5) (hw : w < 5) : leF (poseD d v set) w = updN (leF d) v (leF d v + if letD d v set = true then 1 else 0) w := by
  unfold leF poseD
  rw [updN_ne (d := poseE d v set) (by omega), poseE_hi (k := 44 + 4 * v + 3) hd2 (by omega) (by omega) (by omega)]
  by_cases h : w = v
  · subst h; simp [updN]
  · have h1 : 44 + 4 * w + 3 ≠ 44 + 4 * v + 3 := by omega
    rw [updN_ne h1, updN_ne (d := poseE d v set) (by omega), poseE_hi hd2 (by omega) (by omega) (by omega), updN_ne h]
theorem pose_sq {ca : Nat → ClassId} {fz : va_W} {ls : Nat} {d : Nat → Nat} {v set : Nat} (hd2 : d 2 ≤ 8) (h : SqL ca fz ls d) : SqL ca fz ls (poseD d v set) := h.to (pose_lo hd2 (by omega) (by omega) (fun n hn => by omega)) (fun q hq => pose_lo hd2 (by omega) (by omega) (fun n hn => by omega))
