/-! PURE 2 -/
set_option maxRecDepth 100000
def allN (p : Nat → Bool) (it : Nat → Int32) (fr : Nat) : Nat → Bool
  | 0 => true
  | n + 1 => allN p it fr n && decide (bI (p n) = it (fr + n))
def isOfB (k o : Nat) : Bool := o == 0 || k == o || (o == 1 && decide (k < 4)) || (o == 4 && k == 5)
def knd (x : Nat) : Option Nat := if x = 107 then some 1 else if x = 101 then some 2 else if x = 99 then some 3 else if x = 117 then some 4 else if x = 104 then some 5 else none
def letD (d : Nat → Nat) (v set : Nat) : Bool := decide (wroN d v set (d 2) ≤ d 1)
def bump (e : Nat → Nat) (k : Nat) : Nat → Nat := updN e k (e k + if e k < 99 then 1 else 0)
theorem bump_ne {e : Nat → Nat} {k j : Nat} (h : j ≠ k) : bump e k j = e j := if_neg h
theorem bump_le {e : Nat → Nat} {k j : Nat} (h : e j ≤ 99) : bump e k j ≤ 99 := by
  unfold bump updN
  split
  · rename_i q
    subst q
    split <;> omega
  · exact h
/-- one square's vote -/
def votS (e : Nat → Nat) (v set n : Nat) : Nat → Nat := if (hasN set n && !cntD e n) = true then (if clkD e v n = true then bump e (4 + 5 * n + 2) else bump e (4 + 5 * n + 3)) else e
def vot (d : Nat → Nat) (v set : Nat) : Nat → Nat → Nat
  | 0 => d
  | n + 1 => votS (vot d v set n) v set n
theorem votS_ne {e : Nat → Nat} {v set n j : Nat} (h2 : j ≠ 4 + 5 * n + 2) (h3 : j ≠ 4 + 5 * n + 3) : votS e v set n j = e j := by
  unfold votS
  split
  · split
    · exact bump_ne h2
    · exact bump_ne h3
  · rfl
theorem votS_le {e : Nat → Nat} {v set n j : Nat} (h : e j ≤ 99) : votS e v set n j ≤ 99 := by
  unfold votS
  split
  · split <;> exact bump_le h
  · exact h
theorem vot_2 (d : Nat → Nat) (v set n : Nat) : vot d v set n 2 = d 2 := by
  induction n with
  | zero => rfl
  | succ n ih => show votS _ _ _ _ 2 = _; rw [votS_ne (by omega) (by omega), ih]
theorem votS_ok {e : Nat → Nat} {v set n : Nat} (h : dOK e) (hn : n < 8) : dOK (votS e v set n) := by
  obtain ⟨h0, h1, h2, h3, h4, h5, h6⟩ := h
  have k0 : ∀ j, j < 4 → votS e v set n j = e j := fun j hj => votS_ne (by omega) (by omega)
  refine ⟨by rw [k0 0 (by omega)]; exact h0, by rw [k0 1 (by omega)]; exact h1, by rw [k0 2 (by omega)]; exact h2, by rw [k0 3 (by omega)]; exact h3, fun q hq => ?_, fun w hw => ?_, fun q hq => ?_⟩
  · obtain ⟨a0, a1, a2, a3, a4⟩ := h4 q hq
    exact ⟨by rw [votS_ne (by omega) (by omega)]; exact a0, by rw [votS_ne (by omega) (by omega)]; exact a1, votS_le a2, votS_le a3, by rw [votS_ne (by omega) (by omega)]; exact a4⟩
  · rw [votS_ne (by omega) (by omega), votS_ne (by omega) (by omega)]
    exact h5 w hw
  · rw [k0 2 (by omega)] at hq
    rw [votS_ne (by omega) (by omega)]
    exact h6 q hq
theorem vot_ok {d : Nat → Nat} {v set : Nat} (h : dOK d) (n : Nat) (hn : n ≤ 8) : dOK (vot d v set n) := by
  induction n with
  | zero => exact h
  | succ n ih => exact votS_ok (ih (by omega)) (by omega)
def poseE (d : Nat → Nat) (v set : Nat) : Nat → Nat := if letD d v set = true then vot d v set (d 2) else d
def poseD (d : Nat → Nat) (v set : Nat) : Nat → Nat := updN (updN (poseE d v set) (44 + 4 * v + 2) (poseE d v set (44 + 4 * v + 2) + 1)) (44 + 4 * v + 3) (updN (poseE d v set) (44 + 4 * v + 2) (poseE d v set (44 + 4 * v + 2) + 1) (44 + 4 * v + 3) + if letD d v set = true then 1 else 0)
