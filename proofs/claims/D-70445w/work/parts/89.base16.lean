/-! BASE 16: draws on the door for trials -/
set_option maxRecDepth 100000
def drwL (d : Nat → Nat) (lt lsq : Nat) (x y w : Int32) : Nat := match drwO d x y w with
  | none => lt
  | some _ => lsq
theorem drE_sq {ca : Nat → ClassId} {fz : va_W} {ls : Nat} {d : Nat → Nat} {sd : Nat} (hd2 : d 2 ≤ 8) (h : SqL ca fz ls d) (n : Nat) : SqL ca fz ls (drE d sd n) := by
  induction n with
  | zero => exact h
  | succ n ih => exact pose_sq (by rw [drE_lo (by decide)]; exact hd2) ih
theorem drE_s {d : Nat → Nat} {sd j : Nat} (h2 : drE d sd j 2 = d 2) (h3 : drE d sd j 3 = d 3) : poseD (drE d sd j) (drX sd j * 16807 % 2147483647 % d 3) (drX sd j * 16807 % 2147483647 % 256 &&& (1 * 2 ^ d 2 - 1)) = drE d sd (j + 1) := by
  show _ = poseD (drE d sd j) (drV (drE d sd j) (drX sd (j + 1))) (drS (drE d sd j) (drX sd (j + 1)))
  unfold drV drS
  rw [h2, h3]
  rfl
theorem drL_t2 {d : Nat → Nat} {sd j : Nat} (h2 : drE d sd j 2 = d 2) (h3 : drE d sd j 3 = d 3) (h : letD (drE d sd j) (drX sd j * 16807 % 2147483647 % d 3) (drX sd j * 16807 % 2147483647 % 256 &&& (1 * 2 ^ d 2 - 1)) = true) : drL d sd j + 1 = drL d sd (j + 1) := by
  refine drL_t ?_
  unfold drV drS
  rw [h2, h3]
  exact h
theorem drL_f2 {d : Nat → Nat} {sd j : Nat} (h2 : drE d sd j 2 = d 2) (h3 : drE d sd j 3 = d 3) (h : letD (drE d sd j) (drX sd j * 16807 % 2147483647 % d 3) (drX sd j * 16807 % 2147483647 % 256 &&& (1 * 2 ^ d 2 - 1)) = false) : drL d sd j + 0 = drL d sd (j + 1) := by
  refine drL_f ?_
  unfold drV drS
  rw [h2, h3]
  exact h
theorem drX_s (sd j : Nat) : drX sd j * 16807 % 2147483647 = drX sd (j + 1) := rfl
