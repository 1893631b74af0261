/-! PURE 22: ask, by a square's kind -/
set_option maxRecDepth 100000
def askL (d : Nat → Nat) (s k : Nat) : List Nat := if k = 0 then sizB (d (4 + 5 * s + 0)) else mrkB (d (4 + 5 * s + 0))
def askV (d : Nat → Nat) (s k : Nat) : Int32 := if k = 0 then sizV d s else mrkV d s
section AV
variable {d : Nat → Nat} {s : Nat}
theorem mrkV_1 (h : d (4 + 5 * s + 0) = 1) : mrkV d s = nI (s + cliN d s (d 3)) := by
  unfold mrkV
  rw [h]
  rfl
theorem mrkV_2 (h : d (4 + 5 * s + 0) = 2) : mrkV d s = nI (2 * (s + cliN d s (d 3))) := by
  unfold mrkV
  rw [h]
  rfl
theorem mrkV_3 (h : d (4 + 5 * s + 0) = 3) : mrkV d s = nI (s + cliN d s (d 3)) - nI 1000 := by
  unfold mrkV
  rw [h]
  rfl
theorem unkV_4 (h : d (4 + 5 * s + 0) = 4) : unkV d s = nI (d (4 + 5 * s + 1)) - nI 100 := by
  unfold unkV
  rw [h]
  rfl
theorem unkV_5 (h : d (4 + 5 * s + 0) = 5) : unkV d s = nI 2 * (nI (d (4 + 5 * s + 1)) - nI 100) := by
  unfold unkV
  rw [h]
  rfl
theorem mrkV_4 (h : d (4 + 5 * s + 0) = 4) : mrkV d s = nI s - (nI (d (4 + 5 * s + 1)) - nI 100) := by
  rw [← unkV_4 h]
  unfold mrkV
  rw [h]
  rfl
theorem mrkV_5 (h : d (4 + 5 * s + 0) = 5) : mrkV d s = nI s - nI 2 * (nI (d (4 + 5 * s + 1)) - nI 100) := by
  rw [← unkV_5 h]
  unfold mrkV
  rw [h]
  rfl
theorem sizV_1 (h : d (4 + 5 * s + 0) = 1) : sizV d s = nI (d (4 + 5 * s + 1) + (s + cliN d s (d 3))) := by
  have e : sizV d s = nI (d (4 + 5 * s + 1)) + mrkV d s := by
    unfold sizV
    rw [h]
    rfl
  rw [e, mrkV_1 h, nI_add]
theorem sizV_2 (h : d (4 + 5 * s + 0) = 2) : sizV d s = -(nI (d (4 + 5 * s + 1) + (2 * (s + cliN d s (d 3))))) := by
  have e : sizV d s = -(nI (d (4 + 5 * s + 1)) + mrkV d s) := by
    unfold sizV
    rw [h]
    rfl
  rw [e, mrkV_2 h, nI_add]
theorem sizV_3 (h : d (4 + 5 * s + 0) = 3) : sizV d s = nI (d (4 + 5 * s + 1)) + (nI (s + cliN d s (d 3)) - nI 1000) := by
  have e : sizV d s = nI (d (4 + 5 * s + 1)) + mrkV d s := by
    unfold sizV
    rw [h]
    rfl
  rw [e, mrkV_3 h]
theorem sizV_4 (h : d (4 + 5 * s + 0) = 4) : sizV d s = nI (d (4 + 5 * s + 1)) - nI 100 := by
  rw [← unkV_4 h]
  unfold sizV
  rw [h]
  rfl
theorem sizV_5 (h : d (4 + 5 * s + 0) = 5) : sizV d s = nI 2 * (nI (d (4 + 5 * s + 1)) - nI 100) := by
  rw [← unkV_5 h]
  unfold sizV
  rw [h]
  rfl
theorem askV_s {k : Nat} {x : Int32} (h : k = 0) (e : sizV d s = x) : x = askV d s k := by
  subst h
  exact e.symm
theorem askV_m {k : Nat} {x : Int32} (h : ¬ k = 0) (e : mrkV d s = x) : x = askV d s k := by
  unfold askV
  rw [if_neg h]
  exact e.symm
theorem askL_s {k n : Nat} {L : List Nat} (h : k = 0) (hk : d (4 + 5 * s + 0) = n) (e : sizB n = L) : L = askL d s k := by
  subst h
  unfold askL
  rw [if_pos rfl, hk]
  exact e.symm
theorem askL_m {k n : Nat} {L : List Nat} (h : ¬ k = 0) (hk : d (4 + 5 * s + 0) = n) (e : mrkB n = L) : L = askL d s k := by
  unfold askL
  rw [if_neg h, hk]
  exact e.symm
end AV
