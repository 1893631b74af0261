/-! PURE 5: trails, draws, letters -/
set_option maxRecDepth 100000
def begT (tr : Nat → Nat) (n b : Nat) : Nat → Nat := if n < 16 then updN tr n b else tr
def begN (n : Nat) : Nat := if n < 16 then n + 1 else n
theorem begN_le {n : Nat} (h : n ≤ 16) : begN n ≤ 16 := by unfold begN; split <;> omega
def begF : List Nat → (Nat → Nat) → Nat → Nat → Nat
  | [], tr, _ => tr
  | b :: t, tr, n => begF t (begT tr n b) (begN n)
def begC : List Nat → Nat → Nat
  | [], n => n
  | _ :: t, n => begC t (begN n)
theorem begC_le (bs : List Nat) {n : Nat} (h : n ≤ 16) : begC bs n ≤ 16 := by
  induction bs generalizing n with
  | nil => exact h
  | cons b t ih => exact ih (begN_le h)
theorem begF_app (bs cs : List Nat) (tr : Nat → Nat) (n : Nat) : begF (bs ++ cs) tr n = begF cs (begF bs tr n) (begC bs n) := by
  induction bs generalizing tr n with
  | nil => rfl
  | cons b t ih => exact ih _ _
theorem begC_app (bs cs : List Nat) (n : Nat) : begC (bs ++ cs) n = begC cs (begC bs n) := by
  induction bs generalizing n with
  | nil => rfl
  | cons b t ih => exact ih _
def unkB (k : Nat) : List Nat := if k = 5 then [14, 13, 10] else [13, 10]
def mrkB (k : Nat) : List Nat := if 4 ≤ k then [23, 20] ++ unkB k else if k = 1 then [21, 20] else if k = 3 then [22, 21, 20] else [24, 21, 20]
def sizB (k : Nat) : List Nat := if 4 ≤ k then unkB k else if k = 2 then [12, 11, 10] ++ mrkB k else [11, 10] ++ mrkB k
def unkV (d : Nat → Nat) (s : Nat) : Int32 := if d (4 + 5 * s + 0) = 5 then nI 2 * (nI (d (4 + 5 * s + 1)) - nI 100) else nI (d (4 + 5 * s + 1)) - nI 100
def cliN (d : Nat → Nat) (s : Nat) : Nat → Nat
  | 0 => 0
  | n + 1 => cliN d s n + if clkD d n s = true then 1 else 0
theorem cliN_le (d : Nat → Nat) (s n : Nat) : cliN d s n ≤ n := by
  induction n with
  | zero => exact Nat.le_refl _
  | succ n ih => unfold cliN; split <;> omega
def mrkV (d : Nat → Nat) (s : Nat) : Int32 := if 4 ≤ d (4 + 5 * s + 0) then nI s - unkV d s else if d (4 + 5 * s + 0) = 1 then nI (s + cliN d s (d 3)) else if d (4 + 5 * s + 0) = 3 then nI (s + cliN d s (d 3)) - nI 1000 else nI (2 * (s + cliN d s (d 3)))
def sizV (d : Nat → Nat) (s : Nat) : Int32 := if 4 ≤ d (4 + 5 * s + 0) then unkV d s else if d (4 + 5 * s + 0) = 2 then -(nI (d (4 + 5 * s + 1)) + mrkV d s) else nI (d (4 + 5 * s + 1)) + mrkV d s
def askI (d : Nat → Nat) (x w : Int32) : Int32 := match ixO x (d 2) with
  | none => -1000001
  | some s => match ixO w 2 with
    | none => -1000001
    | some k => if k = 0 then sizV d s else mrkV d s
def askB (d : Nat → Nat) (x w : Int32) : Option (List Nat) := match ixO x (d 2) with
  | none => none
  | some s => match ixO w 2 with
    | none => none
    | some k => if k = 0 then some (sizB (d (4 + 5 * s + 0))) else some (mrkB (d (4 + 5 * s + 0)))
def askT (d tr : Nat → Nat) (x w : Int32) : Nat → Nat := match askB d x w with
  | none => tr
  | some bs => begF bs tr 0
def askN (d : Nat → Nat) (n : Nat) (x w : Int32) : Nat := match askB d x w with
  | none => n
  | some bs => begC bs 0
/-! draws -/
theorem poseE_ok {d : Nat → Nat} {v set : Nat} (h : dOK d) : dOK (poseE d v set) := by
  unfold poseE
  split
  · exact vot_ok h _ h.2.2.1
  · exact h
theorem updN_ne {d : Nat → Nat} {k x j : Nat} (h : j ≠ k) : updN d k x j = d j := if_neg h
theorem dOK_hi {e : Nat → Nat} {v w x : Nat} (h : dOK e) (hv : v < 5) (hw : w = 2 ∨ w = 3) : dOK (updN e (44 + 4 * v + w) x) := by
  obtain ⟨h0, h1, h2, h3, h4, h5, h6⟩ := h
  have k0 : ∀ j, j < 44 → updN e (44 + 4 * v + w) x j = e j := fun j hj => updN_ne (by omega)
  refine ⟨by rw [k0 0 (by omega)]; exact h0, by rw [k0 1 (by omega)]; exact h1, by rw [k0 2 (by omega)]; exact h2, by rw [k0 3 (by omega)]; exact h3, fun q hq => ?_, fun z hz => ?_, fun q hq => ?_⟩
  · rw [k0 _ (by omega), k0 _ (by omega), k0 _ (by omega), k0 _ (by omega), k0 _ (by omega)]
    exact h4 q hq
  · rw [updN_ne (by omega), updN_ne (by omega)]
    exact h5 z hz
  · rw [k0 2 (by omega)] at hq
    rw [k0 _ (by omega)]
    exact h6 q hq
theorem poseD_ok {d : Nat → Nat} {v set : Nat} (h : dOK d) (hv : v < 5) : dOK (poseD d v set) := dOK_hi (dOK_hi (poseE_ok h) hv (Or.inl rfl)) hv (Or.inr rfl)
theorem vot_lo {d : Nat → Nat} {v set j : Nat} (hj : j < 4) (n : Nat) : vot d v set n j = d j := by
  induction n with
  | zero => rfl
  | succ n ih => show votS _ _ _ _ j = _; rw [votS_ne (by omega) (by omega), ih]
theorem poseD_lo {d : Nat → Nat} {v set j : Nat} (hj : j < 4) : poseD d v set j = d j := by
  unfold poseD
  rw [updN_ne (by omega), updN_ne (by omega)]
  unfold poseE
  split
  · exact vot_lo hj _
  · rfl
def drX (sd : Nat) : Nat → Nat
  | 0 => sd
  | n + 1 => drX sd n * 16807 % 2147483647
theorem drX_lt {sd : Nat} (h : sd < 2147483647) (n : Nat) : drX sd n < 2147483647 := by
  cases n with
  | zero => exact h
  | succ n => exact Nat.mod_lt _ (by decide)
def drV (e : Nat → Nat) (x : Nat) : Nat := x % e 3
def drS (e : Nat → Nat) (x : Nat) : Nat := x % 256 &&& (1 * 2 ^ e 2 - 1)
theorem drS_lt (e : Nat → Nat) (x : Nat) : drS e x < 256 := Nat.lt_of_le_of_lt Nat.and_le_left (Nat.mod_lt _ (by decide))
def drE (d : Nat → Nat) (sd : Nat) : Nat → Nat → Nat
  | 0 => d
  | n + 1 => poseD (drE d sd n) (drV (drE d sd n) (drX sd (n + 1))) (drS (drE d sd n) (drX sd (n + 1)))
def drL (d : Nat → Nat) (sd : Nat) : Nat → Nat
  | 0 => 0
  | n + 1 => drL d sd n + if letD (drE d sd n) (drV (drE d sd n) (drX sd (n + 1))) (drS (drE d sd n) (drX sd (n + 1))) = true then 1 else 0
theorem drE_lo {d : Nat → Nat} {sd j : Nat} (hj : j < 4) (n : Nat) : drE d sd n j = d j := by
  induction n with
  | zero => rfl
  | succ n ih => show poseD _ _ _ j = _; rw [poseD_lo hj, ih]
theorem drE_ok {d : Nat → Nat} {sd : Nat} (h : dOK d) (h3 : 0 < d 3) (n : Nat) : dOK (drE d sd n) := by
  induction n with
  | zero => exact h
  | succ n ih =>
    refine poseD_ok ih ?_
    unfold drV
    rw [drE_lo (by decide)]
    have := Nat.mod_lt (drX sd (n + 1)) h3
    have := h.2.2.2.1
    omega
def drwO (d : Nat → Nat) (x y w : Int32) : Option (Nat × Nat × Nat) := if decide (0 < d 0) = true then (match ixO x 61 with
  | none => none
  | some n => match ixO y 1000000 with
    | none => none
    | some sd => if decide (y ≠ 0) = true then (match ixO w 2 with
      | none => none
      | some k => some (n, sd, k)) else none) else none
def drwI (d : Nat → Nat) (x y w : Int32) : Int32 := if decide (0 < d 0) = true then (match drwO d x y w with
  | none => -1000001
  | some (n, sd, k) => if k = 0 then nI (drL d sd n) else nI (vtN (drE d sd n) (drE d sd n 2))) else -1000002
def drwT (d th : Nat → Nat) (x y w : Int32) : Nat → Nat := match drwO d x y w with
  | none => th
  | some (n, sd, _) => drE d sd n
def fedR (tpd : Nat) (x : Int32) : Int32 := match ixO x 256 with
  | none => -1000001
  | some _ => if tpd = 120 then -1000003 else nI (tpd + 1)
def fedN (tpd : Nat) (x : Int32) : Nat := match ixO x 256 with
  | none => tpd
  | some _ => if tpd = 120 then tpd else tpd + 1
def fedT (tp : Nat → Nat) (tpd : Nat) (x : Int32) : Nat → Nat := match ixO x 256 with
  | none => tp
  | some c => if tpd = 120 then tp else updN tp tpd c
