/-! PURE 8: slip -/
set_option maxRecDepth 100000
def lw (w : Nat → Nat) : Nat → Int64 := fun j => lN (w j)
theorem lw_upd (w : Nat → Nat) (k x : Nat) : vp_updL (lw w) k (lN x) = lw (updN w k x) := by
  funext j
  simp only [vp_updL, lw, updN]
  split <;> rfl
theorem wp_arrL {D : va_G} {cl : List vw_C} {ws : va_W} {H : Heap} (hP : va_P D cl ws H) {k a n : Nat} {cA : ClassId} {f g : Nat → Int64} (he : ws[k]? = some (a, .inl (cA, n, .inr (.inl f)))) (h : ∀ j, j < n → f j = g j) : va_P D cl (ws.set k (a, .inl (cA, n, .inr (.inl g)))) H := by
  intro i q hi
  by_cases hik : i = k
  · subst hik
    have hl : i < ws.length := (List.getElem?_eq_some_iff.mp he).1
    rw [List.getElem?_set_self hl] at hi
    cases hi
    have h0 := hP i _ he
    show H[a]? = some (vp_cell cA (n, .inr (.inl g)))
    have h1 : H[a]? = some (vp_cell cA (n, .inr (.inl f))) := h0
    rw [h1, vp_cell_l, vp_cell_l, arrV_congr (fun j hj => by rw [h j hj])]
  · rw [List.getElem?_set_ne (Ne.symm hik)] at hi
    exact hP i q hi
def sl0 : Nat → Nat := fun k => if k = 0 then 1 else 0
def slI (w : Nat → Nat) (n : Nat) : Nat → Nat := fun k => if k < n then sl0 k else w k
/-- the ways after a square at which one is wrong with odds od: places from t on done -/
def stpW (w : Nat → Nat) (od t : Nat) : Nat → Nat := fun k => if t ≤ k ∧ k < 9 then w k * (10 - od) + (if 0 < k then w (k - 1) * od else 0) else w k
def slO (d : Nat → Nat) (v p n : Nat) : Nat := if wrgD d v n = true then 10 - p else p
def slW (d : Nat → Nat) (v set p : Nat) : Nat → Nat → Nat
  | 0 => sl0
  | n + 1 => if (hasN set n && cntD d n) = true then stpW (slW d v set p n) (slO d v p n) 0 else slW d v set p n
def slB (d : Nat → Nat) (set : Nat) : Nat → Nat
  | 0 => 1
  | n + 1 => if (hasN set n && cntD d n) = true then slB d set n * 10 else slB d set n
def slA (w : Nat → Nat) : Nat → Nat
  | 0 => 0
  | n + 1 => slA w n + w n
theorem stpW_le {w : Nat → Nat} {od t B : Nat} (ho : od ≤ 10) (h : ∀ k, w k ≤ B) (k : Nat) : stpW w od t k ≤ 20 * B := by
  unfold stpW
  have h1 := h k
  have h2 := h (k - 1)
  have e1 : w k * (10 - od) ≤ B * 10 := Nat.mul_le_mul h1 (by omega)
  have e2 : w (k - 1) * od ≤ B * 10 := Nat.mul_le_mul h2 ho
  repeat' split
  all_goals omega
theorem slW_le {d : Nat → Nat} {v set p : Nat} (hp : p ≤ 10) (n k : Nat) : slW d v set p n k ≤ 20 ^ n := by
  induction n generalizing k with
  | zero => show sl0 k ≤ 1; unfold sl0; split <;> omega
  | succ n ih =>
    unfold slW
    have e : (20 : Nat) ^ (n + 1) = 20 * 20 ^ n := by rw [Nat.pow_succ]; omega
    rw [e]
    split
    · exact stpW_le (by unfold slO; split <;> omega) ih k
    · exact Nat.le_trans (ih k) (by omega)
theorem slB_le (d : Nat → Nat) (set n : Nat) : 1 ≤ slB d set n ∧ slB d set n ≤ 10 ^ n := by
  induction n with
  | zero => exact ⟨Nat.le_refl _, Nat.le_refl _⟩
  | succ n ih =>
    unfold slB
    have e : (10 : Nat) ^ (n + 1) = 10 * 10 ^ n := by rw [Nat.pow_succ]; omega
    rw [e]
    split <;> omega
theorem slA_le {w : Nat → Nat} {B : Nat} (h : ∀ k, w k ≤ B) (n : Nat) : slA w n ≤ n * B := by
  induction n with
  | zero => show 0 ≤ _; omega
  | succ n ih =>
    show slA w n + w n ≤ (n + 1) * B
    have := h n
    rw [Nat.add_mul]
    omega
theorem slW_8 {d : Nat → Nat} {v set p : Nat} (hp : p ≤ 10) {n : Nat} (hn : n ≤ 8) (k : Nat) : slW d v set p n k ≤ 25600000000 := Nat.le_trans (slW_le hp n k) (Nat.le_trans (Nat.pow_le_pow_right (by decide) hn) (by decide))
theorem slB_8 (d : Nat → Nat) (set : Nat) {n : Nat} (hn : n ≤ 8) : slB d set n ≤ 100000000 := Nat.le_trans (slB_le d set n).2 (Nat.le_trans (Nat.pow_le_pow_right (by decide) hn) (by decide))
def slT (d : Nat → Nat) (v s p : Nat) : Nat := slA (slW d v s p (d 2)) (d 1 + 1)
theorem slT_le {d : Nat → Nat} {v s p : Nat} (hp : p ≤ 10) (h1 : d 1 ≤ 8) (h2 : d 2 ≤ 8) : slT d v s p ≤ 230400000000 := by
  have := slA_le (slW_8 (d := d) (v := v) (set := s) hp h2) (d 1 + 1)
  unfold slT
  have e : (d 1 + 1) * 25600000000 ≤ 9 * 25600000000 := Nat.mul_le_mul_right _ (by omega)
  omega
def slpI (d : Nat → Nat) (x y z w : Int32) : Int64 := match ixO x (d 3) with
  | none => -1000001
  | some v => match ixO y (2 ^ d 2) with
    | none => -1000001
    | some s => match ixO z 11 with
      | none => -1000001
      | some p => match ixO w 2 with
        | none => -1000001
        | some k => if k = 0 then lN (slT d v s p / Nat.gcd (slT d v s p) (slB d s (d 2))) else lN (slB d s (d 2) / Nat.gcd (slT d v s p) (slB d s (d 2)))
def slpW (d wy : Nat → Nat) (x y z w : Int32) : Nat → Nat := match ixO x (d 3) with
  | none => wy
  | some v => match ixO y (2 ^ d 2) with
    | none => wy
    | some s => match ixO z 11 with
      | none => wy
      | some p => match ixO w 2 with
        | none => wy
        | some _ => slW d v s p (d 2)
theorem stp_st {w : Nat → Nat} {od t : Nat} (h0 : 0 < t) (h9 : t ≤ 9) : updN (stpW w od t) (t - 1) (stpW w od t (t - 1) * (10 - od) + (if 0 < t - 1 then stpW w od t (t - 1 - 1) * od else 0)) = stpW w od (t - 1) := by
  have e1 : stpW w od t (t - 1) = w (t - 1) := by unfold stpW; rw [if_neg (by omega)]
  have e2 : stpW w od t (t - 1 - 1) = w (t - 1 - 1) := by unfold stpW; rw [if_neg (by omega)]
  rw [e1, e2]
  funext j
  unfold updN
  by_cases hj : j = t - 1
  · subst hj
    rw [if_pos rfl]
    unfold stpW
    rw [if_pos (show t - 1 ≤ t - 1 ∧ t - 1 < 9 by omega)]
  · rw [if_neg hj]
    unfold stpW
    by_cases h : t ≤ j ∧ j < 9
    · rw [if_pos h, if_pos (show t - 1 ≤ j ∧ j < 9 by omega)]
    · rw [if_neg h, if_neg (show ¬ (t - 1 ≤ j ∧ j < 9) by omega)]
theorem gcd_st {x y : Nat} (h : 0 < y) : Nat.gcd y (x % y) = Nat.gcd x y := by
  rw [Nat.gcd_comm x y, Nat.gcd_rec y x, Nat.gcd_comm]
