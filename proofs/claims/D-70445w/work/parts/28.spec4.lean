/-! PURE 4: rows -/
set_option maxRecDepth 100000
def fnd (c : Nat) : Int32 := -1000010 - nI c
theorem nI_le40 {w : Int32} (h : w ≤ nI 40) (h0 : 0 ≤ w) : ∃ j, j ≤ 40 ∧ w = nI j := by
  obtain ⟨j, h1, h2⟩ := nI_of (x := w) (by rw [Int32.lt_iff_toInt_lt]; rw [Int32.le_iff_toInt_le] at h0; omega)
  refine ⟨j, ?_, h2⟩
  rw [h2] at h
  exact (nI_leI h1 (by decide)).mp h
def rowR (x y w : Int32) : Int32 := match ixO x 8 with
  | none => -1000001
  | some _ => match ixO y 3 with
    | none => -1000001
    | some _ => if w ≤ nI 40 then (if 0 ≤ w then w else fnd 4) else -1000001
def rowS (t x y w : Int32) : Int32 := match ixO x 8 with
  | none => t
  | some _ => match ixO y 3 with
    | none => t
    | some _ => if w ≤ nI 40 then (if 0 ≤ w then nI 0 else nI 4) else t
def rowL (la : Nat → Int32) (x y w : Int32) : Nat → Int32 := match ixO x 8 with
  | none => la
  | some r => match ixO y 3 with
    | none => la
    | some l => if w ≤ nI 40 then (if 0 ≤ w then upd la r (nI l) else la) else la
def rowM (ma : Nat → Nat) (x y w : Int32) : Nat → Nat := match ixO x 8 with
  | none => ma
  | some r => match ixO y 3 with
    | none => ma
    | some _ => if w ≤ nI 40 then (if 0 ≤ w then updN ma r w.toNatClampNeg else ma) else ma
def zeI (it : Nat → Int32) (b n : Nat) : Nat → Int32 := fun k => if b ≤ k ∧ k < b + n then nI 0 else it k
def rowI (it : Nat → Int32) (x y w : Int32) : Nat → Int32 := match ixO x 8 with
  | none => it
  | some r => match ixO y 3 with
    | none => it
    | some _ => if w ≤ nI 40 then (if 0 ≤ w then zeI it (40 * r) 40 else it) else it
def cutI (l v : Int32) : Int32 := if l = 0 then v.toInt8.toInt32 else if l = nI 1 then v.toInt16.toInt32 else v
def setR (la : Nat → Int32) (ma : Nat → Nat) (x y w : Int32) : Int32 := match ixO x 8 with
  | none => -1000001
  | some r => if 0 ≤ la r then (match ixO y (ma r) with
    | none => fnd 2
    | some _ => cutI (la r) w) else fnd 1
def setS (la : Nat → Int32) (ma : Nat → Nat) (t x y : Int32) : Int32 := match ixO x 8 with
  | none => t
  | some r => if 0 ≤ la r then (match ixO y (ma r) with
    | none => nI 2
    | some _ => nI 0) else nI 1
def setT (la : Nat → Int32) (ma : Nat → Nat) (it : Nat → Int32) (x y w : Int32) : Nat → Int32 := match ixO x 8 with
  | none => it
  | some r => if 0 ≤ la r then (match ixO y (ma r) with
    | none => it
    | some i => upd it (40 * r + i) (cutI (la r) w)) else it
def drpR (la : Nat → Int32) (ma : Nat → Nat) (x : Int32) : Int32 := match ixO x 8 with
  | none => -1000001
  | some r => if 0 ≤ la r then nI (ma r) else fnd 1
def drpS (la : Nat → Int32) (t x : Int32) : Int32 := match ixO x 8 with
  | none => t
  | some r => if 0 ≤ la r then nI 0 else nI 1
def drpL (la : Nat → Int32) (x : Int32) : Nat → Int32 := match ixO x 8 with
  | none => la
  | some r => if 0 ≤ la r then upd la r (-1) else la
theorem upd_at (f : Nat → Int32) (k : Nat) (x : Int32) : upd f k x k = x := by simp [upd]
theorem lsum_toInt (x y : Int32) : (x.toInt64 + y.toInt64).toInt = x.toInt + y.toInt := by
  rw [Int64.toInt_add, i2l_toInt, i2l_toInt]
  have h1 := Int32.toInt_lt x; have h2 := Int32.le_toInt x; have h3 := Int32.toInt_lt y; have h4 := Int32.le_toInt y
  exact Int.bmod_eq_of_le (by omega) (by omega)
/-- what a row of so many items from x on finds: 0 nothing -/
def rfC (la : Nat → Int32) (ma : Nat → Nat) (r : Nat) (x : Int32) (n : Nat) : Nat := if 0 ≤ la r then (if 0 ≤ x.toInt ∧ x.toInt + n ≤ ma r then 0 else 2) else 1
def rfR (c : Nat) : Int32 := if c = 0 then nI 0 else fnd c
theorem rfR_0 {la : Nat → Int32} {ma : Nat → Nat} {r : Nat} {x : Int32} {n : Nat} : rfR (rfC la ma r x n) = 0 ↔ rfC la ma r x n = 0 := by
  unfold rfC
  repeat' split
  all_goals decide
theorem rfC_0 {la : Nat → Int32} {ma : Nat → Nat} {r : Nat} {x : Int32} {n : Nat} (h : rfC la ma r x n = 0) : ∃ j, j + n ≤ ma r ∧ x = nI j := by
  unfold rfC at h
  split at h
  · split at h
    · rename_i q
      obtain ⟨j, h1, h2⟩ := nI_of (x := x) (by rw [Int32.lt_iff_toInt_lt, Int32.toInt_zero]; omega)
      rw [h2, nI_toInt h1] at q
      exact ⟨j, by omega, h2⟩
    · cases h
  · cases h
def shrP (d : Nat → Nat) (it : Nat → Int32) (s fr : Nat) (z : Nat) : Bool := allN (fun v => clkB (d (4 + 5 * s + 0)) z (d (44 + 4 * v + 0)) (d (44 + 4 * v + 1))) it fr (d 3)
def kndP (d : Nat → Nat) (it : Nat → Int32) (s fr : Nat) (z : Nat) : Bool := decide (1 ≤ z) && allN (fun v => clkB z (d (4 + 5 * s + 1)) (d (44 + 4 * v + 0)) (d (44 + 4 * v + 1))) it fr (d 3)
def whoP (d : Nat → Nat) (it : Nat → Int32) (fr : Nat) (v : Nat) : Bool := allN (fun z => clkB (d (4 + 5 * z + 0)) (d (4 + 5 * z + 1)) (d (44 + 4 * v + 0)) (d (44 + 4 * v + 1))) it fr (d 2)
def carP (d : Nat → Nat) (it : Nat → Int32) (ea fr : Nat) (c : Nat) : Bool := allN (fun z => clkB (d (4 + 5 * z + 0)) (d (4 + 5 * z + 1)) c ea) it fr (d 2)
def shrI (d : Nat → Nat) (la : Nat → Int32) (ma : Nat → Nat) (it : Nat → Int32) (x y w : Int32) : Int32 := match ixO x (d 2) with
  | none => -1000001
  | some s => match ixO y 8 with
    | none => -1000001
    | some r => if rfC la ma r w (d 3) = 0 then nI (setN (shrP d it s (40 * r + w.toNatClampNeg)) 10) else rfR (rfC la ma r w (d 3))
def shrS (d : Nat → Nat) (la : Nat → Int32) (ma : Nat → Nat) (t x y w : Int32) : Int32 := match ixO x (d 2) with
  | none => t
  | some _ => match ixO y 8 with
    | none => t
    | some r => nI (rfC la ma r w (d 3))
def kdsI (d : Nat → Nat) (la : Nat → Int32) (ma : Nat → Nat) (it : Nat → Int32) (x y w : Int32) : Int32 := match ixO x (d 2) with
  | none => -1000001
  | some s => match ixO y 8 with
    | none => -1000001
    | some r => if rfC la ma r w (d 3) = 0 then nI (setN (kndP d it s (40 * r + w.toNatClampNeg)) 6) else rfR (rfC la ma r w (d 3))
def whoI (d : Nat → Nat) (la : Nat → Int32) (ma : Nat → Nat) (it : Nat → Int32) (y w : Int32) : Int32 := if decide (0 < d 0) = true then (match ixO y 8 with
    | none => -1000001
    | some r => if rfC la ma r w (d 2) = 0 then nI (setN (whoP d it (40 * r + w.toNatClampNeg)) (d 3)) else rfR (rfC la ma r w (d 2))) else -1000002
def whoS (d : Nat → Nat) (la : Nat → Int32) (ma : Nat → Nat) (t y w : Int32) : Int32 := if decide (0 < d 0) = true then (match ixO y 8 with
    | none => t
    | some r => nI (rfC la ma r w (d 2))) else t
def carI (d : Nat → Nat) (la : Nat → Int32) (ma : Nat → Nat) (it : Nat → Int32) (x y w : Int32) : Int32 := if decide (0 < d 0) = true then (match ixO x 10 with
  | none => -1000001
  | some ea => match ixO y 8 with
    | none => -1000001
    | some r => if rfC la ma r w (d 2) = 0 then nI (setN (carP d it ea (40 * r + w.toNatClampNeg)) 10) else rfR (rfC la ma r w (d 2))) else -1000002
def carS (d : Nat → Nat) (la : Nat → Int32) (ma : Nat → Nat) (t x y w : Int32) : Int32 := if decide (0 < d 0) = true then (match ixO x 10 with
  | none => t
  | some _ => match ixO y 8 with
    | none => t
    | some r => nI (rfC la ma r w (d 2))) else t
def asI (d : Nat → Nat) (x w : Int32) : Int32 := match ixO x (d 2) with
  | none => -1000001
  | some s => match ixO w 6 with
    | none => -1000001
    | some k => if isOfB (d (4 + 5 * s + 0)) k = true then nI s else fnd 3
def asS (d : Nat → Nat) (t x w : Int32) : Int32 := match ixO x (d 2) with
  | none => t
  | some s => match ixO w 6 with
    | none => t
    | some k => if isOfB (d (4 + 5 * s + 0)) k = true then nI 0 else nI 3
