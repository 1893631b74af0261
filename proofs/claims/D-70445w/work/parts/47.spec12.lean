/-! PURE 12: the JDK's numbers; what a door's arrays hold -/
set_option maxRecDepth 100000
def us (x : Int32) (k : Nat) : Int32 := (x.toUInt32 >>> ((nI k).toUInt32 &&& Int32.toUInt32 31)).toInt32
def bc1 (x : Int32) : Int32 := x - (us x 1 &&& nI 1431655765)
def bc2 (x : Int32) : Int32 := (x &&& nI 858993459) + (us x 2 &&& nI 858993459)
def bc3 (x : Int32) : Int32 := (x + us x 4) &&& nI 252645135
def bc4 (x : Int32) : Int32 := x + us x 8
def bc5 (x : Int32) : Int32 := x + us x 16
def bcI (x : Int32) : Int32 := bc5 (bc4 (bc3 (bc2 (bc1 x)))) &&& nI 63
theorem bc_all : ∀ n, n < 256 → bcI (nI n) = nI (bitN n 8) := by decide +kernel
def sgI (x : Int32) : Int32 := (x >>> (nI 31 &&& 31)) ||| us (-x) 31
theorem sg_all : ∀ a, a < 100 → ∀ b, b < 100 → nI 1 + sgI (nI a - nI b) = if a ≤ b then (if a = b then nI 1 else nI 0) else nI 2 := by decide +kernel
theorem edg_all : ∀ z, z < 10 → (if nI 0 < nI z - nI 1 then nI z - nI 1 else nI 0) = nI (z - 1) := by decide +kernel
def shF (d : Nat → Nat) : Nat → Nat := fun q => d (4 + 5 * q + 1)
def yeF (d : Nat → Nat) : Nat → Nat := fun q => d (4 + 5 * q + 2)
def noF (d : Nat → Nat) : Nat → Nat := fun q => d (4 + 5 * q + 3)
def seO (d : Nat → Nat) (q : Nat) : Option Nat := if d (4 + 5 * q + 4) = 0 then none else some (d (4 + 5 * q + 4) - 1)
def seF (d : Nat → Nat) : Nat → Int32 := fun q => if q < d 2 then oI (seO d q) else nI 0
def caF (d : Nat → Nat) : Nat → Nat := fun v => d (44 + 4 * v + 0)
def eaF (d : Nat → Nat) : Nat → Nat := fun v => d (44 + 4 * v + 1)
def poF (d : Nat → Nat) : Nat → Nat := fun v => d (44 + 4 * v + 2)
def leF (d : Nat → Nat) : Nat → Nat := fun v => d (44 + 4 * v + 3)
theorem seF_in {d : Nat → Nat} {q : Nat} (h : q < d 2) : seF d q = oI (seO d q) := by unfold seF; rw [if_pos h]
theorem seF_0 {d : Nat → Nat} {q : Nat} (h : q < d 2) (hb : d (4 + 5 * q + 4) ≤ 2) : seF d q = (-1000000) ↔ d (4 + 5 * q + 4) = 0 := by
  rw [seF_in h]
  unfold seO
  split
  · exact ⟨fun _ => by assumption, fun _ => rfl⟩
  · exact ⟨fun k => absurd k (nI_neN (by omega)), fun k => absurd k (by assumption)⟩
theorem seF_1 {d : Nat → Nat} {q : Nat} (h : q < d 2) (hb : d (4 + 5 * q + 4) ≤ 2) (h0 : ¬ d (4 + 5 * q + 4) = 0) : seF d q = nI (d (4 + 5 * q + 4) - 1) := by
  rw [seF_in h]
  unfold seO
  rw [if_neg h0]
  rfl
