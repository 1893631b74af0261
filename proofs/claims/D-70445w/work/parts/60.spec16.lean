/-! PURE 16: a door new made -/
set_option maxRecDepth 100000
def zD : Nat → Nat := fun _ => 0
theorem zD_ok : dOK zD := ⟨Nat.zero_le _, Nat.zero_le _, Nat.zero_le _, Nat.zero_le _, fun _ _ => ⟨Nat.zero_le _, Nat.zero_le _, Nat.zero_le _, Nat.zero_le _, Nat.zero_le _⟩, fun _ _ => ⟨Nat.zero_le _, Nat.zero_le _⟩, fun _ h => absurd h (Nat.not_lt_zero _)⟩
