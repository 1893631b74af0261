/-! BASE 10: cells of new arrays -/
set_option maxRecDepth 100000
theorem nw_int (cA : ClassId) (n : Nat) : vp_cell cA (n, .inl (dv (fun _ => 0))) = arrV cA n (fun _ => defaultValue .int) := by rw [vp_cell_i]; rfl
theorem nw_byte (cA : ClassId) (n : Nat) : vp_cell cA (n, .inl (dv (fun _ => 0))) = arrV cA n (fun _ => defaultValue .byte) := by rw [vp_cell_i]; rfl
theorem nw_boolean (cA : ClassId) (n : Nat) : vp_cell cA (n, .inl (bv (fun _ => false))) = arrV cA n (fun _ => defaultValue .boolean) := by rw [vp_cell_i]; rfl
theorem nw_long (cA : ClassId) (n : Nat) : vp_cell cA (n, .inr (.inl (lw (fun _ => 0)))) = arrV cA n (fun _ => defaultValue .long) := by rw [vp_cell_l]; rfl
theorem zD_0 : 0 = zD 0 := rfl
theorem zD_1 : 0 = zD 1 := rfl
theorem zD_3 : 0 = zD 3 := rfl
theorem zD_sh : dv (fun _ => 0) = dv (shF zD) := rfl
theorem zD_ye : dv (fun _ => 0) = dv (yeF zD) := rfl
theorem zD_no : dv (fun _ => 0) = dv (noF zD) := rfl
theorem zD_se : dv (fun _ => 0) = seF zD := by
  funext q
  unfold seF zD
  rw [if_neg (Nat.not_lt_zero _)]
  rfl
theorem zD_ca : dv (fun _ => 0) = dv (caF zD) := rfl
theorem zD_ea : dv (fun _ => 0) = dv (eaF zD) := rfl
theorem zD_po : dv (fun _ => 0) = dv (poF zD) := rfl
theorem zD_le : dv (fun _ => 0) = dv (leF zD) := rfl
theorem set_P {D : va_G} {cl : List vw_C} {pre pre' fz : va_W} {x : Nat × va_E} {k : Nat} {H : Heap} (h : va_P D cl ((pre ++ fz).set k x) H) (hk : k < pre.length) (he : pre.set k x = pre') : va_P D cl (pre' ++ fz) H := by
  rw [List.set_append_left _ _ hk, he] at h
  exact h
theorem set_D {A : Nat → Prop} {pre pre' fz : va_W} {x : Nat × va_E} {k : Nat} (h : va_D A ((pre ++ fz).set k x)) (hk : k < pre.length) (he : pre.set k x = pre') : va_D A (pre' ++ fz) := by
  rw [List.set_append_left _ _ hk, he] at h
  exact h
