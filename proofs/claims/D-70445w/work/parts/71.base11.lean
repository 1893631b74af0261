/-! BASE 11: families of cells in a world's tail: one taken out, put back -/
set_option maxRecDepth 100000
def fmW (g : Nat → va_W) (n : Nat) : va_W := (List.range n).flatMap g
def fmX (g : Nat → va_W) (n k : Nat) : va_W := ((List.range n).erase k).flatMap g
theorem fm_split {g : Nat → va_W} {n k : Nat} (hk : k < n) : (fmW g n).Perm (g k ++ fmX g n k) := by
  have h : (List.range n).Perm (k :: (List.range n).erase k) := List.perm_cons_erase (List.mem_range.mpr hk)
  have h2 := h.flatMap_right g
  rw [List.flatMap_cons] at h2
  exact h2
theorem fmX_congr {g g' : Nat → va_W} {n k : Nat} (h : ∀ j, j < n → j ≠ k → g j = g' j) : fmX g n k = fmX g' n k := by
  unfold fmX
  rw [List.Nodup.erase_eq_filter List.nodup_range]
  simp only [List.flatMap_def]
  congr 1
  refine List.map_congr_left fun j hj => ?_
  obtain ⟨h1, h2⟩ := List.mem_filter.mp hj
  exact h j (List.mem_range.mp h1) (by simpa using h2)
theorem wx_out {g : Nat → va_W} {n k : Nat} {pre w L fz : va_W} (hk : k < n) (hg : g k = w) (hL : pre ++ w = L) : (pre ++ (fmW g n ++ fz)).Perm (L ++ (fmX g n k ++ fz)) := by
  rw [← hL, ← hg, List.append_assoc, ← List.append_assoc (g k)]
  exact List.Perm.append_left pre (List.Perm.append_right fz (fm_split hk))
theorem wx_in {g g' : Nat → va_W} {n k : Nat} {pre w L fz : va_W} (hk : k < n) (hg : g' k = w) (hL : pre ++ w = L) (h : ∀ j, j < n → j ≠ k → g j = g' j) : (L ++ (fmX g n k ++ fz)).Perm (pre ++ (fmW g' n ++ fz)) := by
  rw [fmX_congr h]
  exact (wx_out hk hg hL).symm
/-- the rows: a row's object and its items, where it is there -/
def riF (it : Nat → Int32) (r : Nat) : Nat → Int32 := fun j => if j < 40 then it (40 * r + j) else nI 0
def rcl (ca : Nat → ClassId) (la : Nat → Int32) (ma : Nat → Nat) (it : Nat → Int32) (ro ri : Nat → Nat) : Nat → va_W := fun r => if la r < 0 then [] else [(ro r, .inr (10, [.int (la r), .ref (ri r)])), (ri r, .inl (ca 0, ma r, .inl (riF it r)))]
def rox (la : Nat → Int32) (ro : Nat → Nat) : Nat → Option Nat := fun r => if la r < 0 then none else some (ro r)
theorem rcl_t {ca : Nat → ClassId} {la : Nat → Int32} {ma : Nat → Nat} {it : Nat → Int32} {ro ri : Nat → Nat} {r : Nat} (h : ¬ la r < 0) : rcl ca la ma it ro ri r = [(ro r, .inr (10, [.int (la r), .ref (ri r)])), (ri r, .inl (ca 0, ma r, .inl (riF it r)))] := if_neg h
theorem rcl_f {ca : Nat → ClassId} {la : Nat → Int32} {ma : Nat → Nat} {it : Nat → Int32} {ro ri : Nat → Nat} {r : Nat} (h : la r < 0) : rcl ca la ma it ro ri r = [] := if_pos h
/-- doors kept: where they lie, what they hold -/
abbrev DR : Type := (Nat → Nat) × (Nat → Nat)
def dcl (ca : Nat → ClassId) (q : DR) : va_W := [(q.1 0, .inr (1, [.int (nI (q.2 0)), .int (nI (q.2 1)), .ref (q.1 1), .ref (q.1 2), .ref (q.1 3), .ref (q.1 4), .ref (q.1 5), .int (nI (q.2 3)), .ref (q.1 6), .ref (q.1 7), .ref (q.1 8), .ref (q.1 9)])), (q.1 2, .inl (ca 0, 8, .inl (dv (shF q.2)))), (q.1 3, .inl (ca 0, 8, .inl (dv (yeF q.2)))), (q.1 4, .inl (ca 0, 8, .inl (dv (noF q.2)))), (q.1 5, .inl (ca 0, 8, .inl (seF q.2))), (q.1 6, .inl (ca 0, 5, .inl (dv (caF q.2)))), (q.1 7, .inl (ca 0, 5, .inl (dv (eaF q.2)))), (q.1 8, .inl (ca 0, 5, .inl (dv (poF q.2)))), (q.1 9, .inl (ca 0, 5, .inl (dv (leF q.2))))]
def pcl (ca : Nat → ClassId) (pr : Nat → Option DR) : Nat → va_W := fun k => match pr k with
  | none => []
  | some q => dcl ca q
def paF (pr : Nat → Option DR) : Nat → Option Nat := fun k => (pr k).map (fun q => q.1 0)
