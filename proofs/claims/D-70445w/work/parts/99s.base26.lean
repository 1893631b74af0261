/-! BASE 26: a second member of a family taken out, put back -/
set_option maxRecDepth 100000
def fmY (g : Nat → va_W) (n k j : Nat) : va_W := (((List.range n).erase k).erase j).flatMap g
theorem mem_er {n k j : Nat} (hj : j < n) (hjk : ¬ j = k) : j ∈ (List.range n).erase k := by
  rw [List.Nodup.erase_eq_filter List.nodup_range]
  exact List.mem_filter.mpr ⟨List.mem_range.mpr hj, by simpa using hjk⟩
theorem fm_split2 {g : Nat → va_W} {n k j : Nat} (hj : j < n) (hjk : ¬ j = k) : (fmX g n k).Perm (g j ++ fmY g n k j) := by
  have h2 := (List.perm_cons_erase (mem_er hj hjk)).flatMap_right g
  rw [List.flatMap_cons] at h2
  exact h2
theorem fmY_congr {g g' : Nat → va_W} {n k j : Nat} (h : ∀ i, i < n → i ≠ k → i ≠ j → g i = g' i) : fmY g n k j = fmY g' n k j := by
  unfold fmY
  have hnd : ((List.range n).erase k).Nodup := List.nodup_range.erase k
  rw [List.Nodup.erase_eq_filter hnd, List.Nodup.erase_eq_filter List.nodup_range]
  simp only [List.flatMap_def]
  congr 1
  refine List.map_congr_left fun i hi => ?_
  obtain ⟨h1, h2⟩ := List.mem_filter.mp hi
  obtain ⟨h3, h4⟩ := List.mem_filter.mp h1
  exact h i (List.mem_range.mp h3) (by simpa using h4) (by simpa using h2)
/-- the second one out of what the first one left -/
theorem wx_out2 {g : Nat → va_W} {n k j : Nat} {pre w L fz : va_W} (hj : j < n) (hjk : ¬ j = k) (hg : g j = w) (hL : pre ++ w = L) : (pre ++ (fmX g n k ++ fz)).Perm (L ++ (fmY g n k j ++ fz)) := by
  rw [← hL, ← hg, List.append_assoc, ← List.append_assoc (g j)]
  exact List.Perm.append_left pre (List.Perm.append_right fz (fm_split2 hj hjk))
/-- the second one back: the first is still out -/
theorem wx_in2 {g g' : Nat → va_W} {n k j : Nat} {pre w L fz : va_W} (hj : j < n) (hjk : ¬ j = k) (hg : g' j = w) (hL : pre ++ w = L) (h : ∀ i, i < n → i ≠ k → i ≠ j → g i = g' i) : (L ++ (fmY g n k j ++ fz)).Perm (pre ++ (fmX g' n k ++ fz)) := by
  rw [fmY_congr h]
  exact (wx_out2 hj hjk hg hL).symm
