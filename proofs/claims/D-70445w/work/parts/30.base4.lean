/-! BASE 4: longs as numbers; a row's content by its places -/
set_option maxRecDepth 100000
theorem arrV_congr {cA : ClassId} {n : Nat} {f g : Nat → Value} (h : ∀ j, j < n → f j = g j) : arrV cA n f = arrV cA n g := by
  unfold arrV
  congr 1
  apply Array.ext
  · simp
  · intro i h1 h2
    simp only [Array.getElem_ofFn]
    exact h i (by simpa using h1)
theorem wp_arr {D : va_G} {cl : List vw_C} {ws : va_W} {H : Heap} (hP : va_P D cl ws H) {k a n : Nat} {cA : ClassId} {f g : Nat → Int32} (he : ws[k]? = some (a, .inl (cA, n, .inl f))) (h : ∀ j, j < n → f j = g j) : va_P D cl (ws.set k (a, .inl (cA, n, .inl g))) H := by
  intro i q hi
  by_cases hik : i = k
  · subst hik
    have hl : i < ws.length := (List.getElem?_eq_some_iff.mp he).1
    rw [List.getElem?_set_self hl] at hi
    cases hi
    have h0 := hP i _ he
    show H[a]? = some (vp_cell cA (n, .inl g))
    have h1 : H[a]? = some (vp_cell cA (n, .inl f)) := h0
    rw [h1, vp_cell_i, vp_cell_i, arrV_congr (fun j hj => by rw [h j hj])]
  · rw [List.getElem?_set_ne (Ne.symm hik)] at hi
    exact hP i q hi
section LN
variable {p : Program} {l : Launch} {e : Env} {R : Room} {s : State} {m : MethodId} {args : Array Value} {below : List Frame} {meth : Method} {c : Code} {H : Heap} {locs : List Loc} {cells slots : Nat} {Q : State → Prop}
variable {cc : ByteArray} {pc : Nat} {ls : Array Slot} {rest : List Value} {a b : Nat}
theorem wm_mul (hx : p.tables.exec = Jvm.exec) (hb : c.code = cc) (hdg : decode cc pc = .ok (.lmul, 1)) (k : W p l e R s m args below meth c H locs cells slots Q (F0 m (pc + 1) ls (.long (lN (a * b)) :: rest))) : W p l e R s m args below meth c H locs cells slots Q (F0 m pc ls (.long (lN b) :: .long (lN a) :: rest)) := lv_lmul hx hb hdg (by rw [lN_mul]; exact k)
theorem wm_add (hx : p.tables.exec = Jvm.exec) (hb : c.code = cc) (hdg : decode cc pc = .ok (.ladd, 1)) (k : W p l e R s m args below meth c H locs cells slots Q (F0 m (pc + 1) ls (.long (lN (a + b)) :: rest))) : W p l e R s m args below meth c H locs cells slots Q (F0 m pc ls (.long (lN b) :: .long (lN a) :: rest)) := lv_ladd hx hb hdg (by rw [lN_add]; exact k)
theorem lN_ne0 {b : Nat} (h0 : 0 < b) (hb : b < 2 ^ 63) : ¬ lN b = 0 := by
  rw [show (0 : Int64) = lN 0 from rfl, pk_lEQ hb (by decide)]
  omega
theorem wm_rem (hx : p.tables.exec = Jvm.exec) (hb : c.code = cc) (h0 : 0 < b) (h1 : a < 2 ^ 63) (h2 : b < 2 ^ 63) (hdg : decode cc pc = .ok (.lrem, 1)) (k : W p l e R s m args below meth c H locs cells slots Q (F0 m (pc + 1) ls (.long (lN (a % b)) :: rest))) : W p l e R s m args below meth c H locs cells slots Q (F0 m pc ls (.long (lN b) :: .long (lN a) :: rest)) := lv_lrem hx hb hdg (lN_ne0 h0 h2) (by rw [pk_lRem h1 h0 h2]; exact k)
theorem wm_div (hx : p.tables.exec = Jvm.exec) (hb : c.code = cc) (h0 : 0 < b) (h1 : a < 2 ^ 63) (h2 : b < 2 ^ 63) (hdg : decode cc pc = .ok (.ldiv, 1)) (k : W p l e R s m args below meth c H locs cells slots Q (F0 m (pc + 1) ls (.long (lN (a / b)) :: rest))) : W p l e R s m args below meth c H locs cells slots Q (F0 m pc ls (.long (lN b) :: .long (lN a) :: rest)) := lv_ldiv hx hb hdg (lN_ne0 h0 h2) (by rw [pk_lDiv h1 h0 h2]; exact k)
theorem wm_l2i (hx : p.tables.exec = Jvm.exec) (hb : c.code = cc) (hdg : decode cc pc = .ok (.l2i, 1)) (k : W p l e R s m args below meth c H locs cells slots Q (F0 m (pc + 1) ls (.int (nI a) :: rest))) : W p l e R s m args below meth c H locs cells slots Q (F0 m pc ls (.long (lN a) :: rest)) := lv_l2i hx hb hdg (lN_i a) k
theorem wm_i2l (hx : p.tables.exec = Jvm.exec) (hb : c.code = cc) (h : a < 2147483648) (hdg : decode cc pc = .ok (.i2l, 1)) (k : W p l e R s m args below meth c H locs cells slots Q (F0 m (pc + 1) ls (.long (lN a) :: rest))) : W p l e R s m args below meth c H locs cells slots Q (F0 m pc ls (.int (nI a) :: rest)) := lv_i2l hx hb hdg (nI_l h) k
end LN
theorem inB_1 {x : Int32} {c : Int64} {n : Nat} (h : c.toInt + 1 = n) : inB x.toInt64 1 c = (ltB x n && decide (x ≠ 0)) := by
  unfold inB ltB
  rw [Bool.eq_iff_iff]
  simp only [Bool.and_eq_true, Bool.not_eq_true', decide_eq_false_iff_not, decide_eq_true_eq, Int64.lt_iff_toInt_lt, i2l_toInt]
  have h1 : (1 : Int64).toInt = 1 := by decide
  rw [h1]
  have h2 : x ≠ 0 ↔ x.toInt ≠ 0 := by
    rw [← Int32.toInt_zero]
    exact ⟨fun q z => q (Int32.toInt_inj.mp z), fun q z => q (by rw [z])⟩
  rw [h2]
  omega
