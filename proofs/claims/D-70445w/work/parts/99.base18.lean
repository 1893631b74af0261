/-! BASE 18: a list of squares while it grows -/
set_option maxRecDepth 100000
section KY
variable {p : Program} {l : Launch} {e : Env} {R : Room} {s : State} {m : MethodId} {args : Array Value} {below : List Frame} {meth : Method} {c : Code} {H : Heap} {locs : List Loc} {cells slots : Nat} {Q : State → Prop}
variable {cc : ByteArray} {pc : Nat} {ls : Array Slot} {rest st0 : List Value} {A : Nat → Prop}
theorem zz_len0 {zv : Nat → Option Nat} {z0 : Nat} (hx : p.tables.exec = Jvm.exec) (hb : c.code = cc) (hZ : ZZ zv A s s.heap) (hz0 : zv 0 = some z0) (hS : va_S A s.heap H locs) (hdg : decode cc pc = .ok (.arraylength, 1)) (kk : W p l e R s m args below meth c H locs cells slots Q (F0 m (pc + 1) ls (.int (nI 0) :: rest))) : W p l e R s m args below meth c H locs cells slots Q (F0 m pc ls (.ref z0 :: rest)) := by
  have h := zz_len hx hb hZ hS hdg kk
  rw [hz0] at h
  exact h
end KY
def lqF (sq : Nat → Nat) (n : Nat) : Nat → Option Nat := fun z => if z < n then some (sq z) else none
def sqC (e : Nat → Nat) (sq : Nat → Nat) : Nat → va_W := fun q => [(sq q, .inr (2 + e (4 + 5 * q + 0), [.int (nI q)]))]
def lsC (ca : Nat → ClassId) (zv : Nat → Option Nat) (ml : Nat) (mo : Int32) (ed : Nat) (sq : Nat → Nat) (e : Nat → Nat) : va_W := if e 2 = 0 then [(ml, .inr (13, [.int mo, va_rf (zv 0), .int (nI 0)]))] else ([(ml, .inr (13, [.int mo, .ref ed, .int (nI (e 2))])), (ed, .inl (ca 7, 10, .inr (.inr (.inr (.inr (lqF sq (e 2)))))))] : va_W) ++ fmW (sqC e sq) (e 2)
def edN (e : Nat → Nat) (ed nb : Nat) : Nat := if e 2 = 0 then nb else ed
theorem lsC_0 {ca : Nat → ClassId} {zv : Nat → Option Nat} {ml : Nat} {mo : Int32} {ed : Nat} {sq e : Nat → Nat} (h : e 2 = 0) : lsC ca zv ml mo ed sq e = [(ml, .inr (13, [.int mo, va_rf (zv 0), .int (nI 0)]))] := if_pos h
theorem lsC_s {ca : Nat → ClassId} {zv : Nat → Option Nat} {ml : Nat} {mo : Int32} {ed : Nat} {sq e : Nat → Nat} (h : ¬ e 2 = 0) : lsC ca zv ml mo ed sq e = ([(ml, .inr (13, [.int mo, .ref ed, .int (nI (e 2))])), (ed, .inl (ca 7, 10, .inr (.inr (.inr (.inr (lqF sq (e 2)))))))] : va_W) ++ fmW (sqC e sq) (e 2) := if_neg h
theorem fmW_mem {g : Nat → va_W} {n : Nat} {x : Nat × va_E} (h : x ∈ fmW g n) : ∃ k, k < n ∧ x ∈ g k := by
  obtain ⟨k, h1, h2⟩ := List.mem_flatMap.mp h
  exact ⟨k, List.mem_range.mp h1, h2⟩
theorem fmW_s (g : Nat → va_W) (n : Nat) : fmW g (n + 1) = fmW g n ++ g n := by
  unfold fmW
  rw [List.range_succ, List.flatMap_append, List.flatMap_cons, List.flatMap_nil, List.append_nil]
theorem fmW_congr {g g' : Nat → va_W} {n : Nat} (h : ∀ k, k < n → g k = g' k) : fmW g n = fmW g' n := by
  unfold fmW
  simp only [List.flatMap_def]
  refine congrArg List.flatten (List.map_congr_left fun j hj => h j (List.mem_range.mp hj))
theorem lsC_sq {ca : Nat → ClassId} {zv : Nat → Option Nat} {ml : Nat} {mo : Int32} {ed : Nat} {sq e : Nat → Nat} {fz : va_W} (h8 : e 2 ≤ 8) : SqL ca (lsC ca zv ml mo ed sq e ++ fz) ml e := by
  by_cases h : e 2 = 0
  · rw [lsC_0 h]
    exact ⟨mo, zv 0, by rw [h]; exact List.mem_cons_self, fun q => absurd h (by omega)⟩
  · rw [lsC_s h]
    refine ⟨mo, some ed, List.mem_append_left _ (List.mem_append_left _ List.mem_cons_self), fun _ => ⟨ed, 10, lqF sq (e 2), rfl, List.mem_append_left _ (List.mem_append_left _ (List.mem_cons_of_mem _ List.mem_cons_self)), by omega, by decide, fun q hq => ⟨sq q, if_pos hq, List.mem_append_left _ (List.mem_append_right _ (fm_mem hq List.mem_cons_self))⟩⟩⟩
/-- the list's cells come into the world, go back with one more square -/
theorem ls_out0 {ca : Nat → ClassId} {zv : Nat → Option Nat} {ml : Nat} {mo : Int32} {ed : Nat} {sq e : Nat → Nat} {pre L fz : va_W} (h : e 2 = 0) (hL : pre ++ [(ml, .inr (13, [.int mo, va_rf (zv 0), .int (nI 0)]))] = L) : (pre ++ (lsC ca zv ml mo ed sq e ++ fz)).Perm (L ++ fz) := by
  rw [lsC_0 h, ← hL, List.append_assoc]
theorem ls_outS {ca : Nat → ClassId} {zv : Nat → Option Nat} {ml : Nat} {mo : Int32} {ed : Nat} {sq e : Nat → Nat} {pre L fz : va_W} (h : ¬ e 2 = 0) (hL : pre ++ [(ml, .inr (13, [.int mo, .ref ed, .int (nI (e 2))])), (ed, .inl (ca 7, 10, .inr (.inr (.inr (.inr (lqF sq (e 2)))))))] = L) : (pre ++ (lsC ca zv ml mo ed sq e ++ fz)).Perm (L ++ (fmW (sqC e sq) (e 2) ++ fz)) := by
  rw [lsC_s h, ← hL, List.append_assoc, List.append_assoc]
/-- one cell goes into the tail -/
theorem wx_tl {pre L fz : va_W} {x : Nat × va_E} (hL : pre ++ [x] = L) : (L ++ fz).Perm (pre ++ ([x] ++ fz)) := by
  rw [← hL, List.append_assoc]
theorem lq_up {sq : Nat → Nat} {n a : Nat} : va_up (lqF sq n) n (some a) = lqF (updN sq n a) (n + 1) := by
  funext z
  unfold va_up lqF updN
  by_cases h : z = n
  · rw [if_pos h, if_pos (by omega), if_pos h]
  · rw [if_neg h]
    by_cases h2 : z < n
    · rw [if_pos h2, if_pos (by omega), if_neg h]
    · rw [if_neg h2, if_neg (by omega)]
theorem lq_up0 {sq : Nat → Nat} {a : Nat} : va_up (fun _ => none) 0 (some a) = lqF (updN sq 0 a) (0 + 1) := by
  funext z
  unfold va_up lqF updN
  by_cases h : z = 0
  · rw [if_pos h, if_pos (by omega), if_pos h]
  · rw [if_neg h, if_neg (by omega)]
theorem rsU_k {e : Nat → Nat} {k sh : Nat} : rsU e k sh (4 + 5 * e 2 + 0) = k := by
  unfold rsU
  have a2 : updN e (4 + 5 * e 2) k 2 = e 2 := updN_ne (by omega)
  rw [a2, updN_ne (by omega), updN_ne (by omega)]
  exact if_pos rfl
theorem rsU_sh {e : Nat → Nat} {k sh : Nat} : rsU e k sh (4 + 5 * e 2 + 1) = sh := by
  unfold rsU
  have a2 : updN e (4 + 5 * e 2) k 2 = e 2 := updN_ne (by omega)
  rw [a2, updN_ne (by omega)]
  exact if_pos rfl
theorem sqC_u {e sq : Nat → Nat} {k sh a : Nat} : fmW (sqC (rsU e k sh) (updN sq (e 2) a)) (e 2 + 1) = fmW (sqC e sq) (e 2) ++ [(a, .inr (2 + k, [.int (nI (e 2))]))] := by
  rw [fmW_s]
  congr 1
  · refine fmW_congr fun q hq => ?_
    unfold sqC
    rw [updN_ne (by omega), rsU_ne (by omega) (by omega) (by omega)]
  · unfold sqC
    rw [rsU_k, show updN sq (e 2) a (e 2) = a from if_pos rfl]
theorem ls_in {ca : Nat → ClassId} {zv : Nat → Option Nat} {ml : Nat} {mo : Int32} {ed a k sh : Nat} {sq e : Nat → Nat} {pre L fz : va_W} (hL : pre ++ [(ml, .inr (13, [.int mo, .ref ed, .int (nI (e 2 + 1))])), (ed, .inl (ca 7, 10, .inr (.inr (.inr (.inr (lqF (updN sq (e 2) a) (e 2 + 1)))))))] = L) : (L ++ (([(a, .inr (2 + k, [.int (nI (e 2))]))] : va_W) ++ (fmW (sqC e sq) (e 2) ++ fz))).Perm (pre ++ (lsC ca zv ml mo ed (updN sq (e 2) a) (rsU e k sh) ++ fz)) := by
  have h2 : rsU e k sh 2 = e 2 + 1 := rsU_2
  rw [lsC_s (by rw [h2]; omega), h2, sqC_u, ← hL, List.append_assoc]
  refine List.Perm.append_left pre ?_
  rw [List.append_assoc]
  refine List.Perm.append_left _ ?_
  rw [List.append_assoc]
  refine (List.perm_append_comm_assoc _ _ _).trans ?_
  exact List.Perm.refl _
theorem ls_in0 {ca : Nat → ClassId} {zv : Nat → Option Nat} {ml : Nat} {mo : Int32} {ed a k sh : Nat} {sq e : Nat → Nat} {pre L fz : va_W} (h : e 2 = 0) (hL : pre ++ [(ml, .inr (13, [.int mo, .ref ed, .int (nI (e 2 + 1))])), (ed, .inl (ca 7, 10, .inr (.inr (.inr (.inr (lqF (updN sq (e 2) a) (e 2 + 1)))))))] = L) : (L ++ (([(a, .inr (2 + k, [.int (nI (e 2))]))] : va_W) ++ fz)).Perm (pre ++ (lsC ca zv ml mo ed (updN sq (e 2) a) (rsU e k sh) ++ fz)) := by
  have h3 := ls_in (ca := ca) (zv := zv) (mo := mo) (k := k) (sh := sh) (fz := fz) hL
  have e0 : fmW (sqC e sq) (e 2) = [] := by rw [h]; rfl
  rw [e0, List.nil_append] at h3
  exact h3
theorem wp_dropT {D : va_G} {cl : List vw_C} {pre t fz : va_W} {H : Heap} (h : va_P D cl (pre ++ (t ++ fz)) H) : va_P D cl (pre ++ fz) H := wp_mem h (fun q hq => by
  rcases List.mem_append.mp hq with k | k
  · exact List.mem_append_left _ k
  · exact List.mem_append_right _ (List.mem_append_right _ k))
theorem wd_dropT {A : Nat → Prop} {pre t fz : va_W} (h : va_D A (pre ++ (t ++ fz))) : va_D A (pre ++ fz) := by
  obtain ⟨h1, h2⟩ := (va_D_iff (cl := [])).mp h
  refine (va_D_iff (cl := [])).mpr ⟨?_, fun q hq => h2 q ?_⟩
  · rw [List.map_append, List.map_append] at h1
    rw [List.map_append]
    exact List.Nodup.sublist (List.Sublist.append_left (List.sublist_append_right _ _) _) h1
  · rcases List.mem_append.mp hq with k | k
    · exact List.mem_append_left _ k
    · exact List.mem_append_right _ (List.mem_append_right _ k)
/-! what a square, a visitor read does to the door's arrays -/
theorem shF_rs {e : Nat → Nat} {k sh : Nat} : updN (shF e) (e 2) sh = shF (rsU e k sh) := by
  funext z
  show (if z = e 2 then sh else e (4 + 5 * z + 1)) = rsU e k sh (4 + 5 * z + 1)
  by_cases h : z = e 2
  · rw [if_pos h, h, rsU_sh]
  · rw [if_neg h, rsU_ne (by omega) (by omega) (by omega)]
theorem yeF_rs {e : Nat → Nat} {k sh : Nat} : yeF e = yeF (rsU e k sh) := funext fun z => (rsU_ne (j := 4 + 5 * z + 2) (by omega) (by omega) (by omega)).symm
theorem noF_rs {e : Nat → Nat} {k sh : Nat} : noF e = noF (rsU e k sh) := funext fun z => (rsU_ne (j := 4 + 5 * z + 3) (by omega) (by omega) (by omega)).symm
theorem hiF_rs {e : Nat → Nat} {k sh j : Nat} (h8 : e 2 ≤ 7) (hj : 44 ≤ j) : e j = rsU e k sh j := (rsU_ne (by omega) (by omega) (by omega)).symm
theorem caF_rs {e : Nat → Nat} {k sh : Nat} (h8 : e 2 ≤ 7) : caF e = caF (rsU e k sh) := funext fun z => hiF_rs (j := 44 + 4 * z + 0) h8 (by omega)
theorem eaF_rs {e : Nat → Nat} {k sh : Nat} (h8 : e 2 ≤ 7) : eaF e = eaF (rsU e k sh) := funext fun z => hiF_rs (j := 44 + 4 * z + 1) h8 (by omega)
theorem poF_rs {e : Nat → Nat} {k sh : Nat} (h8 : e 2 ≤ 7) : poF e = poF (rsU e k sh) := funext fun z => hiF_rs (j := 44 + 4 * z + 2) h8 (by omega)
theorem leF_rs {e : Nat → Nat} {k sh : Nat} (h8 : e 2 ≤ 7) : leF e = leF (rsU e k sh) := funext fun z => hiF_rs (j := 44 + 4 * z + 3) h8 (by omega)
theorem seF_rs {e : Nat → Nat} {k sh : Nat} (hz : e (4 + 5 * e 2 + 4) = 0) : upd (seF e) (e 2) (-1000000) = seF (rsU e k sh) := by
  funext z
  show (if z = e 2 then (-1000000) else seF e z) = seF (rsU e k sh) z
  unfold seF seO
  rw [rsU_2, rsU_ne (j := 4 + 5 * z + 4) (by omega) (by omega) (by omega)]
  by_cases h : z = e 2
  · rw [if_pos h, if_pos (by omega), h, if_pos hz]
    rfl
  · rw [if_neg h]
    by_cases h2 : z < e 2
    · rw [if_pos h2, if_pos (show z < e 2 + 1 by omega)]
    · rw [if_neg h2, if_neg (show ¬ z < e 2 + 1 by omega)]
theorem loF_rs {e : Nat → Nat} {k sh j : Nat} (h2 : ¬ j = 2) (hj : j < 4) : e j = rsU e k sh j := (rsU_ne h2 (by omega) (by omega)).symm
/-! a visitor -/
theorem rvU_ne {e : Nat → Nat} {a b j : Nat} (h3 : ¬ j = 3) (h0 : ¬ j = 44 + 4 * e 3) (h1 : ¬ j = 44 + 4 * e 3 + 1) : rvU e a b j = e j := by
  unfold rvU
  have a3 : updN e (44 + 4 * e 3) a 3 = e 3 := updN_ne (by omega)
  rw [updN_ne h3, a3, updN_ne h1, updN_ne h0]
theorem rvU_0 {e : Nat → Nat} {a b : Nat} : rvU e a b (44 + 4 * e 3 + 0) = a := by
  unfold rvU
  have a3 : updN e (44 + 4 * e 3) a 3 = e 3 := updN_ne (by omega)
  rw [a3, updN_ne (by omega), updN_ne (by omega)]
  exact if_pos rfl
theorem rvU_1 {e : Nat → Nat} {a b : Nat} : rvU e a b (44 + 4 * e 3 + 1) = b := by
  unfold rvU
  have a3 : updN e (44 + 4 * e 3) a 3 = e 3 := updN_ne (by omega)
  rw [a3, updN_ne (by omega)]
  exact if_pos rfl
theorem caF_rv {e : Nat → Nat} {a b : Nat} : updN (caF e) (e 3) a = caF (rvU e a b) := by
  funext z
  show (if z = e 3 then a else e (44 + 4 * z + 0)) = rvU e a b (44 + 4 * z + 0)
  by_cases h : z = e 3
  · rw [if_pos h, h, rvU_0]
  · rw [if_neg h, rvU_ne (by omega) (by omega) (by omega)]
theorem eaF_rv {e : Nat → Nat} {a b : Nat} : updN (eaF e) (e 3) b = eaF (rvU e a b) := by
  funext z
  show (if z = e 3 then b else e (44 + 4 * z + 1)) = rvU e a b (44 + 4 * z + 1)
  by_cases h : z = e 3
  · rw [if_pos h, h, rvU_1]
  · rw [if_neg h, rvU_ne (by omega) (by omega) (by omega)]
theorem poF_rv {e : Nat → Nat} {a b : Nat} : poF e = poF (rvU e a b) := funext fun z => (rvU_ne (j := 44 + 4 * z + 2) (by omega) (by omega) (by omega)).symm
theorem leF_rv {e : Nat → Nat} {a b : Nat} : leF e = leF (rvU e a b) := funext fun z => (rvU_ne (j := 44 + 4 * z + 3) (by omega) (by omega) (by omega)).symm
theorem lo_rv {e : Nat → Nat} {a b j : Nat} (h3 : ¬ j = 3) (hj : j < 44) : e j = rvU e a b j := (rvU_ne h3 (by omega) (by omega)).symm
theorem shF_rv {e : Nat → Nat} {a b q : Nat} (hq : q < 8) : shF e q = shF (rvU e a b) q := lo_rv (j := 4 + 5 * q + 1) (by omega) (by omega)
theorem yeF_rv {e : Nat → Nat} {a b q : Nat} (hq : q < 8) : yeF e q = yeF (rvU e a b) q := lo_rv (j := 4 + 5 * q + 2) (by omega) (by omega)
theorem noF_rv {e : Nat → Nat} {a b q : Nat} (hq : q < 8) : noF e q = noF (rvU e a b) q := lo_rv (j := 4 + 5 * q + 3) (by omega) (by omega)
theorem seF_rv {e : Nat → Nat} {a b q : Nat} (hq : q < 8) : seF e q = seF (rvU e a b) q := by
  unfold seF seO
  rw [← lo_rv (e := e) (a := a) (b := b) (show ¬ 2 = 3 by omega) (by omega), ← lo_rv (e := e) (a := a) (b := b) (show ¬ 4 + 5 * q + 4 = 3 by omega) (by omega)]
theorem lsC_rv {ca : Nat → ClassId} {zv : Nat → Option Nat} {ml : Nat} {mo : Int32} {ed : Nat} {sq e e' : Nat → Nat} (h2 : e' 2 = e 2) (hk : ∀ q, q < e 2 → e' (4 + 5 * q + 0) = e (4 + 5 * q + 0)) : lsC ca zv ml mo ed sq e = lsC ca zv ml mo ed sq e' := by
  unfold lsC
  rw [h2, fmW_congr (g := sqC e sq) (g' := sqC e' sq) (fun q hq => by unfold sqC; rw [hk q hq])]
