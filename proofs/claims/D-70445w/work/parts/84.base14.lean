/-! BASE 14: doors kept behind one another -/
set_option maxRecDepth 100000
def updO (pr : Nat → Option DR) (k : Nat) (q : Option DR) : Nat → Option DR := fun j => if j = k then q else pr j
def rotP (pr : Nat → Option DR) : Nat → Option DR := fun z => if z = 23 then pr 0 else if z + 1 < 24 then pr (z + 1) else pr z
def shP (pr : Nat → Option DR) (i : Nat) : Nat → Option Nat := fun z => if z + 1 < i then paF pr (z + 1) else paF pr z
def kepP (pr : Nat → Option DR) (ac : Nat) (q : DR) : Nat → Option DR := if ac = 24 then updO (rotP pr) (24 - 1) (some q) else updO pr ac (some q)
/-- a door's places by name: the object, its list, its arrays -/
def adF (g lsq b3 b4 b5 b6 b8 b9 b10 b11 : Nat) : Nat → Nat
  | 0 => g | 1 => lsq | 2 => b3 | 3 => b4 | 4 => b5 | 5 => b6 | 6 => b8 | 7 => b9 | 8 => b10 | _ => b11
theorem pcl_t {ca : Nat → ClassId} {pr : Nat → Option DR} {k : Nat} {q : DR} (h : pr k = some q) : pcl ca pr k = dcl ca q := by unfold pcl; rw [h]
theorem pcl_f {ca : Nat → ClassId} {pr : Nat → Option DR} {k : Nat} (h : pr k = none) : pcl ca pr k = [] := by unfold pcl; rw [h]
theorem updO_at (pr : Nat → Option DR) (k : Nat) (q : Option DR) : updO pr k q k = q := if_pos rfl
theorem updO_ne {pr : Nat → Option DR} {k j : Nat} {q : Option DR} (h : j ≠ k) : updO pr k q j = pr j := if_neg h
theorem pcl_u {ca : Nat → ClassId} {pr : Nat → Option DR} {k : Nat} {q : DR} : pcl ca (updO pr k (some q)) k = dcl ca q := pcl_t (updO_at _ _ _)
theorem pcl_o {ca : Nat → ClassId} {pr : Nat → Option DR} {k n : Nat} {q : Option DR} : ∀ j, j < n → j ≠ k → pcl ca pr j = pcl ca (updO pr k q) j := by
  intro j _ h
  unfold pcl
  rw [updO_ne h]
theorem pa_at {pr : Nat → Option DR} {k : Nat} {q : DR} (h : pr k = some q) : paF pr k = some (q.1 0) := by unfold paF; rw [h]; rfl
theorem pa_none {pr : Nat → Option DR} {k : Nat} (h : pr k = none) : paF pr k = none := by unfold paF; rw [h]; rfl
theorem pa_some {pr : Nat → Option DR} {k a : Nat} (h : paF pr k = some a) : ∃ q, pr k = some q ∧ q.1 0 = a := by
  unfold paF at h
  cases hq : pr k with
  | none => rw [hq] at h; cases h
  | some q => rw [hq] at h; exact ⟨q, rfl, Option.some.inj h⟩
theorem fm_mem {g : Nat → va_W} {n k : Nat} {x} (hk : k < n) (h : x ∈ g k) : x ∈ fmW g n := List.mem_flatMap.mpr ⟨k, List.mem_range.mpr hk, h⟩
theorem paQ {ca : Nat → ClassId} {pr : Nat → Option DR} {pre fz : va_W} {k n : Nat} (hk : k < n) : ∀ v, paF pr k = some v → ∃ vs, (v, .inr (1, vs)) ∈ pre ++ (fmW (pcl ca pr) n ++ fz) := by
  intro v h
  obtain ⟨q, h1, h2⟩ := pa_some h
  have hm : ∃ vs, (v, .inr (1, vs)) ∈ pcl ca pr k := by
    rw [pcl_t h1, ← h2]
    exact ⟨_, List.mem_cons_self⟩
  obtain ⟨vs, hm⟩ := hm
  exact ⟨vs, List.mem_append_right _ (List.mem_append_left _ (fm_mem hk hm))⟩
theorem shP_1 (pr : Nat → Option DR) : paF pr = shP pr 1 := by
  funext z
  unfold shP
  rw [if_neg (by omega)]
theorem shP_at {pr : Nat → Option DR} {i : Nat} : shP pr i i = paF pr i := if_neg (by omega)
theorem shP_up {pr : Nat → Option DR} {i : Nat} (h : 1 ≤ i) : va_up (shP pr i) (i - 1) (paF pr i) = shP pr (i + 1) := by
  funext z
  unfold va_up shP
  by_cases h1 : z = i - 1
  · rw [if_pos h1, if_pos (by omega), h1, Nat.sub_add_cancel h]
  · rw [if_neg h1]
    by_cases h2 : z + 1 < i
    · rw [if_pos h2, if_pos (by omega)]
    · rw [if_neg h2, if_neg (by omega)]
theorem shP_rot {pr : Nat → Option DR} : va_up (shP pr 24) 23 (paF pr 0) = paF (rotP pr) := by
  funext z
  unfold va_up shP paF rotP
  by_cases h1 : z = 23
  · rw [if_pos h1, if_pos h1]
  · rw [if_neg h1, if_neg h1]
    by_cases h2 : z + 1 < 24
    · rw [if_pos h2, if_pos h2]
    · rw [if_neg h2, if_neg h2]
theorem rot_perm {ca : Nat → ClassId} {pr : Nat → Option DR} {pre fz : va_W} : (pre ++ (fmW (pcl ca pr) 24 ++ fz)).Perm (pre ++ (fmW (pcl ca (rotP pr)) 24 ++ fz)) := by
  refine List.Perm.append_left pre (List.Perm.append_right fz ?_)
  have e1 : fmW (pcl ca pr) 24 = pcl ca pr 0 ++ ((List.range 23).map (· + 1)).flatMap (pcl ca pr) := by
    unfold fmW
    rw [show List.range 24 = 0 :: (List.range 23).map (· + 1) from by decide, List.flatMap_cons]
  have e2 : fmW (pcl ca (rotP pr)) 24 = ((List.range 23).map (· + 1)).flatMap (pcl ca pr) ++ pcl ca pr 0 := by
    unfold fmW
    have a1 : (List.range 23).flatMap (pcl ca (rotP pr)) = (List.range 23).flatMap (fun j => pcl ca pr (j + 1)) := by
      simp only [List.flatMap_def]
      refine congrArg List.flatten (List.map_congr_left fun j hj => ?_)
      have hj := List.mem_range.mp hj
      unfold pcl rotP
      rw [if_neg (by omega), if_pos (by omega)]
    have a2 : [23].flatMap (pcl ca (rotP pr)) = pcl ca pr 0 := by
      rw [List.flatMap_cons, List.flatMap_nil, List.append_nil]
      rfl
    rw [show List.range 24 = List.range 23 ++ [23] from by decide, List.flatMap_append, a1, a2, List.flatMap_map]
  rw [e1, e2]
  exact List.perm_append_comm
theorem rot_last {pr : Nat → Option DR} {q : DR} (h : pr 0 = some q) : rotP pr (24 - 1) = some q := h
theorem kepP_24 {pr : Nat → Option DR} {q : DR} : kepP pr 24 q = updO (rotP pr) (24 - 1) (some q) := if_pos rfl
theorem kepP_n {pr : Nat → Option DR} {ac : Nat} {q : DR} (h : ¬ ac = 24) : kepP pr ac q = updO pr ac (some q) := if_neg h
theorem pa_updS {pr : Nat → Option DR} {k : Nat} {q q' : DR} (h : pr k = some q) (e : q'.1 0 = q.1 0) : paF pr = paF (updO pr k (some q')) := by
  funext z
  unfold paF updO
  by_cases hz : z = k
  · rw [if_pos hz, hz, h]; exact congrArg some e.symm
  · rw [if_neg hz]
theorem pa_updN {pr : Nat → Option DR} {k a : Nat} {q' : DR} (e : q'.1 0 = a) : va_up (paF pr) k (some a) = paF (updO pr k (some q')) := by
  funext z
  unfold va_up paF updO
  by_cases hz : z = k
  · rw [if_pos hz, if_pos hz, ← e]; rfl
  · rw [if_neg hz, if_neg hz]
section MQ
variable {p : Program} {l : Launch} {e : Env} {R : Room} {s : State} {m : MethodId} {args : Array Value} {below : List Frame} {meth : Method} {c : Code} {H : Heap} {locs : List Loc} {cells slots : Nat} {Q : State → Prop} {cc : ByteArray} {pc : Nat} {ls : Array Slot} {rest : List Value} {D : va_G} {ws : va_W} {A : Nat → Prop} {H0 : Heap}
theorem wn_astQ {tys : List (ClassId × FieldType)} (hx : p.tables.exec = Jvm.exec) (hb : c.code = cc) (hK : va_K D vwCl tys s) (hP : va_P D vwCl ws H) (hD : va_D A ws) (hS : va_S A H0 H locs) (q0 t0 : Nat) {cA : ClassId} {a i n : Nat} {o : Option Nat} {f : Nat → Option Nat} (ha : ws[q0]? = some (a, .inl (cA, n, .inr (.inr (.inr (.inr f)))))) (ht : tys[t0]? = some (cA, .object "LampSquares$Door")) (hv : ∀ v, o = some v → ∃ vs, (v, .inr (1, vs)) ∈ ws) (hin : i < n) (hn : n < 2147483648) (hdg : decode cc pc = .ok (.aastore, 1))
    (kk : ∀ (H1 : Heap) (locs1 : List Loc), va_P D vwCl (ws.set q0 (a, .inl (cA, n, .inr (.inr (.inr (.inr (va_up f i o))))))) H1 → va_D A (ws.set q0 (a, .inl (cA, n, .inr (.inr (.inr (.inr (va_up f i o))))))) → va_S A H0 H1 locs1 → W p l e R s m args below meth c H1 locs1 cells slots Q (F0 m (pc + 1) ls rest)) : W p l e R s m args below meth c H locs cells slots Q (F0 m pc ls (va_rf o :: .int (nI i) :: .ref a :: rest)) := by
  cases o with
  | none => exact wn_astN hx hb hK hP hD hS q0 t0 ha ht hin hn hdg kk
  | some v =>
    obtain ⟨vs, hm⟩ := hv v rfl
    obtain ⟨qk, hqk⟩ := List.getElem?_of_mem hm
    exact wn_ast hx hb hK hP hD hS q0 t0 qk 1 (r := vwCl[1]) ha ht hqk rfl hin hn hdg kk
end MQ
section LQ
variable {p : Program} {l : Launch} {e : Env} {R : Room} {s : State} {m : MethodId} {args : Array Value} {below : List Frame} {meth : Method} {c : Code} {H : Heap} {locs : List Loc} {cells slots : Nat} {Q : State → Prop} {cc : ByteArray} {pc : Nat} {ls : Array Slot} {rest : List Value}
theorem lv_aload_nQ (hexec : p.tables.exec = Jvm.exec) (hb : c.code = cc) {k : Fin 4} {i : Nat} {o : Option Nat} (hdg : decode cc pc = .ok (.aload_n k, 1)) (hi : (k : Nat) = i) (hl : ls[i]? = some (.val (va_rf o))) (kk : W p l e R s m args below meth c H locs cells slots Q (F0 m (pc + 1) ls (va_rf o :: rest))) : W p l e R s m args below meth c H locs cells slots Q (F0 m pc ls rest) := by
  cases o with
  | none => exact lv_aload_nN hexec hb hdg hi hl kk
  | some x => exact lv_aload_n hexec hb hdg hi hl kk
theorem lv_astore_nQ (hexec : p.tables.exec = Jvm.exec) (hb : c.code = cc) {k : Fin 4} {i nL : Nat} {o : Option Nat} {lv lv' : List (Nat × Value)} (hdg : decode cc pc = .ok (.astore_n k, 1)) (hi : (k : Nat) = i) (h : lv_has ls nL lv) (hn : i < nL) (hl : (i, va_rf o) :: lv.filter (fun q => !(q.1 == i) && !(q.1 + 1 == i && q.2.category == 2)) = lv')
    (kk : ∀ ls' : Array Slot, lv_has ls' nL lv' → W p l e R s m args below meth c H locs cells slots Q (F0 m (pc + 1) ls' rest)) : W p l e R s m args below meth c H locs cells slots Q (F0 m pc ls (va_rf o :: rest)) := by
  cases o with
  | none => exact lv_astore_nN hexec hb hdg hi h hn hl kk
  | some x => exact lv_astore_n hexec hb hdg hi h hn hl kk
end LQ
