/-! BASE 25: a copy out of bounds, over a world -/
set_option maxRecDepth 100000
section CW
variable {p : Program} {l : Launch} {e : Env} {R : Room} {s : State} {m : MethodId} {args : Array Value} {below : List Frame} {meth : Method} {c : Code} {H : Heap} {locs : List Loc} {cells slots : Nat} {Q : State → Prop} {A : Nat → Prop} {zv : Nat → Option Nat}
variable {cc : ByteArray} {pc : Nat} {ls : Array Slot} {rest : List Value} {own : String} {index : Nat} {D : va_G} {ca : Nat → ClassId} {ws : va_W}
theorem wp_lt {k : Nat} {q : Nat × va_E} (hP : va_P D vwCl ws H) (hk : ws[k]? = some q) : q.1 < H.size := (hP k q hk).lt
theorem w_cpy {src dst n0 n1 : Nat} {x y z : Int32} {c0 : ClassId} {f g : Nat → Int32} {tys : List (ClassId × FieldType)} (hx : p.tables.exec = Jvm.exec) (hb : c.code = cc) (hml : ls.size = c.maxLocals) (htr : ∀ e : Env, l.admits e → e.platform.stackTraces = false) (hown : s.vm.findClass own = some m.cls) (hlink : (Cond.methodLink own index xArr).before args s = true) (hnat : (Cond.native xArr).before args s = true) (hstat : (Cond.static xArr).before args s = true) (hinit : (Cond.initialized "java/lang/System").before args s = true)
    (hts : ∀ w ∈ lw_all, w.before args s = true) (hKK : KK D ca s) (hZ : ZY zv A s s.heap) (hK : va_K D vwCl tys s) (hP : va_P D vwCl ws H) (hD : va_D A ws) (hS : va_S A s.heap H locs) (hA : ∀ q : Nat, s.heap.size ≤ q → A q) (q0 q1 t0 : Nat) (ha0 : ws[q0]? = some (src, .inl (c0, n0, .inl f))) (ha1 : ws[q1]? = some (dst, .inl (c0, n1, .inl g))) (ht0 : tys[t0]? = some (c0, .int))
    (hn0 : n0 < 2147483648) (hn1 : n1 < 2147483648) (hbad : ¬ (¬ x < 0 ∧ ¬ y < 0 ∧ ¬ z < 0 ∧ ¬ x.toInt + z.toInt > n0 ∧ ¬ y.toInt + z.toInt > n1)) (hw : (rest.map fun v => v.category).sum ≤ 8) (hdg : decode cc pc = .ok (.invokestatic index, 3)) (hRf : 8 < R.frames) (hRl : 10260 ≤ R.locals) (hRc : cells + 3 ≤ R.cells) (hRs : slots + 454 ≤ R.slots)
    (kk : ∀ (xa : Nat) (H' : Heap) (locs' : List Loc), va_P D vwCl ws H' → va_D A ws → va_S A s.heap H' locs' → (∃ ce : Cell, H'[xa]? = some ce ∧ ce.vm.isStatics = false ∧ s.vm.findClass aiN = some ce.cls) → WT p l e R s m args below meth c H' locs' (cells + 3) (slots + 454) Q xa (F0 m pc ls rest)) :
    W p l e R s m args below meth c H locs cells slots Q (F0 m pc ls (.int z :: .int y :: .ref dst :: .int x :: .ref src :: rest)) := by
  obtain ⟨-, k0, hk0, cm0, hkk0⟩ := (hK.2 t0 _ ht0).1 n0 (fun j => .int (f j))
  obtain ⟨-, k1, hk1, cm1, hkk1⟩ := (hK.2 t0 _ ht0).1 n1 (fun j => .int (g j))
  have hs : H[src]? = some (vp_cell c0 (n0, .inl f)) := hP q0 _ ha0
  have hd : H[dst]? = some (vp_cell c0 (n1, .inl g)) := hP q1 _ ha1
  refine w_cpx (a := n0) (b := n1) hx hb hml htr hown hlink hnat hstat hinit (vt_ai hts hKK hZ) hZ hS hA hs hd (arrV_size ..) (arrV_size ..) (fun _ h => by cases h) (fun _ h => by cases h) hk0 hk1 hkk0 hkk1 hn0 hn1 hbad rfl hw hdg hRf hRl hRc hRs (fun H' locs' hsz hk hS' hce => ?_)
  exact kk _ H' locs' (hP.kept (fun k q h => hk q.1 (wp_lt hP h))) hD hS' hce
end CW
