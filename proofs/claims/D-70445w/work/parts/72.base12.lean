/-! BASE 12: methods with handlers of their own -/
set_option maxRecDepth 100000
section HW
variable {p : Program} {l : Launch} {e : Env} {R : Room} {s : State} {m : MethodId} {args : Array Value} {below : List Frame} {meth : Method} {c : Code} {H : Heap} {locs : List Loc} {cells slots : Nat} {Q : State → Prop}
variable {cc : ByteArray} {pc : Nat} {ls : Array Slot} {rest st0 : List Value} {K : State → Prop} {Z : (Nat → Prop) → State → Heap → Prop} {D : va_G} {ws wc wr : va_W} {n sz mc ms : Nat} {A : Nat → Prop} {H0 : Heap} {σ : Type}
theorem wh_head {y : MethodName} {ret : Option FieldType} {rm : Room} {av : List Value} {hh : List (Nat × Nat × Nat × Nat)} {Qc : (Nat → Prop) → Array Value → State → Outcome → State → Prop} (hy : plainName y.cls = true) (hn : (lg_sl av).length ≤ n)
    (body : ∀ (p : Program) (e : Env) (s : State) (m : MethodId) (args : Array Value) (below : List Frame) (meth : Method) (c : Code) (ls : Array Slot) (Q : State → Prop) (A : Nat → Prop) (H : Heap) (locs : List Loc), p.tables.exec = Jvm.exec → c.code = cc → c.maxLocals = n → meth.sig.returnType = ret → meth.locks = false → s.vm.findClass y.cls = some m.cls → (∀ w ∈ lw_all, w.before args s = true) → meth.name = y.name → K s → Z A s s.heap → va_P D vwCl ws H → va_D A ws → va_S A s.heap H locs → (∀ q : Nat, s.heap.size ≤ q → A q) → lv_has ls n (lv_args 0 av) → Q = MQ below (Qc A) args s mc ms A → c.exceptionTable.toList.map (fun h => (h.startPc, h.endPc, h.handlerPc, h.catchType)) = hh → W p l e rm s m args below meth c H locs 0 0 Q (F0 m 0 ls [])) :
    Met l y (wsW_ y cc n ret hh) rm (PcZ K Z D av ws sz) (Qc (va_A ws sz)) mc ms (va_A ws sz) := by
  refine va_MetW (cc := cc) (maxL := n) (ret := ret) (hh := hh) hy rfl ?_
  intro p e s m args below meth c s₁ B hml hv
  obtain ⟨rfl, hsz, ⟨hK, hZ⟩, hP, hD⟩ := hv
  subst hsz
  have hts0 := atoms_spec (ws := wsW_ y cc n ret hh) B.pre
  have hts : ∀ w ∈ lw_all, w.before _ s = true := fun w h => hts0 w (List.mem_cons_of_mem _ h)
  obtain ⟨m9, meth9, c9, hn9, h1, h2, -, -, h5, -⟩ := Cond.codeWith_spec (hts0 _ List.mem_cons_self)
  cases B.named.symm.trans hn9
  cases B.method.symm.trans h1
  cases (Stand.of_body B).code.symm.trans h2
  rw [lg_entry_eq]
  exact body p e s m _ below meth c _ _ _ _ _ B.exec B.bytes hml B.returns B.notSynchronized (findClass_of_methodNamed B.named) hts (name_of_methodNamed B.named B.method).1 hK hZ hP hD.self va_S.rf (fun q h => Or.inr h) (lv_entry av hn) rfl h5
end HW
