/-! BASE 8: throwing methods over worlds; a handler of one's own -/
set_option maxRecDepth 100000
def QtA (D : va_G) {σ : Type} (post : Nat → σ → Prop) (w : σ → Nat → va_W) (A : Nat → Prop) : Array Value → State → Addr → State → Prop := fun _ st x t => (∃ u : σ, post x u ∧ va_P D vwCl (w u x) t.heap ∧ va_D A (w u x)) ∧ va_F A st t
section XW
variable {p : Program} {l : Launch} {e : Env} {R : Room} {s : State} {m : MethodId} {args : Array Value} {below : List Frame} {meth : Method} {c : Code} {H : Heap} {locs : List Loc} {cells slots : Nat} {Q : State → Prop}
variable {cc : ByteArray} {pc : Nat} {ls : Array Slot} {rest st0 : List Value} {K : State → Prop} {D : va_G} {ws wc wr : va_W} {n sz mc ms : Nat} {A : Nat → Prop} {H0 : Heap} {σ : Type}
theorem wt_head {y : MethodName} {ret : Option FieldType} {rm : Room} {av : List Value} {Qc : (Nat → Prop) → Array Value → State → Addr → State → Prop} (hy : plainName y.cls = true) (hn : (lg_sl av).length ≤ n)
    (body : ∀ (p : Program) (e : Env) (s : State) (m : MethodId) (args : Array Value) (below : List Frame) (meth : Method) (c : Code) (ls : Array Slot) (Q : State → Prop) (A : Nat → Prop) (H : Heap) (locs : List Loc), p.tables.exec = Jvm.exec → c.code = cc → c.maxLocals = n → meth.sig.returnType = ret → meth.locks = false → s.vm.findClass y.cls = some m.cls → (∀ w ∈ lw_all, w.before args s = true) → meth.name = y.name → K s → va_P D vwCl ws H → va_D A ws → va_S A s.heap H locs → (∀ q : Nat, s.heap.size ≤ q → A q) → lv_has ls n (lv_args 0 av) → Q = MQT below (Qc A) args s mc ms A → c.exceptionTable.isEmpty = true → W p l e rm s m args below meth c H locs 0 0 Q (F0 m 0 ls [])) :
    MetT l y (ws_ y cc n ret) rm (PcA K D av ws sz) (Qc (va_A ws sz)) mc ms (va_A ws sz) := by
  refine MetT.ofW (cc := cc) (maxL := n) (ret := ret) hy rfl ?_
  intro p e s m args below meth c s₁ B hml hno hv
  obtain ⟨rfl, hsz, hK, hP, hD⟩ := hv
  subst hsz
  have hts := atoms_spec (ws := ws_ y cc n ret) B.pre
  have hts : ∀ w ∈ lw_all, w.before _ s = true := fun w h => hts w (List.mem_cons_of_mem _ h)
  rw [lg_entry_eq]
  exact body p e s m _ below meth c _ _ _ _ _ B.exec B.bytes hml B.returns B.notSynchronized (findClass_of_methodNamed B.named) hts (name_of_methodNamed B.named B.method).1 hK hP hD.self va_S.rf (fun q h => Or.inr h) (lv_entry av hn) rfl hno
theorem wt_leave {post : Nat → σ → Prop} {w : σ → Nat → va_W} {x : Nat} (u : σ) (hlk : meth.locks = false) (hno : c.exceptionTable.isEmpty = true) (hQ : Q = MQT below (QtA D post w A) args s mc ms A) (hP : va_P D vwCl (w u x) H) (hD : va_D A (w u x)) (hS : va_S A s.heap H locs) (h1 : cells ≤ mc) (h2 : slots ≤ ms) (hv : post x u) : WT p l e R s m args below meth c H locs cells slots Q x (F0 m pc ls st0) := by
  subst hQ
  refine WT.widen h1 h2 ?_
  exact WT.leave hlk (noH hno pc) (fun t ht _ => ⟨⟨u, hv, by rw [ht]; exact hP, hD⟩, hS.F ht⟩) hS.2.2
variable {y : MethodName} {bytes : ByteArray} {maxL nL k index : Nat} {ret : Option FieldType} {wsy : List Cond} {rm : Room} {own C host : String} {b : Addr} {As : List Value}
theorem wt_run {post : Nat → σ → Prop} {w : σ → Nat → va_W} {a : Array Value} (hr : RunT p l e R s m args below meth c H locs cells slots mc ms (F0 m pc ls st0) rest (QtA D post w (va_A wc H.size) a) (va_A wc H.size)) (hP : va_P D vwCl ws H) (hD : va_D A ws) (hS : va_S A H0 H locs) (hA : ∀ q, H0.size ≤ q → A q) (hp : ws.Perm (wc ++ wr))
    (kk : ∀ (x : Nat) (u : σ) (H1 : Heap) (locs1 : List Loc), post x u → va_P D vwCl (w u x ++ wr) H1 → va_D A (w u x ++ wr) → va_S A H0 H1 locs1 → WT p l e R s m args below meth c H1 locs1 (cells + mc) (slots + ms) Q x (F0 m pc ls rest)) : W p l e R s m args below meth c H locs cells slots Q (F0 m pc ls st0) := by
  have hF := wr_free hD hS hA hp
  intro T hT X
  obtain ⟨x, st₀, t, T', L, h0, X', hL, e1, e2, ⟨⟨u, hv, hP1, hD1⟩, hz, hk⟩, st⟩ := hr T hT X
  rw [h0] at hz hk
  obtain ⟨hP', hD'⟩ := va_frame hP hD hp hk hF hP1 hD1
  have hS1 : va_S A H0 T'.heap (locs ++ L) := ⟨Nat.le_trans hS.1 (by rw [e1]; exact hz), fun q h1 h2 => by rw [e1, hk q (Nat.lt_of_lt_of_le h1 hS.1) (fun z => h2 (hF q z))]; exact hS.2.1 q h1 h2, fun q hq => by
      rcases List.mem_append.mp hq with h | h
      · exact hS.2.2 q h
      · exact hF _ (hL q h)⟩
  obtain ⟨t2, a1, b1⟩ := kk x u T'.heap (locs ++ L) hv (by rw [e1]; exact hP') hD' hS1 T' rfl X'
  exact ⟨t2, st.trans a1, b1⟩
theorem wt_callS {post : Nat → σ → Prop} {w : σ → Nat → va_W} (F : CallFix p m c cc nL s args lw_all own) (hM : MetT l y wsy rm (PcA K D As wc H.size) (QtA D post w (va_A wc H.size)) mc ms (va_A wc H.size)) (cw : CallB R s args own index y bytes maxL ret wsy rm mc ms k ∧ (Cond.static y).before args s = true) (hKm : KMv K) (hK : K s) (hP : va_P D vwCl ws H) (hD : va_D A ws) (hS : va_S A H0 H locs) (hA : ∀ q, H0.size ≤ q → A q) (hp : ws.Perm (wc ++ wr))
    (hn : As.length = k) (hsz : ls.size = nL) (hst : st0 = As.reverse ++ rest) (hw : (rest.map fun v => v.category).sum ≤ 8) (hdg : decode cc pc = .ok (.invokestatic index, 3)) (hc : cells + mc ≤ R.cells ∧ slots + ms ≤ R.slots)
    (kk : ∀ (x : Nat) (u : σ) (H1 : Heap) (locs1 : List Loc), post x u → va_P D vwCl (w u x ++ wr) H1 → va_D A (w u x ++ wr) → va_S A H0 H1 locs1 → WT p l e R s m args below meth c H1 locs1 (cells + mc) (slots + ms) Q x (F0 m pc ls rest)) : W p l e R s m args below meth c H locs cells slots Q (F0 m pc ls st0) :=
  wt_run (runT_S (g := F0 m pc ls st0) (As := As) F hM cw ⟨PcA_blind hKm, PcA_at hKm hK (wr_cutP hP hp) (wr_cutD hD hp)⟩ rfl hn hsz hst (lv_room hw) hdg hc) hP hD hS hA hp kk
theorem wt_callSN {post : Nat → σ → Prop} {w : σ → Nat → va_W} (F : CallFix p m c cc nL s args lw_all own) (hM : MetT l y wsy rm (PcA K D As wc H.size) (QtA D post w (va_A wc H.size)) mc ms (va_A wc H.size)) (cw : va_CN R s args own index y host bytes maxL ret wsy rm mc ms k ∧ (Cond.static y).before args s = true ∧ True) (hKm : KMv K) (hK : K s) (hP : va_P D vwCl ws H) (hD : va_D A ws) (hS : va_S A H0 H locs) (hA : ∀ q, H0.size ≤ q → A q) (hp : ws.Perm (wc ++ wr))
    (hn : As.length = k) (hsz : ls.size = nL) (hst : st0 = As.reverse ++ rest) (hw : (rest.map fun v => v.category).sum ≤ 8) (hdg : decode cc pc = .ok (.invokestatic index, 3)) (hc : cells + mc ≤ R.cells ∧ slots + ms ≤ R.slots)
    (kk : ∀ (x : Nat) (u : σ) (H1 : Heap) (locs1 : List Loc), post x u → va_P D vwCl (w u x ++ wr) H1 → va_D A (w u x ++ wr) → va_S A H0 H1 locs1 → WT p l e R s m args below meth c H1 locs1 (cells + mc) (slots + ms) Q x (F0 m pc ls rest)) : W p l e R s m args below meth c H locs cells slots Q (F0 m pc ls st0) :=
  wt_run (runT_SN (g := F0 m pc ls st0) (As := As) F hM cw ⟨PcA_blind hKm, PcA_at hKm hK (wr_cutP hP hp) (wr_cutD hD hp)⟩ rfl hn hsz hst (lv_room hw) hdg hc) hP hD hS hA hp kk
theorem wt_callV {post : Nat → σ → Prop} {w : σ → Nat → va_W} (F : CallFix p m c cc nL s args lw_all own) (hM : MetT l y wsy rm (PcA K D (.ref b :: As) wc H.size) (QtA D post w (va_A wc H.size)) mc ms (va_A wc H.size)) (cw : CallW R s args own C index y bytes maxL ret wsy rm mc ms k) (hKm : KMv K) (hK : K s) (hP : va_P D vwCl ws H) (hD : va_D A ws) (hS : va_S A H0 H locs) (hA : ∀ q, H0.size ≤ q → A q) (hp : ws.Perm (wc ++ wr))
    (hrc : ∃ cellB : Cell, H[b]? = some cellB ∧ cellB.vm.isStatics = false ∧ s.vm.findClass C = some cellB.cls) (hn : As.length = k) (hsz : ls.size = nL) (hst : st0 = As.reverse ++ .ref b :: rest) (hw : (rest.map fun v => v.category).sum ≤ 8) (hdg : decode cc pc = .ok (.invokevirtual index, 3)) (hc : cells + mc ≤ R.cells ∧ slots + ms ≤ R.slots)
    (kk : ∀ (x : Nat) (u : σ) (H1 : Heap) (locs1 : List Loc), post x u → va_P D vwCl (w u x ++ wr) H1 → va_D A (w u x ++ wr) → va_S A H0 H1 locs1 → WT p l e R s m args below meth c H1 locs1 (cells + mc) (slots + ms) Q x (F0 m pc ls rest)) : W p l e R s m args below meth c H locs cells slots Q (F0 m pc ls st0) :=
  wt_run (runT_V (g := F0 m pc ls st0) (b := b) (As := As) F hM cw ⟨PcA_blind hKm, hrc, PcA_at hKm hK (wr_cutP hP hp) (wr_cutD hD hp)⟩ rfl hn hsz hst (lv_room hw) hdg hc) hP hD hS hA hp kk
end XW
/-! a handler: its catch class linked or not yet -/
section XH
variable {p : Program} {l : Launch} {e : Env} {R : Room} {s : State} {m : MethodId} {args : Array Value} {below : List Frame} {meth : Method} {c : Code} {H : Heap} {locs : List Loc} {cells slots : Nat} {Q : State → Prop}
variable {cc : ByteArray} {pc : Nat} {ls : Array Slot} {st0 : List Value}
theorem go_cold {e : Env} {S : State} {f : JFrame} {a : Addr} {z : ExceptionTableEntry} {t : List ExceptionTableEntry} {cT : ClassId} {cell : Cell} {Q : Handler → Pre} {E : CtlPost} {d : Bool} {acts : List Action} (hx : covers z f.pc = true) (h0 : z.catchType ≠ 0)
    (hl : S.vm.ClassLinks e.platform f.method.cls z.catchType cT) (hcell : S.heap[a]? = some cell) (hobj : ∀ k, cell.vm ≠ .statics k) (hk : ∃ k, S.vm.classes[cell.cls]? = some k) (hc : ∃ k, S.vm.classes[cT]? = some k) (hfit : S.vm.assignable cell.cls cT = true) :
    Sem.wp (findHandler.go f a (z :: t)) Q E e d acts S ↔ Q (.found z.handlerPc) d acts (S.setVm (S.vm.noted f.method.cls z.catchType (.cls cT))) := by
  simp only [covers] at hx
  obtain ⟨ha, ht⟩ := (resolveClass_links e.toSetting hl).op (op := VmOp.resolveClass f.method.cls z.catchType) rfl
  have hal : S.vm.Alike (S.vm.noted f.method.cls z.catchType (.cls cT)) := (Vm.Alike.refl S.vm).noted _ _ _
  obtain ⟨k1, hk1⟩ := hk
  obtain ⟨k2, hk2⟩ := hc
  obtain ⟨k1', hk1', -⟩ := hal.2.2 _ _ hk1
  obtain ⟨k2', hk2', -⟩ := hal.2.2 _ _ hk2
  have hfit' : (S.vm.noted f.method.cls z.catchType (.cls cT)).assignable cell.cls cT = true := by rw [hal.assignable]; exact hfit
  simp [findHandler.go, hx, h0, ha, ht, hcell, hobj, hk1', hk2', hfit', VmOp.dirties, VmOp.acts]
/-- x is thrown at pc; the first row of the table that covers pc catches it: the walk goes on at its handler -/
theorem WT.catch {own nm C : String} {x : Addr} {pre rest : List (Nat × Nat × Nat × Nat)} {a1 a2 hp ct : Nat} (hown : s.vm.findClass own = some m.cls) (hhh : c.exceptionTable.toList.map (fun h => (h.startPc, h.endPc, h.handlerPc, h.catchType)) = pre ++ (a1, a2, hp, ct) :: rest) (hpre : ∀ q ∈ pre, (decide (q.1 ≤ pc) && decide (pc < q.2.1)) = false) (hin : (decide (a1 ≤ pc) && decide (pc < a2)) = true) (hct : ct ≠ 0)
    (hlink : (Cond.classLink own ct nm).before args s = true) (hrc : ∃ cell : Cell, H[x]? = some cell ∧ cell.vm.isStatics = false ∧ s.vm.findClass C = some cell.cls) (hcast : va_Nw (.castable C nm) s)
    (kk : W p l e R s m args below meth c H locs cells slots Q (F0 m hp ls [.ref x])) : WT p l e R s m args below meth c H locs cells slots Q x (F0 m pc ls st0) := by
  intro T hT X
  obtain ⟨cell, hcell, hobj, hcls⟩ := hrc
  obtain ⟨c0, t0, f1, f2, f3⟩ := Cond.castable_spec (va_Nw.use (A := args) rfl hcast)
  cases hcls.symm.trans f1
  have hpl : e.platform.magicAccessors = ({} : Platform).magicAccessors := by rw [X.admits.platform]
  obtain ⟨cT, hcT, hcl⟩ := Cond.classLink_spec hown hlink e.platform hpl
  cases f2.symm.trans hcT
  obtain ⟨es, zs, hes, hz1, hz2⟩ := List.map_eq_append_iff.mp hhh
  cases zs with
  | nil => cases hz2
  | cons z zt =>
    rw [List.map_cons] at hz2
    injection hz2 with hz2 hz3
    injection hz2 with g1 hz2
    injection hz2 with g2 hz2
    injection hz2 with g3 g4
    have hW : s.WarmedH T.vm := X.warmed
    have hlT := hW.classLinks hcl
    obtain ⟨dk, _, _, kt, hd, _, _, _, _, hkt, _, hopen⟩ := hcl.here
    obtain ⟨k0, hk0⟩ := Vm.classAt_of_findClass f1
    obtain ⟨k0', hk0', -⟩ := hW.alike.2.2 _ _ hk0
    obtain ⟨kt', hkt', -⟩ := hW.alike.2.2 _ _ hkt
    have hfitT : T.vm.assignable cell.cls t0 = true := by rw [hW.alike.assignable]; exact f3
    have hW' : s.WarmedH (T.vm.noted m.cls ct (.cls t0)) := hW.noted hd hopen (State.rightAt_cls hcl)
    have hgo : ∀ (Q : Handler → Pre) (E : CtlPost) (d : Bool) (acts : List Action), Sem.wp (findHandler (F0 m pc ls st0) x) Q E e d acts ((T.setTop (F0 m pc ls st0)).pushFrame (.throwing x)) ↔ Q (.found hp) d acts (((T.setTop (F0 m pc ls st0)).pushFrame (.throwing x)).setVm (T.vm.noted m.cls ct (.cls t0))) := by
      intro Q E d acts
      rw [W.findHandler_eq (meth := meth) (code := c) X.method' X.code, hes]
      have hskip : ∀ y ∈ es, covers y pc = false := fun y hy => by
        have := hpre _ (by rw [← hz1]; exact List.mem_map.mpr ⟨y, hy, rfl⟩)
        exact this
      have key : ∀ ps : List ExceptionTableEntry, (∀ y ∈ ps, covers y pc = false) → (Sem.wp (findHandler.go (F0 m pc ls st0) x (ps ++ z :: zt)) Q E e d acts ((T.setTop (F0 m pc ls st0)).pushFrame (.throwing x)) ↔ Q (.found hp) d acts (((T.setTop (F0 m pc ls st0)).pushFrame (.throwing x)).setVm (T.vm.noted m.cls ct (.cls t0)))) := by
        intro ps
        induction ps with
        | nil =>
          intro _
          rw [List.nil_append]
          have h := go_cold (e := e) (S := (T.setTop (F0 m pc ls st0)).pushFrame (.throwing x)) (f := F0 m pc ls st0) (a := x) (z := z) (t := zt) (cT := t0) (cell := cell) (Q := Q) (E := E) (d := d) (acts := acts) (by show (decide (z.startPc ≤ pc) && decide (pc < z.endPc)) = true; rw [g1, g2]; exact hin) (by rw [g4]; exact hct) (by show T.vm.ClassLinks e.platform m.cls z.catchType t0; rw [g4]; exact hlT) (by show T.heap[x]? = some cell; rw [hT]; exact hcell) (VmData.ne_statics_of hobj) ⟨k0', hk0'⟩ ⟨kt', hkt'⟩ hfitT
          rw [g3, g4] at h
          exact h
        | cons y ys ih =>
          intro hs
          rw [List.cons_append, W.findHandler_go_skip (f := F0 m pc ls st0) (hs y (List.mem_cons_self ..))]
          exact ih (fun q hq => hs q (List.mem_cons_of_mem _ hq))
      exact key es hskip
    obtain ⟨t, a, b⟩ := kk (T.setVm (T.vm.noted m.cls ct (.cls t0))) hT (X.noted hW')
    refine ⟨t, ?_, b⟩
    have hAt : At T (F0 m pc ls st0).method c below := X.here
    obtain ⟨hgoes, hwith⟩ := hAt.throwing x
    refine Steps.head hgoes hwith ?_
    have hstep : (stepThrowing e ((T.setTop (F0 m pc ls st0)).pushFrame (.throwing x)) x (.java (F0 m pc ls st0) :: T.frames.tail)).Is ((((T.setTop (F0 m pc ls st0)).pushFrame (.throwing x)).setVm (T.vm.noted m.cls ct (.cls t0))).setFrames (.java { F0 m pc ls st0 with pc := hp, stack := [.ref x] } :: T.frames.tail)) [] := by
      simp only [stepThrowing, searchFrame, vmDo]
      generalize hr : Sem.go _ e false [] ((T.setTop (F0 m pc ls st0)).pushFrame (.throwing x)) = res
      obtain ⟨as, rfl, ha⟩ := Sem.eq_ok_of hr (a := Handler.found hp) (s' := ((T.setTop (F0 m pc ls st0)).pushFrame (.throwing x)).setVm (T.vm.noted m.cls ct (.cls t0))) (acts' := []) (by simp [hgo _ _ _ _])
      exact ⟨rfl, ha⟩
    rw [stepThread_throwing (frames_entered hAt.top _), hstep.1]
    obtain ⟨g₀, hr⟩ := X.frames_eq
    have hr' : (T.setVm (T.vm.noted m.cls ct (.cls t0))).frames = .java g₀ :: below := hr
    rw [State.setTop_of_frames _ hr'] at a
    have hE : (((T.setTop (F0 m pc ls st0)).pushFrame (.throwing x)).setVm (T.vm.noted m.cls ct (.cls t0))).setFrames (.java { F0 m pc ls st0 with pc := hp, stack := [.ref x] } :: T.frames.tail) = (T.setVm (T.vm.noted m.cls ct (.cls t0))).setFrames (.java (F0 m hp ls [.ref x]) :: below) := by
      rw [hr, List.tail_cons, State.pushFrame, State.setTop_of_frames _ hr]
      have h1 : ∀ (u : State) (vm' : Vm) (F G : List Frame), ((u.setFrames F).setVm vm').setFrames G = (u.setVm vm').setFrames G := by
        intro u vm' F G
        have h2 : (u.setFrames F).setVm vm' = (u.setVm vm').setFrames F := rfl
        rw [h2, State.setFrames_setFrames]
      rw [h1, h1]
    rw [hE]
    exact a
end XH
