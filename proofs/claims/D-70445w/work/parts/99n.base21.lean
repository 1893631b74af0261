/-! BASE 21: an exception that the machine makes, at a walk's point -/
set_option maxRecDepth 100000
def LSt (C n d : String) (A : Nat → Prop) (U : State) (H : Heap) : Prop := ∃ (c : ClassId) (k : Class) (i : Nat) (fd : Field) (a : Nat) (cell : Cell), U.vm.findClass C = some c ∧ U.fieldFound? C n d = some (c, k, i, fd) ∧ fd.isStatic = true ∧ k.statics = some a ∧ H[a]? = some cell ∧ cell.vm.isStatics = true ∧ cell.cls = c ∧ fd.slot < cell.slots.size ∧ k.staticTypes[fd.slot]? = some fd.type ∧ ¬ A a
section LS
variable {C n d : String} {A B : Nat → Prop} {u U : State} {H H1 : Heap} {args : Array Value}
theorem LSt.moved (hvm : u.vm.Alike U.vm) (h : LSt C n d A u H) : LSt C n d A U H := by
  obtain ⟨c, k, i, fd, a, cell, h0, h1, h2, h3, h4, h5, h6, h7, h8, h9⟩ := h
  obtain ⟨k', hi', he⟩ := State.fieldFound?_setVm hvm h1
  exact ⟨c, k', i, fd, a, cell, by rw [hvm.findClass]; exact h0, hi', h2, by rw [he]; exact h3, h4, h5, h6, h7, by rw [he]; exact h8, h9⟩
theorem LSt.kept (h : LSt C n d A U H) (hq : ∀ a : Nat, a < H.size → ¬ A a → H1[a]? = H[a]?) : LSt C n d A U H1 := by
  obtain ⟨c, k, i, fd, a, cell, h0, h1, h2, h3, h4, h5, h6, h7, h8, h9⟩ := h
  exact ⟨c, k, i, fd, a, cell, h0, h1, h2, h3, by rw [hq a (Array.getElem?_eq_some_iff.mp h4).1 h9]; exact h4, h5, h6, h7, h8, h9⟩
theorem LSt.narrow (h : LSt C n d A U H) (hAB : ∀ q, B q → A q) : LSt C n d B U H := by
  obtain ⟨c, k, i, fd, a, cell, h0, h1, h2, h3, h4, h5, h6, h7, h8, h9⟩ := h
  exact ⟨c, k, i, fd, a, cell, h0, h1, h2, h3, h4, h5, h6, h7, h8, fun z => h9 (hAB a z)⟩
theorem LSt.word (h : LSt C n d A U U.heap) : (Cond.laysStatic C n d).before args U = true := by
  obtain ⟨c, k, i, fd, a, cell, h0, h1, h2, h3, h4, h5, h6, h7, h8, h9⟩ := h
  simp [Cond.before, Cond.holds, Cond.value, h0, h1, h2, h3, h4, h5, h6, h7, h8]
theorem LSt.of (hl : (Cond.laysStatic C n d).before args U = true) (hA : ∀ a : Nat, a < U.heap.size → ¬ A a) : LSt C n d A U U.heap := by
  obtain ⟨c, k, i, f, a, cell, hc, hi, hst, ha, hcell, hs, hcls, hlt, hty⟩ := Cond.laysStatic_spec hl
  exact ⟨c, k, i, f, a, cell, hc, hi, hst, ha, hcell, hs, hcls, hlt, hty, hA a (Array.getElem?_eq_some_iff.mp hcell).1⟩
end LS
abbrev tNm : String := "java/lang/Throwable"
abbrev stD : String := "[Ljava/lang/StackTraceElement;"
abbrev liD : String := "Ljava/util/List;"
/-- the statics, and how Throwable's are laid -/
def ZY (zv : Nat → Option Nat) (A : Nat → Prop) (U : State) (H : Heap) : Prop := ZZ zv A U H ∧ LSt tNm "UNASSIGNED_STACK" stD A U H ∧ LSt tNm "SUPPRESSED_SENTINEL" liD A U H
theorem ZY_mv (zv : Nat → Option Nat) : ZMv (ZY zv) := by
  refine ⟨?_, ?_, ?_⟩
  · rintro A u U H hW ⟨h1, h2, h3⟩
    exact ⟨(ZZ_mv zv).1 A u U H hW h1, h2.moved hW.alike, h3.moved hW.alike⟩
  · rintro A U H H1 ⟨h1, h2, h3⟩ hq
    exact ⟨(ZZ_mv zv).2.1 A U H H1 h1 hq, h2.kept hq, h3.kept hq⟩
  · rintro A B U H ⟨h1, h2, h3⟩ hq
    exact ⟨(ZZ_mv zv).2.2 A B U H h1 hq, h2.narrow hq, h3.narrow hq⟩
def rfV (o : Option Nat) : RefV := match o with
  | none => ⟨.null, rfl⟩
  | some a => ⟨.ref a, rfl⟩
theorem rfV_v (o : Option Nat) : (rfV o).v = va_rf o := by cases o <;> rfl
def vtA (X : String) (names : List String) : List Cond :=
  Bundle.throwableAtoms ++ Bundle.throwableSAtoms ++ Bundle.chainSAtoms X names ++ Bundle.stringAtoms ++
  [.initialized X, .instantiable X 6, .selects X Bundle.tFill0 Bundle.tFill0, .selects X Bundle.tFill Bundle.tFill,
   .lays X Bundle.tN "cause" "Ljava/lang/Throwable;", .lays X Bundle.tN "stackTrace" Bundle.steD, .lays X Bundle.tN "suppressedExceptions" Bundle.listD, .lays X Bundle.tN "detailMessage" "Ljava/lang/String;",
   .fieldLink Bundle.tN 198 Bundle.tN "backtrace" "Ljava/lang/Object;", .lays Bundle.tN Bundle.tN "backtrace" "Ljava/lang/Object;", .lays X Bundle.tN "backtrace" "Ljava/lang/Object;"]
section VS
variable {p : Program} {l : Launch} {e : Env} {R : Room} {s : State} {m : MethodId} {args : Array Value} {below base : List Frame} {meth : Method} {c : Code} {T' : State} {locs : List Loc} {cells slots : Nat} {A : Nat → Prop} {zv : Nat → Option Nat}
set_option maxHeartbeats 4000000 in
theorem vt_stand (X : Stand p l e R s m args below meth c T' locs cells slots) (hexec : p.tables.exec = Jvm.exec) (htr : e.platform.stackTraces = false) {cls : String} {names : List String} {text : String} (hcls : Bundle.fit cls = true) (hnames : ∀ n ∈ names, Bundle.fit n = true) (hsoe : (cls == "java/lang/StackOverflowError") = false) (hoom : (cls == "java/lang/OutOfMemoryError") = false)
    (h : ∀ a ∈ vtA cls names, a.before args s = true) (hZ : ZY zv A s s.heap) (hS : va_S A s.heap T'.heap locs) (htext : (text == notModelled) = false) (hlimit : ¬ (stringBytes (stringToUtf16 text)).size > e.platform.arrayLengthLimit) (hheap : ¬ (stringBytes (stringToUtf16 text)).size * componentBytes .byte > e.platform.maxHeapBytes)
    {g : JFrame} (hsize : g.locals.size = c.maxLocals) (hab : ∃ mid, base = mid ++ below) (hlen : base.length ≤ below.length + 2) (huse : (stackUse base).2 = (stackUse (.java g :: below)).2)
    (hRframes : names.length + 5 < R.frames) (hRlocals : 2 * g.monitorRoom + (g.stack.map fun v => v.category).sum + 10240 ≤ R.locals) (hshort : 13 * names.length + 55 ≤ 10240) (hRcells : cells + 3 ≤ R.cells) (hRslots : slots + ((stringBytes (stringToUtf16 text)).size + 4 + 6) ≤ R.slots) :
    ∃ (T₂ : State) (L : List Loc) (n : Nat), n ≤ slots + ((stringBytes (stringToUtf16 text)).size + 4 + 6) ∧ (∀ q ∈ L, q.base = T'.heap.size + 2) ∧ Stand p l e R s m args below meth c T₂ (locs ++ L) (cells + 3) n ∧ T₂.heap.size = T'.heap.size + 3 ∧ (∀ a : Nat, a < T'.heap.size → T₂.heap[a]? = T'.heap[a]?) ∧
      (∃ ce : Cell, T₂.heap[T'.heap.size + 2]? = some ce ∧ ce.vm.isStatics = false ∧ s.vm.findClass cls = some ce.cls) ∧ ∀ tg, Steps p.tables e below (T₂.setFrames (.throwing (T'.heap.size + 2) :: base)) tg → Steps p.tables e below (T'.setFrames (.throwNew cls (some text) none :: base)) tg := by
  have howns : e.platform.frameOwnsMonitors = true := by rw [X.admits.platform]
  have hfin : e.platform.finalization = false := by rw [X.admits.platform]
  have hpl : e.platform.magicAccessors = ({} : Platform).magicAccessors := by rw [X.admits.platform]
  have a : ∀ x, x ∈ vtA cls names → x.holds args s none s [] = true := fun x hx => h x hx
  obtain ⟨T, Z0, L, -, Y⟩ := ThrowableC.of_atoms (args := args) howns hfin hpl (fun x hx => h x (by simp [vtA, hx]))
  obtain ⟨Z, M, LZ, LM, hnZ⟩ := Init0T.ofS_atoms (args := args) hpl L Y (fun x hx => h x (by simp [vtA, hx]))
  obtain ⟨P1, Ps, hlenP, L1, hL, hP1m, hlink1, hlink⟩ := Bundle.chainS (args := args) hpl hnZ names cls hcls hnames (fun x hx => h x (by simp [vtA, hx]))
  obtain ⟨Zs, LZs, hn4, hfitv, hfitc⟩ := StringT.of_atoms (args := args) (fun x hx => h x (by simp [vtA, hx]))
  have hfound : s.vm.findClass cls = some P1.m.cls := findClass_of_methodNamed hP1m
  obtain ⟨c1, kX, hc1, hk, hord, -, -, hn6⟩ := Cond.instantiable_spec (a (.instantiable cls 6) (by simp [vtA]))
  cases Option.some.inj (hc1.symm.trans hfound)
  have hinit := Cond.initialized_spec hfound hk (a (.initialized cls) (by simp [vtA]))
  have hctor : kX.findMethod "<init>" "(Ljava/lang/String;)V" = some P1.m.idx := findMethod_of_methodNamed hP1m hk
  have hsel : ∀ (y : MethodName) (mk : MethodId), y.cls ≠ "java/lang/invoke/MethodHandle" ∧ y.cls ≠ "java/lang/invoke/VarHandle" → s.methodNamed? y = some mk → Cond.selects cls y y ∈ vtA cls names → selectMethod e.platform s.vm P1.m.cls mk = .method mk := by
    intro y mk hy hn hx
    obtain ⟨c2, r2, m2, q1, q2, q3, q4, -⟩ := Cond.selects_spec (a _ hx)
    cases Option.some.inj (q1.symm.trans hfound)
    cases Option.some.inj (q2.symm.trans (State.methodFound?_of_named hn hy))
    cases Option.some.inj (q3.symm.trans hn)
    rw [Launch.admits_selectMethod X.admits]; exact q4
  obtain ⟨cellS, hcS0, hiss⟩ := Y.statics
  obtain ⟨hZZ, hZt⟩ := hZ
  obtain ⟨cf, kf, fi, f, a1, cell1, h11, -, -, h14, h15, -, h17, h18⟩ := hZZ.2.1
  obtain ⟨cf2, kf2, fi2, f2, a2, cell2, h21, -, -, h24, h25, -, h27, h28⟩ := hZZ.2.2.1
  have e1 := Option.some.inj (h11.symm.trans Y.unassigned)
  have e2 := Option.some.inj (h21.symm.trans Y.sentinel)
  simp only [Prod.mk.injEq] at e1 e2
  obtain ⟨-, rfl, -, rfl⟩ := e1
  obtain ⟨-, rfl, -, rfl⟩ := e2
  cases Option.some.inj (h14.symm.trans L.statics)
  cases Option.some.inj (h24.symm.trans L.statics)
  cases Option.some.inj (h15.symm.trans hcS0)
  cases Option.some.inj (h25.symm.trans hcS0)
  have hcellS : T'.heap[T.aS]? = some cellS := by rw [hS.2.1 T.aS (Array.getElem?_eq_some_iff.mp hcS0).1 h18]; exact hcS0
  have hknownS : cellS.vm ≠ .unknown := fun hu => by rw [hu] at hiss; cases hiss
  obtain ⟨ci198, i198, fB, hk198, hg198, ha198, hsB, -, hnB, htB, hffB⟩ := Cond.ownField (t := .object "java/lang/Object") Y.found L.cls (by decide +kernel) (a (.fieldLink Bundle.tN 198 Bundle.tN "backtrace" "Ljava/lang/Object;") (by simp [vtA])) (a (.lays Bundle.tN Bundle.tN "backtrace" "Ljava/lang/Object;") (by simp [vtA])) e.platform hpl
  obtain ⟨iM, hffM⟩ := Y.msg
  obtain ⟨tyC, dC, hdC, hdnC⟩ := Cond.laysAt hfound hk Y.cause (a (.lays cls Bundle.tN "cause" "Ljava/lang/Throwable;") (by simp [vtA]))
  obtain ⟨tyS, dS, hdS, hdnS⟩ := Cond.laysAt hfound hk Y.stack (a (.lays cls Bundle.tN "stackTrace" Bundle.steD) (by simp [vtA]))
  obtain ⟨tyP, dP, hdP, hdnP⟩ := Cond.laysAt hfound hk Y.supp (a (.lays cls Bundle.tN "suppressedExceptions" Bundle.listD) (by simp [vtA]))
  obtain ⟨tyM, dM, hdM, hdnM⟩ := Cond.laysAt hfound hk hffM (a (.lays cls Bundle.tN "detailMessage" "Ljava/lang/String;") (by simp [vtA]))
  obtain ⟨tyB, dB, hdB, hdnB⟩ := Cond.laysAt hfound hk hffB (a (.lays cls Bundle.tN "backtrace" "Ljava/lang/Object;") (by simp [vtA]))
  have bC := Cond.laysApart hdB hdC hdnB hdnC (by rw [hnB, Y.causeName]; decide)
  have bS := Cond.laysApart hdB hdS hdnB hdnS (by rw [hnB, Y.stackName]; decide)
  have bP := Cond.laysApart hdB hdP hdnB hdnP (by rw [hnB, Y.suppName]; decide)
  have hskip : SkipFacts T e.platform s (fun u => u) (rfV (zv 1)) ((preparedCellV T.toThrowableT (freshCell P1.m.cls kX) (T'.heap.size + 2) (rfV (zv 1)) (rfV (zv 2))).withEntry T'.cur) :=
    ⟨{ ci198 := ci198, i198 := i198, fBack := fB }, ⟨hk198, hg198, ha198, hsB⟩, by
      have := fresh_default (c := P1.m.cls) tyB
      rw [htB] at this
      simpa [preparedCellV, Cell.setSlot, Cell.withEntry, Array.getElem?_setIfInBounds, bC, bS, bP, bC.symm, bS.symm, bP.symm, defaultValue] using this, fun _ _ => rfl⟩
  obtain ⟨g₀, hfr⟩ := X.frames_eq
  have hcur : T'.cur < T'.threads.size := State.cur_lt_of_frames hfr
  have hU := X.stackAbove hsize hRlocals
  rw [X.tail, ← huse] at hU
  have hF := X.framesAbove hRframes
  rw [hfr, List.length_cons] at hF
  have hb : ((((T'.setFrames (.throwNew cls (some text) none :: base)).threads[T'.cur]?).map (·.stackBytes)).getD 0) = T'.me.stackBytes := by
    rw [← State.stackBytes_setFrames T' (.throwNew cls (some text) none :: base)]
    exact State.stackBytes_me (T'.setFrames (.throwNew cls (some text) none :: base))
  have hlm : (e.platform.stackLimits T'.me).2 = (e.platform.limitsFor T'.me.stackBytes).2 := rfl
  have hsl : T'.slotsUsed + (stringBytes (stringToUtf16 text)).size + Zs.kS.instanceTypes.size + kX.instanceTypes.size ≤ e.platform.maxSlots := by
    have := X.slotsAbove hRslots
    rw [hn4, hn6]
    omega
  have hmay : e.platform.stackBeyond ((((T'.setFrames (.throwNew cls (some text) none :: base)).threads[T'.cur]?).map (·.stackBytes)).getD 0) (T'.setFrames (.throwNew cls (some text) none :: base)).frames = false ∧ e.platform.vmThrowRoom ≤ e.platform.stackFree ((((T'.setFrames (.throwNew cls (some text) none :: base)).threads[T'.cur]?).map (·.stackBytes)).getD 0) (T'.setFrames (.throwNew cls (some text) none :: base)).frames := by
    rw [hb, State.frames_setFrames _ hcur, Launch.admits_vmThrowRoom X.admits]
    unfold Platform.stackBeyond Platform.stackFree
    rw [stackUse_light _ _ (fun f hf => by cases hf) rfl]
    exact ⟨decide_eq_false (by omega), by omega⟩
  obtain ⟨vm', hW', st⟩ := vt_new p (u0 := rfV (zv 1)) (sen := rfV (zv 2)) (base := base) hab X.here.running X.here.runnable X.here.alone hcur hexec htr T L Z LZ M LM X.warmed Zs LZs P1 L1 Ps hL hlink1 hlink hsoe hoom hfound hk hinit hord hctor (Launch.admits_hotImplicitExceptions X.admits) hmay.1 hmay.2 htext hlimit hheap (X.cellsAbove hRcells) hsl (hfitv _) (hfitc _)
    (hsel _ _ (by decide) Y.fill0 (by simp [vtA])) (hsel _ _ (by decide) Y.fill (by simp [vtA])) hcellS hknownS (by rw [rfV_v]; exact h17) (by rw [rfV_v]; exact h27)
    (Takes.of_laid hk hord tyS (by rw [Y.stackType]; exact fits_refV_array _ _)) (Takes.of_laid hk hord tyC (by rw [Y.causeType]; rfl)) (Takes.of_laid hk hord tyP (by rw [Y.suppType]; exact fits_refV_object _ _)) (Takes.of_laid hk hord tyM (by rw [Y.msgType]; rfl)) Y.objLocals hskip (by rw [hlenP]; omega) (by rw [hlenP]; omega)
  obtain ⟨-, -, w3, w4, w5, -, -⟩ := withThrown_facts e.platform T' Zs text P1.m.cls kX
  have X3 := ((X.pushed (bytesOf Zs.cB (stringToUtf16 text))).pushed (stringAt Zs.cS Zs.kS Zs.fv Zs.fc (stringToUtf16 text) T'.heap.size)).pushed (freshCell P1.m.cls kX)
  rw [← withString_eq] at X3
  have X4 := X3.noted hW'
  have ha : (T'.heap.size + 2) < ((withThrown T' Zs text P1.m.cls kX).setVm vm').heap.size := by show _ < (withThrown T' Zs text P1.m.cls kX).heap.size; rw [w3]; omega
  have hcell : ((withThrown T' Zs text P1.m.cls kX).setVm vm').heap[(T'.heap.size + 2)]? = some (freshCell P1.m.cls kX) := w4
  have X5 := ((((X4.stored hcell T.fCause.slot (.ref (T'.heap.size + 2))).storedAgain ha T.fStack.slot (rfV (zv 1)).v).storedAgain ha T.fSupp.slot (rfV (zv 2)).v).storedAgain ha T.fStack.slot (rfV (zv 1)).v).storedAgain ha T.fMsg.slot (.ref (T'.heap.size + 1))
  simp only [List.append_assoc] at X5
  have b1 : (bytesOf Zs.cB (stringToUtf16 text)).slots.size = (stringBytes (stringToUtf16 text)).size := by
    rw [(Cell.writeAll_facts _ _).2.2]; simp [bytes0]
  have b2 : (stringAt Zs.cS Zs.kS Zs.fv Zs.fc (stringToUtf16 text) T'.heap.size).slots.size = 4 := by simp [string0, Cell.setSlot, hn4]
  have b3 : (freshCell P1.m.cls kX).slots.size = 6 := by simp [hn6]
  refine ⟨_, _, _, ?_, ?_, X5, ?_, ?_, ⟨_, heapAt_setCell_self _ ha, rfl, hfound⟩, st⟩
  · rw [b1, b2, b3]; omega
  · intro q hq
    simp only [List.mem_append, List.mem_cons, List.not_mem_nil, or_false] at hq
    rcases hq with hq | hq | hq | hq | hq <;> (rw [hq])
  · show (((withThrown T' Zs text P1.m.cls kX).setVm vm').heap.setIfInBounds _ _).size = _
    rw [Array.size_setIfInBounds]
    exact w3
  · intro b hb2
    rw [heapAt_setCell_ne _ (Nat.ne_of_gt (Nat.lt_of_lt_of_le hb2 (Nat.le_add_right _ 2)))]
    exact w5 b hb2
end VS
