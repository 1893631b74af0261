/-! BASE 20: an exception that the machine makes itself (with a text), over any frames; stack traces are off -/
set_option maxRecDepth 100000
section VT
/-- the exception's constructor and those above it run over the note 'then throw it' -/
theorem vt_ctor (p : Program) {e : Env} {below base : List Frame} {s₀ V : State} {self str : Addr} {u0 sen : RefV} {cell cellS : Cell} (hab : ∃ mid, base = mid ++ below) (hrun : V.status = .running) (hable : V.curStatus? = some .runnable) (halone : V.alone = true) (hcur : V.cur < V.threads.size) (hexec : p.tables.exec = Jvm.exec) (htr : e.platform.stackTraces = false)
    (T : ThrowableC) (L : T.Links e.platform s₀) (Z : Init0T) (LZ : Z.LaidS T.toThrowableT) (M : MsgC) (LM : M.Links T e.platform s₀) (hW : s₀.WarmedH V.vm)
    (hcell : V.heap[self]? = some cell) (hobj : ∀ k, cell.vm ≠ .statics k) (hknown : cell.vm ≠ .unknown) (hfree : cell.monitor.owner = none) (hsel0 : selectMethod e.platform s₀.vm cell.cls T.fill0 = .method T.fill0) (hselF : selectMethod e.platform s₀.vm cell.cls T.fill = .method T.fill)
    (hcellS : V.heap[T.aS]? = some cellS) (hneS : T.aS ≠ self) (hknownS : cellS.vm ≠ .unknown) (hvU : cellS.slots[T.fUnassigned.slot]? = some u0.v) (hvSen : cellS.slots[T.fSentinel.slot]? = some sen.v)
    (htS : Takes s₀ cell T.fStack u0.v) (htC : Takes s₀ cell T.fCause (.ref self)) (htP : Takes s₀ cell T.fSupp sen.v) (htM : Takes s₀ cell T.fMsg (.ref str)) (hobjLocals : T.codeObj.maxLocals = 1)
    (hskip : SkipFacts T e.platform s₀ (fun u => u) u0 ((preparedCellV T.toThrowableT cell self u0 sen).withEntry V.cur))
    (P1 : PassC) (L1 : P1.LinksS e.platform s₀) (Ps : List PassC) (hL : ∀ P, P ∈ Ps → P.LinksS e.platform s₀) (hlink1 : P1.sup = firstOf (Z.m T.toThrowableT) (Ps.map (·.toPassT))) (hlink : PassesOn (Z.m T.toThrowableT) (Ps.map (·.toPassT)))
    (hframes : base.length + Ps.length + 4 < (e.platform.stackLimits V.me).1) (hwords : (stackUse base).2 + 13 * Ps.length + 55 ≤ (e.platform.stackLimits V.me).2) :
    ∃ vm', s₀.WarmedH vm' ∧ ∀ tg, Steps p.tables e below (((V.setVm vm').setCell self (((((preparedCellV T.toThrowableT cell self u0 sen).withEntry V.cur).setSlot T.fStack.slot u0.v).left).setSlot T.fMsg.slot (.ref str))).setFrames (.throwing self :: base)) tg →
      Steps p.tables e below (doInvoke e (V.setFrames (.thenThrow self :: base)) [] P1.m #[.ref self, .ref str]).1 tg := by
  obtain ⟨mid, hmid⟩ := hab
  -- the state with the note, the state with the constructor's frame: for any tables
  have hfN : ∀ vm : Vm, ((V.setVm vm).setFrames (.thenThrow self :: base)).frames = .thenThrow self :: base := fun vm => State.frames_setFrames _ hcur
  have hin : ∀ vm : Vm, s₀.WarmedH vm → At (((V.setVm vm).setFrames (.thenThrow self :: base)).pushFrame (.java (passJ P1.m self (.ref str) 0 []))) P1.m P1.code below ∧ (((V.setVm vm).setFrames (.thenThrow self :: base)).pushFrame (.java (passJ P1.m self (.ref str) 0 []))).frames = .java (passJ P1.m self (.ref str) 0 []) :: .thenThrow self :: base := by
    intro vm hw
    have hc2 := State.cur_lt_of_frames (hfN vm)
    refine ⟨At.pushOn _ ⟨hrun, by simpa using hable, by simpa using halone⟩ hc2 ⟨.thenThrow self :: mid, by rw [hfN, hmid]; rfl⟩ (hw.methodAt L1.method) L1.code (State.WarmedH.plainAt (U := V.setVm vm) hw L1.plain), ?_⟩
    show (State.setFrames _ _).frames = _
    rw [State.frames_setFrames _ hc2, hfN]
  obtain ⟨hI, hfI⟩ := hin V.vm hW
  have hself : V.setVm V.vm = V := rfl
  rw [hself] at hI hfI
  have hfV : (V.setFrames (.thenThrow self :: base)).frames = .thenThrow self :: base := hfN V.vm
  have hlimN : e.platform.stackLimits (V.setFrames (.thenThrow self :: base)).me = e.platform.stackLimits V.me := State.stackLimits_setFrames ..
  have hroom := roomAbove (pl := e.platform) (u := V.setFrames (.thenThrow self :: base)) (vars := 2) (pushed := [.thenThrow self]) (base := base) (free := 13 * Ps.length + 55) (lim := e.platform.stackLimits V.me) hfV hlimN
    (by simp only [List.length_cons, List.length_nil]; omega) (by omega) (by rw [stackUse_light _ _ (fun f hf => by cases hf) rfl, stackUse_nil]; show 0 + 2 + 11 ≤ _; omega)
  obtain ⟨vm1, hW1, st1⟩ := Steps.invokeInitCold (tb := p.tables) (s₀ := s₀) (f := passJ P1.m self (.ref str) 2 [.ref str, .ref self]) (args := [.ref str]) (rest := []) (a := self) hI hexec L1.at2 hW L1.links L1.right L1.notHandle L1.cls L1.file L1.pool L1.supClass L1.supMethod L1.supName L1.supStatic L1.supAbstract L1.supFound L1.supParams.symm rfl
  obtain ⟨hI1, hfI1⟩ := hin vm1 hW1
  have hlimX : e.platform.stackLimits (((V.setVm vm1).setFrames (.thenThrow self :: base)).pushFrame (.java (passJ P1.m self (.ref str) 0 []))).me = e.platform.stackLimits V.me := by
    rw [State.stackLimits_pushFrame, State.stackLimits_setFrames]
    rfl
  obtain ⟨vm2, hW2, st2⟩ := Steps.initThrowableSColdByV p (V := ((V.setVm vm1).setFrames (.thenThrow self :: base)).pushFrame (.java (passJ P1.m self (.ref str) 0 []))) (g := passJ P1.m self (.ref str) 2 []) (c := P1.code) (self := self) (t := V.cur) (cN := (preparedCellV T.toThrowableT cell self u0 sen).withEntry V.cur) (u0 := u0) (sen := sen) hI1 hexec T L Z LZ M LM hW1 rfl
    (Nn := fun u => u) heapOnly_id (fun _ _ => rfl) (fun _ => rfl) (fun u x y => setCell_twice _ _ _ _) (fun _ => Nat.le_refl _) (msg := .ref str) rfl hcell hobj hknown hfree hsel0 hcellS hneS hknownS hvU htS (fun _ hu => hu) (fun _ hu => hu) rfl rfl rfl (by simp [preparedCellV, Cell.setSlot, Cell.withEntry]) hskip
    (fun _ _ hA hw _ hrm _ hrest => L.nativeOff p htr hA hw hrm hrest) hselF hvSen htC htP htM hobjLocals Ps hL hlink (ig := .invokespecial P1.index) (len := 3) [] hlimX
    (by rw [hfI1]; simp only [List.length_cons]; omega)
    (by rw [hfI1, List.tail_cons, stackUse_java, stackUse_light _ _ (fun f hf => by cases hf) rfl]
        show (stackUse base).2 + (2 + 11 + 2 * 0 + operandWords []) + 13 * Ps.length + 42 ≤ _
        simp only [operandWords, List.foldl_nil]
        omega)
    L1.at2
  refine ⟨vm2, hW2, fun tg hrest => ?_⟩
  rw [(doInvoke_java (s := V.setFrames (.thenThrow self :: base)) (e := e) (acts := []) (args := #[.ref self, .ref str]) (meth := P1.meth) (code := P1.code) (hW.methodAt L1.method) L1.code L1.locks (by rw [L1.locals]; exact hroom)).1, L1.locals]
  show Steps p.tables e below ((V.setFrames (.thenThrow self :: base)).pushFrame (.java (passJ P1.m self (.ref str) 0 []))) tg
  rw [← State.setTop_self (s := (V.setFrames (.thenThrow self :: base)).pushFrame (.java (passJ P1.m self (.ref str) 0 []))) (State.topJava?_of_frames hfI)]
  jvm_step hI [hexec, L1.at0, Value.isRef]
  jvm_step hI [hexec, L1.at1, Value.isRef]
  refine st1 tg ?_
  rw [hlink1]
  refine st2 tg ?_
  have hY : ∀ C : Cell, ((((V.setVm vm1).setFrames (.thenThrow self :: base)).pushFrame (.java (passJ P1.m self (.ref str) 0 []))).setVm vm2).setCell self C = (((V.setVm vm2).setFrames (.thenThrow self :: base)).pushFrame (.java (passJ P1.m self (.ref str) 0 []))).setCell self C := by
    intro C
    rw [State.pushFrame_setVm, State.setFrames_setVm, State.setVm_twice]
  rw [hY]
  obtain ⟨hI2, hfI2⟩ := hin vm2 hW2
  generalize hC : (((((preparedCellV T.toThrowableT cell self u0 sen).withEntry V.cur).setSlot T.fStack.slot u0.v).left).setSlot T.fMsg.slot (.ref str)) = C at hrest ⊢
  have hB : At ((((V.setVm vm2).setFrames (.thenThrow self :: base)).pushFrame (.java (passJ P1.m self (.ref str) 0 []))).setCell self C) P1.m P1.code below := by simpa using hI2
  have hfB : ((((V.setVm vm2).setFrames (.thenThrow self :: base)).pushFrame (.java (passJ P1.m self (.ref str) 0 []))).setCell self C).frames = .java (passJ P1.m self (.ref str) 0 []) :: .thenThrow self :: base := hfI2
  have hFr : ∀ F, ((((V.setVm vm2).setFrames (.thenThrow self :: base)).pushFrame (.java (passJ P1.m self (.ref str) 0 []))).setCell self C).setFrames F = ((V.setVm vm2).setCell self C).setFrames F := by
    intro F
    show ((((V.setVm vm2).setFrames (.thenThrow self :: base)).setFrames _).setFrames F).setCell self C = ((V.setVm vm2).setFrames F).setCell self C
    rw [State.setFrames_setFrames, State.setFrames_setFrames]
  have hmB : ((((V.setVm vm2).setFrames (.thenThrow self :: base)).pushFrame (.java (passJ P1.m self (.ref str) 0 []))).setCell self C).vm.method? P1.m = some P1.meth := hW2.methodAt L1.method
  generalize (((V.setVm vm2).setFrames (.thenThrow self :: base)).pushFrame (.java (passJ P1.m self (.ref str) 0 []))).setCell self C = B at hB hfB hFr hmB ⊢
  show Steps p.tables e below (B.setTop (passJ P1.m self (.ref str) 5 [])) tg
  jvm_step hB [hexec, L1.at5, return_.wp_sem]
  intro acts2
  rw [ret_to (t := B) (f := passJ P1.m self (.ref str) 5 []) (f₀ := passJ P1.m self (.ref str) 0 []) (below := .thenThrow self :: base) (fs := .thenThrow self :: base) (meth := P1.meth) hfB hmB L1.locks rfl rfl rfl acts2]
  have hf1 : (B.setFrames (.thenThrow self :: base)).frames = .thenThrow self :: base := State.frames_setFrames _ (State.cur_lt_of_frames hfB)
  refine Steps.head ⟨hB.running, by simpa using hB.runnable, by simpa using hB.alone⟩ ⟨.thenThrow self :: mid, by rw [hf1, hmid]; rfl, by simp, by simp⟩ ?_
  rw [stepThread_thenThrow hf1]
  show Steps p.tables e below ((B.setFrames (.thenThrow self :: base)).setFrames (.throwing self :: base)) tg
  rw [State.setFrames_setFrames, hFr]
  exact hrest
theorem vt_new (p : Program) {e : Env} {below base : List Frame} {s₀ S : State} {u0 sen : RefV} {cellS : Cell} (hab : ∃ mid, base = mid ++ below) (hrun : S.status = .running) (hable : S.curStatus? = some .runnable) (halone : S.alone = true) (hcur : S.cur < S.threads.size) (hexec : p.tables.exec = Jvm.exec) (htr : e.platform.stackTraces = false)
    (T : ThrowableC) (L : T.Links e.platform s₀) (Z : Init0T) (LZ : Z.LaidS T.toThrowableT) (M : MsgC) (LM : M.Links T e.platform s₀) (hW : s₀.WarmedH S.vm) (Zs : StringT) (LZs : Zs.Laid s₀.vm)
    (P1 : PassC) (L1 : P1.LinksS e.platform s₀) (Ps : List PassC) (hL : ∀ P, P ∈ Ps → P.LinksS e.platform s₀) (hlink1 : P1.sup = firstOf (Z.m T.toThrowableT) (Ps.map (·.toPassT))) (hlink : PassesOn (Z.m T.toThrowableT) (Ps.map (·.toPassT)))
    {cls m : String} {kX : Class} (hsoe : (cls == "java/lang/StackOverflowError") = false) (hoom : (cls == "java/lang/OutOfMemoryError") = false) (hfound : s₀.vm.findClass cls = some P1.m.cls) (hk : s₀.vm.classes[P1.m.cls]? = some kX) (hinit : kX.init = .initialized) (hord : kX.kind = .ordinary) (hctor : kX.findMethod "<init>" "(Ljava/lang/String;)V" = some P1.m.idx) (hhot : e.platform.hotImplicitExceptions = false)
    (hbeyond : e.platform.stackBeyond ((((S.setFrames (.throwNew cls (some m) none :: base)).threads[S.cur]?).map (·.stackBytes)).getD 0) (S.setFrames (.throwNew cls (some m) none :: base)).frames = false)
    (hroom : e.platform.vmThrowRoom ≤ e.platform.stackFree ((((S.setFrames (.throwNew cls (some m) none :: base)).threads[S.cur]?).map (·.stackBytes)).getD 0) (S.setFrames (.throwNew cls (some m) none :: base)).frames)
    (hm : (m == notModelled) = false) (hlimit : ¬ (stringBytes (stringToUtf16 m)).size > e.platform.arrayLengthLimit) (hheap : ¬ (stringBytes (stringToUtf16 m)).size * componentBytes .byte > e.platform.maxHeapBytes)
    (hcells : S.heap.size + 3 ≤ e.platform.maxCells) (hslots : S.slotsUsed + (stringBytes (stringToUtf16 m)).size + Zs.kS.instanceTypes.size + kX.instanceTypes.size ≤ e.platform.maxSlots)
    (hfitv : s₀.fitsSlot Zs.cS .none Zs.fv.slot (.ref S.heap.size) = true) (hfitc : s₀.fitsSlot Zs.cS .none Zs.fc.slot (.int (stringCoder (stringToUtf16 m))) = true)
    (hsel0 : selectMethod e.platform s₀.vm P1.m.cls T.fill0 = .method T.fill0) (hselF : selectMethod e.platform s₀.vm P1.m.cls T.fill = .method T.fill)
    (hcellS : S.heap[T.aS]? = some cellS) (hknownS : cellS.vm ≠ .unknown) (hvU : cellS.slots[T.fUnassigned.slot]? = some u0.v) (hvSen : cellS.slots[T.fSentinel.slot]? = some sen.v)
    (htS : Takes s₀ (freshCell P1.m.cls kX) T.fStack u0.v) (htC : Takes s₀ (freshCell P1.m.cls kX) T.fCause (.ref (S.heap.size + 2))) (htP : Takes s₀ (freshCell P1.m.cls kX) T.fSupp sen.v) (htM : Takes s₀ (freshCell P1.m.cls kX) T.fMsg (.ref (S.heap.size + 1))) (hobjLocals : T.codeObj.maxLocals = 1)
    (hskip : SkipFacts T e.platform s₀ (fun u => u) u0 ((preparedCellV T.toThrowableT (freshCell P1.m.cls kX) (S.heap.size + 2) u0 sen).withEntry S.cur))
    (hframes : base.length + Ps.length + 4 < (e.platform.stackLimits S.me).1) (hwords : (stackUse base).2 + 13 * Ps.length + 55 ≤ (e.platform.stackLimits S.me).2) :
    ∃ vm', s₀.WarmedH vm' ∧ ∀ tg, Steps p.tables e below ((((withThrown S Zs m P1.m.cls kX).setVm vm').setCell (S.heap.size + 2) (plainBareV T.toThrowableT (freshCell P1.m.cls kX) (S.heap.size + 2) u0 sen (.ref (S.heap.size + 1)))).setFrames (.throwing (S.heap.size + 2) :: base)) tg →
      Steps p.tables e below (S.setFrames (.throwNew cls (some m) none :: base)) tg := by
  obtain ⟨w1, w2, -, w4, w5, -, w7⟩ := withThrown_facts e.platform S Zs m P1.m.cls kX
  have hlt : T.aS < S.heap.size := (Array.getElem?_eq_some_iff.mp hcellS).1
  obtain ⟨vm', hW', st⟩ := vt_ctor p (V := withThrown S Zs m P1.m.cls kX) (self := S.heap.size + 2) (str := S.heap.size + 1) (u0 := u0) (sen := sen) (cell := freshCell P1.m.cls kX) (cellS := cellS) hab (by exact hrun) (by simpa [withThrown, withString] using hable) (by simpa [withThrown, withString] using halone) (by exact hcur) hexec htr T L Z LZ M LM (by rw [w1]; exact hW)
    w4 (fun k h => by cases h) (fun h => by cases h) rfl hsel0 hselF ((w5 _ hlt).trans hcellS) (Nat.ne_of_lt (Nat.lt_of_lt_of_le hlt (Nat.le_add_right _ 2))) hknownS hvU hvSen htS htC htP htM hobjLocals (by simpa [withThrown, withString] using hskip) P1 L1 Ps hL hlink1 hlink (by rw [w7]; exact hframes) (by rw [w7]; exact hwords)
  have hcu : (withThrown S Zs m P1.m.cls kX).cur = S.cur := by simp [withThrown, withString]
  rw [hcu, plainBareV_eq T.toThrowableT (S.heap.size + 2) u0 sen (.ref (S.heap.size + 1)) S.cur rfl rfl] at st
  refine ⟨vm', hW', fun tg hrest => ?_⟩
  obtain ⟨mid, hmid⟩ := hab
  have hf0 : (S.setFrames (.throwNew cls (some m) none :: base)).frames = .throwNew cls (some m) none :: base := State.frames_setFrames _ hcur
  refine Steps.head ⟨hrun, by simpa using hable, by simpa using halone⟩ ⟨.throwNew cls (some m) none :: mid, by rw [hf0, hmid]; rfl, by simp, by simp⟩ ?_
  obtain ⟨kX', hk', he'⟩ := hW.alike.2.2 _ _ hk
  obtain ⟨kS', kB', LZ', htyS⟩ := LZs.warmer hW.alike
  have hty : kX'.instanceTypes = kX.instanceTypes := by rw [he']
  have hfs : S.fitsSlot = s₀.fitsSlot := (show S.fitsSlot = (s₀.setVm S.vm).fitsSlot from rfl).trans (State.fitsSlot_setVm hW.alike)
  have hfr : freshCell P1.m.cls kX' = freshCell P1.m.cls kX := by
    show ({ cls := P1.m.cls, slots := kX'.instanceTypes.map defaultValue, vm := .none } : Cell) = _
    rw [hty]
  have hsame : withThrown S { Zs with kS := kS', kB := kB' } m P1.m.cls kX' = withThrown S Zs m P1.m.cls kX := by
    rw [← withThrown_warmer S Zs (kB' := kB') htyS m P1.m.cls kX]
    show (withString S _ _ _ _ _ _).pushCell (freshCell P1.m.cls kX') = (withString S _ _ _ _ _ _).pushCell (freshCell P1.m.cls kX)
    rw [hfr]
  have hv1 : S.fitsSlot Zs.cS .none Zs.fv.slot (.ref S.heap.size) = true := by rw [hfs]; exact hfitv
  have hv2 : S.fitsSlot Zs.cS .none Zs.fc.slot (.int (stringCoder (stringToUtf16 m))) = true := by rw [hfs]; exact hfitc
  rw [stepThread_throwNew hf0, stepThrowNew_message (s := S.setFrames (.throwNew cls (some m) none :: base)) (c := P1.m.cls) (k := kX') (i := P1.m.idx) { Zs with kS := kS', kB := kB' } LZ' hsoe hoom (by show S.vm.findClass cls = _; rw [hW.alike.findClass]; exact hfound) hk' (by rw [he']; exact hinit) (by rw [he']; exact hord) hhot hbeyond hroom hm (by rw [he']; exact hctor) hlimit hheap hcells (by show S.slotsUsed + _ + kS'.instanceTypes.size + kX'.instanceTypes.size ≤ _; rw [htyS, hty]; exact hslots) hv1 hv2]
  rw [withThrown_setFrames, State.setFrames_setFrames, hsame]
  exact st tg hrest
end VT
