/-! BASE 22: System.arraycopy out of bounds: the native throws, its frame goes -/
set_option maxRecDepth 100000
/-- the copy's three numbers are wrong: what is thrown -/
def acW (a b : Nat) (x y z : Int32) (what : String) : Prop :=
  ∀ {Q : Option Value → Pre} {E : CtlPost} {e : Env} {d : Bool} {acts : List Action} {s : State} {src dst : Addr} {cs cd : Cell} {ks kd : Class} {sC dC : ClassId}, cs.slots.size = a → cd.slots.size = b → s.heap[src]? = some cs → s.heap[dst]? = some cd → (∀ k, cs.vm ≠ .statics k) → (∀ k, cd.vm ≠ .statics k) → s.vm.classes[cs.cls]? = some ks → s.vm.classes[cd.cls]? = some kd → ks.kind = .array sC .int → kd.kind = .array dC .int →
    E (.throwNew "java/lang/ArrayIndexOutOfBoundsException" (some ("arraycopy: " ++ what))) acts s → wp (Native.java_lang_System.arraycopy.sem #[.ref src, .int x, .ref dst, .int y, .int z]) Q E e d acts s
theorem int_pr {i : Int} (h0 : 0 ≤ i) (h1 : i < 10 ^ 10) : (toString i).toList.length ≤ 10 := by
  obtain ⟨n, rfl⟩ := Int.eq_ofNat_of_zero_le h0
  exact nat_print (n := n) (by omega)
theorem arr_pr {a : Nat} (ha : a < 2147483648) : (toString (toString (Native.java_lang_System.arraycopy.kindName FieldType.int) ++ toString "[" ++ toString a ++ toString "]")).toList.length ≤ 15 := by
  show (toString (Native.java_lang_System.arraycopy.kindName FieldType.int) ++ toString "[" ++ toString a ++ toString "]").toList.length ≤ 15
  simp only [String.toList_append, List.length_append]
  have l0 : (toString (Native.java_lang_System.arraycopy.kindName FieldType.int)).toList.length = 3 := by decide
  have l3 : (toString "[").toList.length = 1 := by decide
  have l4 : (toString "]").toList.length = 1 := by decide
  have pa := nat_print (n := a) (by omega)
  omega
theorem i32_0 {x : Int32} (h : ¬ x < 0) : 0 ≤ x.toInt := by
  rw [Int32.lt_iff_toInt_lt] at h
  have : (0 : Int32).toInt = 0 := by decide
  omega
theorem cp_ex {a b : Nat} {x y z : Int32} (ha : a < 2147483648) (hb : b < 2147483648) (hbad : ¬ (¬ x < 0 ∧ ¬ y < 0 ∧ ¬ z < 0 ∧ ¬ x.toInt + z.toInt > a ∧ ¬ y.toInt + z.toInt > b)) : ∃ what : String, acW a b x y z what ∧ what.toList.length ≤ 100 := by
  have hty : ((refKind .int != refKind .int) || (!refKind .int && FieldType.int != FieldType.int)) = false := by decide
  unfold refKind at hty
  have px := int32_print x
  have py := int32_print y
  have pz := int32_print z
  have pa := nat_print (n := a) (by omega)
  have pb := nat_print (n := b) (by omega)
  have qa := arr_pr ha
  have qb := arr_pr hb
  have x1 := Int32.toInt_lt x
  have y1 := Int32.toInt_lt y
  have z1 := Int32.toInt_lt z
  by_cases h1 : x < 0
  · apply Exists.intro
    apply And.intro
    · intro Q E e d acts s src dst cs cd ks kd sC dC hsa hsb hs hd hsobj hdobj hks hkd hsk hdk hE
      rw [Native.java_lang_System.arraycopy.sem_refs]
      unfold Native.java_lang_System.arraycopy.behind
      simp only [wp_bind', W.classOf, W.theClass, hs, hd, hks, hkd, Option.some.injEq, exists_eq_left', hsk, hdk]
      refine ⟨hsobj, hdobj, ?_⟩
      simp only [hty, Bool.false_eq_true, if_false]
      simp only [wp_bind', W.sizeOf, hs, hd, Option.some.injEq, exists_eq_left', hsa, hsb, if_pos h1, W.mark, W.throwNew]
      exact hE
    · simp only [String.toList_append, List.length_append]
      have l0 : (toString "").toList.length = 0 := by decide
      have l1 : (toString "source index ").toList.length = 13 := by decide
      have l2 : (toString " out of bounds for ").toList.length = 19 := by decide
      have l3 : (toString "[").toList.length = 1 := by decide
      have l4 : (toString "]").toList.length = 1 := by decide
      have l5 : (toString "destination index ").toList.length = 18 := by decide
      have l6 : (toString "length ").toList.length = 7 := by decide
      have l7 : (toString " is negative").toList.length = 12 := by decide
      have l8 : (toString "last source index ").toList.length = 18 := by decide
      have l9 : (toString "last destination index ").toList.length = 23 := by decide
      omega
  by_cases h2 : y < 0
  · apply Exists.intro
    apply And.intro
    · intro Q E e d acts s src dst cs cd ks kd sC dC hsa hsb hs hd hsobj hdobj hks hkd hsk hdk hE
      rw [Native.java_lang_System.arraycopy.sem_refs]
      unfold Native.java_lang_System.arraycopy.behind
      simp only [wp_bind', W.classOf, W.theClass, hs, hd, hks, hkd, Option.some.injEq, exists_eq_left', hsk, hdk]
      refine ⟨hsobj, hdobj, ?_⟩
      simp only [hty, Bool.false_eq_true, if_false]
      simp only [wp_bind', W.sizeOf, hs, hd, Option.some.injEq, exists_eq_left', hsa, hsb, if_neg h1, if_pos h2, W.mark, W.throwNew]
      exact hE
    · simp only [String.toList_append, List.length_append]
      have l0 : (toString "").toList.length = 0 := by decide
      have l1 : (toString "source index ").toList.length = 13 := by decide
      have l2 : (toString " out of bounds for ").toList.length = 19 := by decide
      have l3 : (toString "[").toList.length = 1 := by decide
      have l4 : (toString "]").toList.length = 1 := by decide
      have l5 : (toString "destination index ").toList.length = 18 := by decide
      have l6 : (toString "length ").toList.length = 7 := by decide
      have l7 : (toString " is negative").toList.length = 12 := by decide
      have l8 : (toString "last source index ").toList.length = 18 := by decide
      have l9 : (toString "last destination index ").toList.length = 23 := by decide
      omega
  by_cases h3 : z < 0
  · apply Exists.intro
    apply And.intro
    · intro Q E e d acts s src dst cs cd ks kd sC dC hsa hsb hs hd hsobj hdobj hks hkd hsk hdk hE
      rw [Native.java_lang_System.arraycopy.sem_refs]
      unfold Native.java_lang_System.arraycopy.behind
      simp only [wp_bind', W.classOf, W.theClass, hs, hd, hks, hkd, Option.some.injEq, exists_eq_left', hsk, hdk]
      refine ⟨hsobj, hdobj, ?_⟩
      simp only [hty, Bool.false_eq_true, if_false]
      simp only [wp_bind', W.sizeOf, hs, hd, Option.some.injEq, exists_eq_left', hsa, hsb, if_neg h1, if_neg h2, if_pos h3, W.mark, W.throwNew]
      exact hE
    · simp only [String.toList_append, List.length_append]
      have l0 : (toString "").toList.length = 0 := by decide
      have l1 : (toString "source index ").toList.length = 13 := by decide
      have l2 : (toString " out of bounds for ").toList.length = 19 := by decide
      have l3 : (toString "[").toList.length = 1 := by decide
      have l4 : (toString "]").toList.length = 1 := by decide
      have l5 : (toString "destination index ").toList.length = 18 := by decide
      have l6 : (toString "length ").toList.length = 7 := by decide
      have l7 : (toString " is negative").toList.length = 12 := by decide
      have l8 : (toString "last source index ").toList.length = 18 := by decide
      have l9 : (toString "last destination index ").toList.length = 23 := by decide
      omega
  by_cases h4 : x.toInt + z.toInt > a
  · apply Exists.intro
    apply And.intro
    · intro Q E e d acts s src dst cs cd ks kd sC dC hsa hsb hs hd hsobj hdobj hks hkd hsk hdk hE
      rw [Native.java_lang_System.arraycopy.sem_refs]
      unfold Native.java_lang_System.arraycopy.behind
      simp only [wp_bind', W.classOf, W.theClass, hs, hd, hks, hkd, Option.some.injEq, exists_eq_left', hsk, hdk]
      refine ⟨hsobj, hdobj, ?_⟩
      simp only [hty, Bool.false_eq_true, if_false]
      simp only [wp_bind', W.sizeOf, hs, hd, Option.some.injEq, exists_eq_left', hsa, hsb, if_neg h1, if_neg h2, if_neg h3, if_pos h4, W.mark, W.throwNew]
      exact hE
    · simp only [String.toList_append, List.length_append]
      have ps := int_pr (i := x.toInt + z.toInt) (by have := i32_0 h1; have := i32_0 h3; omega) (by omega)
      have l0 : (toString "").toList.length = 0 := by decide
      have l1 : (toString "source index ").toList.length = 13 := by decide
      have l2 : (toString " out of bounds for ").toList.length = 19 := by decide
      have l3 : (toString "[").toList.length = 1 := by decide
      have l4 : (toString "]").toList.length = 1 := by decide
      have l5 : (toString "destination index ").toList.length = 18 := by decide
      have l6 : (toString "length ").toList.length = 7 := by decide
      have l7 : (toString " is negative").toList.length = 12 := by decide
      have l8 : (toString "last source index ").toList.length = 18 := by decide
      have l9 : (toString "last destination index ").toList.length = 23 := by decide
      omega
  by_cases h5 : y.toInt + z.toInt > b
  · apply Exists.intro
    apply And.intro
    · intro Q E e d acts s src dst cs cd ks kd sC dC hsa hsb hs hd hsobj hdobj hks hkd hsk hdk hE
      rw [Native.java_lang_System.arraycopy.sem_refs]
      unfold Native.java_lang_System.arraycopy.behind
      simp only [wp_bind', W.classOf, W.theClass, hs, hd, hks, hkd, Option.some.injEq, exists_eq_left', hsk, hdk]
      refine ⟨hsobj, hdobj, ?_⟩
      simp only [hty, Bool.false_eq_true, if_false]
      simp only [wp_bind', W.sizeOf, hs, hd, Option.some.injEq, exists_eq_left', hsa, hsb, if_neg h1, if_neg h2, if_neg h3, if_neg h4, if_pos h5, W.mark, W.throwNew]
      exact hE
    · simp only [String.toList_append, List.length_append]
      have ps := int_pr (i := y.toInt + z.toInt) (by have := i32_0 h2; have := i32_0 h3; omega) (by omega)
      have l0 : (toString "").toList.length = 0 := by decide
      have l1 : (toString "source index ").toList.length = 13 := by decide
      have l2 : (toString " out of bounds for ").toList.length = 19 := by decide
      have l3 : (toString "[").toList.length = 1 := by decide
      have l4 : (toString "]").toList.length = 1 := by decide
      have l5 : (toString "destination index ").toList.length = 18 := by decide
      have l6 : (toString "length ").toList.length = 7 := by decide
      have l7 : (toString " is negative").toList.length = 12 := by decide
      have l8 : (toString "last source index ").toList.length = 18 := by decide
      have l9 : (toString "last destination index ").toList.length = 23 := by decide
      omega
  exact absurd ⟨h1, h2, h3, h4, h5⟩ hbad
/-- a native that throws: the note lies over its frame -/
theorem nat_throws {tb : Tables} {e : Env} {below : List Frame} {s tg : State} {g : JFrame} {c : Code} (h : At s g.method c below) {m : MethodId} {meth : Method} {k : Class} {row : NativeRow} {args : Array Value} (acts : List Action) (hk : s.vm.classes[m.cls]? = some k) (hx : k.methods[m.idx]? = some meth) (hboot : k.loader = none) (hnat : meth.isNative = true) (hc : meth.code = none) (hl : meth.locks = false)
    (hrow : NativeRow.find? tb.natives k.name meth.name meth.desc = some row) (hroom : e.platform.stackFull (((s.setTop g).threads[(s.setTop g).cur]?).getD { frames := [] }) (s.setTop g).frames (nativeFrameWords k.name meth.name (operandWords args.toList)) = false) {cls text : String}
    (hw : ∀ E : CtlPost, (∀ acts', E (.throwNew cls (some text)) acts' ((s.setTop g).pushFrame (.native { method := m, args := seenByNative meth args, locked := none }))) → wp (row.sem (seenByNative meth args)) (fun _ _ _ _ => False) E e false [] ((s.setTop g).pushFrame (.native { method := m, args := seenByNative meth args, locked := none })))
    (hrest : Steps tb e below (((s.setTop g).pushFrame (.native { method := m, args := seenByNative meth args, locked := none })).pushFrame (.throwNew cls (some text) none)) tg) : Steps tb e below (doInvoke e (s.setTop g) acts m args).1 tg := by
  have hm : (s.setTop g).vm.method? m = some meth := by
    show s.vm.method? m = some meth
    simp [Vm.method?, hk, hx]
  have hcn : (((s.setTop g).vm.classes[m.cls]?).map (·.name)).getD "" = k.name := by
    show ((s.vm.classes[m.cls]?).map (·.name)).getD "" = k.name
    simp [hk]
  have hr0 : (doInvoke e (s.setTop g) acts m args).1 = (s.setTop g).pushFrame (.native { method := m, args := seenByNative meth args, locked := none }) := (Fast.doInvoke_native (s := s.setTop g) (e := e) (acts := acts) (args := args) hm hnat hc hl (by rw [hcn]; exact hroom)).1
  have hfe := frames_entered (g := g) h.top (.native { method := m, args := seenByNative meth args, locked := none })
  obtain ⟨mid, hmid⟩ := h.above
  rw [hr0]
  refine Steps.head ⟨h.running, by simpa using h.runnable, by simpa using h.alone⟩ ⟨.native { method := m, args := seenByNative meth args, locked := none } :: .java g :: mid, by rw [hfe, hmid]; rfl, by simp, by simp⟩ ?_
  rw [stepThread_native (f := { method := m, args := seenByNative meth args, locked := none }) (k := k) (x := meth) (row := row) hfe hk hx hboot hrow rfl]
  generalize hU : (s.setTop g).pushFrame (.native { method := m, args := seenByNative meth args, locked := none }) = U at hw hrest ⊢
  have hq := (wpRun_iff_run _ _ _ _ _).mp (show wpRun (row.sem (seenByNative meth args)) (fun _ _ _ => False) (fun x s₁ _ => x = .throwNew cls (some text) ∧ s₁ = U) e U from hw _ (fun _ => ⟨rfl, rfl⟩))
  cases hr : (row.sem (seenByNative meth args)).run e U with
  | ok v s₁ acts₁ => rw [hr] at hq; exact hq.elim
  | ctl x s₁ acts₁ =>
    rw [hr] at hq
    cases x <;> first
      | exact hq.elim
      | (obtain ⟨h1, h2⟩ := hq; cases h1; subst h2; exact hrest)
      | (obtain ⟨h1, -⟩ := hq; cases h1)
/-- what is thrown goes past a native's frame -/
theorem nat_past {tb : Tables} {e : Env} {below : List Frame} {u tg : State} {a : Addr} {f : NFrame} {r : List Frame} (hrun : u.status = .running) (hable : u.curStatus? = some .runnable) (halone : u.alone = true) (hcur : u.cur < u.threads.size) (hr : ∃ mid, r = mid ++ below) (haw : f.awaiting = false) (hl : f.locked = none) (hrest : Steps tb e below (u.setFrames (.throwing a :: r)) tg) : Steps tb e below (u.setFrames (.throwing a :: .native f :: r)) tg := by
  obtain ⟨mid, hmid⟩ := hr
  have hf : (u.setFrames (.throwing a :: .native f :: r)).frames = .throwing a :: .native f :: r := State.frames_setFrames _ hcur
  refine Steps.head ⟨hrun, by simpa using hable, by simpa using halone⟩ ⟨.throwing a :: .native f :: mid, by rw [hf, hmid]; rfl, by simp, by simp⟩ ?_
  have hst : (stepThread tb e (u.setFrames (.throwing a :: .native f :: r))).1 = (u.setFrames (.throwing a :: .native f :: r)).setFrames (.throwing a :: r) := by
    generalize hu : u.setFrames (.throwing a :: .native f :: r) = w at hf ⊢
    unfold stepThread
    simp only [hf]
    unfold stepThrowing
    simp only [haw, Bool.false_eq_true, if_false, hl]
    unfold vmDo
    generalize hr : Sem.go _ e false _ w = res
    obtain ⟨as, rfl, -⟩ := Sem.eq_ok_of hr (a := true) (s' := w) (acts' := []) (by simp [leaveIfLocked, unmarked, Action.isMark])
    rfl
  rw [hst, State.setFrames_setFrames]
  exact hrest
