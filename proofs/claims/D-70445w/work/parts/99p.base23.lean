/-! BASE 23: the rows of a copy out of bounds -/
set_option maxRecDepth 100000
theorem txt_size {what : String} (h : what.toList.length ≤ 100) : (stringBytes (stringToUtf16 ("arraycopy: " ++ what))).size ≤ 444 := by
  have b1 := stringBytes_size_le (stringToUtf16 ("arraycopy: " ++ what))
  have b2 := utf16_size_le ("arraycopy: " ++ what)
  rw [String.toList_append, List.length_append] at b2
  have b3 : "arraycopy: ".toList.length = 11 := by decide
  omega
theorem txt_mod {what : String} : (("arraycopy: " ++ what) == notModelled) = false := by
  rw [beq_eq_false_iff_ne]
  intro h
  have h2 := congrArg String.toList h
  rw [String.toList_append, show "arraycopy: ".toList = 'a' :: "rraycopy: ".toList by decide, show notModelled.toList = '\u0000' :: " a message that is not modelled".toList by decide] at h2
  simp at h2
section CT
variable {p : Program} {l : Launch} {e : Env} {R : Room} {s : State} {m : MethodId} {args : Array Value} {below : List Frame} {meth : Method} {c : Code} {H : Heap} {locs : List Loc} {cells slots : Nat} {Q : State → Prop} {A : Nat → Prop} {zv : Nat → Option Nat}
variable {cc : ByteArray} {pc : Nat} {ls : Array Slot} {rest st0 : List Value} {own : String} {index : Nat}
abbrev xArr : MethodName := ⟨"java/lang/System", "arraycopy", "(Ljava/lang/Object;ILjava/lang/Object;II)V"⟩
/-- the exception class of the machine, its superclasses -/
abbrev aiN : String := "java/lang/ArrayIndexOutOfBoundsException"
abbrev aiS : List String := ["java/lang/IndexOutOfBoundsException", "java/lang/RuntimeException", "java/lang/Exception"]
set_option maxHeartbeats 2000000 in
theorem w_cpx {src dst : Nat} {x y z : Int32} {cs cd : Cell} {ks kd : Class} {sC dC : ClassId} {a b : Nat} (hx : p.tables.exec = Jvm.exec) (hb : c.code = cc) (hml : ls.size = c.maxLocals) (htr : ∀ e : Env, l.admits e → e.platform.stackTraces = false) (hown : s.vm.findClass own = some m.cls) (hlink : (Cond.methodLink own index xArr).before args s = true) (hnat : (Cond.native xArr).before args s = true) (hstat : (Cond.static xArr).before args s = true) (hinit : (Cond.initialized "java/lang/System").before args s = true)
    (hat : ∀ w ∈ vtA aiN aiS, w.before args s = true) (hZ : ZY zv A s s.heap) (hS : va_S A s.heap H locs) (hA : ∀ q : Nat, s.heap.size ≤ q → A q)
    (hs : H[src]? = some cs) (hd : H[dst]? = some cd) (hsa : cs.slots.size = a) (hsb : cd.slots.size = b) (hsobj : ∀ k, cs.vm ≠ .statics k) (hdobj : ∀ k, cd.vm ≠ .statics k) (hks : s.vm.classes[cs.cls]? = some ks) (hkd : s.vm.classes[cd.cls]? = some kd) (hsk : ks.kind = .array sC .int) (hdk : kd.kind = .array dC .int)
    (ha : a < 2147483648) (hb2 : b < 2147483648) (hbad : ¬ (¬ x < 0 ∧ ¬ y < 0 ∧ ¬ z < 0 ∧ ¬ x.toInt + z.toInt > a ∧ ¬ y.toInt + z.toInt > b)) (hst : st0 = .int z :: .int y :: .ref dst :: .int x :: .ref src :: rest) (hw : (rest.map fun v => v.category).sum ≤ 8) (hdg : decode cc pc = .ok (.invokestatic index, 3))
    (hRf : 8 < R.frames) (hRl : 10260 ≤ R.locals) (hRc : cells + 3 ≤ R.cells) (hRs : slots + 454 ≤ R.slots)
    (kk : ∀ (H' : Heap) (locs' : List Loc), H'.size = H.size + 3 → (∀ q : Nat, q < H.size → H'[q]? = H[q]?) → va_S A s.heap H' locs' → (∃ ce : Cell, H'[H.size + 2]? = some ce ∧ ce.vm.isStatics = false ∧ s.vm.findClass aiN = some ce.cls) → WT p l e R s m args below meth c H' locs' (cells + 3) (slots + 454) Q (H.size + 2) (F0 m pc ls rest)) :
    W p l e R s m args below meth c H locs cells slots Q (F0 m pc ls st0) := by
  subst hst
  subst hb
  intro T hT X
  subst hT
  obtain ⟨r, kS, methS, hnS, hmS, hkS, N⟩ := NativeOf.of_static hnat hstat (ps := [.object "java/lang/Object", .int, .object "java/lang/Object", .int, .int]) (ret := none) (by decide +kernel)
  have hinitS : kS.init = .initialized := Cond.initialized_spec (findClass_of_methodNamed hnS) hkS hinit
  obtain ⟨vm', X', step⟩ := X.invokestatic hx hown hlink hnS hmS N.static hkS hinitS (by decide) (g := F0 m pc ls (.int z :: .int y :: .ref dst :: .int x :: .ref src :: rest)) rfl (argsL := [.ref src, .int x, .ref dst, .int y, .int z]) (rest := rest) (by rw [N.sig]; rfl) rfl hdg
  have hA' : s.vm.Alike vm' := X'.warmed.alike
  obtain ⟨kS', N'⟩ := N.alike hA'
  obtain ⟨ks', hks', hes⟩ := hA'.2.2 _ _ hks
  obtain ⟨kd', hkd', hed⟩ := hA'.2.2 _ _ hkd
  obtain ⟨what, hwp, hlen⟩ := cp_ex ha hb2 hbad
  have hsz := txt_size hlen
  have hseen : seenByNative methS #[.ref src, .int x, .ref dst, .int y, .int z] = #[.ref src, .int x, .ref dst, .int y, .int z] := by
    simp [seenByNative, N.static, N.sig, narrow]
  have hmr : (F0 m pc ls rest).monitorRoom = 0 := rfl
  obtain ⟨T₂, L, n, hn, hLb, X₂, hsz2, hkeep, hce, st⟩ := vt_stand (zv := zv) (A := A) (g := F0 m pc ls rest) (base := .native { method := r, args := #[.ref src, .int x, .ref dst, .int y, .int z], locked := none } :: .java (F0 m pc ls rest) :: below) X' hx (htr e X.admits) (cls := aiN) (names := aiS) (text := "arraycopy: " ++ what) (by decide) (by decide) (by decide) (by decide) hat hZ hS txt_mod (by rw [Launch.admits_arrayLengthLimit X.admits]; omega) (by rw [Launch.admits_maxHeapBytes X.admits]; show ¬ _ * 1 > _; omega) hml ⟨[.native _, .java _], rfl⟩ (by simp) (by rw [stackUse_light (.native { method := r, args := #[.ref src, .int x, .ref dst, .int y, .int z], locked := none }) _ (fun f hf => by cases hf) rfl])
    (by show 3 + 5 < _; omega) (by rw [hmr]; show 2 * 0 + (rest.map fun v => v.category).sum + 10240 ≤ _; omega) (by decide) hRc (by omega)
  have hS2 : va_S A s.heap T₂.heap (locs ++ L) := by
    refine ⟨by rw [hsz2]; exact Nat.le_trans hS.1 (Nat.le_add_right _ 3), fun q hq hnA => ?_, fun q hq => ?_⟩
    · exact (hkeep q (Nat.lt_of_lt_of_le hq hS.1)).trans (hS.2.1 q hq hnA)
    · rcases List.mem_append.mp hq with h1 | h1
      · exact hS.2.2 q h1
      · rw [hLb q h1]
        exact hA _ (Nat.le_trans hS.1 (Nat.le_add_right _ 2))
  obtain ⟨t, hsteps, hQ⟩ := kk T₂.heap (locs ++ L) hsz2 hkeep hS2 hce T₂ rfl { X₂ with same := X₂.same.mono (Nat.le_refl _) (by omega) }
  refine ⟨t, step t fun acts => ?_, hQ⟩
  obtain ⟨g₀, hfr⟩ := X'.frames_eq
  obtain ⟨g₂, hfr2⟩ := X₂.frames_eq
  have hnw : 2 * (F0 m pc ls rest).monitorRoom + ((F0 m pc ls rest).stack.map fun v => v.category).sum + (nativeFrameWords "java/lang/System" "arraycopy" 5 + 11) ≤ R.locals := by
    have h100 : nativeFrameWords "java/lang/System" "arraycopy" 5 ≤ 100 := by decide
    rw [hmr]
    show 2 * 0 + (rest.map fun v => v.category).sum + _ ≤ _
    omega
  refine nat_throws (g := F0 m pc ls rest) (cls := aiN) (text := "arraycopy: " ++ what) X'.here acts N'.cls N'.meth N'.boot N'.native N'.noCode N'.noLock (row := arraycopyRow) (by rw [N'.className, N'.name, N'.desc]; exact arraycopy_row p) (by rw [N'.className, N'.name]; exact X'.notFull (g := F0 m pc ls rest) hml (vars := nativeFrameWords "java/lang/System" "arraycopy" 5) (by omega) hnw) (fun E hE => ?_) ?_
  · rw [hseen] at hE ⊢
    rw [arraycopyRow_sem]
    exact hwp hsa hsb hs hd hsobj hdobj hks' hkd' (by rw [hes]; exact hsk) (by rw [hed]; exact hdk) (hE _)
  · rw [hseen]
    have e1 : (((T.setVm vm').setTop (F0 m pc ls rest)).pushFrame (.native { method := r, args := #[.ref src, .int x, .ref dst, .int y, .int z], locked := none })).pushFrame (.throwNew aiN (some ("arraycopy: " ++ what)) none) = (T.setVm vm').setFrames (.throwNew aiN (some ("arraycopy: " ++ what)) none :: .native { method := r, args := #[.ref src, .int x, .ref dst, .int y, .int z], locked := none } :: .java (F0 m pc ls rest) :: below) := by
      have hf1 : (((T.setVm vm').setTop (F0 m pc ls rest)).pushFrame (.native { method := r, args := #[.ref src, .int x, .ref dst, .int y, .int z], locked := none })).frames = .native { method := r, args := #[.ref src, .int x, .ref dst, .int y, .int z], locked := none } :: .java (F0 m pc ls rest) :: below := by
        rw [frames_entered X'.here.top, X'.tail]
      show State.setFrames _ (_ :: (((T.setVm vm').setTop (F0 m pc ls rest)).pushFrame (.native { method := r, args := #[.ref src, .int x, .ref dst, .int y, .int z], locked := none })).frames) = _
      rw [hf1, State.pushFrame, State.setFrames_setFrames, State.setTop_of_frames _ hfr, State.setFrames_setFrames]
    rw [e1]
    refine st t (nat_past X₂.here.running X₂.here.runnable X₂.here.alone (State.cur_lt_of_frames hfr2) ⟨[.java (F0 m pc ls rest)], rfl⟩ rfl rfl ?_)
    have e2 : (T₂.setTop (F0 m pc ls rest)).pushFrame (.throwing (T.heap.size + 2)) = T₂.setFrames (.throwing (T.heap.size + 2) :: .java (F0 m pc ls rest) :: below) := by
      rw [State.pushFrame, State.frames_setTop _ hfr2, State.setTop_of_frames _ hfr2, State.setFrames_setFrames]
    rw [e2] at hsteps
    exact hsteps
end CT
