/-! BASE 28: the row of a cast that fails; its text is told by the caller -/
set_option maxRecDepth 100000
section CK
variable {p : Program} {l : Launch} {e : Env} {R : Room} {s : State} {m : MethodId} {args : Array Value} {below : List Frame} {meth : Method} {c : Code} {H : Heap} {locs : List Loc} {cells slots : Nat} {Q : State → Prop} {A : Nat → Prop} {zv : Nat → Option Nat}
variable {cc : ByteArray} {pc : Nat} {ls : Array Slot} {rest : List Value} {own name : String} {index : Nat} {D : va_G} {ca : Nat → ClassId} {ws : va_W}
set_option maxHeartbeats 2000000 in
theorem w_ckx {a : Nat} {cell : Cell} {cT : ClassId} {ks : Class} (hx : p.tables.exec = Jvm.exec) (hb : c.code = cc) (hml : ls.size = c.maxLocals) (htr : ∀ e : Env, l.admits e → e.platform.stackTraces = false) (hown : s.vm.findClass own = some m.cls) (hlink : (Cond.classLink own index name).before args s = true)
    (hts : ∀ w ∈ lw_all, w.before args s = true) (hKK : KK D ca s) (hZ : ZY zv A s s.heap) (hP : va_P D vwCl ws H) (hD : va_D A ws) (hS : va_S A s.heap H locs) (hA : ∀ q : Nat, s.heap.size ≤ q → A q) (hcell : H[a]? = some cell) (hobj : ∀ k, cell.vm ≠ .statics k) (hks : s.vm.classes[cell.cls]? = some ks) (hcT : s.vm.findClass name = some cT) (hasg : s.vm.assignable cell.cls cT = false)
    (htx : ∀ (vm' : Vm) (ks' kt' : Class), s.WarmedH vm' → vm'.classes[cell.cls]? = some ks' → vm'.classes[cT]? = some kt' → (Op.checkcast.message vm' ks' kt').toList.length ≤ 500 ∧ (Op.checkcast.message vm' ks' kt' == notModelled) = false)
    (hw : (rest.map fun v => v.category).sum ≤ 8) (hdg : decode cc pc = .ok (.checkcast index, 3)) (hRf : 8 < R.frames) (hRl : 10260 ≤ R.locals) (hRc : cells + 3 ≤ R.cells) (hRs : slots + 2010 ≤ R.slots)
    (kk : ∀ (xa : Nat) (H' : Heap) (locs' : List Loc), va_P D vwCl ws H' → va_D A ws → va_S A s.heap H' locs' → (∃ ce : Cell, H'[xa]? = some ce ∧ ce.vm.isStatics = false ∧ s.vm.findClass ccN = some ce.cls) → WT p l e R s m args below meth c H' locs' (cells + 3) (slots + 2010) Q xa (F0 m pc ls (.ref a :: rest))) :
    W p l e R s m args below meth c H locs cells slots Q (F0 m pc ls (.ref a :: rest)) := by
  subst hb
  intro T hT X
  subst hT
  obtain ⟨vm', ks', kt', X', h1, h2, step⟩ := ck_no X hx hown hlink hcell hobj hks hcT hasg (g := F0 m pc ls (.ref a :: rest)) rfl rfl hdg
  obtain ⟨hlen, hmod⟩ := htx vm' ks' kt' X'.warmed h1 h2
  generalize Op.checkcast.message vm' ks' kt' = text at hlen hmod step
  have b1 := stringBytes_size_le (stringToUtf16 text)
  have b2 := utf16_size_le text
  have hmr : (F0 m pc ls (.ref a :: rest)).monitorRoom = 0 := rfl
  have hca : ((F0 m pc ls (.ref a :: rest)).stack.map fun v => v.category).sum ≤ 9 := by
    show 1 + (rest.map fun v => v.category).sum ≤ 9
    omega
  obtain ⟨T₂, L, n, hn, hLb, X₂, hsz2, hkeep, hce, st⟩ := vt_stand (zv := zv) (A := A) (g := F0 m pc ls (.ref a :: rest)) (base := .java (F0 m pc ls (.ref a :: rest)) :: below) X' hx (htr e X.admits) (cls := ccN) (names := ccS) (text := text) (by decide) (by decide) (by decide) (by decide) (vt_cc hts hKK hZ) hZ hS hmod (by rw [Launch.admits_arrayLengthLimit X.admits]; omega) (by rw [Launch.admits_maxHeapBytes X.admits]; show ¬ _ * 1 > _; omega) hml ⟨[.java _], rfl⟩ (by simp) rfl
    (by show 2 + 5 < _; omega) (by rw [hmr]; omega) (by decide) hRc (by omega)
  have hS2 : va_S A s.heap T₂.heap (locs ++ L) := by
    refine ⟨by rw [hsz2]; exact Nat.le_trans hS.1 (Nat.le_add_right _ 3), fun q hq hnA => ?_, fun q hq => ?_⟩
    · exact (hkeep q (Nat.lt_of_lt_of_le hq hS.1)).trans (hS.2.1 q hq hnA)
    · rcases List.mem_append.mp hq with h1 | h1
      · exact hS.2.2 q h1
      · rw [hLb q h1]
        exact hA _ (Nat.le_trans hS.1 (Nat.le_add_right _ 2))
  obtain ⟨t, hsteps, hQ⟩ := kk _ T₂.heap (locs ++ L) (hP.kept (fun k q h => hkeep q.1 (wp_lt hP h))) hD hS2 hce T₂ rfl { X₂ with same := X₂.same.mono (Nat.le_refl _) (by omega) }
  refine ⟨t, step t ?_, hQ⟩
  obtain ⟨g₀, hfr⟩ := X'.frames_eq
  obtain ⟨g₂, hfr2⟩ := X₂.frames_eq
  have e1 : ((T.setVm vm').setTop (F0 m pc ls (.ref a :: rest))).pushFrame (.throwNew ccN (some text) none) = (T.setVm vm').setFrames (.throwNew ccN (some text) none :: .java (F0 m pc ls (.ref a :: rest)) :: below) := by
    rw [State.pushFrame, State.frames_setTop _ hfr, State.setTop_of_frames _ hfr, State.setFrames_setFrames]
  have e2 : (T₂.setTop (F0 m pc ls (.ref a :: rest))).pushFrame (.throwing (T.heap.size + 2)) = T₂.setFrames (.throwing (T.heap.size + 2) :: .java (F0 m pc ls (.ref a :: rest)) :: below) := by
    rw [State.pushFrame, State.frames_setTop _ hfr2, State.setTop_of_frames _ hfr2, State.setFrames_setFrames]
  rw [e1]
  refine st t ?_
  have hsteps2 := hsteps
  rw [show (T.setVm vm').heap.size = T.heap.size from rfl, e2] at hsteps2
  exact hsteps2
end CK
