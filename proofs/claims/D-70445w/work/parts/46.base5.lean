/-! BASE 5: the component's tables (KK), worlds with a tail, more kinds of calls of readers -/
set_option maxRecDepth 100000
def isN (w : Cond) : Bool := match w with
  | .methodLinkNest _ _ _ _ => true
  | .fieldLinkNest _ _ _ _ _ _ => true
  | .castable _ _ => true
  | .declares _ => true
  | _ => false
def KN (U : State) : Prop := ∀ w ∈ lw_tbl, isN w = true → va_Nw w U
theorem KN_mv : KMv KN := by
  intro s U hW h w hw hn
  have h0 := h w hw hn
  cases w <;> first | exact va_Nw.warmM hW h0 | exact va_Nw.warmF hW h0 | exact va_Nw.warmC hW h0 | exact va_Nw.warmD hW h0 | exact Bool.noConfusion hn
abbrev xLsize : MethodName := ⟨"java/util/List", "size", "()I"⟩
abbrev xLget : MethodName := ⟨"java/util/List", "get", "(I)Ljava/lang/Object;"⟩
abbrev xLadd : MethodName := ⟨"java/util/List", "add", "(Ljava/lang/Object;)Z"⟩
abbrev xMnum : MethodName := ⟨"LampSquares$Marked", "number", "()I"⟩
def KF (U : State) : Prop := va_Fw RJ2 xLsize yJ2_size U ∧ va_Fw RJ2 xLget yJ2_get U ∧ va_Fw RJ2 xLadd yJ2_add U ∧ va_Fw RX4 xMnum yX3_number U ∧ va_Fw RX5 xMnum yX3_number U ∧ va_Fw RX6 xMnum yX3_number U ∧ va_Fw RX7 xMnum yX3_number U ∧ va_Fw RX8 xMnum yX3_number U
theorem KF_mv : KMv KF := by
  rintro s U hW ⟨h1, h2, h3, h4, h5, h6, h7, h8⟩
  have k := hW.alike
  exact ⟨h1.moved (by decide) k, h2.moved (by decide) k, h3.moved (by decide) k, h4.moved (by decide) k, h5.moved (by decide) k, h6.moved (by decide) k, h7.moved (by decide) k, h8.moved (by decide) k⟩
def KA (U : State) : Prop := va_AO "LampSquares$Row" U ∧ va_AO "LampSquares$Door" U ∧ va_AO "LampSquares$Square" U ∧ va_AO "java/lang/Object" U
theorem KA_mv : KMv KA := by
  rintro s U hW ⟨h1, h2, h3, h4⟩
  have k := hW.alike
  exact ⟨h1.moved k, h2.moved k, h3.moved k, h4.moved k⟩
def ncL : List (String × String) := [(RX4, RX5), (RX4, RX6), (RX4, RX7), (RX4, RX8), (RX5, RX6), (RX5, RX7), (RX5, RX8), (RX6, RX5), (RX6, RX7), (RX6, RX8), (RX7, RX4), (RX7, RX5), (RX7, RX6), (RX7, RX8), (RX8, RX4), (RX8, RX5), (RX8, RX6)]
def KC (U : State) : Prop := ∀ q ∈ ncL, va_Nc q.1 q.2 U
theorem KC_mv : KMv KC := fun _ _ hW h q hq => (h q hq).moved hW.alike
/-- the words of the default method mark; where super.mark of a square goes; the start's modules -/
def KD (U : State) : Prop := ∀ w ∈ defaultWords_1, w.before #[] U = true
theorem KD_mv : KMv KD := fun _ _ hW h w hw => word_at hW (Or.inl (List.all_eq_true.mp (show defaultWords_1.all (fun w => w.onTables && w.keeps) = true from by decide +kernel) w hw)) (h w hw)
def KL (U : State) : Prop := ∃ (c : ClassId) (mk : MethodId), U.vm.findClass "LampSquares$Square" = some c ∧ U.methodNamed? yX14_mark = some mk ∧ lookupSpecial U.vm c "mark" "(LLampSquares$Trail;LLampSquares$Door;)I" = .method mk
theorem KL_mv : KMv KL := by
  rintro s U hW ⟨c, mk, h1, h2, h3⟩
  refine ⟨c, mk, by rw [hW.alike.findClass]; exact h1, ?_, by rw [hW.alike.lookupSpecial]; exact h3⟩
  have e := State.methodNamed?_setVm (s := s) hW.alike yX14_mark
  rw [h2] at e
  exact e
def KM (U : State) : Prop := modulesRight_1 U = true
theorem KM_mv : KMv KM := by
  intro s U hW h
  have e : U.vm.modules = s.vm.modules := by rw [hW.alike.1]
  unfold KM modulesRight_1 at h ⊢
  rw [e]
  exact h
def KK (D : va_G) (ca : Nat → ClassId) (U : State) : Prop := K1 D ca U ∧ KN U ∧ KF U ∧ KA U ∧ KC U ∧ KD U ∧ KL U ∧ KM U
theorem KK_mv (D : va_G) (ca : Nat → ClassId) : KMv (KK D ca) := fun s U hW h => ⟨K1_mv D ca s U hW h.1, KN_mv s U hW h.2.1, KF_mv s U hW h.2.2.1, KA_mv s U hW h.2.2.2.1, KC_mv s U hW h.2.2.2.2.1, KD_mv s U hW h.2.2.2.2.2.1, KL_mv s U hW h.2.2.2.2.2.2.1, KM_mv s U hW h.2.2.2.2.2.2.2⟩
/-! worlds with a tail -/
theorem wp_mem {D : va_G} {cl : List vw_C} {ws ws' : va_W} {H : Heap} (h : va_P D cl ws H) (hs : ∀ q ∈ ws', q ∈ ws) : va_P D cl ws' H := va_P_mem.mpr fun q hq => va_P_mem.mp h q (hs q hq)
theorem pick_mem {α : Type} {l : List α} {is : List Nat} {q : α} (h : q ∈ is.filterMap (fun i => l[i]?)) : q ∈ l := by
  obtain ⟨i, -, hi⟩ := List.mem_filterMap.mp h
  exact List.mem_of_getElem? hi
theorem wp_tail {D : va_G} {cl : List vw_C} {pre pre' fz : va_W} {H : Heap} (h : va_P D cl (pre ++ fz) H) (is : List Nat) (hs : is.filterMap (fun i => pre[i]?) = pre') : va_P D cl (pre' ++ fz) H := by
  refine wp_mem h fun q hq => ?_
  rcases List.mem_append.mp hq with k | k
  · exact List.mem_append_left _ (pick_mem (by rw [hs]; exact k))
  · exact List.mem_append_right _ k
theorem wp_one {D : va_G} {cl : List vw_C} {ws : va_W} {H : Heap} {q : Nat × va_E} (h : va_P D cl ws H) (hq : q ∈ ws) : va_P D cl [q] H := wp_mem h (fun x hx => by rw [List.mem_singleton.mp hx]; exact hq)
theorem wp_two {D : va_G} {cl : List vw_C} {ws : va_W} {H : Heap} {q r : Nat × va_E} (h : va_P D cl ws H) (hq : q ∈ ws) (hr : r ∈ ws) : va_P D cl [q, r] H := wp_mem h (fun x hx => by
  rcases List.mem_cons.mp hx with k | k
  · rw [k]; exact hq
  · rw [List.mem_singleton.mp k]; exact hr)
/-- permutations of worlds with a tail -/
theorem wpermF (pre tl w r : va_W) (n : Nat) (is : List Nat) (hn : pre.length = n) (hb : (List.range n).isPerm is = true) (hw : is.filterMap (fun i => pre[i]?) = w ++ r) : (pre ++ tl).Perm ((w ++ tl) ++ r) := by
  have h := wpermT pre tl (w ++ r) n is hn hb hw
  refine h.trans ?_
  rw [List.append_assoc, List.append_assoc]
  exact List.Perm.append_left w List.perm_append_comm
theorem wpermB {w tl r : va_W} : ((w ++ tl) ++ r).Perm ((w ++ r) ++ tl) := by
  rw [List.append_assoc, List.append_assoc]
  exact List.Perm.append_left w List.perm_append_comm
section RX
variable {p : Program} {l : Launch} {e : Env} {R : Room} {s : State} {m : MethodId} {args : Array Value} {below : List Frame} {meth : Method} {c : Code} {H : Heap} {locs : List Loc} {cells slots : Nat} {Q : State → Prop}
variable {cc : ByteArray} {pc : Nat} {ls : Array Slot} {rest st0 : List Value} {K : State → Prop} {D : va_G} {ro : va_W} {n : Nat}
/-- a reader that hands back a reference -/
def vrS (v : Value) : Array Value → State → Outcome → State → Prop := va_Sr (fun _ => True) (fun _ => v)
theorem rd_aret {v : Value} {rt : FieldType} (hx : p.tables.exec = Jvm.exec) (hb : c.code = cc) (hr : meth.sig.returnType = some rt) (hrt : (∃ n, rt = .object n) ∨ ∃ t, rt = .array t) (hlk : meth.locks = false) (hQ : Q = MQ below (vrS v) args s 0 0 (fun _ => False)) (hdg : decode cc pc = .ok (.areturn, 1)) (hv : v = .null ∨ ∃ a, v = .ref a) : W p l e R s m args below meth c s.heap [] 0 0 Q (F0 m pc ls [v]) := by
  subst hQ
  exact W.aret hx hb hr hrt hv (fun t ht _ => ⟨0, rfl, trivial, ht⟩) (fun q h => by cases h) hdg hlk
variable {y x : MethodName} {bytes : ByteArray} {maxL nL k index count : Nat} {ret : Option FieldType} {ws : List Cond} {rm : Room} {own C owner host : String} {b : Addr} {As : List Value}
theorem rd_callVr {v : Value} (F : CallFix p m c cc nL s args lw_all own) (hM : Met l y ws rm (PcR K D (.ref b :: As) ro) (vrS v) 0 0 (fun _ => False)) (cw : CallW R s args own C index y bytes maxL ret ws rm 0 0 k) (hKm : KMv K) (hK : K s) (hP : va_P D vwCl ro H)
    (hrc : ∃ cellB : Cell, H[b]? = some cellB ∧ cellB.vm.isStatics = false ∧ s.vm.findClass C = some cellB.cls) (hn : As.length = k) (hsz : ls.size = nL) (hst : st0 = As.reverse ++ .ref b :: rest) (hw : (rest.map fun v => v.category).sum ≤ 8) (hdg : decode cc pc = .ok (.invokevirtual index, 3)) (hc : cells ≤ R.cells ∧ slots ≤ R.slots)
    (kk : W p l e R s m args below meth c H locs cells slots Q (F0 m (pc + 3) ls (v :: rest))) : W p l e R s m args below meth c H locs cells slots Q (F0 m pc ls st0) :=
  va_csr (rest := rest) (va_runV (g := F0 m pc ls st0) (b := b) (As := As) F hM cw ⟨PcR_blind hKm, hrc, PcR_at hKm hK hP⟩ rfl hn hsz hst (lv_room hw) hdg hc).run (fun _ _ => kk)
theorem rd_callSN {v : Int32} (F : CallFix p m c cc nL s args lw_all own) (hM : Met l y ws rm (PcR K D As ro) (vp_Si (fun r => r = v)) 0 0 (fun _ => False)) (cw : va_CN R s args own index y host bytes maxL ret ws rm 0 0 k ∧ (Cond.static y).before args s = true ∧ True) (hKm : KMv K) (hK : K s) (hP : va_P D vwCl ro H)
    (hn : As.length = k) (hsz : ls.size = nL) (hst : st0 = As.reverse ++ rest) (hw : (rest.map fun v => v.category).sum ≤ 8) (hdg : decode cc pc = .ok (.invokestatic index, 3)) (hc : cells ≤ R.cells ∧ slots ≤ R.slots)
    (kk : W p l e R s m args below meth c H locs cells slots Q (F0 m (pc + 3) ls (.int v :: rest))) : W p l e R s m args below meth c H locs cells slots Q (F0 m pc ls st0) := by
  refine vp_callSi (rest := rest) (va_runSN (g := F0 m pc ls st0) F hM cw ⟨PcR_blind hKm, PcR_at hKm hK hP⟩ rfl hn hsz hst (lv_room hw) hdg hc).run (fun r hr => ?_)
  subst hr
  exact kk
theorem rd_callU {v : Int32} (F : CallFix p m c cc nL s args lw_all own) (hM : Met l y ws rm (PcR K D (.ref b :: As) ro) (vp_Si (fun r => r = v)) 0 0 (fun _ => False)) (cw : va_CU R s args own C owner index x y bytes maxL ret ws rm 0 0 k) (hKm : KMv K) (hK : K s) (hP : va_P D vwCl ro H)
    (hrc : ∃ cellB : Cell, H[b]? = some cellB ∧ cellB.vm.isStatics = false ∧ s.vm.findClass C = some cellB.cls) (hn : As.length = k) (hsz : ls.size = nL) (hst : st0 = As.reverse ++ .ref b :: rest) (hw : (rest.map fun v => v.category).sum ≤ 8) (hdg : decode cc pc = .ok (.invokevirtual index, 3)) (hc : cells ≤ R.cells ∧ slots ≤ R.slots)
    (kk : W p l e R s m args below meth c H locs cells slots Q (F0 m (pc + 3) ls (.int v :: rest))) : W p l e R s m args below meth c H locs cells slots Q (F0 m pc ls st0) := by
  refine vp_callSi (rest := rest) (va_runU (g := F0 m pc ls st0) (b := b) (As := As) F hM cw ⟨PcR_blind hKm, hrc, PcR_at hKm hK hP⟩ rfl hn hsz hst (lv_room hw) hdg hc).run (fun r hr => ?_)
  subst hr
  exact kk
theorem rd_callF {v : Int32} {cC : ClassId} (hat : ClassAt s C cC) (F : CallFix p m c cc nL s args lw_all own) (hM : Met l y ws rm (PcR K D (.ref b :: As) ro) (vp_Si (fun r => r = v)) 0 0 (fun _ => False)) (cw : va_CI R s args own C index x y bytes maxL ret ws rm 0 0 k) (hKm : KMv K) (hK : K s) (hP : va_P D vwCl ro H)
    (hrc : ∃ cellB : Cell, H[b]? = some cellB ∧ cellB.vm.isStatics = false ∧ s.vm.findClass C = some cellB.cls) (hn : As.length = k) (hsz : ls.size = nL) (hst : st0 = As.reverse ++ .ref b :: rest) (hw : (rest.map fun v => v.category).sum ≤ 8) (hdg : decode cc pc = .ok (.invokeinterface index count, 5)) (hc : cells ≤ R.cells ∧ slots ≤ R.slots)
    (kk : W p l e R s m args below meth c H locs cells slots Q (F0 m (pc + 5) ls (.int v :: rest))) : W p l e R s m args below meth c H locs cells slots Q (F0 m pc ls st0) := by
  refine va_csFi (rest := rest) (va_runF (g := F0 m pc ls st0) (b := b) (As := As) hat F hM cw ⟨PcR_blind hKm, hrc, PcR_at hKm hK hP⟩ rfl hn hsz hst (lv_room hw) hdg hc) (fun r hr => ?_)
  subst hr
  exact kk
theorem rd_callFr {v : Value} {cC : ClassId} (hat : ClassAt s C cC) (F : CallFix p m c cc nL s args lw_all own) (hM : Met l y ws rm (PcR K D (.ref b :: As) ro) (vrS v) 0 0 (fun _ => False)) (cw : va_CI R s args own C index x y bytes maxL ret ws rm 0 0 k) (hKm : KMv K) (hK : K s) (hP : va_P D vwCl ro H)
    (hrc : ∃ cellB : Cell, H[b]? = some cellB ∧ cellB.vm.isStatics = false ∧ s.vm.findClass C = some cellB.cls) (hn : As.length = k) (hsz : ls.size = nL) (hst : st0 = As.reverse ++ .ref b :: rest) (hw : (rest.map fun v => v.category).sum ≤ 8) (hdg : decode cc pc = .ok (.invokeinterface index count, 5)) (hc : cells ≤ R.cells ∧ slots ≤ R.slots)
    (kk : W p l e R s m args below meth c H locs cells slots Q (F0 m (pc + 5) ls (v :: rest))) : W p l e R s m args below meth c H locs cells slots Q (F0 m pc ls st0) :=
  va_csFr (rest := rest) (va_runF (g := F0 m pc ls st0) (b := b) (As := As) hat F hM cw ⟨PcR_blind hKm, hrc, PcR_at hKm hK hP⟩ rfl hn hsz hst (lv_room hw) hdg hc) (fun _ _ => kk)
end RX
/-! super.m(..): the method of a superclass, one or two steps up -/
theorem isSub_0 (vm : Vm) (c : ClassId) : vm.isSubclass c c = true := by simp [Vm.isSubclass, Vm.isSubclassAux]
theorem isSub_1 {vm : Vm} {c q : ClassId} {k : Class} (hk : vm.classes[c]? = some k) (hs : k.super = some q) : vm.isSubclass c q = true := by
  simp only [Vm.isSubclass, Vm.isSubclassAux, hk, hs]
  have hz : vm.isSubclassAux vm.classes.size q q = true := by
    cases h : vm.classes.size with
    | zero => have := (Array.getElem?_eq_some_iff.mp hk).1; omega
    | succ n => simp [Vm.isSubclassAux]
  simp [hz]
def wsSP (own : String) (idx : Nat) (owner : String) (x y : MethodName) (ws : List Cond) : List Cond := ([.methodLink own idx x, .sameMethod x.cls owner x.name x.desc, .superclass own x.cls, .instanceMethod y, .initialized y.cls] : List Cond) ++ ws
section SPC
variable {p : Program} {l : Launch} {e : Env} {R : Room} {s : State} {m : MethodId} {args : Array Value} {below : List Frame} {meth : Method} {c : Code} {H : Heap} {locs : List Loc} {cells slots : Nat} {Q : State → Prop}
variable {x y : MethodName} {bytes cc : ByteArray} {maxL nL mc ms n index : Nat} {ret : Option FieldType} {ws ws' : List Cond} {rm : Room} {Pc : Array Value → State → Prop} {Qc : Array Value → State → Outcome → State → Prop} {free : Addr → Prop} {own C owner : String} {cC : ClassId} {b : Addr} {As rest : List Value} {g : JFrame}
theorem sp_run (hat : ClassAt s C cC) (S : CallFix p m c cc nL s args lw_all own) (hM : Met l y ws rm Pc Qc mc ms free) (hG : GoodIn lw_all (wsSP own index owner x y ws)) (hw : ws = Cond.code y bytes maxL ret :: ws') (hyx : y = ⟨owner, x.name, x.desc⟩) (hup : x.cls = owner ∨ Cond.superclass x.cls owner ∈ lw_all) (hrc : rm.cells = mc) (hrs : rm.slots = ms)
    (hd : x.name ≠ "<init>" ∧ (parseMethodDescriptor y.desc).map (fun d => d.parameters.length) = some n) (hR : rm.frames + 1 ≤ R.frames ∧ 8 + (maxL + 11) + rm.locals ≤ R.locals) (hp : PreV s H C b Pc As)
    (hg : g.method = m) (hn : As.length = n) (hsize : g.locals.size = nL) (hstack : g.stack = As.reverse ++ .ref b :: rest) (hW : 2 * g.monitorRoom + (rest.map fun v => v.category).sum ≤ 8) (hdg : decode cc g.pc = .ok (.invokespecial index, 3)) (hf : cells + mc ≤ R.cells ∧ slots + ms ≤ R.slots) :
    va_Run p l e R s m args below meth c H locs cells slots mc ms g rest (Qc (Value.ref b :: As).toArray) (free) := by
  obtain ⟨hx, hb, hml, ho, ht⟩ := S
  have ok : ∀ w ∈ wsSP own index owner x y ws, w.before args s = true := fun w h => ht w (hG w h).1
  have hGw : GoodIn lw_all ws := fun w h => hG w (by unfold wsSP; exact List.mem_append_right _ h)
  have hcw : Cond.code y bytes maxL ret ∈ ws := by rw [hw]; exact List.mem_cons_self
  have hini : (Cond.initialized y.cls).before args s = true := ok _ (by simp [wsSP])
  have hcode : (Cond.code y bytes maxL ret).before args s = true := ht _ (hGw _ hcw).1
  have hK : Back l R p e below s args y 3 8 (PreOf R mc ms Pc) (PostOf Qc mc ms free) := back_of (bytes := bytes) (maxL := maxL) (ret := ret) hM hp.1 hrc hrs hR.1 hR.2 (pay_in ht hGw) hcw (fun a' U hW => word_at hW (Or.inl (by first | rfl | simp [Cond.onTables, Cond.keeps, Cond.steady])) hini)
  obtain ⟨-, ⟨cellB, hcB, hoB, hclB⟩, hPc⟩ := hp
  obtain ⟨hfc, kB, hkB, -⟩ := hat
  cases hfc.symm.trans hclB
  obtain ⟨mk, methM, hnamed, hmethM, hstM, habM⟩ := Cond.instanceMethod_spec (ok (Cond.instanceMethod y) (by simp [wsSP]))
  obtain ⟨methM', cM, hmethM', -, -, -, -, -, -, hsigM⟩ := Cond.code_spec hnamed hcode
  cases hmethM.symm.trans hmethM'
  obtain ⟨ps, dk, kp, hps, hdk, hkp, hsuper, -, -, hnid⟩ := Cond.superclass_spec ho (ok (Cond.superclass own x.cls) (by simp [wsSP]))
  have hsub : s.vm.isSubclass ps mk.cls = true := by
    have h2 : s.vm.findClass owner = some mk.cls := by
      have h3 := findClass_of_methodNamed hnamed
      rw [hyx] at h3
      exact h3
    rcases hup with h | h
    · rw [← h] at h2
      cases hps.symm.trans h2
      exact isSub_0 _ _
    · obtain ⟨q, kq, -, hq1, hq2, -, hq3, -⟩ := Cond.superclass_spec hps (ht _ h)
      cases h2.symm.trans hq1
      exact isSub_1 hq2 hq3
  have hlen : ∀ sig, parseMethodDescriptor y.desc = some sig → n = sig.parameters.length := by
    intro sig h
    have h2 := hd.2
    rw [h] at h2
    exact (Option.some.inj h2).symm
  have hnm2 : s.methodNamed? ⟨owner, x.name, x.desc⟩ = some mk := by rw [← hyx]; exact hnamed
  intro T hT X
  obtain ⟨vm₁, X₁, hstep₁⟩ := X.invokespecialUp hx ho (ok (Cond.methodLink own index x) (by simp [wsSP])) (ok (Cond.sameMethod x.cls owner x.name x.desc) (by simp [wsSP])) hnm2 hmethM hstM habM hd.1 hdk hnid hps hsuper hsub (a := b) (cell := cellB) (by rw [hT]; exact hcB)
    (fun z h => by rw [h] at hoB; cases hoB) hkB (g := g) hg (argsL := As) (rest := rest) (hn.trans (hlen _ hsigM)) hstack (by rw [hb]; exact hdg)
  obtain ⟨v, ⟨U', l2, c2, s2⟩, X', ⟨g', mk', t, L, e1, e2, hq, h1, hL, h2, h3⟩, hsteps⟩ := hK m meth c ⟨T.setVm vm₁, locs, cells, slots⟩ { g with stack := rest } (.invokespecial index) mk (Value.ref b :: As).toArray X₁ hg (hsize.trans hml.symm) (by rw [hb]; exact hdg) hW (X₁.named hnamed) ⟨hf.1, hf.2, hPc (T.setVm vm₁) hT X₁.warmed⟩
  dsimp only [Pt.U, Pt.locs, Pt.cells, Pt.slots] at X' e1 e2 h1 h2 h3 hsteps
  subst h1; subst h2; subst h3
  exact ⟨v, (T.setVm vm₁).calling g' mk' (Value.ref b :: As).toArray, t, U', L, hT, X', hL, e1, e2, hq, fun target h => hstep₁ _ (hsteps.trans h)⟩
variable {pc : Nat} {ls : Array Slot} {st0 : List Value} {K : State → Prop} {D : va_G} {ro : va_W}
theorem rd_callSP {v : Int32} (hat : ClassAt s C cC) (F : CallFix p m c cc nL s args lw_all own) (hM : Met l y (ws_ y bytes maxL ret) rm (PcR K D (.ref b :: As) ro) (vp_Si (fun r => r = v)) 0 0 (fun _ => False)) (h1 : Cond.methodLink own index x ∈ lw_all) (h2 : Cond.sameMethod x.cls owner x.name x.desc ∈ lw_all) (h3 : Cond.superclass own x.cls ∈ lw_all) (h4 : Cond.instanceMethod y ∈ lw_all) (h5 : Cond.initialized y.cls ∈ lw_all) (h6 : Cond.code y bytes maxL ret ∈ lw_all) (hyx : y = ⟨owner, x.name, x.desc⟩) (hup : x.cls = owner ∨ Cond.superclass x.cls owner ∈ lw_all)
    (hrc : rm.cells = 0) (hrs : rm.slots = 0) (hd : x.name ≠ "<init>" ∧ (parseMethodDescriptor y.desc).map (fun d => d.parameters.length) = some n) (hR : rm.frames + 1 ≤ R.frames ∧ 8 + (maxL + 11) + rm.locals ≤ R.locals) (hKm : KMv K) (hK : K s) (hP : va_P D vwCl ro H)
    (hrv : ∃ cellB : Cell, H[b]? = some cellB ∧ cellB.vm.isStatics = false ∧ s.vm.findClass C = some cellB.cls) (hn : As.length = n) (hsz : ls.size = nL) (hst : st0 = As.reverse ++ .ref b :: rest) (hw : (rest.map fun v => v.category).sum ≤ 8) (hdg : decode cc pc = .ok (.invokespecial index, 3)) (hc : cells ≤ R.cells ∧ slots ≤ R.slots)
    (kk : W p l e R s m args below meth c H locs cells slots Q (F0 m (pc + 3) ls (.int v :: rest))) : W p l e R s m args below meth c H locs cells slots Q (F0 m pc ls st0) := by
  have hG : GoodIn lw_all (wsSP own index owner x y (ws_ y bytes maxL ret)) := by
    unfold wsSP
    refine lw_app (fun w hw => ?_) (lw_meth h6)
    simp only [List.mem_cons, List.not_mem_nil, or_false] at hw
    rcases hw with e | e | e | e | e
    · rw [e]; exact h1
    · rw [e]; exact h2
    · rw [e]; exact h3
    · rw [e]; exact h4
    · rw [e]; exact h5
  refine vp_callSi (rest := rest) (sp_run (g := F0 m pc ls st0) (b := b) (As := As) hat F hM hG rfl hyx hup hrc hrs hd hR ⟨PcR_blind hKm, hrv, PcR_at hKm hK hP⟩ rfl hn hsz hst (lv_room hw) hdg hc).run (fun r hr => ?_)
  subst hr
  exact kk
end SPC
theorem lw_U {own : String} {idx : Nat} {C owner : String} {x y : MethodName} {b : ByteArray} {L : Nat} {r : Option FieldType} (h1 : Cond.methodLink own idx x ∈ lw_all) (h2 : Cond.sameMethod x.cls owner x.name x.desc ∈ lw_all) (h3 : Cond.selects C x y ∈ lw_all) (h4 : Cond.instanceMethod y ∈ lw_all) (h5 : Cond.initialized y.cls ∈ lw_all) (h6 : Cond.code y b L r ∈ lw_all) : GoodIn lw_all (va_wsU own idx C owner x y (ws_ y b L r)) := by
  refine lw_app (fun w hw => ?_) (lw_meth h6)
  simp only [List.mem_cons, List.not_mem_nil, or_false] at hw
  rcases hw with e | e | e | e | e
  · rw [e]; exact h1
  · rw [e]; exact h2
  · rw [e]; exact h3
  · rw [e]; exact h4
  · rw [e]; exact h5
theorem lw_F {own : String} {idx : Nat} {C : String} {x y : MethodName} {b : ByteArray} {L : Nat} {r : Option FieldType} (h1 : Cond.methodLink own idx x ∈ lw_all) (h3 : Cond.selects C x y ∈ lw_all) (h4 : Cond.instanceMethod y ∈ lw_all) (h5 : Cond.initialized y.cls ∈ lw_all) (h6 : Cond.code y b L r ∈ lw_all) : GoodIn lw_all (va_wsF own idx C x y (ws_ y b L r)) := by
  refine lw_app (fun w hw => ?_) (lw_meth h6)
  simp only [List.mem_cons, List.not_mem_nil, or_false] at hw
  rcases hw with e | e | e | e
  · rw [e]; exact h1
  · rw [e]; exact h3
  · rw [e]; exact h4
  · rw [e]; exact h5
theorem wd_tail {A : Nat → Prop} {pre pre' fz : va_W} (h : va_D A (pre ++ fz)) (is : List Nat) (hn : va_nd is = true) (hs : is.map (fun i => pre[i]?) = pre'.map some) (hs2 : is.filterMap (fun i => pre[i]?) = pre') : va_D A (pre' ++ fz) := by
  obtain ⟨h1, h2⟩ := (va_D_iff (cl := [])).mp h
  rw [List.map_append, List.nodup_append] at h1
  obtain ⟨n1, n2, n3⟩ := h1
  have hpre : va_D A pre := (va_D_iff (cl := [])).mpr ⟨n1, fun q hq => h2 q (List.mem_append_left _ hq)⟩
  obtain ⟨m1, m2⟩ := (va_D_iff (cl := [])).mp (hpre.sub is hn hs)
  refine (va_D_iff (cl := [])).mpr ⟨?_, fun q hq => ?_⟩
  · rw [List.map_append, List.nodup_append]
    refine ⟨m1, n2, fun a ha b hb => n3 a ?_ b hb⟩
    obtain ⟨z, hz, rfl⟩ := List.mem_map.mp ha
    exact List.mem_map.mpr ⟨z, pick_mem (by rw [hs2]; exact hz), rfl⟩
  · rcases List.mem_append.mp hq with k | k
    · exact m2 q k
    · exact h2 q (List.mem_append_right _ k)
section AAL
variable {p : Program} {l : Launch} {e : Env} {R : Room} {s : State} {m : MethodId} {args : Array Value} {below : List Frame} {meth : Method} {c : Code} {H : Heap} {locs : List Loc} {cells slots : Nat} {Q : State → Prop}
variable {cc : ByteArray} {pc : Nat} {ls : Array Slot} {rest : List Value} {D : va_G} {cl : List vw_C} {tys : List (ClassId × FieldType)} {ws : va_W} {q a : Nat}
theorem wn_aald (hx : p.tables.exec = Jvm.exec) (hb : c.code = cc) (hK : va_K D cl tys s) (hP : va_P D cl ws H) (q0 t0 : Nat) {cA : ClassId} {C : String} {n : Nat} {f : Nat → Option Nat} {v : Value} (ha : ws[q0]? = some (q, .inl (cA, n, .inr (.inr (.inr (.inr f)))))) (ht : tys[t0]? = some (cA, .object C)) (hin : a < n) (hn : n < 2147483648) (hv : va_rf (f a) = v) (hdg : decode cc pc = .ok (.aaload, 1))
    (kk : W p l e R s m args below meth c H locs cells slots Q (F0 m (pc + 1) ls (v :: rest))) : W p l e R s m args below meth c H locs cells slots Q (F0 m pc ls (.int (nI a) :: .ref q :: rest)) :=
  va_aldq hx hb hK hP q0 t0 ha ht (vp_in_nI hin hn) hdg (by rw [nI_clamp (Nat.lt_trans hin hn), hv]; exact kk)
end AAL
