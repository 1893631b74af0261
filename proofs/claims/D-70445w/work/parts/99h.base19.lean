/-! BASE 19: a default method of an interface that needn't be initialized; super.mark; a square's mark by the interface's method -/
set_option maxRecDepth 100000
/-- a method's walk by itself: no word on its class's state -/
def MetN (l : Launch) (y : MethodName) (ws : List Cond) (rm : Room) (Pc : Array Value → State → Prop) (Qc : Array Value → State → Outcome → State → Prop) (mc ms : Nat) (free : Addr → Prop) (bytes : ByteArray) (maxL : Nat) (ret : Option FieldType) : Prop :=
  ∀ (p : Program) (e : Env) (s : State) (m : MethodId) (args : Array Value) (below : List Frame) (meth : Method) (c : Code), p.tables.exec = Jvm.exec → c.code = bytes → c.maxLocals = maxL → meth.sig.returnType = ret → meth.locks = false → s.methodNamed? y = some m → s.vm.method? m = some meth → (∀ w ∈ ws, w.before args s = true) → Pc args s →
    W p l e rm s m args below meth c s.heap [] 0 0 (MQ below Qc args s mc ms free) (entryFrame m args maxL)
section BR
variable {p : Program} {l : Launch} {R : Room} {e : Env} {below : List Frame} {s : State} {sargs : Array Value} {y : MethodName} {len Wt : Nat} {ws : List Cond} {rm : Room} {Pc : Array Value → State → Prop} {Qc : Array Value → State → Outcome → State → Prop} {mc ms : Nat} {free : Addr → Prop} {bytes : ByteArray} {maxL : Nat} {ret : Option FieldType}
theorem back_raw (hM : MetN l y ws rm Pc Qc mc ms free bytes maxL ret) (hy : plainName y.cls = true) (hcode : Cond.code y bytes maxL ret ∈ ws) (hblind : FrameBlind Pc) (hrc : rm.cells = mc) (hrs : rm.slots = ms) (hframes : rm.frames + 1 ≤ R.frames) (hlocals : Wt + (maxL + 11) + rm.locals ≤ R.locals)
    (hws : ∀ w ∈ ws, ∀ (a' : Array Value) (U : State), s.WarmedH U.vm → w.before a' U = true) : Back l R p e below s sargs y len Wt (PreOf R mc ms Pc) (PostOf Qc mc ms free) := by
  intro m meth c A g ig mk a X hg hsize hdg hW hn hp
  obtain ⟨U, Ls, c0, s0⟩ := A
  obtain ⟨hp1, hp2, hp3⟩ := hp
  dsimp only [Pt.U, Pt.locs, Pt.cells, Pt.slots] at X hn hp1 hp2 hp3 ⊢
  obtain ⟨methY, cY, hmY, hcY, hbY, hlY, hrY, hkY, -, -⟩ := Cond.code_spec hn (hws _ hcode a U X.warmed)
  have hplain : U.plainMethod mk := State.plainMethod.of_named (plainFor_of_name hy) hn hmY
  obtain ⟨hS, hdo⟩ := X.into hg hsize hdg a (R' := rm) hmY hcY hkY hplain hframes (by rw [hlY]; omega) (by rw [hrc]; exact hp1) (by rw [hrs]; exact hp2)
  rw [hlY] at hS hdo
  obtain ⟨t, hst, o, hr, hend, hq, L, hfe, hL⟩ := hM p e (U.calling g mk a) mk a (.java g :: below) methY cY (by cases p <;> rfl) hbY hlY hrY hkY hn hmY (fun w h => hws w h _ _ X.warmed) (hblind _ _ _ _ hp3) ((U.setTop g).pushFrame (.java (entryFrame mk a maxL))) rfl hS
  obtain ⟨⟨v, rfl⟩, hW₂, hsame⟩ := id hfe
  obtain ⟨T', X', hWT, hsm, ht⟩ := X.outOf hg hdg hend hW₂ hsame
  refine ⟨v, ⟨T', Ls ++ L, c0 + mc, s0 + ms⟩, X', ⟨g, mk, t, L, by rw [ht]; rfl, by rw [ht]; rfl, hq, rfl, hL, rfl, rfl⟩, ?_⟩
  show Steps p.tables e below _ (T'.setTop _)
  rw [hdo, ← ht]
  exact Steps.weaken (mid := [.java g]) hst
end BR
theorem wn_head {K : State → Prop} {D : va_G} {ws : va_W} {n sz mc ms : Nat} {l : Launch} {cc : ByteArray} {y : MethodName} {ret : Option FieldType} {rm : Room} {av : List Value} {Qc : (Nat → Prop) → Array Value → State → Outcome → State → Prop} (hn : (lg_sl av).length ≤ n)
    (body : ∀ (p : Program) (e : Env) (s : State) (m : MethodId) (args : Array Value) (below : List Frame) (meth : Method) (c : Code) (ls : Array Slot) (Q : State → Prop) (A : Nat → Prop) (H : Heap) (locs : List Loc), p.tables.exec = Jvm.exec → c.code = cc → c.maxLocals = n → meth.sig.returnType = ret → meth.locks = false → s.vm.findClass y.cls = some m.cls → (∀ w ∈ lw_all, w.before args s = true) → meth.name = y.name → K s → va_P D vwCl ws H → va_D A ws → va_S A s.heap H locs → (∀ q : Nat, s.heap.size ≤ q → A q) → lv_has ls n (lv_args 0 av) → Q = MQ below (Qc A) args s mc ms A → W p l e rm s m args below meth c H locs 0 0 Q (F0 m 0 ls [])) :
    MetN l y (ws_ y cc n ret) rm (PcA K D av ws sz) (Qc (va_A ws sz)) mc ms (va_A ws sz) cc n ret := by
  intro p e s m args below meth c hx hb hml hret hlk hnm hme hws hv
  obtain ⟨rfl, hsz, hK, hP, hD⟩ := hv
  subst hsz
  have hts : ∀ w ∈ lw_all, w.before _ s = true := fun w h => hws w (List.mem_cons_of_mem _ h)
  rw [lg_entry_eq]
  exact body p e s m _ below meth c _ _ _ _ _ hx hb hml hret hlk (findClass_of_methodNamed hnm) hts (name_of_methodNamed hnm hme).1 hK hP hD.self va_S.rf (fun q h => Or.inr h) (lv_entry av hn) rfl
abbrev dMk : String := "(LLampSquares$Trail;LLampSquares$Door;)I"
abbrev xSmk : MethodName := ⟨"LampSquares$Square", "mark", dMk⟩
abbrev xMmk : MethodName := ⟨"LampSquares$Marked", "mark", dMk⟩
theorem sel_to {args : Array Value} {s : State} {C : String} {x x' y : MethodName} (h : s.methodFound? x.cls x.name x.desc = s.methodFound? x'.cls x'.name x'.desc) (hs : (Cond.selects C x y).before args s = true) : (Cond.selects C x' y).before args s = true := by
  simp only [Cond.before, Cond.holds, Cond.value] at hs ⊢
  rw [← h]
  exact hs
section MK
variable {p : Program} {l : Launch} {e : Env} {R : Room} {s : State} {m : MethodId} {args : Array Value} {below : List Frame} {meth : Method} {c : Code} {H : Heap} {locs : List Loc} {cells slots : Nat} {Q : State → Prop}
variable {y : MethodName} {bytes cc : ByteArray} {maxL nL mc ms n index : Nat} {ret : Option FieldType} {rm : Room} {Pc : Array Value → State → Prop} {Qc : Array Value → State → Outcome → State → Prop} {free : Addr → Prop} {own C owner : String} {cC : ClassId} {b : Addr} {As rest : List Value} {g : JFrame} {D : va_G} {ca : Nat → ClassId}
theorem KK.same (h : KK D ca s) : (Cond.sameMethod "LampSquares$Square" "LampSquares$Marked" "mark" dMk).before args s = true := h.2.2.2.2.2.1 _ (List.mem_cons_of_mem _ List.mem_cons_self)
/-- Square.mark, called on an object: the named method is Marked's -/
theorem cw_mark (hKK : KK D ca s) (ht : ∀ w ∈ lw_all, w.before args s = true) (hl : Cond.methodLink own index xSmk ∈ defaultWords_1) (h3 : Cond.selects C xMmk y ∈ lw_all) (h4 : Cond.instanceMethod y ∈ lw_all) (h5 : Cond.initialized y.cls ∈ lw_all) (h6 : Cond.code y bytes maxL ret ∈ lw_all) (hrc : rm.cells = mc) (hrs : rm.slots = ms) (hR : rm.frames + 1 ≤ R.frames ∧ 8 + (maxL + 11) + rm.locals ≤ R.locals) :
    va_CU R s args own C "LampSquares$Marked" index xSmk y bytes maxL ret (ws_ y bytes maxL ret) rm mc ms 2 := by
  have hs : (Cond.sameMethod "LampSquares$Square" "LampSquares$Marked" "mark" dMk).before args s = true := hKK.same
  have hlk : (Cond.methodLink own index xSmk).before args s = true := hKK.2.2.2.2.2.1 _ hl
  obtain ⟨-, -, r1, -, -, -, hf, hn1⟩ := Cond.sameMethod_found hs
  have hf2 : s.methodFound? xMmk.cls xMmk.name xMmk.desc = some r1 := State.methodFound?_of_named hn1 (by decide)
  refine ⟨⟨hrc, hrs, hR.1, hR.2, pay_in ht (lw_meth h6), List.mem_cons_self⟩, ht _ h6, ht _ h5, by decide, fun sig h => ?_, hlk, hs, va_Decl.of (ht _ q1102) (ht _ q1103), sel_to (hf2.trans hf.symm) (ht _ h3), ht _ h4⟩
  have h2 : (parseMethodDescriptor dMk).map (fun d => d.parameters.length) = some 2 := by decide +kernel
  rw [show parseMethodDescriptor dMk = some sig from h] at h2
  exact (Option.some.inj h2).symm
/-- super.mark(..): Marked's method -/
theorem sp_mark (hat : ClassAt s C cC) (S : CallFix p m c cc nL s args lw_all own) (hM : MetN l yX14_mark (ws_ yX14_mark cX14_mark 3 (some .int)) rm Pc Qc mc ms free cX14_mark 3 (some .int)) (hKK : KK D ca s) (hl : Cond.methodLink own index xSmk ∈ defaultWords_1) (h3 : Cond.superclass own "LampSquares$Square" ∈ lw_all) (hrc : rm.cells = mc) (hrs : rm.slots = ms) (hR : rm.frames + 1 ≤ R.frames ∧ 8 + (3 + 11) + rm.locals ≤ R.locals) (hp : PreV s H C b Pc As)
    (hg : g.method = m) (hn : As.length = 2) (hsize : g.locals.size = nL) (hstack : g.stack = As.reverse ++ .ref b :: rest) (hW : 2 * g.monitorRoom + (rest.map fun v => v.category).sum ≤ 8) (hdg : decode cc g.pc = .ok (.invokespecial index, 3)) (hf : cells + mc ≤ R.cells ∧ slots + ms ≤ R.slots) :
    va_Run p l e R s m args below meth c H locs cells slots mc ms g rest (Qc (Value.ref b :: As).toArray) (free) := by
  obtain ⟨hx, hb, hml, ho, ht⟩ := S
  have hK : Back l R p e below s args yX14_mark 3 8 (PreOf R mc ms Pc) (PostOf Qc mc ms free) := back_raw hM (by decide) List.mem_cons_self hp.1 hrc hrs hR.1 hR.2 (pay_in ht (lw_meth q1103))
  obtain ⟨-, ⟨cellB, hcB, hoB, hclB⟩, hPc⟩ := hp
  obtain ⟨hfc, kB, hkB, -⟩ := hat
  cases hfc.symm.trans hclB
  obtain ⟨mk, methM, hnamed, hmethM, hstM, habM⟩ := Cond.instanceMethod_spec (ht _ q1102)
  obtain ⟨methM', cM, hmethM', -, -, -, -, -, -, hsigM⟩ := Cond.code_spec hnamed (ht _ q1103)
  cases hmethM.symm.trans hmethM'
  obtain ⟨ps, dk, kp, hps, hdk, hkp, hsuper, -, -, hnid⟩ := Cond.superclass_spec ho (ht _ h3)
  have hs : (Cond.sameMethod "LampSquares$Square" "LampSquares$Marked" "mark" dMk).before args s = true := hKK.same
  have hlk : (Cond.methodLink own index xSmk).before args s = true := hKK.2.2.2.2.2.1 _ hl
  obtain ⟨cn, ck, r1, hcn, hck, hni, hfd, hn1⟩ := Cond.sameMethod_found hs
  cases hnamed.symm.trans hn1
  cases hps.symm.trans hcn
  obtain ⟨cS, mkS, hcS, hmS, hlS⟩ := hKK.2.2.2.2.2.2.1
  cases hps.symm.trans hcS
  cases hnamed.symm.trans hmS
  obtain ⟨kr, hkr, -⟩ := className_of_methodNamed hnamed
  obtain ⟨hrn, hrd⟩ := name_of_methodNamed hnamed hmethM
  have hlen : ∀ sig, parseMethodDescriptor dMk = some sig → 2 = sig.parameters.length := by
    intro sig h
    have h2 : (parseMethodDescriptor dMk).map (fun d => d.parameters.length) = some 2 := by decide +kernel
    rw [h] at h2
    exact (Option.some.inj h2).symm
  intro T hT X
  have hpl : e.platform.magicAccessors = ({} : Platform).magicAccessors := by rw [X.admits.platform]
  obtain ⟨ci, hlU, hright⟩ := Cond.methodLink_specUp ho hps hck hni hfd hlk e.platform hpl (by rw [X.admits.platform])
  obtain ⟨dk₀, cfile, nt, _, _, ck₀, _, _, hd₀, hcf, hcp, -, -, -, hc₀, -, hpoly, -⟩ := hlU.here
  cases hdk.symm.trans hd₀
  cases hck.symm.trans hc₀
  subst hg
  obtain ⟨vm₁, hW₁, hstep₁⟩ := Steps.invokeSuperColdArgs (tb := p.tables) (e := e) (s₀ := s) (U := T) (f := g) (args := As) (rest := rest) (a := b) (cell := cellB) (m := mk) X.here hx (by rw [hb]; exact hdg) X.warmed hlU hright hdk hcf hcp hmethM hck
    (by rw [hrn]; rfl) hstM (by rw [hrn, hrd, hsuper]; simpa using hlS) hnid hkr habM (hn.trans (hlen _ hsigM)) hstack (by rw [hT]; exact hcB) (fun z h => by rw [h] at hoB; cases hoB) hkB
  have X₁ := X.noted hW₁
  obtain ⟨v, ⟨U', l2, c2, s2⟩, X', ⟨g', mk', t, L, e1, e2, hq, h1, hL, h2, h3⟩, hsteps⟩ := hK g.method meth c ⟨T.setVm vm₁, locs, cells, slots⟩ { g with stack := rest } (.invokespecial index) mk (Value.ref b :: As).toArray X₁ rfl (hsize.trans hml.symm) (by rw [hb]; exact hdg) hW (X₁.named hnamed) ⟨hf.1, hf.2, hPc (T.setVm vm₁) hT X₁.warmed⟩
  dsimp only [Pt.U, Pt.locs, Pt.cells, Pt.slots] at X' e1 e2 h1 h2 h3 hsteps
  subst h1; subst h2; subst h3
  exact ⟨v, (T.setVm vm₁).calling g' mk' (Value.ref b :: As).toArray, t, U', L, hT, X', hL, e1, e2, hq, fun target h => hstep₁ _ (hsteps.trans h)⟩
end MK
theorem lw_SP {own : String} {idx : Nat} {owner : String} {x y : MethodName} {b : ByteArray} {L : Nat} {r : Option FieldType} (h1 : Cond.methodLink own idx x ∈ lw_all) (h2 : Cond.sameMethod x.cls owner x.name x.desc ∈ lw_all) (h3 : Cond.superclass own x.cls ∈ lw_all) (h4 : Cond.instanceMethod y ∈ lw_all) (h5 : Cond.initialized y.cls ∈ lw_all) (h6 : Cond.code y b L r ∈ lw_all) : GoodIn lw_all (wsSP own idx owner x y (ws_ y b L r)) := by
  refine lw_app (fun w hw => ?_) (lw_meth h6)
  simp only [List.mem_cons, List.not_mem_nil, or_false] at hw
  rcases hw with e | e | e | e | e
  · rw [e]; exact h1
  · rw [e]; exact h2
  · rw [e]; exact h3
  · rw [e]; exact h4
  · rw [e]; exact h5
theorem cli_cnt (d : Nat → Nat) (q n : Nat) : cliN d q n = cntP (fun z => clkD d z q) n := by
  induction n with
  | zero => rfl
  | succ n ih =>
    show cliN d q n + _ = cntP _ n + _
    rw [ih]
theorem cli_bit {d : Nat → Nat} {q : Nat} (h3 : d 3 ≤ 5) : bitN (setN (fun z => clkD d z q) (d 3)) 8 = cliN d q (d 3) := by
  rw [bitN_cnt, cntP_ext (n := d 3) (by omega), cli_cnt]
  · refine cntP_congr fun i hi => ?_
    simp only [setN_bit, hi, decide_true, Bool.true_and]
  · intro i hi
    have : ¬ i < d 3 := by omega
    simp [setN_bit, this]
