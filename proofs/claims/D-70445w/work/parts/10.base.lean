/-! BASE: rows over the kit's rows with ints kept as numbers (nI), truth values (bI); readers (methods that change nothing) by contract -/
set_option maxRecDepth 100000
abbrev vwCl : List vw_C := [(RX0, TX0, 12), (RX1, TX1, 12), (RX2, TX2, 2), (RX4, TX4, 1), (RX5, TX5, 1), (RX6, TX6, 1), (RX7, TX7, 1), (RX8, TX8, 1), (RX9, TX9, 24), (RX10, TX10, 7), (RX11, TX11, 2), (RX12, TX12, 7), (RX13, TX13, 8), (RJ2, TJ2, 3)]
abbrev tysG (ca : Nat → ClassId) : List (ClassId × FieldType) := [(ca 0, .int), (ca 1, .byte), (ca 2, .long), (ca 3, .boolean), (ca 4, .object "LampSquares$Row"), (ca 5, .object "LampSquares$Door"), (ca 6, .object "LampSquares$Square"), (ca 7, .object "java/lang/Object")]
def K1 (D : va_G) (ca : Nat → ClassId) (U : State) : Prop := va_K D vwCl (tysG ca) U
/-- a fact of the tables that stays when they warm -/
def KMv (K : State → Prop) : Prop := ∀ s U : State, s.WarmedH U.vm → K s → K U
theorem K1_mv (D : va_G) (ca : Nat → ClassId) : KMv (K1 D ca) := fun _ _ hW h => va_K.moved hW.alike h
theorem KMv.blind {K : State → Prop} (h : KMv K) {U : State} {g : JFrame} {mk : MethodId} {a : Array Value} (hK : K U) : K (U.calling g mk a) := h U _ (State.WarmedH.refl U) hK
def bI (b : Bool) : Int32 := if b then 1 else 0
theorem bI_t : bI true = 1 := rfl
theorem bI_f : bI false = 0 := rfl
theorem bI_0 {b : Bool} : bI b = 0 ↔ b = false := by cases b <;> decide
theorem bI_nI (b : Bool) : bI b = nI (if b then 1 else 0) := by cases b <;> rfl
theorem bI_nar (b : Bool) : narrow .boolean (.int (bI b)) = .int (bI b) := by cases b <;> rfl
def rmL (k : Nat) : Room := { frames := k, cells := 0, slots := 0, locals := 40 * k }
/-- a reader's start: its arguments, the tables, the cells it reads -/
def PcR (K : State → Prop) (D : va_G) (av : List Value) (ro : va_W) : Array Value → State → Prop := va_Pc av (fun U => K U ∧ va_P D vwCl ro U.heap)
theorem PcR_blind {K : State → Prop} {D : va_G} {av : List Value} {ro : va_W} (h : KMv K) : FrameBlind (PcR K D av ro) := fun _ _ _ _ hp => ⟨hp.1, h.blind hp.2.1, hp.2.2⟩
theorem PcR_at {K : State → Prop} {D : va_G} {av : List Value} {ro : va_W} {s : State} {H : Heap} (h : KMv K) (hK : K s) (hP : va_P D vwCl ro H) : ∀ U : State, U.heap = H → s.WarmedH U.vm → PcR K D av ro av.toArray U := fun U hU hW => ⟨rfl, h s U hW hK, by rw [hU]; exact hP⟩
section RD
variable {p : Program} {l : Launch} {e : Env} {R : Room} {s : State} {m : MethodId} {args : Array Value} {below : List Frame} {meth : Method} {c : Code} {H : Heap} {locs : List Loc} {cells slots : Nat} {Q : State → Prop}
variable {cc : ByteArray} {pc : Nat} {ls : Array Slot} {rest st0 : List Value} {K : State → Prop} {D : va_G} {ro : va_W} {n : Nat}
/-- the head of a reader -/
theorem rd_head {y : MethodName} {ret : Option FieldType} {rm : Room} {av : List Value} {Qc : Array Value → State → Outcome → State → Prop} (hy : plainName y.cls = true) (hn : (lg_sl av).length ≤ n)
    (body : ∀ (p : Program) (e : Env) (s : State) (m : MethodId) (args : Array Value) (below : List Frame) (meth : Method) (c : Code) (ls : Array Slot) (Q : State → Prop), p.tables.exec = Jvm.exec → c.code = cc → c.maxLocals = n → meth.sig.returnType = ret → meth.locks = false → s.vm.findClass y.cls = some m.cls → (∀ w ∈ lw_all, w.before args s = true) → K s → va_P D vwCl ro s.heap → lv_has ls n (lv_args 0 av) → Q = MQ below Qc args s 0 0 (fun _ => False) → W p l e rm s m args below meth c s.heap [] 0 0 Q (F0 m 0 ls [])) :
    Met l y (ws_ y cc n ret) rm (PcR K D av ro) Qc 0 0 (fun _ => False) := by
  refine Met.ofW (cc := cc) (maxL := n) (ret := ret) hy rfl ?_
  intro p e s m args below meth c s₁ B hml hv
  obtain ⟨rfl, hK, hP⟩ := hv
  have hts := atoms_spec (ws := ws_ y cc n ret) B.pre
  have hts : ∀ w ∈ lw_all, w.before _ s = true := fun w h => hts w (List.mem_cons_of_mem _ h)
  rw [lg_entry_eq]
  exact body p e s m _ below meth c _ _ B.exec B.bytes hml B.returns B.notSynchronized (findClass_of_methodNamed B.named) hts hK hP (lv_entry av hn) rfl
theorem rd_iret {v v' : Int32} (hx : p.tables.exec = Jvm.exec) (hb : c.code = cc) (hr : meth.sig.returnType = some .int) (hlk : meth.locks = false) (hQ : Q = MQ below (vp_Si (fun r => r = v')) args s 0 0 (fun _ => False)) (hdg : decode cc pc = .ok (.ireturn, 1)) (hv : v = v') : W p l e R s m args below meth c s.heap [] 0 0 Q (F0 m pc ls [.int v]) := by
  subst hQ
  exact W.iret hx hb hr (fun t ht _ => ⟨v, rfl, hv, ht⟩) (fun q h => by cases h) hdg hlk
theorem rd_zret {b : Bool} {v' : Int32} (hx : p.tables.exec = Jvm.exec) (hb : c.code = cc) (hr : meth.sig.returnType = some .boolean) (hlk : meth.locks = false) (hQ : Q = MQ below (vp_Si (fun r => r = v')) args s 0 0 (fun _ => False)) (hdg : decode cc pc = .ok (.ireturn, 1)) (hv : bI b = v') : W p l e R s m args below meth c s.heap [] 0 0 Q (F0 m pc ls [.int (bI b)]) := by
  subst hQ
  exact W.zret hx hb hr (bI_nar b) (fun t ht _ => ⟨bI b, rfl, hv, ht⟩) (fun q h => by cases h) hdg hlk
theorem rd_lret {v v' : Int64} (hx : p.tables.exec = Jvm.exec) (hb : c.code = cc) (hr : meth.sig.returnType = some .long) (hlk : meth.locks = false) (hQ : Q = MQ below (vp_Sl (fun r => r = v')) args s 0 0 (fun _ => False)) (hdg : decode cc pc = .ok (.lreturn, 1)) (hv : v = v') : W p l e R s m args below meth c s.heap [] 0 0 Q (F0 m pc ls [.long v]) := by
  subst hQ
  exact W.lret hx hb hr (fun t ht _ => ⟨v, rfl, hv, ht⟩) (fun q h => by cases h) hdg hlk
variable {y : MethodName} {bytes : ByteArray} {maxL nL k index : Nat} {ret : Option FieldType} {ws : List Cond} {rm : Room} {own C : String} {b : Addr} {As : List Value}
theorem rd_callS {v : Int32} (F : CallFix p m c cc nL s args lw_all own) (hM : Met l y ws rm (PcR K D As ro) (vp_Si (fun r => r = v)) 0 0 (fun _ => False)) (cw : CallB R s args own index y bytes maxL ret ws rm 0 0 k ∧ (Cond.static y).before args s = true) (hKm : KMv K) (hK : K s) (hP : va_P D vwCl ro H)
    (hn : As.length = k) (hsz : ls.size = nL) (hst : st0 = As.reverse ++ rest) (hw : (rest.map fun v => v.category).sum ≤ 8) (hdg : decode cc pc = .ok (.invokestatic index, 3)) (hc : cells ≤ R.cells ∧ slots ≤ R.slots)
    (kk : W p l e R s m args below meth c H locs cells slots Q (F0 m (pc + 3) ls (.int v :: rest))) : W p l e R s m args below meth c H locs cells slots Q (F0 m pc ls st0) := by
  refine vp_callSi (rest := rest) (va_runS (g := F0 m pc ls st0) F hM cw ⟨PcR_blind hKm, PcR_at hKm hK hP⟩ rfl hn hsz hst (lv_room hw) hdg hc).run (fun r hr => ?_)
  subst hr
  exact kk
theorem rd_callSl {v : Int64} (F : CallFix p m c cc nL s args lw_all own) (hM : Met l y ws rm (PcR K D As ro) (vp_Sl (fun r => r = v)) 0 0 (fun _ => False)) (cw : CallB R s args own index y bytes maxL ret ws rm 0 0 k ∧ (Cond.static y).before args s = true) (hKm : KMv K) (hK : K s) (hP : va_P D vwCl ro H)
    (hn : As.length = k) (hsz : ls.size = nL) (hst : st0 = As.reverse ++ rest) (hw : (rest.map fun v => v.category).sum ≤ 8) (hdg : decode cc pc = .ok (.invokestatic index, 3)) (hc : cells ≤ R.cells ∧ slots ≤ R.slots)
    (kk : W p l e R s m args below meth c H locs cells slots Q (F0 m (pc + 3) ls (.long v :: rest))) : W p l e R s m args below meth c H locs cells slots Q (F0 m pc ls st0) := by
  refine vp_callSl (rest := rest) (va_runS (g := F0 m pc ls st0) F hM cw ⟨PcR_blind hKm, PcR_at hKm hK hP⟩ rfl hn hsz hst (lv_room hw) hdg hc).run (fun r hr => ?_)
  subst hr
  exact kk
theorem rd_callV {v : Int32} (F : CallFix p m c cc nL s args lw_all own) (hM : Met l y ws rm (PcR K D (.ref b :: As) ro) (vp_Si (fun r => r = v)) 0 0 (fun _ => False)) (cw : CallW R s args own C index y bytes maxL ret ws rm 0 0 k) (hKm : KMv K) (hK : K s) (hP : va_P D vwCl ro H)
    (hrc : ∃ cellB : Cell, H[b]? = some cellB ∧ cellB.vm.isStatics = false ∧ s.vm.findClass C = some cellB.cls) (hn : As.length = k) (hsz : ls.size = nL) (hst : st0 = As.reverse ++ .ref b :: rest) (hw : (rest.map fun v => v.category).sum ≤ 8) (hdg : decode cc pc = .ok (.invokevirtual index, 3)) (hc : cells ≤ R.cells ∧ slots ≤ R.slots)
    (kk : W p l e R s m args below meth c H locs cells slots Q (F0 m (pc + 3) ls (.int v :: rest))) : W p l e R s m args below meth c H locs cells slots Q (F0 m pc ls st0) := by
  refine vp_callSi (rest := rest) (va_runV (g := F0 m pc ls st0) (b := b) (As := As) F hM cw ⟨PcR_blind hKm, hrc, PcR_at hKm hK hP⟩ rfl hn hsz hst (lv_room hw) hdg hc).run (fun r hr => ?_)
  subst hr
  exact kk
theorem rd_callVl {v : Int64} (F : CallFix p m c cc nL s args lw_all own) (hM : Met l y ws rm (PcR K D (.ref b :: As) ro) (vp_Sl (fun r => r = v)) 0 0 (fun _ => False)) (cw : CallW R s args own C index y bytes maxL ret ws rm 0 0 k) (hKm : KMv K) (hK : K s) (hP : va_P D vwCl ro H)
    (hrc : ∃ cellB : Cell, H[b]? = some cellB ∧ cellB.vm.isStatics = false ∧ s.vm.findClass C = some cellB.cls) (hn : As.length = k) (hsz : ls.size = nL) (hst : st0 = As.reverse ++ .ref b :: rest) (hw : (rest.map fun v => v.category).sum ≤ 8) (hdg : decode cc pc = .ok (.invokevirtual index, 3)) (hc : cells ≤ R.cells ∧ slots ≤ R.slots)
    (kk : W p l e R s m args below meth c H locs cells slots Q (F0 m (pc + 3) ls (.long v :: rest))) : W p l e R s m args below meth c H locs cells slots Q (F0 m pc ls st0) := by
  refine vp_callSl (rest := rest) (va_runV (g := F0 m pc ls st0) (b := b) (As := As) F hM cw ⟨PcR_blind hKm, hrc, PcR_at hKm hK hP⟩ rfl hn hsz hst (lv_room hw) hdg hc).run (fun r hr => ?_)
  subst hr
  exact kk
theorem lv_to {ls : Array Slot} {nL : Nat} {l l' : List (Nat × Value)} (h : lv_has ls nL l) (he : l = l') : lv_has ls nL l' := he ▸ h
end RD
/-! rows on numbers -/
theorem nx_and (a b : Nat) : nI a &&& nI b = nI (a &&& b) := by
  apply Int32.toBitVec_inj.mp
  show BitVec.ofNat 32 a &&& BitVec.ofNat 32 b = BitVec.ofNat 32 (a &&& b)
  rw [BitVec.ofNat_and]
theorem nx_or (a b : Nat) : nI a ||| nI b = nI (a ||| b) := by
  apply Int32.toBitVec_inj.mp
  show BitVec.ofNat 32 a ||| BitVec.ofNat 32 b = BitVec.ofNat 32 (a ||| b)
  rw [BitVec.ofNat_or]
theorem nx_xor (a b : Nat) : nI a ^^^ nI b = nI (a ^^^ b) := by
  apply Int32.toBitVec_inj.mp
  show BitVec.ofNat 32 a ^^^ BitVec.ofNat 32 b = BitVec.ofNat 32 (a ^^^ b)
  rw [BitVec.ofNat_xor]
theorem sh_l : ∀ n, n < 32 → ((nI n &&& 31).toBitVec.smod 32).toNat = n := by decide +kernel
theorem nx_shl {a k : Nat} (hk : k < 32) (h : a * 2 ^ k < 2 ^ 32) : nI a <<< (nI k &&& 31) = nI (a * 2 ^ k) := pk_shlN _ k (sh_l k hk) h
theorem nx_shr {a k : Nat} (hk : k < 32) (h : a < 2 ^ 31) : nI a >>> (nI k &&& 31) = nI (a / 2 ^ k) := pk_shrN h _ k (sh_l k hk)
theorem nI_if {b : Prop} [Decidable b] (x y : Nat) : (if b then nI x else nI y) = nI (if b then x else y) := by split <;> rfl
section WN
variable {p : Program} {l : Launch} {e : Env} {R : Room} {s : State} {m : MethodId} {args : Array Value} {below : List Frame} {meth : Method} {c : Code} {H : Heap} {locs : List Loc} {cells slots : Nat} {Q : State → Prop}
variable {cc : ByteArray} {pc : Nat} {ls : Array Slot} {rest : List Value} {a b : Nat} {off : Int} {tgt : Nat}
theorem wn_add (hx : p.tables.exec = Jvm.exec) (hb : c.code = cc) (hdg : decode cc pc = .ok (.iadd, 1)) (k : W p l e R s m args below meth c H locs cells slots Q (F0 m (pc + 1) ls (.int (nI (a + b)) :: rest))) : W p l e R s m args below meth c H locs cells slots Q (F0 m pc ls (.int (nI b) :: .int (nI a) :: rest)) := lv_iadd hx hb hdg (by rw [nI_add]; exact k)
theorem wn_sub (hx : p.tables.exec = Jvm.exec) (hb : c.code = cc) (h : b ≤ a) (hdg : decode cc pc = .ok (.isub, 1)) (k : W p l e R s m args below meth c H locs cells slots Q (F0 m (pc + 1) ls (.int (nI (a - b)) :: rest))) : W p l e R s m args below meth c H locs cells slots Q (F0 m pc ls (.int (nI b) :: .int (nI a) :: rest)) := lv_isub hx hb hdg (by rw [pk_sub h]; exact k)
theorem wn_mul (hx : p.tables.exec = Jvm.exec) (hb : c.code = cc) (hdg : decode cc pc = .ok (.imul, 1)) (k : W p l e R s m args below meth c H locs cells slots Q (F0 m (pc + 1) ls (.int (nI (a * b)) :: rest))) : W p l e R s m args below meth c H locs cells slots Q (F0 m pc ls (.int (nI b) :: .int (nI a) :: rest)) := lv_imul hx hb hdg (by rw [pk_mul]; exact k)
theorem wn_and (hx : p.tables.exec = Jvm.exec) (hb : c.code = cc) (hdg : decode cc pc = .ok (.iand, 1)) (k : W p l e R s m args below meth c H locs cells slots Q (F0 m (pc + 1) ls (.int (nI (a &&& b)) :: rest))) : W p l e R s m args below meth c H locs cells slots Q (F0 m pc ls (.int (nI b) :: .int (nI a) :: rest)) := lv_iand hx hb hdg (by rw [nx_and]; exact k)
theorem wn_or (hx : p.tables.exec = Jvm.exec) (hb : c.code = cc) (hdg : decode cc pc = .ok (.ior, 1)) (k : W p l e R s m args below meth c H locs cells slots Q (F0 m (pc + 1) ls (.int (nI (a ||| b)) :: rest))) : W p l e R s m args below meth c H locs cells slots Q (F0 m pc ls (.int (nI b) :: .int (nI a) :: rest)) := lv_ior hx hb hdg (by rw [nx_or]; exact k)
theorem wn_xor (hx : p.tables.exec = Jvm.exec) (hb : c.code = cc) (hdg : decode cc pc = .ok (.ixor, 1)) (k : W p l e R s m args below meth c H locs cells slots Q (F0 m (pc + 1) ls (.int (nI (a ^^^ b)) :: rest))) : W p l e R s m args below meth c H locs cells slots Q (F0 m pc ls (.int (nI b) :: .int (nI a) :: rest)) := lv_ixor hx hb hdg (by rw [nx_xor]; exact k)
theorem wn_shl (hx : p.tables.exec = Jvm.exec) (hb : c.code = cc) (h1 : b < 32) (h2 : a * 2 ^ b < 2 ^ 32) (hdg : decode cc pc = .ok (.ishl, 1)) (k : W p l e R s m args below meth c H locs cells slots Q (F0 m (pc + 1) ls (.int (nI (a * 2 ^ b)) :: rest))) : W p l e R s m args below meth c H locs cells slots Q (F0 m pc ls (.int (nI b) :: .int (nI a) :: rest)) := lv_ishl hx hb hdg (by rw [nx_shl h1 h2]; exact k)
theorem wn_shr (hx : p.tables.exec = Jvm.exec) (hb : c.code = cc) (h1 : b < 32) (h2 : a < 2 ^ 31) (hdg : decode cc pc = .ok (.ishr, 1)) (k : W p l e R s m args below meth c H locs cells slots Q (F0 m (pc + 1) ls (.int (nI (a / 2 ^ b)) :: rest))) : W p l e R s m args below meth c H locs cells slots Q (F0 m pc ls (.int (nI b) :: .int (nI a) :: rest)) := lv_ishr hx hb hdg (by rw [nx_shr h1 h2]; exact k)
theorem wn_eq (hx : p.tables.exec = Jvm.exec) (hb : c.code = cc) (ha : a < 2147483648) (hc : b < 2147483648) (hdg : decode cc pc = .ok (.if_icmp .eq off, 3)) (ht : (pc : Int) + off = (tgt : Int)) (kt : a = b → W p l e R s m args below meth c H locs cells slots Q (F0 m tgt ls rest)) (kf : a ≠ b → W p l e R s m args below meth c H locs cells slots Q (F0 m (pc + 3) ls rest)) : W p l e R s m args below meth c H locs cells slots Q (F0 m pc ls (.int (nI b) :: .int (nI a) :: rest)) :=
  lv_icmp_eq hx hb hdg ht (fun h => kt ((nI_eq ha hc).mp h)) (fun h => kf (fun q => h ((nI_eq ha hc).mpr q)))
theorem wn_ne (hx : p.tables.exec = Jvm.exec) (hb : c.code = cc) (ha : a < 2147483648) (hc : b < 2147483648) (hdg : decode cc pc = .ok (.if_icmp .ne off, 3)) (ht : (pc : Int) + off = (tgt : Int)) (kt : a ≠ b → W p l e R s m args below meth c H locs cells slots Q (F0 m tgt ls rest)) (kf : a = b → W p l e R s m args below meth c H locs cells slots Q (F0 m (pc + 3) ls rest)) : W p l e R s m args below meth c H locs cells slots Q (F0 m pc ls (.int (nI b) :: .int (nI a) :: rest)) :=
  lv_icmp_ne hx hb hdg ht (fun h => kt (fun q => h ((nI_eq ha hc).mpr q))) (fun h => kf ((nI_eq ha hc).mp h))
theorem wn_lt (hx : p.tables.exec = Jvm.exec) (hb : c.code = cc) (ha : a < 2147483648) (hc : b < 2147483648) (hdg : decode cc pc = .ok (.if_icmp .lt off, 3)) (ht : (pc : Int) + off = (tgt : Int)) (kt : a < b → W p l e R s m args below meth c H locs cells slots Q (F0 m tgt ls rest)) (kf : b ≤ a → W p l e R s m args below meth c H locs cells slots Q (F0 m (pc + 3) ls rest)) : W p l e R s m args below meth c H locs cells slots Q (F0 m pc ls (.int (nI b) :: .int (nI a) :: rest)) :=
  lv_icmp_lt hx hb hdg ht (fun h => kt ((nI_ltI ha hc).mp h)) (fun h => kf (Nat.not_lt.mp fun q => h ((nI_ltI ha hc).mpr q)))
theorem wn_ge (hx : p.tables.exec = Jvm.exec) (hb : c.code = cc) (ha : a < 2147483648) (hc : b < 2147483648) (hdg : decode cc pc = .ok (.if_icmp .ge off, 3)) (ht : (pc : Int) + off = (tgt : Int)) (kt : b ≤ a → W p l e R s m args below meth c H locs cells slots Q (F0 m tgt ls rest)) (kf : a < b → W p l e R s m args below meth c H locs cells slots Q (F0 m (pc + 3) ls rest)) : W p l e R s m args below meth c H locs cells slots Q (F0 m pc ls (.int (nI b) :: .int (nI a) :: rest)) :=
  lv_icmp_ge hx hb hdg ht (fun h => kt ((nI_leI hc ha).mp h)) (fun h => kf (Nat.not_le.mp fun q => h ((nI_leI hc ha).mpr q)))
theorem wn_gt (hx : p.tables.exec = Jvm.exec) (hb : c.code = cc) (ha : a < 2147483648) (hc : b < 2147483648) (hdg : decode cc pc = .ok (.if_icmp .gt off, 3)) (ht : (pc : Int) + off = (tgt : Int)) (kt : b < a → W p l e R s m args below meth c H locs cells slots Q (F0 m tgt ls rest)) (kf : a ≤ b → W p l e R s m args below meth c H locs cells slots Q (F0 m (pc + 3) ls rest)) : W p l e R s m args below meth c H locs cells slots Q (F0 m pc ls (.int (nI b) :: .int (nI a) :: rest)) :=
  lv_icmp_gt hx hb hdg ht (fun h => kt ((nI_ltI hc ha).mp h)) (fun h => kf (Nat.not_lt.mp fun q => h ((nI_ltI hc ha).mpr q)))
theorem wn_le (hx : p.tables.exec = Jvm.exec) (hb : c.code = cc) (ha : a < 2147483648) (hc : b < 2147483648) (hdg : decode cc pc = .ok (.if_icmp .le off, 3)) (ht : (pc : Int) + off = (tgt : Int)) (kt : a ≤ b → W p l e R s m args below meth c H locs cells slots Q (F0 m tgt ls rest)) (kf : b < a → W p l e R s m args below meth c H locs cells slots Q (F0 m (pc + 3) ls rest)) : W p l e R s m args below meth c H locs cells slots Q (F0 m pc ls (.int (nI b) :: .int (nI a) :: rest)) :=
  lv_icmp_le hx hb hdg ht (fun h => kt ((nI_leI ha hc).mp h)) (fun h => kf (Nat.not_le.mp fun q => h ((nI_leI ha hc).mpr q)))
theorem nI_z {a : Nat} (ha : a < 2147483648) : nI a = 0 ↔ a = 0 := by rw [← nI_0]; exact nI_eq ha (by decide)
theorem wn_ifeq (hx : p.tables.exec = Jvm.exec) (hb : c.code = cc) (ha : a < 2147483648) (hdg : decode cc pc = .ok (.ifCond .eq off, 3)) (ht : (pc : Int) + off = (tgt : Int)) (kt : a = 0 → W p l e R s m args below meth c H locs cells slots Q (F0 m tgt ls rest)) (kf : a ≠ 0 → W p l e R s m args below meth c H locs cells slots Q (F0 m (pc + 3) ls rest)) : W p l e R s m args below meth c H locs cells slots Q (F0 m pc ls (.int (nI a) :: rest)) :=
  lv_if_eq hx hb hdg ht (fun h => kt ((nI_z ha).mp h)) (fun h => kf (fun q => h ((nI_z ha).mpr q)))
theorem wn_ifne (hx : p.tables.exec = Jvm.exec) (hb : c.code = cc) (ha : a < 2147483648) (hdg : decode cc pc = .ok (.ifCond .ne off, 3)) (ht : (pc : Int) + off = (tgt : Int)) (kt : a ≠ 0 → W p l e R s m args below meth c H locs cells slots Q (F0 m tgt ls rest)) (kf : a = 0 → W p l e R s m args below meth c H locs cells slots Q (F0 m (pc + 3) ls rest)) : W p l e R s m args below meth c H locs cells slots Q (F0 m pc ls (.int (nI a) :: rest)) :=
  lv_if_ne hx hb hdg ht (fun h => kt (fun q => h ((nI_z ha).mpr q))) (fun h => kf ((nI_z ha).mp h))
theorem wn_ifle (hx : p.tables.exec = Jvm.exec) (hb : c.code = cc) (ha : a < 2147483648) (hdg : decode cc pc = .ok (.ifCond .le off, 3)) (ht : (pc : Int) + off = (tgt : Int)) (kt : a = 0 → W p l e R s m args below meth c H locs cells slots Q (F0 m tgt ls rest)) (kf : 0 < a → W p l e R s m args below meth c H locs cells slots Q (F0 m (pc + 3) ls rest)) : W p l e R s m args below meth c H locs cells slots Q (F0 m pc ls (.int (nI a) :: rest)) :=
  lv_if_le hx hb hdg ht (fun h => kt (Nat.le_zero.mp ((nI_leI ha (by decide)).mp (by rw [nI_0]; exact h)))) (fun h => kf (Nat.pos_of_ne_zero fun q => h (by rw [q, nI_0]; decide)))
theorem wn_ifgt (hx : p.tables.exec = Jvm.exec) (hb : c.code = cc) (ha : a < 2147483648) (hdg : decode cc pc = .ok (.ifCond .gt off, 3)) (ht : (pc : Int) + off = (tgt : Int)) (kt : 0 < a → W p l e R s m args below meth c H locs cells slots Q (F0 m tgt ls rest)) (kf : a = 0 → W p l e R s m args below meth c H locs cells slots Q (F0 m (pc + 3) ls rest)) : W p l e R s m args below meth c H locs cells slots Q (F0 m pc ls (.int (nI a) :: rest)) :=
  lv_if_gt hx hb hdg ht (fun h => kt (Nat.pos_of_ne_zero fun q => by rw [q, nI_0] at h; exact absurd h (by decide))) (fun h => kf (Nat.le_zero.mp (Nat.not_lt.mp fun q => h (by rw [← nI_0]; exact (nI_ltI (by decide) ha).mpr q))))
theorem wn_iflt (hx : p.tables.exec = Jvm.exec) (hb : c.code = cc) (ha : a < 2147483648) (hdg : decode cc pc = .ok (.ifCond .lt off, 3)) (ht : (pc : Int) + off = (tgt : Int)) (kf : W p l e R s m args below meth c H locs cells slots Q (F0 m (pc + 3) ls rest)) : W p l e R s m args below meth c H locs cells slots Q (F0 m pc ls (.int (nI a) :: rest)) :=
  lv_if_lt hx hb hdg ht (fun h => absurd h (nI_pos ha)) (fun _ => kf)
theorem wn_ifge (hx : p.tables.exec = Jvm.exec) (hb : c.code = cc) (ha : a < 2147483648) (hdg : decode cc pc = .ok (.ifCond .ge off, 3)) (ht : (pc : Int) + off = (tgt : Int)) (kt : W p l e R s m args below meth c H locs cells slots Q (F0 m tgt ls rest)) : W p l e R s m args below meth c H locs cells slots Q (F0 m pc ls (.int (nI a) :: rest)) :=
  lv_if_ge hx hb hdg ht (fun _ => kt) (fun h => absurd (nI_pos' ha) h)
theorem wb_eq {b : Bool} (hx : p.tables.exec = Jvm.exec) (hb : c.code = cc) (hdg : decode cc pc = .ok (.ifCond .eq off, 3)) (ht : (pc : Int) + off = (tgt : Int)) (kt : b = false → W p l e R s m args below meth c H locs cells slots Q (F0 m tgt ls rest)) (kf : b = true → W p l e R s m args below meth c H locs cells slots Q (F0 m (pc + 3) ls rest)) : W p l e R s m args below meth c H locs cells slots Q (F0 m pc ls (.int (bI b) :: rest)) :=
  lv_if_eq hx hb hdg ht (fun h => kt (bI_0.mp h)) (fun h => kf (by cases b with | false => exact absurd rfl h | true => rfl))
theorem wb_ne {b : Bool} (hx : p.tables.exec = Jvm.exec) (hb : c.code = cc) (hdg : decode cc pc = .ok (.ifCond .ne off, 3)) (ht : (pc : Int) + off = (tgt : Int)) (kt : b = true → W p l e R s m args below meth c H locs cells slots Q (F0 m tgt ls rest)) (kf : b = false → W p l e R s m args below meth c H locs cells slots Q (F0 m (pc + 3) ls rest)) : W p l e R s m args below meth c H locs cells slots Q (F0 m pc ls (.int (bI b) :: rest)) :=
  lv_if_ne hx hb hdg ht (fun h => kt (by cases b with | false => exact absurd rfl h | true => rfl)) (fun h => kf (bI_0.mp h))
theorem bI_inj {a b : Bool} : bI a = bI b ↔ a = b := by cases a <;> cases b <;> decide
theorem wb_ieq {a b : Bool} (hx : p.tables.exec = Jvm.exec) (hb : c.code = cc) (hdg : decode cc pc = .ok (.if_icmp .eq off, 3)) (ht : (pc : Int) + off = (tgt : Int)) (kt : a = b → W p l e R s m args below meth c H locs cells slots Q (F0 m tgt ls rest)) (kf : ¬ a = b → W p l e R s m args below meth c H locs cells slots Q (F0 m (pc + 3) ls rest)) : W p l e R s m args below meth c H locs cells slots Q (F0 m pc ls (.int (bI b) :: .int (bI a) :: rest)) :=
  lv_icmp_eq hx hb hdg ht (fun h => kt (bI_inj.mp h)) (fun h => kf (fun q => h (bI_inj.mpr q)))
theorem wb_ine {a b : Bool} (hx : p.tables.exec = Jvm.exec) (hb : c.code = cc) (hdg : decode cc pc = .ok (.if_icmp .ne off, 3)) (ht : (pc : Int) + off = (tgt : Int)) (kt : ¬ a = b → W p l e R s m args below meth c H locs cells slots Q (F0 m tgt ls rest)) (kf : a = b → W p l e R s m args below meth c H locs cells slots Q (F0 m (pc + 3) ls rest)) : W p l e R s m args below meth c H locs cells slots Q (F0 m pc ls (.int (bI b) :: .int (bI a) :: rest)) :=
  lv_icmp_ne hx hb hdg ht (fun h => kt (fun q => h (bI_inj.mpr q))) (fun h => kf (bI_inj.mp h))
theorem nI1_1 : nI 1 = 1 := rfl
theorem lgc_lt {x y : Int64} : lg_cmp x y < 0 ↔ x < y := by
  unfold lg_cmp
  by_cases h1 : y < x
  · simp only [if_pos (show x > y from h1)]
    exact ⟨fun h => absurd h (by decide), fun h => absurd h (lg_lt_not h1)⟩
  · simp only [if_neg (show ¬ x > y from h1)]
    by_cases h2 : x = y
    · simp only [if_pos h2]
      exact ⟨fun h => absurd h (by decide), fun h => absurd (h2 ▸ h) (by rw [Int64.lt_iff_toInt_lt]; omega)⟩
    · simp only [if_neg h2]
      refine ⟨fun _ => ?_, fun _ => by decide⟩
      rw [Int64.lt_iff_toInt_lt] at h1 ⊢
      have : x.toInt ≠ y.toInt := fun q => h2 (Int64.toInt_inj.mp q)
      omega
theorem lgc_gt {x y : Int64} : 0 < lg_cmp x y ↔ y < x := by
  unfold lg_cmp
  by_cases h1 : y < x
  · simp only [if_pos (show x > y from h1)]
    exact ⟨fun _ => h1, fun _ => by decide⟩
  · simp only [if_neg (show ¬ x > y from h1)]
    by_cases h2 : x = y
    · simp only [if_pos h2]
      exact ⟨fun h => absurd h (by decide), fun h => absurd h h1⟩
    · simp only [if_neg h2]
      exact ⟨fun h => absurd h (by decide), fun h => absurd h h1⟩
theorem lgc_eq {x y : Int64} : lg_cmp x y = 0 ↔ x = y := by
  unfold lg_cmp
  by_cases h1 : y < x
  · simp only [if_pos (show x > y from h1)]
    exact ⟨fun h => absurd h (by decide), fun h => absurd (h ▸ h1) (by rw [Int64.lt_iff_toInt_lt]; omega)⟩
  · simp only [if_neg (show ¬ x > y from h1)]
    by_cases h2 : x = y
    · simp [h2]
    · simp only [if_neg h2]
      exact ⟨fun h => absurd h (by decide), fun h => absurd h h2⟩
theorem wl_lt {x y : Int64} (hx : p.tables.exec = Jvm.exec) (hb : c.code = cc) (hdg : decode cc pc = .ok (.ifCond .lt off, 3)) (ht : (pc : Int) + off = (tgt : Int)) (kt : x < y → W p l e R s m args below meth c H locs cells slots Q (F0 m tgt ls rest)) (kf : ¬ x < y → W p l e R s m args below meth c H locs cells slots Q (F0 m (pc + 3) ls rest)) : W p l e R s m args below meth c H locs cells slots Q (F0 m pc ls (.int (lg_cmp x y) :: rest)) :=
  lv_if_lt hx hb hdg ht (fun h => kt (lgc_lt.mp h)) (fun h => kf (fun q => h (lgc_lt.mpr q)))
theorem wl_gt {x y : Int64} (hx : p.tables.exec = Jvm.exec) (hb : c.code = cc) (hdg : decode cc pc = .ok (.ifCond .gt off, 3)) (ht : (pc : Int) + off = (tgt : Int)) (kt : y < x → W p l e R s m args below meth c H locs cells slots Q (F0 m tgt ls rest)) (kf : ¬ y < x → W p l e R s m args below meth c H locs cells slots Q (F0 m (pc + 3) ls rest)) : W p l e R s m args below meth c H locs cells slots Q (F0 m pc ls (.int (lg_cmp x y) :: rest)) :=
  lv_if_gt hx hb hdg ht (fun h => kt (lgc_gt.mp h)) (fun h => kf (fun q => h (lgc_gt.mpr q)))
theorem wl_le {x y : Int64} (hx : p.tables.exec = Jvm.exec) (hb : c.code = cc) (hdg : decode cc pc = .ok (.ifCond .le off, 3)) (ht : (pc : Int) + off = (tgt : Int)) (kt : ¬ y < x → W p l e R s m args below meth c H locs cells slots Q (F0 m tgt ls rest)) (kf : y < x → W p l e R s m args below meth c H locs cells slots Q (F0 m (pc + 3) ls rest)) : W p l e R s m args below meth c H locs cells slots Q (F0 m pc ls (.int (lg_cmp x y) :: rest)) :=
  lv_if_le hx hb hdg ht (fun h => kt (fun q => absurd (lgc_gt.mpr q) (by rw [Int32.lt_iff_toInt_lt]; rw [Int32.le_iff_toInt_le] at h; omega))) (fun h => kf (lgc_gt.mp (by rw [Int32.lt_iff_toInt_lt]; rw [Int32.le_iff_toInt_le] at h; omega)))
theorem wl_ge {x y : Int64} (hx : p.tables.exec = Jvm.exec) (hb : c.code = cc) (hdg : decode cc pc = .ok (.ifCond .ge off, 3)) (ht : (pc : Int) + off = (tgt : Int)) (kt : ¬ x < y → W p l e R s m args below meth c H locs cells slots Q (F0 m tgt ls rest)) (kf : x < y → W p l e R s m args below meth c H locs cells slots Q (F0 m (pc + 3) ls rest)) : W p l e R s m args below meth c H locs cells slots Q (F0 m pc ls (.int (lg_cmp x y) :: rest)) :=
  lv_if_ge hx hb hdg ht (fun h => kt (fun q => absurd (lgc_lt.mpr q) (by rw [Int32.lt_iff_toInt_lt]; rw [Int32.le_iff_toInt_le] at h; omega))) (fun h => kf (lgc_lt.mp (by rw [Int32.lt_iff_toInt_lt]; rw [Int32.le_iff_toInt_le] at h; omega)))
theorem wl_eq {x y : Int64} (hx : p.tables.exec = Jvm.exec) (hb : c.code = cc) (hdg : decode cc pc = .ok (.ifCond .eq off, 3)) (ht : (pc : Int) + off = (tgt : Int)) (kt : x = y → W p l e R s m args below meth c H locs cells slots Q (F0 m tgt ls rest)) (kf : ¬ x = y → W p l e R s m args below meth c H locs cells slots Q (F0 m (pc + 3) ls rest)) : W p l e R s m args below meth c H locs cells slots Q (F0 m pc ls (.int (lg_cmp x y) :: rest)) :=
  lv_if_eq hx hb hdg ht (fun h => kt (lgc_eq.mp h)) (fun h => kf (fun q => h (lgc_eq.mpr q)))
theorem wl_ne {x y : Int64} (hx : p.tables.exec = Jvm.exec) (hb : c.code = cc) (hdg : decode cc pc = .ok (.ifCond .ne off, 3)) (ht : (pc : Int) + off = (tgt : Int)) (kt : ¬ x = y → W p l e R s m args below meth c H locs cells slots Q (F0 m tgt ls rest)) (kf : x = y → W p l e R s m args below meth c H locs cells slots Q (F0 m (pc + 3) ls rest)) : W p l e R s m args below meth c H locs cells slots Q (F0 m pc ls (.int (lg_cmp x y) :: rest)) :=
  lv_if_ne hx hb hdg ht (fun h => kt (fun q => h (lgc_eq.mpr q))) (fun h => kf (lgc_eq.mp h))
variable {D : va_G} {cl : List vw_C} {tys : List (ClassId × FieldType)} {ws : va_W} {A : Nat → Prop} {H0 : Heap} {q : Nat}
theorem wn_iald (hx : p.tables.exec = Jvm.exec) (hb : c.code = cc) (hK : va_K D cl tys s) (hP : va_P D cl ws H) (q0 t0 : Nat) {cA : ClassId} {n : Nat} {f : Nat → Int32} {v : Int32} (ha : ws[q0]? = some (q, .inl (cA, n, .inl f))) (ht : tys[t0]? = some (cA, .int)) (hin : a < n) (hn : n < 2147483648) (hv : f a = v) (hdg : decode cc pc = .ok (.iaload, 1))
    (kk : W p l e R s m args below meth c H locs cells slots Q (F0 m (pc + 1) ls (.int v :: rest))) : W p l e R s m args below meth c H locs cells slots Q (F0 m pc ls (.int (nI a) :: .ref q :: rest)) :=
  va_iald hx hb hK hP q0 t0 ha ht (vp_in_nI hin hn) hdg (by rw [nI_clamp (Nat.lt_trans hin hn), hv]; exact kk)
theorem wn_lald (hx : p.tables.exec = Jvm.exec) (hb : c.code = cc) (hK : va_K D cl tys s) (hP : va_P D cl ws H) (q0 t0 : Nat) {cA : ClassId} {n : Nat} {f : Nat → Int64} {v : Int64} (ha : ws[q0]? = some (q, .inl (cA, n, .inr (.inl f)))) (ht : tys[t0]? = some (cA, .long)) (hin : a < n) (hn : n < 2147483648) (hv : f a = v) (hdg : decode cc pc = .ok (.laload, 1))
    (kk : W p l e R s m args below meth c H locs cells slots Q (F0 m (pc + 1) ls (.long v :: rest))) : W p l e R s m args below meth c H locs cells slots Q (F0 m pc ls (.int (nI a) :: .ref q :: rest)) :=
  va_lald hx hb hK hP q0 t0 ha ht (vp_in_nI hin hn) hdg (by rw [nI_clamp (Nat.lt_trans hin hn), hv]; exact kk)
theorem wn_bald (hx : p.tables.exec = Jvm.exec) (hb : c.code = cc) (hK : va_K D cl tys s) (hP : va_P D cl ws H) (q0 t0 : Nat) {cA : ClassId} {n : Nat} {f : Nat → Int32} {v : Int32} (ha : ws[q0]? = some (q, .inl (cA, n, .inl f))) (ht : tys[t0]? = some (cA, .byte)) (hin : a < n) (hn : n < 2147483648) (hv : f a = v) (hdg : decode cc pc = .ok (.baload, 1))
    (kk : W p l e R s m args below meth c H locs cells slots Q (F0 m (pc + 1) ls (.int v :: rest))) : W p l e R s m args below meth c H locs cells slots Q (F0 m pc ls (.int (nI a) :: .ref q :: rest)) :=
  va_bald hx hb hK hP q0 t0 ha ht (vp_in_nI hin hn) hdg (by rw [nI_clamp (Nat.lt_trans hin hn), hv]; exact kk)
theorem wn_zald (hx : p.tables.exec = Jvm.exec) (hb : c.code = cc) (hK : va_K D cl tys s) (hP : va_P D cl ws H) (q0 t0 : Nat) {cA : ClassId} {n : Nat} {f : Nat → Int32} {v : Int32} (ha : ws[q0]? = some (q, .inl (cA, n, .inl f))) (ht : tys[t0]? = some (cA, .boolean)) (hin : a < n) (hn : n < 2147483648) (hv : f a = v) (hdg : decode cc pc = .ok (.baload, 1))
    (kk : W p l e R s m args below meth c H locs cells slots Q (F0 m (pc + 1) ls (.int v :: rest))) : W p l e R s m args below meth c H locs cells slots Q (F0 m pc ls (.int (nI a) :: .ref q :: rest)) :=
  va_zald hx hb hK hP q0 t0 ha ht (vp_in_nI hin hn) hdg (by rw [nI_clamp (Nat.lt_trans hin hn), hv]; exact kk)
theorem wn_iast (hx : p.tables.exec = Jvm.exec) (hb : c.code = cc) (hK : va_K D cl tys s) (hP : va_P D cl ws H) (hD : va_D A ws) (hS : va_S A H0 H locs) (q0 t0 : Nat) {cA : ClassId} {n : Nat} {f f' : Nat → Int32} {x : Int32} (ha : ws[q0]? = some (q, .inl (cA, n, .inl f))) (ht : tys[t0]? = some (cA, .int)) (hin : a < n) (hn : n < 2147483648) (hf : upd f a x = f') (hdg : decode cc pc = .ok (.iastore, 1))
    (kk : ∀ (H1 : Heap) (locs1 : List Loc), va_P D cl (ws.set q0 (q, .inl (cA, n, .inl f'))) H1 → va_D A (ws.set q0 (q, .inl (cA, n, .inl f'))) → va_S A H0 H1 locs1 → W p l e R s m args below meth c H1 locs1 cells slots Q (F0 m (pc + 1) ls rest)) : W p l e R s m args below meth c H locs cells slots Q (F0 m pc ls (.int x :: .int (nI a) :: .ref q :: rest)) :=
  va_iast hx hb hK hP hD hS q0 t0 ha ht (vp_in_nI hin hn) hdg (by rw [nI_clamp (Nat.lt_trans hin hn), hf]; exact kk)
theorem wn_last (hx : p.tables.exec = Jvm.exec) (hb : c.code = cc) (hK : va_K D cl tys s) (hP : va_P D cl ws H) (hD : va_D A ws) (hS : va_S A H0 H locs) (q0 t0 : Nat) {cA : ClassId} {n : Nat} {f f' : Nat → Int64} {x : Int64} (ha : ws[q0]? = some (q, .inl (cA, n, .inr (.inl f)))) (ht : tys[t0]? = some (cA, .long)) (hin : a < n) (hn : n < 2147483648) (hf : vp_updL f a x = f') (hdg : decode cc pc = .ok (.lastore, 1))
    (kk : ∀ (H1 : Heap) (locs1 : List Loc), va_P D cl (ws.set q0 (q, .inl (cA, n, .inr (.inl f')))) H1 → va_D A (ws.set q0 (q, .inl (cA, n, .inr (.inl f')))) → va_S A H0 H1 locs1 → W p l e R s m args below meth c H1 locs1 cells slots Q (F0 m (pc + 1) ls rest)) : W p l e R s m args below meth c H locs cells slots Q (F0 m pc ls (.long x :: .int (nI a) :: .ref q :: rest)) :=
  va_last hx hb hK hP hD hS q0 t0 ha ht (vp_in_nI hin hn) hdg (by rw [nI_clamp (Nat.lt_trans hin hn), hf]; exact kk)
theorem wn_bast (hx : p.tables.exec = Jvm.exec) (hb : c.code = cc) (hK : va_K D cl tys s) (hP : va_P D cl ws H) (hD : va_D A ws) (hS : va_S A H0 H locs) (q0 t0 : Nat) {cA : ClassId} {n : Nat} {f f' : Nat → Int32} {x : Int32} (ha : ws[q0]? = some (q, .inl (cA, n, .inl f))) (ht : tys[t0]? = some (cA, .byte)) (hin : a < n) (hn : n < 2147483648) (hf : upd f a (vp_nar .byte x) = f') (hdg : decode cc pc = .ok (.bastore, 1))
    (kk : ∀ (H1 : Heap) (locs1 : List Loc), va_P D cl (ws.set q0 (q, .inl (cA, n, .inl f'))) H1 → va_D A (ws.set q0 (q, .inl (cA, n, .inl f'))) → va_S A H0 H1 locs1 → W p l e R s m args below meth c H1 locs1 cells slots Q (F0 m (pc + 1) ls rest)) : W p l e R s m args below meth c H locs cells slots Q (F0 m pc ls (.int x :: .int (nI a) :: .ref q :: rest)) :=
  va_bast hx hb hK hP hD hS q0 t0 ha ht (vp_in_nI hin hn) hdg (by rw [nI_clamp (Nat.lt_trans hin hn), hf]; exact kk)
theorem wn_zast (hx : p.tables.exec = Jvm.exec) (hb : c.code = cc) (hK : va_K D cl tys s) (hP : va_P D cl ws H) (hD : va_D A ws) (hS : va_S A H0 H locs) (q0 t0 : Nat) {cA : ClassId} {n : Nat} {f f' : Nat → Int32} {x : Int32} (ha : ws[q0]? = some (q, .inl (cA, n, .inl f))) (ht : tys[t0]? = some (cA, .boolean)) (hin : a < n) (hn : n < 2147483648) (hf : upd f a (vp_nar .boolean x) = f') (hdg : decode cc pc = .ok (.bastore, 1))
    (kk : ∀ (H1 : Heap) (locs1 : List Loc), va_P D cl (ws.set q0 (q, .inl (cA, n, .inl f'))) H1 → va_D A (ws.set q0 (q, .inl (cA, n, .inl f'))) → va_S A H0 H1 locs1 → W p l e R s m args below meth c H1 locs1 cells slots Q (F0 m (pc + 1) ls rest)) : W p l e R s m args below meth c H locs cells slots Q (F0 m pc ls (.int x :: .int (nI a) :: .ref q :: rest)) :=
  va_zast hx hb hK hP hD hS q0 t0 ha ht (vp_in_nI hin hn) hdg (by rw [nI_clamp (Nat.lt_trans hin hn), hf]; exact kk)
end WN
