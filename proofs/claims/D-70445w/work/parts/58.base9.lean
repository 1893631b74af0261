/-! BASE 9: makers: new objects and arrays, references handed back, statics -/
set_option maxRecDepth 100000
def rmC (k mc ms : Nat) : Room := { frames := k, cells := mc, slots := ms, locals := 40 * k }
def QrA (D : va_G) {σ : Type} (post : Nat → σ → Prop) (w : σ → Nat → va_W) (A : Nat → Prop) : Array Value → State → Outcome → State → Prop := va_Qr (fun _ => True) (fun u a t => post a u ∧ va_P D vwCl (w u a) t.heap ∧ va_D A (w u a)) A
/-- facts of the heap outside of what may be written -/
def ZMv (Z : (Nat → Prop) → State → Heap → Prop) : Prop := (∀ A u U H, u.WarmedH U.vm → Z A u H → Z A U H) ∧ (∀ A U H H1, Z A U H → (∀ a : Nat, a < H.size → ¬ A a → H1[a]? = H[a]?) → Z A U H1) ∧ (∀ A B U H, Z A U H → (∀ q, B q → A q) → Z B U H)
def PcZ (K : State → Prop) (Z : (Nat → Prop) → State → Heap → Prop) (D : va_G) (av : List Value) (ws : va_W) (sz : Nat) : Array Value → State → Prop := va_Pc av (fun U => U.heap.size = sz ∧ (K U ∧ Z (va_A ws sz) U U.heap) ∧ va_P D vwCl ws U.heap ∧ va_D (fun _ => True) ws)
theorem PcZ_blind {K : State → Prop} {Z : (Nat → Prop) → State → Heap → Prop} {D : va_G} {av : List Value} {ws : va_W} {sz : Nat} (h : KMv K) (hZ : ZMv Z) : FrameBlind (PcZ K Z D av ws sz) := fun _ U g mk hp => ⟨hp.1, hp.2.1, ⟨h.blind hp.2.2.1.1, hZ.1 _ U (U.calling g mk _) _ (State.WarmedH.refl U) hp.2.2.1.2⟩, hp.2.2.2.1, hp.2.2.2.2⟩
theorem PcZ_at {K : State → Prop} {Z : (Nat → Prop) → State → Heap → Prop} {D : va_G} {av : List Value} {wc : va_W} {s : State} {H : Heap} {A : Nat → Prop} {locs : List Loc} (h : KMv K) (hZm : ZMv Z) (hK : K s) (hZ : Z A s s.heap) (hS : va_S A s.heap H locs) (hF : ∀ q, va_A wc H.size q → A q) (hP : va_P D vwCl wc H) (hD : va_D (fun _ => True) wc) : ∀ U : State, U.heap = H → s.WarmedH U.vm → PcZ K Z D av wc H.size av.toArray U := by
  intro U hU hW
  refine ⟨rfl, by rw [hU], ⟨h s U hW hK, ?_⟩, by rw [hU]; exact hP, hD⟩
  rw [hU]
  exact hZm.2.2 A _ U H (hZm.1 A s U H hW (hZm.2.1 A s s.heap H hZ hS.2.1)) hF
/-- the statics that are read, the text "kecuh" -/
def ZZ (zv : Nat → Option Nat) (A : Nat → Prop) (U : State) (H : Heap) : Prop :=
  va_Z "java/util/ArrayList" "DEFAULTCAPACITY_EMPTY_ELEMENTDATA" "[Ljava/lang/Object;" (va_rf (zv 0)) A U H ∧ va_Z "java/lang/Throwable" "UNASSIGNED_STACK" "[Ljava/lang/StackTraceElement;" (va_rf (zv 1)) A U H ∧ va_Z "java/lang/Throwable" "SUPPRESSED_SENTINEL" "Ljava/util/List;" (va_rf (zv 2)) A U H ∧
  va_Z "java/lang/String" "COMPACT_STRINGS" "Z" (.int 1) A U H ∧ va_Z "jdk/internal/util/Preconditions" "SIOOBE_FORMATTER" "Ljava/util/function/BiFunction;" (va_rf (zv 3)) A U H ∧ vk_S 1 [5] [[107, 101, 99, 117, 104]] (fun _ => (zv 4).getD 0) (fun _ => (zv 5).getD 0) A U H ∧ vk_R "LampSquares$Reader" 98 "kecuh" ((zv 4).getD 0) U ∧ ∃ z0 : Nat, zv 0 = some z0 ∧ va_T (.object "java/lang/Object") z0 0 (fun _ => .null) A U H
theorem ZZ_mv (zv : Nat → Option Nat) : ZMv (ZZ zv) := by
  refine ⟨?_, ?_, ?_⟩
  · rintro A u U H hW ⟨h1, h2, h3, h4, h5, h6, h7, z0, h8, h9⟩
    have k := hW.alike
    exact ⟨h1.moved k, h2.moved k, h3.moved k, h4.moved k, h5.moved k, h6.moved k, h7.warm hW, z0, h8, h9.moved k⟩
  · rintro A U H H1 ⟨h1, h2, h3, h4, h5, h6, h7, z0, h8, h9⟩ hq
    exact ⟨h1.kept hq, h2.kept hq, h3.kept hq, h4.kept hq, h5.kept hq, h6.kept hq, h7, z0, h8, h9.kept hq⟩
  · rintro A B U H ⟨h1, h2, h3, h4, h5, h6, h7, z0, h8, h9⟩ hq
    exact ⟨h1.narrow hq, h2.narrow hq, h3.narrow hq, h4.narrow hq, h5.narrow hq, h6.narrow hq, h7, z0, h8, h9.narrow hq⟩
section MK
variable {p : Program} {l : Launch} {e : Env} {R : Room} {s : State} {m : MethodId} {args : Array Value} {below : List Frame} {meth : Method} {c : Code} {H : Heap} {locs : List Loc} {cells slots : Nat} {Q : State → Prop}
variable {cc : ByteArray} {pc : Nat} {ls : Array Slot} {rest st0 : List Value} {K : State → Prop} {Z : (Nat → Prop) → State → Heap → Prop} {D : va_G} {ws wc wr : va_W} {n sz mc ms : Nat} {A : Nat → Prop} {H0 : Heap} {σ : Type}
theorem wz_head {y : MethodName} {ret : Option FieldType} {rm : Room} {av : List Value} {Qc : (Nat → Prop) → Array Value → State → Outcome → State → Prop} (hy : plainName y.cls = true) (hn : (lg_sl av).length ≤ n)
    (body : ∀ (p : Program) (e : Env) (s : State) (m : MethodId) (args : Array Value) (below : List Frame) (meth : Method) (c : Code) (ls : Array Slot) (Q : State → Prop) (A : Nat → Prop) (H : Heap) (locs : List Loc), p.tables.exec = Jvm.exec → c.code = cc → c.maxLocals = n → meth.sig.returnType = ret → meth.locks = false → s.vm.findClass y.cls = some m.cls → (∀ w ∈ lw_all, w.before args s = true) → meth.name = y.name → K s → Z A s s.heap → va_P D vwCl ws H → va_D A ws → va_S A s.heap H locs → (∀ q : Nat, s.heap.size ≤ q → A q) → lv_has ls n (lv_args 0 av) → Q = MQ below (Qc A) args s mc ms A → W p l e rm s m args below meth c H locs 0 0 Q (F0 m 0 ls [])) :
    Met l y (ws_ y cc n ret) rm (PcZ K Z D av ws sz) (Qc (va_A ws sz)) mc ms (va_A ws sz) := by
  refine Met.ofW (cc := cc) (maxL := n) (ret := ret) hy rfl ?_
  intro p e s m args below meth c s₁ B hml hv
  obtain ⟨rfl, hsz, ⟨hK, hZ⟩, hP, hD⟩ := hv
  subst hsz
  have hts := atoms_spec (ws := ws_ y cc n ret) B.pre
  have hts : ∀ w ∈ lw_all, w.before _ s = true := fun w h => hts w (List.mem_cons_of_mem _ h)
  rw [lg_entry_eq]
  exact body p e s m _ below meth c _ _ _ _ _ B.exec B.bytes hml B.returns B.notSynchronized (findClass_of_methodNamed B.named) hts (name_of_methodNamed B.named B.method).1 hK hZ hP hD.self va_S.rf (fun q h => Or.inr h) (lv_entry av hn) rfl
theorem wr_aret {post : Nat → σ → Prop} {w : σ → Nat → va_W} {a : Nat} {rt : FieldType} (u : σ) (hx : p.tables.exec = Jvm.exec) (hb : c.code = cc) (hr : meth.sig.returnType = some rt) (hrt : (∃ n, rt = .object n) ∨ ∃ t, rt = .array t) (hlk : meth.locks = false) (hQ : Q = MQ below (QrA D post w A) args s mc ms A) (hdg : decode cc pc = .ok (.areturn, 1)) (hP : va_P D vwCl (w u a) H) (hD : va_D A (w u a)) (hS : va_S A s.heap H locs) (h1 : cells ≤ mc) (h2 : slots ≤ ms) (hv : post a u) : W p l e R s m args below meth c H locs cells slots Q (F0 m pc ls [.ref a]) := by
  subst hQ
  refine W.widen h1 h2 ?_
  exact W.aret hx hb hr hrt (Or.inr ⟨a, rfl⟩) (fun t ht _ => ⟨⟨u, a, rfl, trivial, hv, by rw [ht]; exact hP, hD⟩, hS.F ht⟩) hS.2.2 hdg hlk
variable {y : MethodName} {bytes : ByteArray} {maxL nL k index : Nat} {ret : Option FieldType} {wsy : List Cond} {rm : Room} {own C host : String} {b : Addr} {As : List Value}
/-- the world behind a call that hands back nothing, a number, a reference -/
theorem mk_v {post : σ → Prop} {w : σ → va_W} {a : Array Value} (hr : va_Run p l e R s m args below meth c H locs cells slots mc ms (F0 m pc ls st0) rest (QvA D post w (va_A wc H.size) a) (va_A wc H.size)) (hP : va_P D vwCl ws H) (hD : va_D A ws) (hS : va_S A H0 H locs) (hA : ∀ q, H0.size ≤ q → A q) (hp : ws.Perm (wc ++ wr))
    (kk : ∀ (u : σ) (H1 : Heap) (locs1 : List Loc), post u → va_P D vwCl (w u ++ wr) H1 → va_D A (w u ++ wr) → va_S A H0 H1 locs1 → W p l e R s m args below meth c H1 locs1 (cells + mc) (slots + ms) Q (F0 m (pc + 3) ls rest)) : W p l e R s m args below meth c H locs cells slots Q (F0 m pc ls st0) := by
  have hF := wr_free hD hS hA hp
  refine va_callv (rest := rest) hr hS (fun q _ h => hF q h) hF (fun u t H1 locs1 ht hvm hp1 hB hz hk hS => ?_)
  obtain ⟨hP1, hD1⟩ := hB
  rw [ht] at hP1
  obtain ⟨hP', hD'⟩ := va_frame hP hD hp hk hF hP1 hD1
  exact kk u H1 locs1 hp1 hP' hD' hS
theorem mk_i {post : Int32 → σ → Prop} {w : σ → va_W} {a : Array Value} (hr : va_Run p l e R s m args below meth c H locs cells slots mc ms (F0 m pc ls st0) rest (QiA D post w (va_A wc H.size) a) (va_A wc H.size)) (hP : va_P D vwCl ws H) (hD : va_D A ws) (hS : va_S A H0 H locs) (hA : ∀ q, H0.size ≤ q → A q) (hp : ws.Perm (wc ++ wr))
    (kk : ∀ (r : Int32) (u : σ) (H1 : Heap) (locs1 : List Loc), post r u → va_P D vwCl (w u ++ wr) H1 → va_D A (w u ++ wr) → va_S A H0 H1 locs1 → W p l e R s m args below meth c H1 locs1 (cells + mc) (slots + ms) Q (F0 m (pc + 3) ls (.int r :: rest))) : W p l e R s m args below meth c H locs cells slots Q (F0 m pc ls st0) := by
  have hF := wr_free hD hS hA hp
  refine va_calli (rest := rest) hr hS (fun q _ h => hF q h) hF (fun r u t H1 locs1 ht hvm hp1 hB hz hk hS => ?_)
  obtain ⟨hP1, hD1⟩ := hB
  rw [ht] at hP1
  obtain ⟨hP', hD'⟩ := va_frame hP hD hp hk hF hP1 hD1
  exact kk r u H1 locs1 hp1 hP' hD' hS
theorem mk_r {post : Nat → σ → Prop} {w : σ → Nat → va_W} {a : Array Value} (hr : va_Run p l e R s m args below meth c H locs cells slots mc ms (F0 m pc ls st0) rest (QrA D post w (va_A wc H.size) a) (va_A wc H.size)) (hP : va_P D vwCl ws H) (hD : va_D A ws) (hS : va_S A H0 H locs) (hA : ∀ q, H0.size ≤ q → A q) (hp : ws.Perm (wc ++ wr))
    (kk : ∀ (r : Nat) (u : σ) (H1 : Heap) (locs1 : List Loc), post r u → va_P D vwCl (w u r ++ wr) H1 → va_D A (w u r ++ wr) → va_S A H0 H1 locs1 → W p l e R s m args below meth c H1 locs1 (cells + mc) (slots + ms) Q (F0 m (pc + 3) ls (.ref r :: rest))) : W p l e R s m args below meth c H locs cells slots Q (F0 m pc ls st0) := by
  have hF := wr_free hD hS hA hp
  refine va_callr (rest := rest) hr hS (fun q _ h => hF q h) hF (fun u ra t H1 locs1 ht hvm _ hB hz hk hS => ?_)
  obtain ⟨hp1, hP1, hD1⟩ := hB
  rw [ht] at hP1
  obtain ⟨hP', hD'⟩ := va_frame hP hD hp hk hF hP1 hD1
  exact kk ra u H1 locs1 hp1 hP' hD' hS
/-- the callee's start: plain, or with the statics -/
theorem ps_A (hKm : KMv K) (hK : K s) (hP : va_P D vwCl ws H) (hD : va_D A ws) (hp : ws.Perm (wc ++ wr)) : PreS s H (PcA K D As wc H.size) As := ⟨PcA_blind hKm, PcA_at hKm hK (wr_cutP hP hp) (wr_cutD hD hp)⟩
theorem ps_Z (hKm : KMv K) (hZm : ZMv Z) (hK : K s) (hZ : Z A s s.heap) (hS : va_S A s.heap H locs) (hA : ∀ q, s.heap.size ≤ q → A q) (hP : va_P D vwCl ws H) (hD : va_D A ws) (hp : ws.Perm (wc ++ wr)) : PreS s H (PcZ K Z D As wc H.size) As := ⟨PcZ_blind hKm hZm, PcZ_at hKm hZm hK hZ hS (wr_free hD hS hA hp) (wr_cutP hP hp) (wr_cutD hD hp)⟩
theorem pv_A (hrc : ∃ cellB : Cell, H[b]? = some cellB ∧ cellB.vm.isStatics = false ∧ s.vm.findClass C = some cellB.cls) (hKm : KMv K) (hK : K s) (hP : va_P D vwCl ws H) (hD : va_D A ws) (hp : ws.Perm (wc ++ wr)) : PreV s H C b (PcA K D (.ref b :: As) wc H.size) As := ⟨PcA_blind hKm, hrc, PcA_at hKm hK (wr_cutP hP hp) (wr_cutD hD hp)⟩
theorem pv_Z (hrc : ∃ cellB : Cell, H[b]? = some cellB ∧ cellB.vm.isStatics = false ∧ s.vm.findClass C = some cellB.cls) (hKm : KMv K) (hZm : ZMv Z) (hK : K s) (hZ : Z A s s.heap) (hS : va_S A s.heap H locs) (hA : ∀ q, s.heap.size ≤ q → A q) (hP : va_P D vwCl ws H) (hD : va_D A ws) (hp : ws.Perm (wc ++ wr)) : PreV s H C b (PcZ K Z D (.ref b :: As) wc H.size) As := ⟨PcZ_blind hKm hZm, hrc, PcZ_at hKm hZm hK hZ hS (wr_free hD hS hA hp) (wr_cutP hP hp) (wr_cutD hD hp)⟩
/-- new: the cell at the end of the list -/
theorem mk_newa {ca : Nat → ClassId} (hx : p.tables.exec = Jvm.exec) (hb : c.code = cc) {atype : ArrayType} (harr : (Cond.arrayClass (newarray.typeOf atype)).before args s = true) {ty : FieldType} (hty : newarray.typeOf atype = ty) {t0 : Nat} (hcA : s.vm.findClass ("[" ++ ty.toString) = some (ca t0)) (hP : va_P D vwCl ws H) (hD : va_D A ws) (hS : va_S A H0 H locs) (hA : ∀ q, H0.size ≤ q → A q)
    {N : Nat} {a0 : vp_A} (ha : vp_cell (ca t0) a0 = arrV (ca t0) N (fun _ => defaultValue ty)) (hN : N < 1000000) (hbytes : N * componentBytes ty ≤ 536870912) (hcells : cells + 1 ≤ R.cells) (hslots : slots + N ≤ R.slots) (hdg : decode cc pc = .ok (.newarray atype, 2))
    (kk : ∀ (q : Nat) (H1 : Heap), va_P D vwCl (ws ++ [(q, .inl (ca t0, a0))]) H1 → va_D A (ws ++ [(q, .inl (ca t0, a0))]) → va_S A H0 H1 locs → W p l e R s m args below meth c H1 locs (cells + 1) (slots + N) Q (F0 m (pc + 2) ls (.ref q :: rest))) : W p l e R s m args below meth c H locs cells slots Q (F0 m pc ls (.int (nI N) :: rest)) := by
  subst hty
  refine va_newaK (g := F0 m pc ls (.int (nI N) :: rest)) (n := nI N) (N := N) (rest := rest) (h := H.size) hx hb harr rfl hdg rfl (nI_pos (by omega)) (nI_clamp (by omega)) hbytes hcells hslots rfl (fun H1 cA h1 h2 h3 _ h5 => ?_)
  cases h5.symm.trans hcA
  have hlt : ∀ q ∈ ws, q.1 < H.size := fun q hq => (va_P_mem.mp hP q hq).lt
  refine kk H.size H1 (va_P_mem.mpr fun q hq => ?_) ((va_D_iff (cl := [])).mpr ⟨?_, fun q hq => ?_⟩) ⟨by rw [h2]; exact Nat.le_succ_of_le hS.1, fun q g1 g2 => by rw [h3 q (Nat.lt_of_lt_of_le g1 hS.1)]; exact hS.2.1 q g1 g2, hS.2.2⟩
  · rcases List.mem_append.mp hq with k | k
    · exact (va_P_mem.mp hP q k).kept (h3 q.1 (hlt q k))
    · rw [List.mem_singleton.mp k]
      show H1[H.size]? = some (vp_cell (ca t0) a0)
      rw [h1, ha]
  · obtain ⟨d1, -⟩ := (va_D_iff (cl := [])).mp hD
    rw [List.map_append, List.nodup_append]
    refine ⟨d1, by simp, fun a ha b hb => ?_⟩
    obtain ⟨z, hz, rfl⟩ := List.mem_map.mp ha
    rw [List.map_cons, List.map_nil, List.mem_singleton] at hb
    have := hlt z hz
    omega
  · rcases List.mem_append.mp hq with k | k
    · exact ((va_D_iff (cl := [])).mp hD).2 q k
    · rw [List.mem_singleton.mp k]
      exact hA _ hS.1
/-- a whole row of ints copied over another of its length -/
theorem mk_copy (hx : p.tables.exec = Jvm.exec) (hb : c.code = cc) (hml : c.maxLocals = ls.size) {index : Nat} (hown : s.vm.findClass own = some m.cls) (hlink : (Cond.methodLink own index arraycopyName).before args s = true) (hnat : (Cond.native arraycopyName).before args s = true) (hstat : (Cond.static arraycopyName).before args s = true) (hini : (Cond.initialized "java/lang/System").before args s = true)
    {tys : List (ClassId × FieldType)} (hK : va_K D vwCl tys s) (hP : va_P D vwCl ws H) (hD : va_D A ws) (hS : va_S A H0 H locs) (q0 q1 t0 : Nat) {a a0 : Nat} {c0 : ClassId} {N : Nat} {f g : Nat → Int32} (ha0 : ws[q0]? = some (a0, .inl (c0, N, .inl f))) (ha1 : ws[q1]? = some (a, .inl (c0, N, .inl g))) (ht0 : tys[t0]? = some (c0, .int)) (hN : N < 1000000)
    (hframes : 1 ≤ R.frames) (hlocals : (rest.map fun v => v.category).sum + (nativeFrameWords "java/lang/System" "arraycopy" 5 + 11) ≤ R.locals) (hdg : decode cc pc = .ok (.invokestatic index, 3))
    (kk : ∀ (H1 : Heap) (locs1 : List Loc), va_P D vwCl (ws.set q1 (a, .inl (c0, N, .inl f))) H1 → va_D A (ws.set q1 (a, .inl (c0, N, .inl f))) → va_S A H0 H1 locs1 → W p l e R s m args below meth c H1 locs1 cells slots Q (F0 m (pc + 3) ls rest)) : W p l e R s m args below meth c H locs cells slots Q (F0 m pc ls (.int (nI N) :: .int (nI 0) :: .ref a :: .int (nI 0) :: .ref a0 :: rest)) := by
  have k0 : (nI 0).toNatClampNeg = 0 := nI_clamp (by decide)
  have kN : (nI N).toNatClampNeg = N := nI_clamp (by omega)
  refine va_copyi hx hb hml hown hlink hnat hstat hini hK hP hD hS q0 q1 t0 t0 ha0 ha1 ht0 ht0 rfl (nI_pos (by decide)) (nI_pos (by decide)) (nI_pos (by omega)) (by rw [k0, kN]; omega) (by rw [k0, kN]; omega) (fun _ _ => rfl) hframes hlocals hdg (fun H1 locs1 hP1 hD1 hS1 => ?_)
  have hl : q1 < ws.length := (List.getElem?_eq_some_iff.mp ha1).1
  refine kk H1 locs1 ?_ ?_ hS1
  · have h := wp_arr hP1 (k := q1) (g := f) (List.getElem?_set_self hl) (fun j hj => by unfold va_cpy; rw [k0, kN, if_pos (by omega)]; congr 1; omega)
    rw [List.set_set] at h
    exact h
  · have h := hD1.set (p := q1) (e := .inl (c0, N, .inl f)) (List.getElem?_set_self hl)
    rw [List.set_set] at h
    exact h
theorem mk_copyN (hx : p.tables.exec = Jvm.exec) (hb : c.code = cc) (hml : c.maxLocals = ls.size) {index : Nat} (hown : s.vm.findClass own = some m.cls) (hlink : (Cond.methodLink own index arraycopyName).before args s = true) (hnat : (Cond.native arraycopyName).before args s = true) (hstat : (Cond.static arraycopyName).before args s = true) (hini : (Cond.initialized "java/lang/System").before args s = true)
    {tys : List (ClassId × FieldType)} (hK : va_K D vwCl tys s) (hP : va_P D vwCl ws H) (hD : va_D A ws) (hS : va_S A H0 H locs) (q0 q1 t0 : Nat) {a a0 : Nat} {c0 : ClassId} {n0 n1 N sp dp : Nat} {f g g' : Nat → Int32} (ha0 : ws[q0]? = some (a0, .inl (c0, n0, .inl f))) (ha1 : ws[q1]? = some (a, .inl (c0, n1, .inl g))) (ht0 : tys[t0]? = some (c0, .int)) (hsp : sp + N ≤ n0) (hdp : dp + N ≤ n1) (h0 : n0 < 1000000) (h1 : n1 < 1000000) (hg : ∀ j, j < n1 → va_cpy f g sp dp N j = g' j)
    (hframes : 1 ≤ R.frames) (hlocals : (rest.map fun v => v.category).sum + (nativeFrameWords "java/lang/System" "arraycopy" 5 + 11) ≤ R.locals) (hdg : decode cc pc = .ok (.invokestatic index, 3))
    (kk : ∀ (H1 : Heap) (locs1 : List Loc), va_P D vwCl (ws.set q1 (a, .inl (c0, n1, .inl g'))) H1 → va_D A (ws.set q1 (a, .inl (c0, n1, .inl g'))) → va_S A H0 H1 locs1 → W p l e R s m args below meth c H1 locs1 cells slots Q (F0 m (pc + 3) ls rest)) : W p l e R s m args below meth c H locs cells slots Q (F0 m pc ls (.int (nI N) :: .int (nI dp) :: .ref a :: .int (nI sp) :: .ref a0 :: rest)) := by
  have k0 : (nI sp).toNatClampNeg = sp := nI_clamp (by omega)
  have k1 : (nI dp).toNatClampNeg = dp := nI_clamp (by omega)
  have kN : (nI N).toNatClampNeg = N := nI_clamp (by omega)
  refine va_copyi hx hb hml hown hlink hnat hstat hini hK hP hD hS q0 q1 t0 t0 ha0 ha1 ht0 ht0 rfl (nI_pos (by omega)) (nI_pos (by omega)) (nI_pos (by omega)) (by rw [k0, kN]; exact hsp) (by rw [k1, kN]; exact hdp) (fun _ _ => rfl) hframes hlocals hdg (fun H1 locs1 hP1 hD1 hS1 => ?_)
  have hl : q1 < ws.length := (List.getElem?_eq_some_iff.mp ha1).1
  refine kk H1 locs1 ?_ ?_ hS1
  · have h := wp_arr hP1 (k := q1) (g := g') (List.getElem?_set_self hl) (fun j hj => by rw [k0, k1, kN]; exact hg j hj)
    rw [List.set_set] at h
    exact h
  · have h := hD1.set (p := q1) (e := .inl (c0, n1, .inl g')) (List.getElem?_set_self hl)
    rw [List.set_set] at h
    exact h
theorem mk_newq {ca : Nat → ClassId} {tys : List (ClassId × FieldType)} (hx : p.tables.exec = Jvm.exec) (hb : c.code = cc) {index : Nat} (hown : s.vm.findClass own = some m.cls) (hclink : (Cond.classLink own index C).before args s = true) (hover : va_AO C s) {t0 : Nat} (hK : va_K D vwCl tys s) (ht : tys[t0]? = some (ca t0, .object C)) (hP : va_P D vwCl ws H) (hD : va_D A ws) (hS : va_S A H0 H locs) (hA : ∀ q, H0.size ≤ q → A q)
    {N : Nat} (hN : N < 1000000) (hcells : cells + 1 ≤ R.cells) (hslots : slots + N ≤ R.slots) (hdg : decode cc pc = .ok (.anewarray index, 3))
    (kk : ∀ (q : Nat) (H1 : Heap), va_P D vwCl (ws ++ [(q, .inl (ca t0, N, .inr (.inr (.inr (.inr (fun _ => none))))))]) H1 → va_D A (ws ++ [(q, .inl (ca t0, N, .inr (.inr (.inr (.inr (fun _ => none))))))]) → va_S A H0 H1 locs → W p l e R s m args below meth c H1 locs (cells + 1) (slots + N) Q (F0 m (pc + 3) ls (.ref q :: rest))) : W p l e R s m args below meth c H locs cells slots Q (F0 m pc ls (.int (nI N) :: rest)) := by
  refine va_newq hx hb hown hclink hover hK hP hD hS hA (nI_pos (by omega)) (nI_clamp (by omega)) (by omega) hcells hslots hdg (fun q cA H1 hK1 hP1 hD1 hS1 => ?_)
  have h1 : va_RA s (ca t0) (.object C) := (hK.2 t0 _ ht).2
  have h2 : va_RA s cA (.object C) := (hK1.2 tys.length (cA, .object C) (by rw [List.getElem?_append_right (Nat.le_refl _), Nat.sub_self]; rfl)).2
  obtain ⟨_, _, _, _, _, h1⟩ := h1
  obtain ⟨_, _, _, _, _, h2⟩ := h2
  cases h2.symm.trans h1
  exact kk q H1 hP1 hD1 hS1
theorem wn_ast {tys : List (ClassId × FieldType)} (hx : p.tables.exec = Jvm.exec) (hb : c.code = cc) (hK : va_K D vwCl tys s) (hP : va_P D vwCl ws H) (hD : va_D A ws) (hS : va_S A H0 H locs) (q0 t0 qk ci : Nat) {cA : ClassId} {r : vw_C} {a i n v : Nat} {vs : List Value} {f : Nat → Option Nat} (ha : ws[q0]? = some (a, .inl (cA, n, .inr (.inr (.inr (.inr f)))))) (ht : tys[t0]? = some (cA, .object r.1)) (hv : ws[qk]? = some (v, .inr (ci, vs))) (hc : vwCl[ci]? = some r) (hin : i < n) (hn : n < 2147483648) (hdg : decode cc pc = .ok (.aastore, 1))
    (kk : ∀ (H1 : Heap) (locs1 : List Loc), va_P D vwCl (ws.set q0 (a, .inl (cA, n, .inr (.inr (.inr (.inr (va_up f i (some v)))))))) H1 → va_D A (ws.set q0 (a, .inl (cA, n, .inr (.inr (.inr (.inr (va_up f i (some v)))))))) → va_S A H0 H1 locs1 → W p l e R s m args below meth c H1 locs1 cells slots Q (F0 m (pc + 1) ls rest)) : W p l e R s m args below meth c H locs cells slots Q (F0 m pc ls (.ref v :: .int (nI i) :: .ref a :: rest)) :=
  va_astq hx hb hK hP hD hS q0 t0 qk ci ha ht hv hc (vp_in_nI hin hn) hdg (by rw [nI_clamp (Nat.lt_trans hin hn)]; exact kk)
theorem wn_astO {tys : List (ClassId × FieldType)} {E : String} (hx : p.tables.exec = Jvm.exec) (hb : c.code = cc) (hK : va_K D vwCl tys s) (hP : va_P D vwCl ws H) (hD : va_D A ws) (hS : va_S A H0 H locs) (q0 t0 qk ci : Nat) {cA : ClassId} {r : vw_C} {a i n v : Nat} {vs : List Value} {f : Nat → Option Nat} (ha : ws[q0]? = some (a, .inl (cA, n, .inr (.inr (.inr (.inr f)))))) (ht : tys[t0]? = some (cA, .object E)) (hca : va_Nw (.castable r.1 E) s) (hv : ws[qk]? = some (v, .inr (ci, vs))) (hc : vwCl[ci]? = some r) (hin : i < n) (hn : n < 2147483648) (hdg : decode cc pc = .ok (.aastore, 1))
    (kk : ∀ (H1 : Heap) (locs1 : List Loc), va_P D vwCl (ws.set q0 (a, .inl (cA, n, .inr (.inr (.inr (.inr (va_up f i (some v)))))))) H1 → va_D A (ws.set q0 (a, .inl (cA, n, .inr (.inr (.inr (.inr (va_up f i (some v)))))))) → va_S A H0 H1 locs1 → W p l e R s m args below meth c H1 locs1 cells slots Q (F0 m (pc + 1) ls rest)) : W p l e R s m args below meth c H locs cells slots Q (F0 m pc ls (.ref v :: .int (nI i) :: .ref a :: rest)) :=
  va_astqO hx hb hK hP hD hS q0 t0 qk ci ha ht hca hv hc (vp_in_nI hin hn) hdg (by rw [nI_clamp (Nat.lt_trans hin hn)]; exact kk)
theorem wn_astN {tys : List (ClassId × FieldType)} (hx : p.tables.exec = Jvm.exec) (hb : c.code = cc) (hK : va_K D vwCl tys s) (hP : va_P D vwCl ws H) (hD : va_D A ws) (hS : va_S A H0 H locs) (q0 t0 : Nat) {cA : ClassId} {E : String} {a i n : Nat} {f : Nat → Option Nat} (ha : ws[q0]? = some (a, .inl (cA, n, .inr (.inr (.inr (.inr f)))))) (ht : tys[t0]? = some (cA, .object E)) (hin : i < n) (hn : n < 2147483648) (hdg : decode cc pc = .ok (.aastore, 1))
    (kk : ∀ (H1 : Heap) (locs1 : List Loc), va_P D vwCl (ws.set q0 (a, .inl (cA, n, .inr (.inr (.inr (.inr (va_up f i none))))))) H1 → va_D A (ws.set q0 (a, .inl (cA, n, .inr (.inr (.inr (.inr (va_up f i none))))))) → va_S A H0 H1 locs1 → W p l e R s m args below meth c H1 locs1 cells slots Q (F0 m (pc + 1) ls rest)) : W p l e R s m args below meth c H locs cells slots Q (F0 m pc ls (.null :: .int (nI i) :: .ref a :: rest)) :=
  va_astqN hx hb hK hP hD hS q0 t0 ha ht (vp_in_nI hin hn) hdg (by rw [nI_clamp (Nat.lt_trans hin hn)]; exact kk)
theorem wtz_head {y : MethodName} {ret : Option FieldType} {rm : Room} {av : List Value} {Qc : (Nat → Prop) → Array Value → State → Addr → State → Prop} (hy : plainName y.cls = true) (hn : (lg_sl av).length ≤ n)
    (body : ∀ (p : Program) (e : Env) (s : State) (m : MethodId) (args : Array Value) (below : List Frame) (meth : Method) (c : Code) (ls : Array Slot) (Q : State → Prop) (A : Nat → Prop) (H : Heap) (locs : List Loc), p.tables.exec = Jvm.exec → c.code = cc → c.maxLocals = n → meth.sig.returnType = ret → meth.locks = false → s.vm.findClass y.cls = some m.cls → (∀ w ∈ lw_all, w.before args s = true) → meth.name = y.name → K s → Z A s s.heap → va_P D vwCl ws H → va_D A ws → va_S A s.heap H locs → (∀ q : Nat, s.heap.size ≤ q → A q) → lv_has ls n (lv_args 0 av) → Q = MQT below (Qc A) args s mc ms A → c.exceptionTable.isEmpty = true → W p l e rm s m args below meth c H locs 0 0 Q (F0 m 0 ls [])) :
    MetT l y (ws_ y cc n ret) rm (PcZ K Z D av ws sz) (Qc (va_A ws sz)) mc ms (va_A ws sz) := by
  refine MetT.ofW (cc := cc) (maxL := n) (ret := ret) hy rfl ?_
  intro p e s m args below meth c s₁ B hml hno hv
  obtain ⟨rfl, hsz, ⟨hK, hZ⟩, hP, hD⟩ := hv
  subst hsz
  have hts := atoms_spec (ws := ws_ y cc n ret) B.pre
  have hts : ∀ w ∈ lw_all, w.before _ s = true := fun w h => hts w (List.mem_cons_of_mem _ h)
  rw [lg_entry_eq]
  exact body p e s m _ below meth c _ _ _ _ _ B.exec B.bytes hml B.returns B.notSynchronized (findClass_of_methodNamed B.named) hts (name_of_methodNamed B.named B.method).1 hK hZ hP hD.self va_S.rf (fun q h => Or.inr h) (lv_entry av hn) rfl hno
end MK
