/-! BASE 2: writers by contract: their world is a list of cells; what isn't in it stays -/
set_option maxRecDepth 100000
def PcA (K : State → Prop) (D : va_G) (av : List Value) (ws : va_W) (sz : Nat) : Array Value → State → Prop := va_Pc av (fun U => U.heap.size = sz ∧ K U ∧ va_P D vwCl ws U.heap ∧ va_D (fun _ => True) ws)
theorem PcA_blind {K : State → Prop} {D : va_G} {av : List Value} {ws : va_W} {sz : Nat} (h : KMv K) : FrameBlind (PcA K D av ws sz) := fun _ _ _ _ hp => ⟨hp.1, hp.2.1, h.blind hp.2.2.1, hp.2.2.2.1, hp.2.2.2.2⟩
theorem PcA_at {K : State → Prop} {D : va_G} {av : List Value} {ws : va_W} {s : State} {H : Heap} (h : KMv K) (hK : K s) (hP : va_P D vwCl ws H) (hD : va_D (fun _ => True) ws) : ∀ U : State, U.heap = H → s.WarmedH U.vm → PcA K D av ws H.size av.toArray U := fun U hU hW => ⟨rfl, by rw [hU], h s U hW hK, by rw [hU]; exact hP, hD⟩
/-- a writer's end: its answer, its world -/
def QiA (D : va_G) {σ : Type} (post : Int32 → σ → Prop) (w : σ → va_W) (A : Nat → Prop) : Array Value → State → Outcome → State → Prop := va_Qi post (fun u t => va_P D vwCl (w u) t.heap ∧ va_D A (w u)) A
def QlA (D : va_G) {σ : Type} (post : Int64 → σ → Prop) (w : σ → va_W) (A : Nat → Prop) : Array Value → State → Outcome → State → Prop := va_Ql post (fun u t => va_P D vwCl (w u) t.heap ∧ va_D A (w u)) A
def QvA (D : va_G) {σ : Type} (post : σ → Prop) (w : σ → va_W) (A : Nat → Prop) : Array Value → State → Outcome → State → Prop := va_Qv post (fun u t => va_P D vwCl (w u) t.heap ∧ va_D A (w u)) A
section WR
variable {p : Program} {l : Launch} {e : Env} {R : Room} {s : State} {m : MethodId} {args : Array Value} {below : List Frame} {meth : Method} {c : Code} {H : Heap} {locs : List Loc} {cells slots : Nat} {Q : State → Prop}
variable {cc : ByteArray} {pc : Nat} {ls : Array Slot} {rest st0 : List Value} {K : State → Prop} {D : va_G} {ws : va_W} {n sz mc ms : Nat} {A : Nat → Prop} {σ : Type}
theorem wr_head {y : MethodName} {ret : Option FieldType} {rm : Room} {av : List Value} {Qc : (Nat → Prop) → Array Value → State → Outcome → State → Prop} (hy : plainName y.cls = true) (hn : (lg_sl av).length ≤ n)
    (body : ∀ (p : Program) (e : Env) (s : State) (m : MethodId) (args : Array Value) (below : List Frame) (meth : Method) (c : Code) (ls : Array Slot) (Q : State → Prop) (A : Nat → Prop) (H : Heap) (locs : List Loc), p.tables.exec = Jvm.exec → c.code = cc → c.maxLocals = n → meth.sig.returnType = ret → meth.locks = false → s.vm.findClass y.cls = some m.cls → (∀ w ∈ lw_all, w.before args s = true) → meth.name = y.name → K s → va_P D vwCl ws H → va_D A ws → va_S A s.heap H locs → (∀ q : Nat, s.heap.size ≤ q → A q) → lv_has ls n (lv_args 0 av) → Q = MQ below (Qc A) args s mc ms A → W p l e rm s m args below meth c H locs 0 0 Q (F0 m 0 ls [])) :
    Met l y (ws_ y cc n ret) rm (PcA K D av ws sz) (Qc (va_A ws sz)) mc ms (va_A ws sz) := by
  refine Met.ofW (cc := cc) (maxL := n) (ret := ret) hy rfl ?_
  intro p e s m args below meth c s₁ B hml hv
  obtain ⟨rfl, hsz, hK, hP, hD⟩ := hv
  subst hsz
  have hts := atoms_spec (ws := ws_ y cc n ret) B.pre
  have hts : ∀ w ∈ lw_all, w.before _ s = true := fun w h => hts w (List.mem_cons_of_mem _ h)
  rw [lg_entry_eq]
  exact body p e s m _ below meth c _ _ _ _ _ B.exec B.bytes hml B.returns B.notSynchronized (findClass_of_methodNamed B.named) hts (name_of_methodNamed B.named B.method).1 hK hP hD.self va_S.rf (fun q h => Or.inr h) (lv_entry av hn) rfl
theorem wr_iret {post : Int32 → σ → Prop} {w : σ → va_W} {v : Int32} (u : σ) (hx : p.tables.exec = Jvm.exec) (hb : c.code = cc) (hr : meth.sig.returnType = some .int) (hlk : meth.locks = false) (hQ : Q = MQ below (QiA D post w A) args s mc ms A) (hdg : decode cc pc = .ok (.ireturn, 1)) (hP : va_P D vwCl (w u) H) (hD : va_D A (w u)) (hS : va_S A s.heap H locs) (h1 : cells ≤ mc) (h2 : slots ≤ ms) (hv : post v u) : W p l e R s m args below meth c H locs cells slots Q (F0 m pc ls [.int v]) := by
  subst hQ
  refine W.widen h1 h2 ?_
  exact W.iret hx hb hr (fun t ht _ => ⟨⟨v, u, rfl, hv, by rw [ht]; exact hP, hD⟩, hS.F ht⟩) hS.2.2 hdg hlk
theorem wr_zret {post : Int32 → σ → Prop} {w : σ → va_W} {b : Bool} (u : σ) (hx : p.tables.exec = Jvm.exec) (hb : c.code = cc) (hr : meth.sig.returnType = some .boolean) (hlk : meth.locks = false) (hQ : Q = MQ below (QiA D post w A) args s mc ms A) (hdg : decode cc pc = .ok (.ireturn, 1)) (hP : va_P D vwCl (w u) H) (hD : va_D A (w u)) (hS : va_S A s.heap H locs) (h1 : cells ≤ mc) (h2 : slots ≤ ms) (hv : post (bI b) u) : W p l e R s m args below meth c H locs cells slots Q (F0 m pc ls [.int (bI b)]) := by
  subst hQ
  refine W.widen h1 h2 ?_
  exact W.zret hx hb hr (bI_nar b) (fun t ht _ => ⟨⟨bI b, u, rfl, hv, by rw [ht]; exact hP, hD⟩, hS.F ht⟩) hS.2.2 hdg hlk
theorem wr_lret {post : Int64 → σ → Prop} {w : σ → va_W} {v : Int64} (u : σ) (hx : p.tables.exec = Jvm.exec) (hb : c.code = cc) (hr : meth.sig.returnType = some .long) (hlk : meth.locks = false) (hQ : Q = MQ below (QlA D post w A) args s mc ms A) (hdg : decode cc pc = .ok (.lreturn, 1)) (hP : va_P D vwCl (w u) H) (hD : va_D A (w u)) (hS : va_S A s.heap H locs) (h1 : cells ≤ mc) (h2 : slots ≤ ms) (hv : post v u) : W p l e R s m args below meth c H locs cells slots Q (F0 m pc ls [.long v]) := by
  subst hQ
  refine W.widen h1 h2 ?_
  exact W.lret hx hb hr (fun t ht _ => ⟨⟨v, u, rfl, hv, by rw [ht]; exact hP, hD⟩, hS.F ht⟩) hS.2.2 hdg hlk
theorem wr_vret {post : σ → Prop} {w : σ → va_W} (u : σ) (hx : p.tables.exec = Jvm.exec) (hb : c.code = cc) (hr : meth.sig.returnType = none) (hlk : meth.locks = false) (hQ : Q = MQ below (QvA D post w A) args s mc ms A) (hdg : decode cc pc = .ok (.return_, 1)) (hP : va_P D vwCl (w u) H) (hD : va_D A (w u)) (hS : va_S A s.heap H locs) (h1 : cells ≤ mc) (h2 : slots ≤ ms) (hv : post u) : W p l e R s m args below meth c H locs cells slots Q (F0 m pc ls []) := by
  subst hQ
  refine W.widen h1 h2 ?_
  exact W.vret hx hb hr (fun t ht _ => ⟨⟨u, rfl, hv, by rw [ht]; exact hP, hD⟩, hS.F ht⟩) hS.2.2 hdg hlk
/-! worlds side by side, by lists -/
theorem va_P_mem {cl : List vw_C} {H : Heap} : va_P D cl ws H ↔ ∀ q ∈ ws, va_at D cl q H := by
  constructor
  · intro h q hq
    obtain ⟨k, hk⟩ := List.getElem?_of_mem hq
    exact h k q hk
  · intro h k q hk
    exact h q (List.mem_of_getElem? hk)
theorem va_A_mem {q : Nat} : va_A ws sz q ↔ (∃ e, (q, e) ∈ ws) ∨ sz ≤ q := by
  constructor
  · rintro (⟨k, e, h⟩ | h)
    · exact Or.inl ⟨e, List.mem_of_getElem? h⟩
    · exact Or.inr h
  · rintro (⟨e, h⟩ | h)
    · obtain ⟨k, hk⟩ := List.getElem?_of_mem h
      exact Or.inl ⟨k, e, hk⟩
    · exact Or.inr h
theorem va_D_iff {cl : List vw_C} : va_D A ws ↔ (ws.map (·.1)).Nodup ∧ ∀ q ∈ ws, A q.1 := by
  constructor
  · rintro ⟨h1, h2⟩
    constructor
    · refine List.pairwise_iff_getElem.mpr fun i j hi hj hij heq => ?_
      rw [List.length_map] at hi hj
      rw [List.getElem_map, List.getElem_map] at heq
      have := h1 i j _ _ (List.getElem?_eq_getElem hi) (List.getElem?_eq_getElem hj) heq
      omega
    · intro q hq
      obtain ⟨k, hk⟩ := List.getElem?_of_mem hq
      exact h2 k q hk
  · rintro ⟨h1, h2⟩
    have key : ∀ (i j : Nat) (x y : Nat × va_E), ws[i]? = some x → ws[j]? = some y → i < j → x.1 ≠ y.1 := by
      intro i j x y hi hj hij
      obtain ⟨hi', ei⟩ := List.getElem?_eq_some_iff.mp hi
      obtain ⟨hj', ej⟩ := List.getElem?_eq_some_iff.mp hj
      have h := List.pairwise_iff_getElem.mp h1 i j (by rw [List.length_map]; exact hi') (by rw [List.length_map]; exact hj') hij
      rw [List.getElem_map, List.getElem_map, ei, ej] at h
      exact h
    refine ⟨fun i j x y hi hj hxy => ?_, fun k q hk => h2 q (List.mem_of_getElem? hk)⟩
    rcases Nat.lt_trichotomy i j with h | h | h
    · exact absurd hxy (key i j x y hi hj h)
    · exact h
    · exact absurd hxy.symm (key j i y x hj hi h)
theorem va_P.perm {cl : List vw_C} {ws' : va_W} {H : Heap} (h : va_P D cl ws H) (hp : ws.Perm ws') : va_P D cl ws' H := va_P_mem.mpr fun q hq => va_P_mem.mp h q (hp.mem_iff.mpr hq)
theorem va_D.perm {ws' : va_W} (h : va_D A ws) (hp : ws.Perm ws') : va_D A ws' := by
  obtain ⟨h1, h2⟩ := (va_D_iff (cl := [])).mp h
  exact (va_D_iff (cl := [])).mpr ⟨(hp.map (·.1)).nodup_iff.mp h1, fun q hq => h2 q (hp.mem_iff.mpr hq)⟩
/-- the frame rule: ws is the callee's cells and the rest, in any order; the rest stays -/
theorem va_frame {cl : List vw_C} {wc wr w1 : va_W} {H H1 : Heap} (hP : va_P D cl ws H) (hD : va_D A ws) (hp : ws.Perm (wc ++ wr)) (hk : ∀ q : Nat, q < H.size → ¬ va_A wc H.size q → H1[q]? = H[q]?) (hF : ∀ q, va_A wc H.size q → A q) (hP1 : va_P D cl w1 H1) (hD1 : va_D (va_A wc H.size) w1) : va_P D cl (w1 ++ wr) H1 ∧ va_D A (w1 ++ wr) := by
  have hP := hP.perm hp
  have hD := hD.perm hp
  have hPr : va_P D cl wr H := va_P_mem.mpr fun q hq => va_P_mem.mp hP q (List.mem_append_right _ hq)
  obtain ⟨d1, d2⟩ := (va_D_iff (cl := [])).mp hD
  rw [List.map_append, List.nodup_append] at d1
  obtain ⟨d1a, d1b, d1c⟩ := d1
  have apart : ∀ q ∈ wr, q.1 < H.size ∧ ¬ va_A wc H.size q.1 := by
    intro q hq
    have hl := (va_P_mem.mp hPr q hq).lt
    refine ⟨hl, fun h => ?_⟩
    rcases va_A_mem.mp h with ⟨e, h⟩ | h
    · exact d1c q.1 (List.mem_map.mpr ⟨_, h, rfl⟩) q.1 (List.mem_map.mpr ⟨_, hq, rfl⟩) rfl
    · omega
  obtain ⟨f1, f2⟩ := (va_D_iff (cl := [])).mp hD1
  refine ⟨va_P_mem.mpr fun q hq => ?_, (va_D_iff (cl := [])).mpr ⟨?_, fun q hq => ?_⟩⟩
  · rcases List.mem_append.mp hq with h | h
    · exact va_P_mem.mp hP1 q h
    · obtain ⟨g1, g2⟩ := apart q h
      exact (va_P_mem.mp hPr q h).kept (hk q.1 g1 g2)
  · rw [List.map_append, List.nodup_append]
    refine ⟨f1, d1b, fun a ha b hb hab => ?_⟩
    obtain ⟨x, hx, rfl⟩ := List.mem_map.mp ha
    obtain ⟨y, hy, rfl⟩ := List.mem_map.mp hb
    exact (apart y hy).2 (by rw [← hab]; exact f2 x hx)
  · rcases List.mem_append.mp hq with h | h
    · exact hF _ (f2 q h)
    · exact d2 q (List.mem_append_right _ h)
/-- a list picked apart by places -/
def wpick (ws : va_W) (is : List Nat) : va_W := is.filterMap (fun i => ws[i]?)
theorem perm_range {α : Type} (l : List α) : (List.range l.length).filterMap (fun i => l[i]?) = l := by
  induction l with
  | nil => rfl
  | cons a t ih =>
    rw [List.length_cons, List.range_succ_eq_map, List.filterMap_cons]
    simp only [List.getElem?_cons_zero, List.filterMap_map]
    congr 1
/-- the places is are all the places of pre, each once: ws = pre ++ tl, picked in another order -/
theorem wperm (pre tl w : va_W) (is : List Nat) (hb : (List.range pre.length).isPerm is = true) (hw : is.filterMap (fun i => pre[i]?) = w) : (pre ++ tl).Perm (w ++ tl) := by
  refine List.Perm.append_right tl ?_
  have h := (List.isPerm_iff.mp hb).filterMap (fun i => pre[i]?)
  rw [perm_range, hw] at h
  exact h
end WR
