/-! BASE 3: calls of writers -/
set_option maxRecDepth 100000
theorem wp_to {D : va_G} {cl : List vw_C} {ws ws' : va_W} {H : Heap} (h : va_P D cl ws H) (e : ws = ws') : va_P D cl ws' H := e ▸ h
theorem wd_to {A : Nat → Prop} {ws ws' : va_W} (h : va_D A ws) (e : ws = ws') : va_D A ws' := e ▸ h
theorem wperm0 (pre w : va_W) (is : List Nat) (hb : (List.range pre.length).isPerm is = true) (hw : is.filterMap (fun i => pre[i]?) = w) : pre.Perm w := by
  have h := wperm pre [] w is hb hw
  rwa [List.append_nil, List.append_nil] at h
theorem wpermN (pre w : va_W) (n : Nat) (is : List Nat) (hn : pre.length = n) (hb : (List.range n).isPerm is = true) (hw : is.filterMap (fun i => pre[i]?) = w) : pre.Perm w := wperm0 pre w is (by rw [hn]; exact hb) hw
theorem wpermT (pre tl w : va_W) (n : Nat) (is : List Nat) (hn : pre.length = n) (hb : (List.range n).isPerm is = true) (hw : is.filterMap (fun i => pre[i]?) = w) : (pre ++ tl).Perm (w ++ tl) := wperm pre tl w is (by rw [hn]; exact hb) hw
section WC
variable {p : Program} {l : Launch} {e : Env} {R : Room} {s : State} {m : MethodId} {args : Array Value} {below : List Frame} {meth : Method} {c : Code} {H : Heap} {locs : List Loc} {cells slots : Nat} {Q : State → Prop}
variable {cc : ByteArray} {pc : Nat} {ls : Array Slot} {rest st0 : List Value} {K : State → Prop} {D : va_G} {ws wc wr : va_W} {n mc ms : Nat} {A : Nat → Prop} {H0 : Heap} {σ : Type}
variable {y : MethodName} {bytes : ByteArray} {maxL nL k index : Nat} {ret : Option FieldType} {wsy : List Cond} {rm : Room} {own C : String} {b : Addr} {As : List Value}
theorem wr_free (hD : va_D A ws) (hS : va_S A H0 H locs) (hA : ∀ q, H0.size ≤ q → A q) (hp : ws.Perm (wc ++ wr)) : ∀ q, va_A wc H.size q → A q := by
  intro q h
  rcases va_A_mem.mp h with ⟨e, h⟩ | h
  · exact ((va_D_iff (cl := [])).mp (hD.perm hp)).2 (q, e) (List.mem_append_left _ h)
  · exact hA q (Nat.le_trans hS.1 h)
theorem wr_cutP (hP : va_P D vwCl ws H) (hp : ws.Perm (wc ++ wr)) : va_P D vwCl wc H := va_P_mem.mpr fun q hq => va_P_mem.mp (hP.perm hp) q (List.mem_append_left _ hq)
theorem wr_cutD (hD : va_D A ws) (hp : ws.Perm (wc ++ wr)) : va_D (fun _ => True) wc := by
  obtain ⟨h1, -⟩ := (va_D_iff (cl := [])).mp (hD.perm hp)
  rw [List.map_append, List.nodup_append] at h1
  exact (va_D_iff (cl := [])).mpr ⟨h1.1, fun _ _ => trivial⟩
theorem wr_callV {post : Int32 → σ → Prop} {w : σ → va_W} (F : CallFix p m c cc nL s args lw_all own) (hM : Met l y wsy rm (PcA K D (.ref b :: As) wc H.size) (QiA D post w (va_A wc H.size)) mc ms (va_A wc H.size)) (cw : CallW R s args own C index y bytes maxL ret wsy rm mc ms k) (hKm : KMv K) (hK : K s) (hP : va_P D vwCl ws H) (hD : va_D A ws) (hS : va_S A H0 H locs) (hA : ∀ q, H0.size ≤ q → A q) (hp : ws.Perm (wc ++ wr))
    (hrc : ∃ cellB : Cell, H[b]? = some cellB ∧ cellB.vm.isStatics = false ∧ s.vm.findClass C = some cellB.cls) (hn : As.length = k) (hsz : ls.size = nL) (hst : st0 = As.reverse ++ .ref b :: rest) (hw : (rest.map fun v => v.category).sum ≤ 8) (hdg : decode cc pc = .ok (.invokevirtual index, 3)) (hc : cells + mc ≤ R.cells ∧ slots + ms ≤ R.slots)
    (kk : ∀ (r : Int32) (u : σ) (H1 : Heap) (locs1 : List Loc), post r u → va_P D vwCl (w u ++ wr) H1 → va_D A (w u ++ wr) → va_S A H0 H1 locs1 → W p l e R s m args below meth c H1 locs1 (cells + mc) (slots + ms) Q (F0 m (pc + 3) ls (.int r :: rest))) : W p l e R s m args below meth c H locs cells slots Q (F0 m pc ls st0) := by
  have hF := wr_free hD hS hA hp
  refine va_calli (rest := rest) (va_runV (g := F0 m pc ls st0) (b := b) (As := As) F hM cw ⟨PcA_blind hKm, hrc, PcA_at hKm hK (wr_cutP hP hp) (wr_cutD hD hp)⟩ rfl hn hsz hst (lv_room hw) hdg hc) hS (fun q _ h => hF q h) hF (fun r u t H1 locs1 ht hvm hp1 hB hz hk hS => ?_)
  obtain ⟨hP1, hD1⟩ := hB
  rw [ht] at hP1
  obtain ⟨hP', hD'⟩ := va_frame hP hD hp hk hF hP1 hD1
  exact kk r u H1 locs1 hp1 hP' hD' hS
theorem wr_callVl {post : Int64 → σ → Prop} {w : σ → va_W} (F : CallFix p m c cc nL s args lw_all own) (hM : Met l y wsy rm (PcA K D (.ref b :: As) wc H.size) (QlA D post w (va_A wc H.size)) mc ms (va_A wc H.size)) (cw : CallW R s args own C index y bytes maxL ret wsy rm mc ms k) (hKm : KMv K) (hK : K s) (hP : va_P D vwCl ws H) (hD : va_D A ws) (hS : va_S A H0 H locs) (hA : ∀ q, H0.size ≤ q → A q) (hp : ws.Perm (wc ++ wr))
    (hrc : ∃ cellB : Cell, H[b]? = some cellB ∧ cellB.vm.isStatics = false ∧ s.vm.findClass C = some cellB.cls) (hn : As.length = k) (hsz : ls.size = nL) (hst : st0 = As.reverse ++ .ref b :: rest) (hw : (rest.map fun v => v.category).sum ≤ 8) (hdg : decode cc pc = .ok (.invokevirtual index, 3)) (hc : cells + mc ≤ R.cells ∧ slots + ms ≤ R.slots)
    (kk : ∀ (r : Int64) (u : σ) (H1 : Heap) (locs1 : List Loc), post r u → va_P D vwCl (w u ++ wr) H1 → va_D A (w u ++ wr) → va_S A H0 H1 locs1 → W p l e R s m args below meth c H1 locs1 (cells + mc) (slots + ms) Q (F0 m (pc + 3) ls (.long r :: rest))) : W p l e R s m args below meth c H locs cells slots Q (F0 m pc ls st0) := by
  have hF := wr_free hD hS hA hp
  refine va_calll (rest := rest) (va_runV (g := F0 m pc ls st0) (b := b) (As := As) F hM cw ⟨PcA_blind hKm, hrc, PcA_at hKm hK (wr_cutP hP hp) (wr_cutD hD hp)⟩ rfl hn hsz hst (lv_room hw) hdg hc) hS (fun q _ h => hF q h) hF (fun r u t H1 locs1 ht hvm hp1 hB hz hk hS => ?_)
  obtain ⟨hP1, hD1⟩ := hB
  rw [ht] at hP1
  obtain ⟨hP', hD'⟩ := va_frame hP hD hp hk hF hP1 hD1
  exact kk r u H1 locs1 hp1 hP' hD' hS
theorem wr_callVv {post : σ → Prop} {w : σ → va_W} (F : CallFix p m c cc nL s args lw_all own) (hM : Met l y wsy rm (PcA K D (.ref b :: As) wc H.size) (QvA D post w (va_A wc H.size)) mc ms (va_A wc H.size)) (cw : CallW R s args own C index y bytes maxL ret wsy rm mc ms k) (hKm : KMv K) (hK : K s) (hP : va_P D vwCl ws H) (hD : va_D A ws) (hS : va_S A H0 H locs) (hA : ∀ q, H0.size ≤ q → A q) (hp : ws.Perm (wc ++ wr))
    (hrc : ∃ cellB : Cell, H[b]? = some cellB ∧ cellB.vm.isStatics = false ∧ s.vm.findClass C = some cellB.cls) (hn : As.length = k) (hsz : ls.size = nL) (hst : st0 = As.reverse ++ .ref b :: rest) (hw : (rest.map fun v => v.category).sum ≤ 8) (hdg : decode cc pc = .ok (.invokevirtual index, 3)) (hc : cells + mc ≤ R.cells ∧ slots + ms ≤ R.slots)
    (kk : ∀ (u : σ) (H1 : Heap) (locs1 : List Loc), post u → va_P D vwCl (w u ++ wr) H1 → va_D A (w u ++ wr) → va_S A H0 H1 locs1 → W p l e R s m args below meth c H1 locs1 (cells + mc) (slots + ms) Q (F0 m (pc + 3) ls rest)) : W p l e R s m args below meth c H locs cells slots Q (F0 m pc ls st0) := by
  have hF := wr_free hD hS hA hp
  refine va_callv (rest := rest) (va_runV (g := F0 m pc ls st0) (b := b) (As := As) F hM cw ⟨PcA_blind hKm, hrc, PcA_at hKm hK (wr_cutP hP hp) (wr_cutD hD hp)⟩ rfl hn hsz hst (lv_room hw) hdg hc) hS (fun q _ h => hF q h) hF (fun u t H1 locs1 ht hvm hp1 hB hz hk hS => ?_)
  obtain ⟨hP1, hD1⟩ := hB
  rw [ht] at hP1
  obtain ⟨hP', hD'⟩ := va_frame hP hD hp hk hF hP1 hD1
  exact kk u H1 locs1 hp1 hP' hD' hS
theorem wr_callS {post : Int32 → σ → Prop} {w : σ → va_W} (F : CallFix p m c cc nL s args lw_all own) (hM : Met l y wsy rm (PcA K D As wc H.size) (QiA D post w (va_A wc H.size)) mc ms (va_A wc H.size)) (cw : CallB R s args own index y bytes maxL ret wsy rm mc ms k ∧ (Cond.static y).before args s = true) (hKm : KMv K) (hK : K s) (hP : va_P D vwCl ws H) (hD : va_D A ws) (hS : va_S A H0 H locs) (hA : ∀ q, H0.size ≤ q → A q) (hp : ws.Perm (wc ++ wr))
    (hn : As.length = k) (hsz : ls.size = nL) (hst : st0 = As.reverse ++ rest) (hw : (rest.map fun v => v.category).sum ≤ 8) (hdg : decode cc pc = .ok (.invokestatic index, 3)) (hc : cells + mc ≤ R.cells ∧ slots + ms ≤ R.slots)
    (kk : ∀ (r : Int32) (u : σ) (H1 : Heap) (locs1 : List Loc), post r u → va_P D vwCl (w u ++ wr) H1 → va_D A (w u ++ wr) → va_S A H0 H1 locs1 → W p l e R s m args below meth c H1 locs1 (cells + mc) (slots + ms) Q (F0 m (pc + 3) ls (.int r :: rest))) : W p l e R s m args below meth c H locs cells slots Q (F0 m pc ls st0) := by
  have hF := wr_free hD hS hA hp
  refine va_calli (rest := rest) (va_runS (g := F0 m pc ls st0) (As := As) F hM cw ⟨PcA_blind hKm, PcA_at hKm hK (wr_cutP hP hp) (wr_cutD hD hp)⟩ rfl hn hsz hst (lv_room hw) hdg hc) hS (fun q _ h => hF q h) hF (fun r u t H1 locs1 ht hvm hp1 hB hz hk hS => ?_)
  obtain ⟨hP1, hD1⟩ := hB
  rw [ht] at hP1
  obtain ⟨hP', hD'⟩ := va_frame hP hD hp hk hF hP1 hD1
  exact kk r u H1 locs1 hp1 hP' hD' hS
theorem top_to {x y : Int32} (h : x = y) (k : W p l e R s m args below meth c H locs cells slots Q (F0 m pc ls (.int y :: rest))) : W p l e R s m args below meth c H locs cells slots Q (F0 m pc ls (.int x :: rest)) := h ▸ k
theorem top_toL {x y : Int64} (h : x = y) (k : W p l e R s m args below meth c H locs cells slots Q (F0 m pc ls (.long y :: rest))) : W p l e R s m args below meth c H locs cells slots Q (F0 m pc ls (.long x :: rest)) := h ▸ k
end WC
def updN (d : Nat → Nat) (k x : Nat) : Nat → Nat := fun j => if j = k then x else d j
theorem dv_upd (d : Nat → Nat) (k x : Nat) : upd (dv d) k (nI x) = dv (updN d k x) := by
  funext j
  simp only [upd, dv, updN]
  split <;> rfl
