/-! BASE 17: the text "kecuh", the list's empty array, a list that grows -/
set_option maxRecDepth 100000
def kcF (j : Nat) : Int32 := (([[107, 101, 99, 117, 104]] : List (List Int32)).getD 0 []).getD j 0
def kcN (j : Nat) : Nat := ([107, 101, 99, 117, 104] : List Nat).getD j 0
theorem kc_all : ∀ i, i < 5 → ((kcF i &&& nI 255).toUInt32 % 65536).toInt32 = nI (kcN i) := by decide +kernel
theorem kc_lt : ∀ i, i < 5 → kcN i < 256 := by decide +kernel
theorem kn_all : ∀ i, i < 5 → knO (nI (kcN i)) = some (i + 1) := by decide +kernel
theorem kn_none {v : Int32} (h : ∀ j, j < 5 → ¬ nI (kcN j) = v) : knO v = none := by
  have h0 : ¬ v = nI 107 := fun q => h 0 (by decide) q.symm
  have h1 : ¬ v = nI 101 := fun q => h 1 (by decide) q.symm
  have h2 : ¬ v = nI 99 := fun q => h 2 (by decide) q.symm
  have h3 : ¬ v = nI 117 := fun q => h 3 (by decide) q.symm
  have h4 : ¬ v = nI 104 := fun q => h 4 (by decide) q.symm
  unfold knO
  rw [if_neg h0, if_neg h1, if_neg h2, if_neg h3, if_neg h4]
theorem sr_y {t k : Nat} {v : Int32} (hk : k < 5) (ht : t = 1) (h : nI (kcN k) = v) : srO t v = some k := by
  unfold srO
  rw [if_pos ht, ← h, kn_all k hk]
  rfl
theorem sr_n {t : Nat} {v : Int32} (h : ∀ j, j < 5 → t = 1 → ¬ nI (kcN j) = v) : srO t v = none := by
  unfold srO
  by_cases ht : t = 1
  · rw [if_pos ht, kn_none (fun j hj => h j hj ht)]
    rfl
  · rw [if_neg ht]
section KX
variable {p : Program} {l : Launch} {e : Env} {R : Room} {s : State} {m : MethodId} {args : Array Value} {below : List Frame} {meth : Method} {c : Code} {H : Heap} {locs : List Loc} {cells slots : Nat} {Q : State → Prop}
variable {cc : ByteArray} {pc : Nat} {ls : Array Slot} {rest st0 : List Value} {K : State → Prop} {D : va_G} {ws wc wr : va_W} {n sz mc ms : Nat} {A : Nat → Prop} {H0 : Heap} {σ : Type}
theorem wr_nret {post : Int32 → σ → Prop} {w : σ → va_W} {v : Int32} {ty : FieldType} (u : σ) (hx : p.tables.exec = Jvm.exec) (hb : c.code = cc) (hr : meth.sig.returnType = some ty) (hn : narrow ty (.int v) = .int v) (hlk : meth.locks = false) (hQ : Q = MQ below (QiA D post w A) args s mc ms A) (hdg : decode cc pc = .ok (.ireturn, 1)) (hP : va_P D vwCl (w u) H) (hD : va_D A (w u)) (hS : va_S A s.heap H locs) (h1 : cells ≤ mc) (h2 : slots ≤ ms) (hv : post v u) : W p l e R s m args below meth c H locs cells slots Q (F0 m pc ls [.int v]) := by
  subst hQ
  refine W.widen h1 h2 ?_
  exact W.zret hx hb hr hn (fun t ht _ => ⟨⟨v, u, rfl, hv, by rw [ht]; exact hP, hD⟩, hS.F ht⟩) hS.2.2 hdg hlk
theorem zz_len {zv : Nat → Option Nat} (hx : p.tables.exec = Jvm.exec) (hb : c.code = cc) (hZ : ZZ zv A s s.heap) (hS : va_S A s.heap H locs) (hdg : decode cc pc = .ok (.arraylength, 1)) (kk : W p l e R s m args below meth c H locs cells slots Q (F0 m (pc + 1) ls (.int (nI 0) :: rest))) : W p l e R s m args below meth c H locs cells slots Q (F0 m pc ls (va_rf (zv 0) :: rest)) := by
  obtain ⟨z0, h1, h2⟩ := hZ.2.2.2.2.2.2.2
  rw [h1]
  exact va_tlen hx hb h2 hS rfl hdg kk
theorem sq_cas {ca : Nat → ClassId} {k : Nat} (hKK : KK D ca s) (hk : 1 ≤ k ∧ k ≤ 5) : ∃ r : vw_C, vwCl[2 + k]? = some r ∧ va_Nw (.castable r.1 "java/lang/Object") s := by
  obtain ⟨h1, h5⟩ := hk
  rcases (show k = 1 ∨ k = 2 ∨ k = 3 ∨ k = 4 ∨ k = 5 by omega) with rfl | rfl | rfl | rfl | rfl
  · exact ⟨_, rfl, hKK.2.1 _ q1621 rfl⟩
  · exact ⟨_, rfl, hKK.2.1 _ q1622 rfl⟩
  · exact ⟨_, rfl, hKK.2.1 _ q1623 rfl⟩
  · exact ⟨_, rfl, hKK.2.1 _ q1624 rfl⟩
  · exact ⟨_, rfl, hKK.2.1 _ q1625 rfl⟩
theorem wn_astS {ca : Nat → ClassId} {k sa : Nat} {vs : List Value} (hx : p.tables.exec = Jvm.exec) (hb : c.code = cc) (hKK : KK D ca s) (hP : va_P D vwCl ws H) (hD : va_D A ws) (hS : va_S A H0 H locs) (hm : (sa, .inr (2 + k, vs)) ∈ ws) (hk : 1 ≤ k ∧ k ≤ 5) (q0 : Nat) {a i N : Nat} {f : Nat → Option Nat} (ha : ws[q0]? = some (a, .inl (ca 7, N, .inr (.inr (.inr (.inr f)))))) (hin : i < N) (hn : N < 2147483648) (hdg : decode cc pc = .ok (.aastore, 1))
    (kk : ∀ (H1 : Heap) (locs1 : List Loc), va_P D vwCl (ws.set q0 (a, .inl (ca 7, N, .inr (.inr (.inr (.inr (va_up f i (some sa)))))))) H1 → va_D A (ws.set q0 (a, .inl (ca 7, N, .inr (.inr (.inr (.inr (va_up f i (some sa)))))))) → va_S A H0 H1 locs1 → W p l e R s m args below meth c H1 locs1 cells slots Q (F0 m (pc + 1) ls rest)) : W p l e R s m args below meth c H locs cells slots Q (F0 m pc ls (.ref sa :: .int (nI i) :: .ref a :: rest)) := by
  obtain ⟨r, hr, hc⟩ := sq_cas hKK hk
  obtain ⟨qk, hqk⟩ := List.getElem?_of_mem hm
  exact wn_astO hx hb hKK.1 hP hD hS q0 7 qk (2 + k) ha rfl hc hqk hr hin hn hdg kk
theorem mk_Fi {post : Int32 → σ → Prop} {w : σ → va_W} {a : Array Value} (hr : va_Run5 p l e R s m args below meth c H locs cells slots mc ms (F0 m pc ls st0) rest (QiA D post w (va_A wc H.size) a) (va_A wc H.size)) (hP : va_P D vwCl ws H) (hD : va_D A ws) (hS : va_S A H0 H locs) (hA : ∀ q, H0.size ≤ q → A q) (hp : ws.Perm (wc ++ wr))
    (kk : ∀ (r : Int32) (u : σ) (H1 : Heap) (locs1 : List Loc), post r u → va_P D vwCl (w u ++ wr) H1 → va_D A (w u ++ wr) → va_S A H0 H1 locs1 → W p l e R s m args below meth c H1 locs1 (cells + mc) (slots + ms) Q (F0 m (pc + 5) ls (.int r :: rest))) : W p l e R s m args below meth c H locs cells slots Q (F0 m pc ls st0) := by
  have hF := wr_free hD hS hA hp
  refine va_callFi (rest := rest) hr hS (fun q _ h => hF q h) hF (fun r u t H1 locs1 ht hvm hp1 hB hz hk hS => ?_)
  obtain ⟨hP1, hD1⟩ := hB
  rw [ht] at hP1
  obtain ⟨hP', hD'⟩ := va_frame hP hD hp hk hF hP1 hD1
  exact kk r u H1 locs1 hp1 hP' hD' hS
end KX
