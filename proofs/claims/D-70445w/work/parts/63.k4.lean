set_option maxRecDepth 100000
set_option maxHeartbeats 4000000 in
theorem m_X0_must_ok (l : Launch) (D : va_G) (ca : Nat → ClassId) (k : Nat) (sz : Nat)  : Met l yX0_must (ws_ yX0_must cX0_must 2 none) (rmL 0) (PcA (KK D ca) D [.int (bI true), .int (nI k)] [] sz) (QvA D (fun  (_ : Unit) => True) (fun _ => []) (va_A [] sz)) 0 0 (va_A [] sz) := by
  refine wr_head (y := yX0_must) (n := 2) (av := [.int (bI true), .int (nI k)]) (Qc := fun A => (QvA D (fun  (_ : Unit) => True) (fun _ => []) A)) (by decide) (Nat.le_of_ble_eq_true rfl) ?_
  intro zp ze zs zm za zb zt zc ls zQ A H locs hx hb hml hr hlk hown hts hnm hK hP hD hS hA hl hQ
  have hown : zs.vm.findClass RX0 = some zm.cls := hown
  have hl : lv_has ls 2 [(0, .int (bI true)), (1, .int (nI k))] := hl
  have hF : CallFix zp zm zc cX0_must 2 zs za lw_all RX0 := ⟨hx, hb, hml, hown, hts⟩
  have hKK := hK
  have hK : K1 D ca zs := hKK.1
  refine lv_iload_n hx hb dX0_must_0 rfl (lv_at hl 0 rfl) ?_
  refine wb_ne (tgt := 13) hx hb dX0_must_1 (by decide) (fun c_1 => ?_) (fun zh => by first | exact absurd zh (by decide) | exact absurd rfl zh)
  exact wr_vret () hx hb hr hlk hQ dX0_must_13 (wp_to (hP.sub [] rfl) rfl) (wd_to (hD.sub [] (by decide) rfl) rfl) hS (Nat.le_refl _) (Nat.le_refl _) trivial
theorem cs_X10_init {R : Room} {s : State} {args : Array Value} {own : String} {index : Nat} (hts : ∀ w ∈ lw_all, w.before args s = true) (hl : Cond.methodLink own index yX10_init ∈ lw_all) {rm : Room} {mc ms : Nat} (hR : rm.frames + 1 ≤ R.frames ∧ 8 + (2 + 11) + rm.locals ≤ R.locals) (hc : rm.cells = mc := by rfl) (hs : rm.slots = ms := by rfl) : CallB R s args own index yX10_init cX10_init 2 none (ws_ yX10_init cX10_init 2 none) rm mc ms 1 ∧ yX10_init.name = "<init>" ∧ (Cond.instanceMethod yX10_init).before args s = true := cwI 1 hts (lw_meth q351) rfl hc hs (hts _ q73) (hts _ hl) (hts _ q350) rfl (by decide +kernel) hR
set_option maxHeartbeats 4000000 in
theorem m_X0_must_no (l : Launch) (D : va_G) (ca : Nat → ClassId) (k : Nat) (zv : Nat → Option Nat) (sz : Nat)  : MetT l yX0_must (ws_ yX0_must cX0_must 2 none) (rmC 4 1 7) (PcZ (KK D ca) (ZZ zv) D [.int (bI false), .int (nI k)] [] sz) (QtA D (fun _ (zu : Unit) => True) (fun zu xa => [(xa, .inr (9, [.null, .null, .null, .null, .null, .int (nI 0), .int (nI k)]))]) (va_A [] sz)) 1 7 (va_A [] sz) := by
  refine wtz_head (y := yX0_must) (n := 2) (av := [.int (bI false), .int (nI k)]) (Qc := fun A => (QtA D (fun _ (zu : Unit) => True) (fun zu xa => [(xa, .inr (9, [.null, .null, .null, .null, .null, .int (nI 0), .int (nI k)]))]) A)) (by decide) (Nat.le_of_ble_eq_true rfl) ?_
  intro zp ze zs zm za zb zt zc ls zQ A H locs hx hb hml hr hlk hown hts hnm hK hZ hP hD hS hA hl hQ hno
  have hown : zs.vm.findClass RX0 = some zm.cls := hown
  have hl : lv_has ls 2 [(0, .int (bI false)), (1, .int (nI k))] := hl
  have hF : CallFix zp zm zc cX0_must 2 zs za lw_all RX0 := ⟨hx, hb, hml, hown, hts⟩
  have hKK := hK
  have hK : K1 D ca zs := hKK.1
  refine lv_iload_n hx hb dX0_must_0 rfl (lv_at hl 0 rfl) ?_
  refine wb_ne (tgt := 13) hx hb dX0_must_1 (by decide) (fun zh => by first | exact absurd zh (by decide) | exact absurd rfl zh) (fun c_1 => ?_)
  refine va_new (D := D) (ci := 9) (fs := [.null, .null, .null, .null, .null, .int (nI 0), .int (nI 0)]) (C := RX10) (T := TX10) (N := 7) hx hb hts in_X10 tyX10 tyX10_ok hown (hts _ q297) (hts _ q310) (hts _ q73) hK hP hD hS hA rfl (fun j hj => by rcases (show j = 0 ∨ j = 1 ∨ j = 2 ∨ j = 3 ∨ j = 4 ∨ j = 5 ∨ j = 6 by omega) with rfl | rfl | rfl | rfl | rfl | rfl | rfl <;> rfl) (by decide) (by decide) dX0_must_4 (fun nw_4 H hP hD hS => ?_)
  have hP : va_P D vwCl [(nw_4, .inr (9, [.null, .null, .null, .null, .null, .int (nI 0), .int (nI 0)]))] H := hP
  have hD : va_D A [(nw_4, .inr (9, [.null, .null, .null, .null, .null, .int (nI 0), .int (nI 0)]))] := hD
  refine lv_dup hx hb dX0_must_7 rfl ?_
  refine lv_iload_n hx hb dX0_must_8 rfl (lv_at hl 1 rfl) ?_
  have hpm : ([(nw_4, .inr (9, [.null, .null, .null, .null, .null, .int (nI 0), .int (nI 0)]))] : va_W).Perm ([(nw_4, .inr (9, [.null, .null, .null, .null, .null, .int (nI 0), .int (nI 0)]))] ++ []) := wpermN [(nw_4, .inr (9, [.null, .null, .null, .null, .null, .int (nI 0), .int (nI 0)]))] _ 1 [0] rfl (by decide) rfl
  refine mk_v (va_runI (b := nw_4) (As := [.int (nI k)]) hF (m_X10_init l D ca nw_4 k zv H.size ) (cs_X10_init hts q349 ⟨by decide, by decide⟩) (ps_Z (KK_mv D ca) (ZZ_mv zv) hKK hZ hS hA hP hD hpm) rfl rfl hl.1 rfl (lv_room (Nat.le_of_ble_eq_true rfl)) dX0_must_9 ⟨by first | decide | (show _ ≤ _; simp only [rmC]; omega), by first | decide | (show _ ≤ _; simp only [rmC]; omega)⟩) hP hD hS hA hpm (fun zu H locs hpo hP hD hS => ?_)
  have hP : va_P D vwCl [(nw_4, .inr (9, [.null, .null, .null, .null, .null, .int (nI 0), .int (nI k)]))] H := hP
  have hD : va_D A [(nw_4, .inr (9, [.null, .null, .null, .null, .null, .int (nI 0), .int (nI k)]))] := hD
  refine W.athrowT hx hb dX0_must_12 ?_
  exact wt_leave () hlk hno hQ (wp_to (hP.sub [0] rfl) rfl) (wd_to (hD.sub [0] (by decide) rfl) rfl) hS (by first | decide | omega) (by first | decide | omega) (by trivial)
