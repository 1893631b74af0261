set_option maxRecDepth 100000
set_option maxHeartbeats 4000000 in
theorem m_X11_init (l : Launch) (D : va_G) (ca : Nat → ClassId) (h : Nat) (la : Nat) (n : Nat) (sz : Nat) (hn : n ≤ 40) : Met l yX11_init (ws_ yX11_init cX11_init 3 none) (rmC 1 1 40) (PcA (KK D ca) D [.ref h, .int (nI la), .int (nI n)] [(h, .inr (10, [.int (nI 0), .null]))] sz) (QvA D (fun (zu : Nat) => True) (fun zu => [(h, .inr (10, [.int (nI la), .ref zu])), (zu, .inl (ca 0, n, .inl (dv (fun _ => 0))))]) (va_A [(h, .inr (10, [.int (nI 0), .null]))] sz)) 1 40 (va_A [(h, .inr (10, [.int (nI 0), .null]))] sz) := by
  refine wr_head (y := yX11_init) (n := 3) (av := [.ref h, .int (nI la), .int (nI n)]) (Qc := fun A => (QvA D (fun (zu : Nat) => True) (fun zu => [(h, .inr (10, [.int (nI la), .ref zu])), (zu, .inl (ca 0, n, .inl (dv (fun _ => 0))))]) A)) (by decide) (Nat.le_of_ble_eq_true rfl) ?_
  intro zp ze zs zm za zb zt zc ls zQ A H locs hx hb hml hr hlk hown hts hnm hK hP hD hS hA hl hQ
  have hown : zs.vm.findClass RX11 = some zm.cls := hown
  have hl : lv_has ls 3 [(0, .ref h), (1, .int (nI la)), (2, .int (nI n))] := hl
  have hF : CallFix zp zm zc cX11_init 3 zs za lw_all RX11 := ⟨hx, hb, hml, hown, hts⟩
  have hKK := hK
  have hK : K1 D ca zs := hKK.1
  refine lv_aload_n hx hb dX11_init_0 rfl (lv_at hl 0 rfl) ?_
  refine W.objInit hx hb hown (hts _ q379) (hts _ q97) (hts _ q98) rfl (hl.1.trans hml.symm) rfl dX11_init_1 (by decide) (Nat.le_of_ble_eq_true rfl) ?_
  refine W.eq (g2 := F0 zm 4 ls []) rfl ?_
  refine lv_aload_n hx hb dX11_init_4 rfl (lv_at hl 0 rfl) ?_
  refine lv_iload_n hx hb dX11_init_5 rfl (lv_at hl 1 rfl) ?_
  refine va_putF (D := D) (ci := 10) (v := .int (nI la)) (ty := .int) (C := RX11) (T := TX11) (N := 2) hx hb hts in_X11 tyX11 tyX11_ok nmX11 hown hK hP hD hS 0 rfl rfl 0 (by decide) (hts _ q380) (fun _ h9 => h9) rfl hnm rfl (tyX11_ok 0 (by decide)) rfl rfl (Nat.le_of_ble_eq_true rfl) dX11_init_6 (fun H locs hP hD hS => ?_)
  have hP : va_P D vwCl [(h, .inr (10, [.int (nI la), .null]))] H := hP
  have hD : va_D A [(h, .inr (10, [.int (nI la), .null]))] := hD
  refine lv_aload_n hx hb dX11_init_9 rfl (lv_at hl 0 rfl) ?_
  refine lv_iload_n hx hb dX11_init_10 rfl (lv_at hl 2 rfl) ?_
  have hca0 : zs.vm.findClass ("[" ++ FieldType.int.toString) = some (ca 0) := (hK.2 0 (ca 0, .int) rfl).2
  refine mk_newa (ca := ca) (atype := .int) (ty := .int) (t0 := 0) (N := n) (a0 := (n, .inl (dv (fun _ => 0)))) hx hb (hts _ q192) rfl hca0 hP hD hS hA (nw_int _ _) (by first | decide | omega) (by first | decide | (show _ * 4 ≤ _; omega)) (by first | decide | (show _ ≤ _; simp only [rmC]; omega)) (by first | decide | (show _ ≤ _; simp only [rmC]; omega)) dX11_init_11 (fun nw_11 H hP hD hS => ?_)
  have hP : va_P D vwCl [(h, .inr (10, [.int (nI la), .null])), (nw_11, .inl (ca 0, n, .inl (dv (fun _ => 0))))] H := hP
  have hD : va_D A [(h, .inr (10, [.int (nI la), .null])), (nw_11, .inl (ca 0, n, .inl (dv (fun _ => 0))))] := hD
  refine va_putF (D := D) (ci := 10) (v := .ref nw_11) (ty := tyX11 1) (C := RX11) (T := TX11) (N := 2) hx hb hts in_X11 tyX11 tyX11_ok nmX11 hown hK hP hD hS 0 rfl rfl 1 (by decide) (hts _ q382) (fun _ h9 => h9) rfl hnm rfl (tyX11_ok 1 (by decide)) rfl rfl (Nat.le_of_ble_eq_true rfl) dX11_init_13 (fun H locs hP hD hS => ?_)
  have hP : va_P D vwCl [(h, .inr (10, [.int (nI la), .ref nw_11])), (nw_11, .inl (ca 0, n, .inl (dv (fun _ => 0))))] H := hP
  have hD : va_D A [(h, .inr (10, [.int (nI la), .ref nw_11])), (nw_11, .inl (ca 0, n, .inl (dv (fun _ => 0))))] := hD
  exact wr_vret (nw_11) hx hb hr hlk hQ dX11_init_16 (wp_to (hP.sub [0, 1] rfl) rfl) (wd_to (hD.sub [0, 1] (by decide) rfl) rfl) hS (by first | decide | omega) (by first | decide | omega) trivial
set_option maxHeartbeats 4000000 in
theorem m_X11_cut (l : Launch) (D : va_G) (ca : Nat → ClassId) (h : Nat) (lv : Int32) (ri : Nat) (v : Int32)  : Met l yX11_cut (ws_ yX11_cut cX11_cut 2 (some .int)) (rmL 0) (PcR (KK D ca) D [.ref h, .int v] [(h, .inr (10, [.int lv, .ref ri]))]) (vp_Si (fun zr => zr = cutI lv v)) 0 0 (fun _ => False) := by
  refine rd_head (by decide) (Nat.le_of_ble_eq_true rfl) ?_
  intro zp ze zs zm za zb zt zc ls zQ hx hb hml hr hlk hown hts hK hP hl hQ
  have hown : zs.vm.findClass RX11 = some zm.cls := hown
  have hl : lv_has ls 2 [(0, .ref h), (1, .int v)] := hl
  have hF : CallFix zp zm zc cX11_cut 2 zs za lw_all RX11 := ⟨hx, hb, hml, hown, hts⟩
  have hKK := hK
  have hK : K1 D ca zs := hKK.1
  refine lv_aload_n hx hb dX11_cut_0 rfl (lv_at hl 0 rfl) ?_
  refine va_get (D := D) (ci := 10) (v := .int lv) (C := RX11) (T := TX11) (N := 2) hx hb hts in_X11 hown hK hP 0 rfl rfl 0 (by decide) (hts _ q380) (fun _ h9 => h9) rfl dX11_cut_1 ?_
  refine lv_if_ne (tgt := 12) hx hb dX11_cut_4 (by decide) (fun c_4 => ?_) (fun c_4 => ?_)
  · refine lv_aload_n hx hb dX11_cut_12 rfl (lv_at hl 0 rfl) ?_
    refine va_get (D := D) (ci := 10) (v := .int lv) (C := RX11) (T := TX11) (N := 2) hx hb hts in_X11 hown hK hP 0 rfl rfl 0 (by decide) (hts _ q380) (fun _ h9 => h9) rfl dX11_cut_13 ?_
    refine lv_iconst (v := nI 1) hx hb dX11_cut_16 rfl ?_
    refine lv_icmp_ne (tgt := 25) hx hb dX11_cut_17 (by decide) (fun c_17 => ?_) (fun c_17 => ?_)
    · refine lv_iload_n hx hb dX11_cut_25 rfl (lv_at hl 1 rfl) ?_
      exact rd_iret hx hb hr hlk hQ dX11_cut_26 (by grind [cutI])
    · refine lv_iload_n hx hb dX11_cut_20 rfl (lv_at hl 1 rfl) ?_
      refine lv_i2s hx hb dX11_cut_21 rfl ?_
      refine lv_goto (tgt := 26) hx hb dX11_cut_22 (by decide) ?_
      exact rd_iret hx hb hr hlk hQ dX11_cut_26 (by grind [cutI])
  · refine lv_iload_n hx hb dX11_cut_7 rfl (lv_at hl 1 rfl) ?_
    refine lv_i2b hx hb dX11_cut_8 rfl ?_
    refine lv_goto (tgt := 26) hx hb dX11_cut_9 (by decide) ?_
    exact rd_iret hx hb hr hlk hQ dX11_cut_26 (by grind [cutI])
theorem cn_X0_must {R : Room} {s : State} {args : Array Value} {own : String} {index : Nat} {D : va_G} {ca : Nat → ClassId} (hts : ∀ w ∈ lw_all, w.before args s = true) (hKK : KK D ca s) (hl : Cond.methodLinkNest own index yX0_must "LampSquares" ∈ lw_tbl) {rm : Room} {mc ms : Nat} (hR : rm.frames + 1 ≤ R.frames ∧ 8 + (2 + 11) + rm.locals ≤ R.locals) (hc : rm.cells = mc := by rfl) (hs : rm.slots = ms := by rfl) : va_CN R s args own index yX0_must "LampSquares" cX0_must 2 none (ws_ yX0_must cX0_must 2 none) rm mc ms 2 ∧ (Cond.static yX0_must).before args s = true ∧ True := ⟨va_cnB 2 hts (lw_meth q309) rfl hc hs (hKK.2.1 _ hl rfl) (hts _ q58) (by decide +kernel) hR, hts _ q308, trivial⟩
set_option maxHeartbeats 4000000 in
theorem m_X11_row_ok (l : Launch) (D : va_G) (ca : Nat → ClassId) (h : Nat) (lv : Int32) (ri : Nat) (m : Nat) (f : Nat → Int32) (j : Nat) (n : Nat) (sz : Nat) (hjn : j + n ≤ m) (hm : m ≤ 40) (hn8 : n ≤ 8) : Met l yX11_row (ws_ yX11_row cX11_row 4 (some (.array .int))) (rmC 2 1 8) (PcA (KK D ca) D [.ref h, .int (nI j), .int (nI n)] [(h, .inr (10, [.int lv, .ref ri])), (ri, .inl (ca 0, m, .inl f))] sz) (QrA D (fun ra (zu : Unit) => True) (fun zu ra => [(h, .inr (10, [.int lv, .ref ri])), (ri, .inl (ca 0, m, .inl f)), (ra, .inl (ca 0, n, .inl (fun z => f (j + z))))]) (va_A [(h, .inr (10, [.int lv, .ref ri])), (ri, .inl (ca 0, m, .inl f))] sz)) 1 8 (va_A [(h, .inr (10, [.int lv, .ref ri])), (ri, .inl (ca 0, m, .inl f))] sz) := by
  refine wr_head (y := yX11_row) (n := 4) (av := [.ref h, .int (nI j), .int (nI n)]) (Qc := fun A => (QrA D (fun ra (zu : Unit) => True) (fun zu ra => [(h, .inr (10, [.int lv, .ref ri])), (ri, .inl (ca 0, m, .inl f)), (ra, .inl (ca 0, n, .inl (fun z => f (j + z))))]) A)) (by decide) (Nat.le_of_ble_eq_true rfl) ?_
  intro zp ze zs zm za zb zt zc ls zQ A H locs hx hb hml hr hlk hown hts hnm hK hP hD hS hA hl hQ
  have hown : zs.vm.findClass RX11 = some zm.cls := hown
  have hl : lv_has ls 4 [(0, .ref h), (1, .int (nI j)), (2, .int (nI n))] := hl
  have hF : CallFix zp zm zc cX11_row 4 zs za lw_all RX11 := ⟨hx, hb, hml, hown, hts⟩
  have hKK := hK
  have hK : K1 D ca zs := hKK.1
  refine lv_iload_n hx hb dX11_row_0 rfl (lv_at hl 1 rfl) ?_
  refine wn_iflt (tgt := 23) hx hb (by omega) dX11_row_1 (by decide) ?_
  refine lv_iload_n hx hb dX11_row_4 rfl (lv_at hl 1 rfl) ?_
  refine lv_i2l hx hb dX11_row_5 rfl ?_
  refine lv_iload_n hx hb dX11_row_6 rfl (lv_at hl 2 rfl) ?_
  refine lv_i2l hx hb dX11_row_7 rfl ?_
  refine lv_ladd hx hb dX11_row_8 ?_
  refine lv_aload_n hx hb dX11_row_9 rfl (lv_at hl 0 rfl) ?_
  refine va_get (D := D) (ci := 10) (v := .ref ri) (C := RX11) (T := TX11) (N := 2) hx hb hts in_X11 hown hK hP 0 rfl rfl 1 (by decide) (hts _ q382) (fun _ h9 => h9) rfl dX11_row_10 ?_
  refine va_alen (v := nI m) hx hb hK hP 1 0 rfl rfl rfl dX11_row_13 ?_
  refine lv_i2l hx hb dX11_row_14 rfl ?_
  refine W.lcmp hx hb dX11_row_15 ?_
  refine wl_gt (tgt := 23) hx hb dX11_row_16 (by decide) (fun c_16 => ?_) (fun c_16 => ?_)
  · rw [Int64.lt_iff_toInt_lt, lsum_toInt, i2l_toInt, nI_toInt (by omega), nI_toInt (by omega), nI_toInt (by omega)] at c_16
    exact absurd c_16 (by omega)
  · refine lv_iconst (v := nI 1) hx hb dX11_row_19 rfl ?_
    refine lv_goto (tgt := 24) hx hb dX11_row_20 (by decide) ?_
    refine lv_iconst (v := nI 2) hx hb dX11_row_24 rfl ?_
    have hpm : ([(h, .inr (10, [.int lv, .ref ri])), (ri, .inl (ca 0, m, .inl f))] : va_W).Perm ([] ++ [(h, .inr (10, [.int lv, .ref ri])), (ri, .inl (ca 0, m, .inl f))]) := wpermN [(h, .inr (10, [.int lv, .ref ri])), (ri, .inl (ca 0, m, .inl f))] _ 2 [0, 1] rfl (by decide) rfl
    refine mk_v (va_runSN (As := [.int (nI 1), .int (nI 2)]) hF (m_X0_must_ok l D ca 2 H.size ) (cn_X0_must hts hKK q964 ⟨by decide, by decide⟩) (ps_A (KK_mv D ca) hKK hP hD hpm) rfl rfl hl.1 rfl (lv_room (Nat.le_of_ble_eq_true rfl)) dX11_row_25 ⟨Nat.zero_le _, Nat.zero_le _⟩) hP hD hS hA hpm (fun zu H locs hpo hP hD hS => ?_)
    have hP : va_P D vwCl [(h, .inr (10, [.int lv, .ref ri])), (ri, .inl (ca 0, m, .inl f))] H := hP
    have hD : va_D A [(h, .inr (10, [.int lv, .ref ri])), (ri, .inl (ca 0, m, .inl f))] := hD
    refine lv_iload_n hx hb dX11_row_28 rfl (lv_at hl 2 rfl) ?_
    have hca0 : zs.vm.findClass ("[" ++ FieldType.int.toString) = some (ca 0) := (hK.2 0 (ca 0, .int) rfl).2
    refine mk_newa (ca := ca) (atype := .int) (ty := .int) (t0 := 0) (N := n) (a0 := (n, .inl (dv (fun _ => 0)))) hx hb (hts _ q192) rfl hca0 hP hD hS hA (nw_int _ _) (by first | decide | omega) (by first | decide | (show _ * 4 ≤ _; omega)) (by first | decide | (show _ ≤ _; simp only [rmC]; omega)) (by first | decide | (show _ ≤ _; simp only [rmC]; omega)) dX11_row_29 (fun nw_29 H hP hD hS => ?_)
    have hP : va_P D vwCl [(h, .inr (10, [.int lv, .ref ri])), (ri, .inl (ca 0, m, .inl f)), (nw_29, .inl (ca 0, n, .inl (dv (fun _ => 0))))] H := hP
    have hD : va_D A [(h, .inr (10, [.int lv, .ref ri])), (ri, .inl (ca 0, m, .inl f)), (nw_29, .inl (ca 0, n, .inl (dv (fun _ => 0))))] := hD
    refine lv_astore_n (lv' := [(3, .ref nw_29), (0, .ref h), (1, .int (nI j)), (2, .int (nI n))]) hx hb dX11_row_31 rfl hl (by decide) rfl (fun ls hl => ?_)
    refine lv_aload_n hx hb dX11_row_32 rfl (lv_at hl 1 rfl) ?_
    refine va_get (D := D) (ci := 10) (v := .ref ri) (C := RX11) (T := TX11) (N := 2) hx hb hts in_X11 hown hK hP 0 rfl rfl 1 (by decide) (hts _ q382) (fun _ h9 => h9) rfl dX11_row_33 ?_
    refine lv_iload_n hx hb dX11_row_36 rfl (lv_at hl 2 rfl) ?_
    refine lv_aload_n hx hb dX11_row_37 rfl (lv_at hl 0 rfl) ?_
    refine lv_iconst (v := nI 0) hx hb dX11_row_38 rfl ?_
    refine lv_iload_n hx hb dX11_row_39 rfl (lv_at hl 3 rfl) ?_
    refine mk_copyN (N := n) (sp := j) (dp := 0) (g' := fun z => f (j + z)) hx hb (hml.trans hl.1.symm) hown (hts _ q965) (hts _ q450) (hts _ q449) (hts _ q79) hK hP hD hS 1 2 0 rfl rfl rfl (by omega) (by omega) (by omega) (by omega) (by intro zj hzj; unfold va_cpy; rw [if_pos ⟨by omega, by omega⟩, Nat.sub_zero]) (by decide) (by decide) dX11_row_40 (fun H locs hP hD hS => ?_)
    have hP : va_P D vwCl [(h, .inr (10, [.int lv, .ref ri])), (ri, .inl (ca 0, m, .inl f)), (nw_29, .inl (ca 0, n, .inl (fun z => f (j + z))))] H := hP
    have hD : va_D A [(h, .inr (10, [.int lv, .ref ri])), (ri, .inl (ca 0, m, .inl f)), (nw_29, .inl (ca 0, n, .inl (fun z => f (j + z))))] := hD
    refine lv_aload_n hx hb dX11_row_43 rfl (lv_at hl 0 rfl) ?_
    exact wr_aret () hx hb hr (by first | exact Or.inl ⟨_, rfl⟩ | exact Or.inr ⟨_, rfl⟩) hlk hQ dX11_row_44 (wp_to (hP.sub [0, 1, 2] rfl) rfl) (wd_to (hD.sub [0, 1, 2] (by decide) rfl) rfl) hS (by first | decide | omega) (by first | decide | omega) (by first | trivial | rfl)
set_option maxHeartbeats 4000000 in
theorem m_X11_row_no (l : Launch) (D : va_G) (ca : Nat → ClassId) (h : Nat) (lv : Int32) (ri : Nat) (m : Nat) (f : Nat → Int32) (x : Int32) (n : Nat) (zv : Nat → Option Nat) (sz : Nat) (hno_ : ¬ (0 ≤ x.toInt ∧ x.toInt + n ≤ m)) (hm : m ≤ 40) (hn : n ≤ 8) : MetT l yX11_row (ws_ yX11_row cX11_row 4 (some (.array .int))) (rmC 5 1 7) (PcZ (KK D ca) (ZZ zv) D [.ref h, .int x, .int (nI n)] [(h, .inr (10, [.int lv, .ref ri])), (ri, .inl (ca 0, m, .inl f))] sz) (QtA D (fun _ (zu : Unit) => True) (fun zu xa => [(h, .inr (10, [.int lv, .ref ri])), (ri, .inl (ca 0, m, .inl f)), (xa, .inr (9, [.null, .null, .null, .null, .null, .int (nI 0), .int (nI 2)]))]) (va_A [(h, .inr (10, [.int lv, .ref ri])), (ri, .inl (ca 0, m, .inl f))] sz)) 1 7 (va_A [(h, .inr (10, [.int lv, .ref ri])), (ri, .inl (ca 0, m, .inl f))] sz) := by
  refine wtz_head (y := yX11_row) (n := 4) (av := [.ref h, .int x, .int (nI n)]) (Qc := fun A => (QtA D (fun _ (zu : Unit) => True) (fun zu xa => [(h, .inr (10, [.int lv, .ref ri])), (ri, .inl (ca 0, m, .inl f)), (xa, .inr (9, [.null, .null, .null, .null, .null, .int (nI 0), .int (nI 2)]))]) A)) (by decide) (Nat.le_of_ble_eq_true rfl) ?_
  intro zp ze zs zm za zb zt zc ls zQ A H locs hx hb hml hr hlk hown hts hnm hK hZ hP hD hS hA hl hQ hno
  have hown : zs.vm.findClass RX11 = some zm.cls := hown
  have hl : lv_has ls 4 [(0, .ref h), (1, .int x), (2, .int (nI n))] := hl
  have hF : CallFix zp zm zc cX11_row 4 zs za lw_all RX11 := ⟨hx, hb, hml, hown, hts⟩
  have hKK := hK
  have hK : K1 D ca zs := hKK.1
  refine lv_iload_n hx hb dX11_row_0 rfl (lv_at hl 1 rfl) ?_
  refine lv_if_lt (tgt := 23) hx hb dX11_row_1 (by decide) (fun c_1 => ?_) (fun c_1 => ?_)
  · refine lv_iconst (v := nI 0) hx hb dX11_row_23 rfl ?_
    refine lv_iconst (v := nI 2) hx hb dX11_row_24 rfl ?_
    have hpm : ([(h, .inr (10, [.int lv, .ref ri])), (ri, .inl (ca 0, m, .inl f))] : va_W).Perm ([] ++ [(h, .inr (10, [.int lv, .ref ri])), (ri, .inl (ca 0, m, .inl f))]) := wpermN [(h, .inr (10, [.int lv, .ref ri])), (ri, .inl (ca 0, m, .inl f))] _ 2 [0, 1] rfl (by decide) rfl
    refine wt_run (runT_SN (As := [.int (nI 0), .int (nI 2)]) hF (m_X0_must_no l D ca 2 zv H.size ) (cn_X0_must hts hKK q964 ⟨by decide, by decide⟩) (ps_Z (KK_mv D ca) (ZZ_mv zv) hKK hZ hS hA hP hD hpm) rfl rfl hl.1 rfl (lv_room (Nat.le_of_ble_eq_true rfl)) dX11_row_25 ⟨by first | decide | (show _ ≤ _; simp only [rmC]; omega), by first | decide | (show _ ≤ _; simp only [rmC]; omega)⟩) hP hD hS hA hpm (fun xa_25 zu H locs hpo hP hD hS => ?_)
    have hP : va_P D vwCl [(xa_25, .inr (9, [.null, .null, .null, .null, .null, .int (nI 0), .int (nI 2)])), (h, .inr (10, [.int lv, .ref ri])), (ri, .inl (ca 0, m, .inl f))] H := hP
    have hD : va_D A [(xa_25, .inr (9, [.null, .null, .null, .null, .null, .int (nI 0), .int (nI 2)])), (h, .inr (10, [.int lv, .ref ri])), (ri, .inl (ca 0, m, .inl f))] := hD
    exact wt_leave () hlk hno hQ (wp_to (hP.sub [1, 2, 0] rfl) rfl) (wd_to (hD.sub [1, 2, 0] (by decide) rfl) rfl) hS (by first | decide | omega) (by first | decide | omega) (by trivial)
  · refine lv_iload_n hx hb dX11_row_4 rfl (lv_at hl 1 rfl) ?_
    refine lv_i2l hx hb dX11_row_5 rfl ?_
    refine lv_iload_n hx hb dX11_row_6 rfl (lv_at hl 2 rfl) ?_
    refine lv_i2l hx hb dX11_row_7 rfl ?_
    refine lv_ladd hx hb dX11_row_8 ?_
    refine lv_aload_n hx hb dX11_row_9 rfl (lv_at hl 0 rfl) ?_
    refine va_get (D := D) (ci := 10) (v := .ref ri) (C := RX11) (T := TX11) (N := 2) hx hb hts in_X11 hown hK hP 0 rfl rfl 1 (by decide) (hts _ q382) (fun _ h9 => h9) rfl dX11_row_10 ?_
    refine va_alen (v := nI m) hx hb hK hP 1 0 rfl rfl rfl dX11_row_13 ?_
    refine lv_i2l hx hb dX11_row_14 rfl ?_
    refine W.lcmp hx hb dX11_row_15 ?_
    refine wl_gt (tgt := 23) hx hb dX11_row_16 (by decide) (fun c_16 => ?_) (fun c_16 => ?_)
    · refine lv_iconst (v := nI 0) hx hb dX11_row_23 rfl ?_
      refine lv_iconst (v := nI 2) hx hb dX11_row_24 rfl ?_
      have hpm : ([(h, .inr (10, [.int lv, .ref ri])), (ri, .inl (ca 0, m, .inl f))] : va_W).Perm ([] ++ [(h, .inr (10, [.int lv, .ref ri])), (ri, .inl (ca 0, m, .inl f))]) := wpermN [(h, .inr (10, [.int lv, .ref ri])), (ri, .inl (ca 0, m, .inl f))] _ 2 [0, 1] rfl (by decide) rfl
      refine wt_run (runT_SN (As := [.int (nI 0), .int (nI 2)]) hF (m_X0_must_no l D ca 2 zv H.size ) (cn_X0_must hts hKK q964 ⟨by decide, by decide⟩) (ps_Z (KK_mv D ca) (ZZ_mv zv) hKK hZ hS hA hP hD hpm) rfl rfl hl.1 rfl (lv_room (Nat.le_of_ble_eq_true rfl)) dX11_row_25 ⟨by first | decide | (show _ ≤ _; simp only [rmC]; omega), by first | decide | (show _ ≤ _; simp only [rmC]; omega)⟩) hP hD hS hA hpm (fun xa_25 zu H locs hpo hP hD hS => ?_)
      have hP : va_P D vwCl [(xa_25, .inr (9, [.null, .null, .null, .null, .null, .int (nI 0), .int (nI 2)])), (h, .inr (10, [.int lv, .ref ri])), (ri, .inl (ca 0, m, .inl f))] H := hP
      have hD : va_D A [(xa_25, .inr (9, [.null, .null, .null, .null, .null, .int (nI 0), .int (nI 2)])), (h, .inr (10, [.int lv, .ref ri])), (ri, .inl (ca 0, m, .inl f))] := hD
      exact wt_leave () hlk hno hQ (wp_to (hP.sub [1, 2, 0] rfl) rfl) (wd_to (hD.sub [1, 2, 0] (by decide) rfl) rfl) hS (by first | decide | omega) (by first | decide | omega) (by trivial)
    · rw [Int64.lt_iff_toInt_lt, lsum_toInt, i2l_toInt, nI_toInt (by omega), nI_toInt (by omega)] at c_16
      rw [Int32.lt_iff_toInt_lt, Int32.toInt_zero] at c_1
      exact absurd ⟨by omega, by omega⟩ hno_
theorem cs_X0_must {R : Room} {s : State} {args : Array Value} {own : String} {index : Nat} (hts : ∀ w ∈ lw_all, w.before args s = true) (hl : Cond.methodLink own index yX0_must ∈ lw_all) {rm : Room} {mc ms : Nat} (hR : rm.frames + 1 ≤ R.frames ∧ 8 + (2 + 11) + rm.locals ≤ R.locals) (hc : rm.cells = mc := by rfl) (hs : rm.slots = ms := by rfl) : CallB R s args own index yX0_must cX0_must 2 none (ws_ yX0_must cX0_must 2 none) rm mc ms 2 ∧ (Cond.static yX0_must).before args s = true := va_cwS 2 hts (lw_S hl q308 q58 q309) rfl hc hs (by decide +kernel) hR
set_option maxHeartbeats 4000000 in
theorem m_X0_rowAt_ok (l : Launch) (D : va_G) (ca : Nat → ClassId) (h : Nat) (a0 : Nat) (a1 : Nat) (tg : Nat) (a6 : Nat) (a8 : Nat) (tr : Nat) (a11 : Nat) (tpd : Nat) (ac : Nat) (lat : Int32) (t1 : Int32) (g : Nat) (la : Nat → Int32) (ro : Nat → Nat) (k : Nat) (sz : Nat) (hk : k < 8) (hla : ¬ la k < 0) : Met l yX0_rowAt (ws_ yX0_rowAt cX0_rowAt 2 (some (.object "LampSquares$Row"))) (rmL 1) (PcA (KK D ca) D [.ref h, .int (nI k)] [(h, .inr (0, [.ref a0, .ref a1, .int (nI tpd), .int lat, .ref g, .ref tg, .ref a6, .int (nI ac), .ref a8, .ref tr, .int t1, .ref a11])), (a0, .inl (ca 4, 8, .inr (.inr (.inr (.inr (rox la ro))))))] sz) (QrA D (fun ra (zu : Unit) => ra = ro k) (fun zu ra => [(h, .inr (0, [.ref a0, .ref a1, .int (nI tpd), .int lat, .ref g, .ref tg, .ref a6, .int (nI ac), .ref a8, .ref tr, .int t1, .ref a11])), (a0, .inl (ca 4, 8, .inr (.inr (.inr (.inr (rox la ro))))))]) (va_A [(h, .inr (0, [.ref a0, .ref a1, .int (nI tpd), .int lat, .ref g, .ref tg, .ref a6, .int (nI ac), .ref a8, .ref tr, .int t1, .ref a11])), (a0, .inl (ca 4, 8, .inr (.inr (.inr (.inr (rox la ro))))))] sz)) 0 0 (va_A [(h, .inr (0, [.ref a0, .ref a1, .int (nI tpd), .int lat, .ref g, .ref tg, .ref a6, .int (nI ac), .ref a8, .ref tr, .int t1, .ref a11])), (a0, .inl (ca 4, 8, .inr (.inr (.inr (.inr (rox la ro))))))] sz) := by
  refine wr_head (y := yX0_rowAt) (n := 2) (av := [.ref h, .int (nI k)]) (Qc := fun A => (QrA D (fun ra (zu : Unit) => ra = ro k) (fun zu ra => [(h, .inr (0, [.ref a0, .ref a1, .int (nI tpd), .int lat, .ref g, .ref tg, .ref a6, .int (nI ac), .ref a8, .ref tr, .int t1, .ref a11])), (a0, .inl (ca 4, 8, .inr (.inr (.inr (.inr (rox la ro))))))]) A)) (by decide) (Nat.le_of_ble_eq_true rfl) ?_
  intro zp ze zs zm za zb zt zc ls zQ A H locs hx hb hml hr hlk hown hts hnm hK hP hD hS hA hl hQ
  have hown : zs.vm.findClass RX0 = some zm.cls := hown
  have hl : lv_has ls 2 [(0, .ref h), (1, .int (nI k))] := hl
  have hF : CallFix zp zm zc cX0_rowAt 2 zs za lw_all RX0 := ⟨hx, hb, hml, hown, hts⟩
  have hKK := hK
  have hK : K1 D ca zs := hKK.1
  refine lv_aload_n hx hb dX0_rowAt_0 rfl (lv_at hl 0 rfl) ?_
  refine va_get (D := D) (ci := 0) (v := .ref a0) (C := RX0) (T := TX0) (N := 12) hx hb hts in_X0 hown hK hP 0 rfl rfl 0 (by decide) (hts _ q256) (fun _ h9 => h9) rfl dX0_rowAt_1 ?_
  refine lv_iload_n hx hb dX0_rowAt_4 rfl (lv_at hl 1 rfl) ?_
  refine wn_aald (v := .ref (ro k)) hx hb hK hP 1 4 rfl rfl (by omega) (by first | decide | omega) (by unfold rox; rw [if_neg hla]; rfl) dX0_rowAt_5 ?_
  refine lv_ifnull hx hb dX0_rowAt_6 ?_
  refine lv_iconst (v := nI 1) hx hb dX0_rowAt_9 rfl ?_
  refine lv_goto (tgt := 14) hx hb dX0_rowAt_10 (by decide) ?_
  refine lv_iconst (v := nI 1) hx hb dX0_rowAt_14 rfl ?_
  have hpm : ([(h, .inr (0, [.ref a0, .ref a1, .int (nI tpd), .int lat, .ref g, .ref tg, .ref a6, .int (nI ac), .ref a8, .ref tr, .int t1, .ref a11])), (a0, .inl (ca 4, 8, .inr (.inr (.inr (.inr (rox la ro))))))] : va_W).Perm ([] ++ [(h, .inr (0, [.ref a0, .ref a1, .int (nI tpd), .int lat, .ref g, .ref tg, .ref a6, .int (nI ac), .ref a8, .ref tr, .int t1, .ref a11])), (a0, .inl (ca 4, 8, .inr (.inr (.inr (.inr (rox la ro))))))]) := wpermN [(h, .inr (0, [.ref a0, .ref a1, .int (nI tpd), .int lat, .ref g, .ref tg, .ref a6, .int (nI ac), .ref a8, .ref tr, .int t1, .ref a11])), (a0, .inl (ca 4, 8, .inr (.inr (.inr (.inr (rox la ro))))))] _ 2 [0, 1] rfl (by decide) rfl
  refine mk_v (va_runS (As := [.int (nI 1), .int (nI 1)]) hF (m_X0_must_ok l D ca 1 H.size ) (cs_X0_must hts q307 ⟨by decide, by decide⟩) (ps_A (KK_mv D ca) hKK hP hD hpm) rfl rfl hl.1 rfl (lv_room (Nat.le_of_ble_eq_true rfl)) dX0_rowAt_15 ⟨Nat.zero_le _, Nat.zero_le _⟩) hP hD hS hA hpm (fun zu H locs hpo hP hD hS => ?_)
  have hP : va_P D vwCl [(h, .inr (0, [.ref a0, .ref a1, .int (nI tpd), .int lat, .ref g, .ref tg, .ref a6, .int (nI ac), .ref a8, .ref tr, .int t1, .ref a11])), (a0, .inl (ca 4, 8, .inr (.inr (.inr (.inr (rox la ro))))))] H := hP
  have hD : va_D A [(h, .inr (0, [.ref a0, .ref a1, .int (nI tpd), .int lat, .ref g, .ref tg, .ref a6, .int (nI ac), .ref a8, .ref tr, .int t1, .ref a11])), (a0, .inl (ca 4, 8, .inr (.inr (.inr (.inr (rox la ro))))))] := hD
  refine lv_aload_n hx hb dX0_rowAt_18 rfl (lv_at hl 0 rfl) ?_
  refine va_get (D := D) (ci := 0) (v := .ref a0) (C := RX0) (T := TX0) (N := 12) hx hb hts in_X0 hown hK hP 0 rfl rfl 0 (by decide) (hts _ q256) (fun _ h9 => h9) rfl dX0_rowAt_19 ?_
  refine lv_iload_n hx hb dX0_rowAt_22 rfl (lv_at hl 1 rfl) ?_
  refine wn_aald (v := .ref (ro k)) hx hb hK hP 1 4 rfl rfl (by omega) (by first | decide | omega) (by unfold rox; rw [if_neg hla]; rfl) dX0_rowAt_23 ?_
  exact wr_aret () hx hb hr (by first | exact Or.inl ⟨_, rfl⟩ | exact Or.inr ⟨_, rfl⟩) hlk hQ dX0_rowAt_24 (wp_to (hP.sub [0, 1] rfl) rfl) (wd_to (hD.sub [0, 1] (by decide) rfl) rfl) hS (Nat.le_refl _) (Nat.le_refl _) (by rfl)
set_option maxHeartbeats 4000000 in
theorem m_X0_rowAt_no (l : Launch) (D : va_G) (ca : Nat → ClassId) (h : Nat) (a0 : Nat) (a1 : Nat) (tg : Nat) (a6 : Nat) (a8 : Nat) (tr : Nat) (a11 : Nat) (tpd : Nat) (ac : Nat) (lat : Int32) (t1 : Int32) (g : Nat) (la : Nat → Int32) (ro : Nat → Nat) (k : Nat) (zv : Nat → Option Nat) (sz : Nat) (hk : k < 8) (hla : la k < 0) : MetT l yX0_rowAt (ws_ yX0_rowAt cX0_rowAt 2 (some (.object "LampSquares$Row"))) (rmC 5 1 7) (PcZ (KK D ca) (ZZ zv) D [.ref h, .int (nI k)] [(h, .inr (0, [.ref a0, .ref a1, .int (nI tpd), .int lat, .ref g, .ref tg, .ref a6, .int (nI ac), .ref a8, .ref tr, .int t1, .ref a11])), (a0, .inl (ca 4, 8, .inr (.inr (.inr (.inr (rox la ro))))))] sz) (QtA D (fun _ (zu : Unit) => True) (fun zu xa => [(h, .inr (0, [.ref a0, .ref a1, .int (nI tpd), .int lat, .ref g, .ref tg, .ref a6, .int (nI ac), .ref a8, .ref tr, .int t1, .ref a11])), (a0, .inl (ca 4, 8, .inr (.inr (.inr (.inr (rox la ro)))))), (xa, .inr (9, [.null, .null, .null, .null, .null, .int (nI 0), .int (nI 1)]))]) (va_A [(h, .inr (0, [.ref a0, .ref a1, .int (nI tpd), .int lat, .ref g, .ref tg, .ref a6, .int (nI ac), .ref a8, .ref tr, .int t1, .ref a11])), (a0, .inl (ca 4, 8, .inr (.inr (.inr (.inr (rox la ro))))))] sz)) 1 7 (va_A [(h, .inr (0, [.ref a0, .ref a1, .int (nI tpd), .int lat, .ref g, .ref tg, .ref a6, .int (nI ac), .ref a8, .ref tr, .int t1, .ref a11])), (a0, .inl (ca 4, 8, .inr (.inr (.inr (.inr (rox la ro))))))] sz) := by
  refine wtz_head (y := yX0_rowAt) (n := 2) (av := [.ref h, .int (nI k)]) (Qc := fun A => (QtA D (fun _ (zu : Unit) => True) (fun zu xa => [(h, .inr (0, [.ref a0, .ref a1, .int (nI tpd), .int lat, .ref g, .ref tg, .ref a6, .int (nI ac), .ref a8, .ref tr, .int t1, .ref a11])), (a0, .inl (ca 4, 8, .inr (.inr (.inr (.inr (rox la ro)))))), (xa, .inr (9, [.null, .null, .null, .null, .null, .int (nI 0), .int (nI 1)]))]) A)) (by decide) (Nat.le_of_ble_eq_true rfl) ?_
  intro zp ze zs zm za zb zt zc ls zQ A H locs hx hb hml hr hlk hown hts hnm hK hZ hP hD hS hA hl hQ hno
  have hown : zs.vm.findClass RX0 = some zm.cls := hown
  have hl : lv_has ls 2 [(0, .ref h), (1, .int (nI k))] := hl
  have hF : CallFix zp zm zc cX0_rowAt 2 zs za lw_all RX0 := ⟨hx, hb, hml, hown, hts⟩
  have hKK := hK
  have hK : K1 D ca zs := hKK.1
  refine lv_aload_n hx hb dX0_rowAt_0 rfl (lv_at hl 0 rfl) ?_
  refine va_get (D := D) (ci := 0) (v := .ref a0) (C := RX0) (T := TX0) (N := 12) hx hb hts in_X0 hown hK hP 0 rfl rfl 0 (by decide) (hts _ q256) (fun _ h9 => h9) rfl dX0_rowAt_1 ?_
  refine lv_iload_n hx hb dX0_rowAt_4 rfl (lv_at hl 1 rfl) ?_
  refine wn_aald (v := .null) hx hb hK hP 1 4 rfl rfl (by omega) (by first | decide | omega) (by unfold rox; rw [if_pos hla]; rfl) dX0_rowAt_5 ?_
  refine lv_ifnullN (tgt := 13) hx hb dX0_rowAt_6 (by decide) ?_
  refine lv_iconst (v := nI 0) hx hb dX0_rowAt_13 rfl ?_
  refine lv_iconst (v := nI 1) hx hb dX0_rowAt_14 rfl ?_
  have hpm : ([(h, .inr (0, [.ref a0, .ref a1, .int (nI tpd), .int lat, .ref g, .ref tg, .ref a6, .int (nI ac), .ref a8, .ref tr, .int t1, .ref a11])), (a0, .inl (ca 4, 8, .inr (.inr (.inr (.inr (rox la ro))))))] : va_W).Perm ([] ++ [(h, .inr (0, [.ref a0, .ref a1, .int (nI tpd), .int lat, .ref g, .ref tg, .ref a6, .int (nI ac), .ref a8, .ref tr, .int t1, .ref a11])), (a0, .inl (ca 4, 8, .inr (.inr (.inr (.inr (rox la ro))))))]) := wpermN [(h, .inr (0, [.ref a0, .ref a1, .int (nI tpd), .int lat, .ref g, .ref tg, .ref a6, .int (nI ac), .ref a8, .ref tr, .int t1, .ref a11])), (a0, .inl (ca 4, 8, .inr (.inr (.inr (.inr (rox la ro))))))] _ 2 [0, 1] rfl (by decide) rfl
  refine wt_run (runT_S (As := [.int (nI 0), .int (nI 1)]) hF (m_X0_must_no l D ca 1 zv H.size ) (cs_X0_must hts q307 ⟨by decide, by decide⟩) (ps_Z (KK_mv D ca) (ZZ_mv zv) hKK hZ hS hA hP hD hpm) rfl rfl hl.1 rfl (lv_room (Nat.le_of_ble_eq_true rfl)) dX0_rowAt_15 ⟨by first | decide | (show _ ≤ _; simp only [rmC]; omega), by first | decide | (show _ ≤ _; simp only [rmC]; omega)⟩) hP hD hS hA hpm (fun xa_15 zu H locs hpo hP hD hS => ?_)
  have hP : va_P D vwCl [(xa_15, .inr (9, [.null, .null, .null, .null, .null, .int (nI 0), .int (nI 1)])), (h, .inr (0, [.ref a0, .ref a1, .int (nI tpd), .int lat, .ref g, .ref tg, .ref a6, .int (nI ac), .ref a8, .ref tr, .int t1, .ref a11])), (a0, .inl (ca 4, 8, .inr (.inr (.inr (.inr (rox la ro))))))] H := hP
  have hD : va_D A [(xa_15, .inr (9, [.null, .null, .null, .null, .null, .int (nI 0), .int (nI 1)])), (h, .inr (0, [.ref a0, .ref a1, .int (nI tpd), .int lat, .ref g, .ref tg, .ref a6, .int (nI ac), .ref a8, .ref tr, .int t1, .ref a11])), (a0, .inl (ca 4, 8, .inr (.inr (.inr (.inr (rox la ro))))))] := hD
  exact wt_leave () hlk hno hQ (wp_to (hP.sub [1, 2, 0] rfl) rfl) (wd_to (hD.sub [1, 2, 0] (by decide) rfl) rfl) hS (by first | decide | omega) (by first | decide | omega) (by trivial)
set_option maxHeartbeats 4000000 in
theorem m_X0_well (l : Launch) (D : va_G) (ca : Nat → ClassId) (h : Nat) (a0 : Nat) (a1 : Nat) (tg : Nat) (a6 : Nat) (a8 : Nat) (tr : Nat) (a11 : Nat) (tpd : Nat) (ac : Nat) (lat : Int32) (t1 : Int32) (g : Nat) (x : Int32) (sz : Nat)  : Met l yX0_well (ws_ yX0_well cX0_well 2 (some .int)) (rmL 0) (PcA (KK D ca) D [.ref h, .int x] [(h, .inr (0, [.ref a0, .ref a1, .int (nI tpd), .int lat, .ref g, .ref tg, .ref a6, .int (nI ac), .ref a8, .ref tr, .int t1, .ref a11]))] sz) (QiA D (fun zr (_ : Unit) => zr = x) (fun _ => [(h, .inr (0, [.ref a0, .ref a1, .int (nI tpd), .int lat, .ref g, .ref tg, .ref a6, .int (nI ac), .ref a8, .ref tr, .int (nI 0), .ref a11]))]) (va_A [(h, .inr (0, [.ref a0, .ref a1, .int (nI tpd), .int lat, .ref g, .ref tg, .ref a6, .int (nI ac), .ref a8, .ref tr, .int t1, .ref a11]))] sz)) 0 0 (va_A [(h, .inr (0, [.ref a0, .ref a1, .int (nI tpd), .int lat, .ref g, .ref tg, .ref a6, .int (nI ac), .ref a8, .ref tr, .int t1, .ref a11]))] sz) := by
  refine wr_head (y := yX0_well) (n := 2) (av := [.ref h, .int x]) (Qc := fun A => (QiA D (fun zr (_ : Unit) => zr = x) (fun _ => [(h, .inr (0, [.ref a0, .ref a1, .int (nI tpd), .int lat, .ref g, .ref tg, .ref a6, .int (nI ac), .ref a8, .ref tr, .int (nI 0), .ref a11]))]) A)) (by decide) (Nat.le_of_ble_eq_true rfl) ?_
  intro zp ze zs zm za zb zt zc ls zQ A H locs hx hb hml hr hlk hown hts hnm hK hP hD hS hA hl hQ
  have hown : zs.vm.findClass RX0 = some zm.cls := hown
  have hl : lv_has ls 2 [(0, .ref h), (1, .int x)] := hl
  have hF : CallFix zp zm zc cX0_well 2 zs za lw_all RX0 := ⟨hx, hb, hml, hown, hts⟩
  have hKK := hK
  have hK : K1 D ca zs := hKK.1
  refine lv_aload_n hx hb dX0_well_0 rfl (lv_at hl 0 rfl) ?_
  refine lv_iconst (v := nI 0) hx hb dX0_well_1 rfl ?_
  refine va_put (D := D) (ci := 0) (v := .int (nI 0)) (ty := .int) (C := RX0) (T := TX0) (N := 12) hx hb hts in_X0 tyX0 tyX0_ok nmX0 hown hK hP hD hS 0 rfl rfl 10 (by decide) (hts _ q266) (fun _ h9 => h9) rfl (tyX0_ok 10 (by decide)) rfl rfl (Nat.le_of_ble_eq_true rfl) dX0_well_2 (fun H locs hP hD hS => ?_)
  have hP : va_P D vwCl [(h, .inr (0, [.ref a0, .ref a1, .int (nI tpd), .int lat, .ref g, .ref tg, .ref a6, .int (nI ac), .ref a8, .ref tr, .int (nI 0), .ref a11]))] H := hP
  have hD : va_D A [(h, .inr (0, [.ref a0, .ref a1, .int (nI tpd), .int lat, .ref g, .ref tg, .ref a6, .int (nI ac), .ref a8, .ref tr, .int (nI 0), .ref a11]))] := hD
  refine lv_iload_n hx hb dX0_well_5 rfl (lv_at hl 1 rfl) ?_
  exact wr_iret () hx hb hr hlk hQ dX0_well_6 (wp_to (hP.sub [0] rfl) rfl) (wd_to (hD.sub [0] (by decide) rfl) rfl) hS (Nat.le_refl _) (Nat.le_refl _) (by rfl)
set_option maxHeartbeats 4000000 in
theorem m_X0_found (l : Launch) (D : va_G) (ca : Nat → ClassId) (h : Nat) (a0 : Nat) (a1 : Nat) (tg : Nat) (a6 : Nat) (a8 : Nat) (tr : Nat) (a11 : Nat) (tpd : Nat) (ac : Nat) (lat : Int32) (t1 : Int32) (g : Nat) (f_ : Nat) (k : Nat) (sz : Nat)  : Met l yX0_found (ws_ yX0_found cX0_found 2 (some .int)) (rmL 0) (PcA (KK D ca) D [.ref h, .ref f_] [(h, .inr (0, [.ref a0, .ref a1, .int (nI tpd), .int lat, .ref g, .ref tg, .ref a6, .int (nI ac), .ref a8, .ref tr, .int t1, .ref a11])), (f_, .inr (9, [.null, .null, .null, .null, .null, .int (nI 0), .int (nI k)]))] sz) (QiA D (fun zr (_ : Unit) => zr = fnd k) (fun _ => [(h, .inr (0, [.ref a0, .ref a1, .int (nI tpd), .int lat, .ref g, .ref tg, .ref a6, .int (nI ac), .ref a8, .ref tr, .int (nI k), .ref a11])), (f_, .inr (9, [.null, .null, .null, .null, .null, .int (nI 0), .int (nI k)]))]) (va_A [(h, .inr (0, [.ref a0, .ref a1, .int (nI tpd), .int lat, .ref g, .ref tg, .ref a6, .int (nI ac), .ref a8, .ref tr, .int t1, .ref a11])), (f_, .inr (9, [.null, .null, .null, .null, .null, .int (nI 0), .int (nI k)]))] sz)) 0 0 (va_A [(h, .inr (0, [.ref a0, .ref a1, .int (nI tpd), .int lat, .ref g, .ref tg, .ref a6, .int (nI ac), .ref a8, .ref tr, .int t1, .ref a11])), (f_, .inr (9, [.null, .null, .null, .null, .null, .int (nI 0), .int (nI k)]))] sz) := by
  refine wr_head (y := yX0_found) (n := 2) (av := [.ref h, .ref f_]) (Qc := fun A => (QiA D (fun zr (_ : Unit) => zr = fnd k) (fun _ => [(h, .inr (0, [.ref a0, .ref a1, .int (nI tpd), .int lat, .ref g, .ref tg, .ref a6, .int (nI ac), .ref a8, .ref tr, .int (nI k), .ref a11])), (f_, .inr (9, [.null, .null, .null, .null, .null, .int (nI 0), .int (nI k)]))]) A)) (by decide) (Nat.le_of_ble_eq_true rfl) ?_
  intro zp ze zs zm za zb zt zc ls zQ A H locs hx hb hml hr hlk hown hts hnm hK hP hD hS hA hl hQ
  have hown : zs.vm.findClass RX0 = some zm.cls := hown
  have hl : lv_has ls 2 [(0, .ref h), (1, .ref f_)] := hl
  have hF : CallFix zp zm zc cX0_found 2 zs za lw_all RX0 := ⟨hx, hb, hml, hown, hts⟩
  have hKK := hK
  have hK : K1 D ca zs := hKK.1
  refine lv_aload_n hx hb dX0_found_0 rfl (lv_at hl 0 rfl) ?_
  refine lv_aload_n hx hb dX0_found_1 rfl (lv_at hl 1 rfl) ?_
  refine va_get (D := D) (ci := 9) (v := .int (nI k)) (C := RX10) (T := TX10) (N := 7) hx hb hts in_X10 hown hK hP 1 rfl rfl 6 (by decide) (hts _ q359) (fun _ h9 => h9) rfl dX0_found_2 ?_
  refine va_put (D := D) (ci := 0) (v := .int (nI k)) (ty := .int) (C := RX0) (T := TX0) (N := 12) hx hb hts in_X0 tyX0 tyX0_ok nmX0 hown hK hP hD hS 0 rfl rfl 10 (by decide) (hts _ q266) (fun _ h9 => h9) rfl (tyX0_ok 10 (by decide)) rfl rfl (Nat.le_of_ble_eq_true rfl) dX0_found_5 (fun H locs hP hD hS => ?_)
  have hP : va_P D vwCl [(h, .inr (0, [.ref a0, .ref a1, .int (nI tpd), .int lat, .ref g, .ref tg, .ref a6, .int (nI ac), .ref a8, .ref tr, .int (nI k), .ref a11])), (f_, .inr (9, [.null, .null, .null, .null, .null, .int (nI 0), .int (nI k)]))] H := hP
  have hD : va_D A [(h, .inr (0, [.ref a0, .ref a1, .int (nI tpd), .int lat, .ref g, .ref tg, .ref a6, .int (nI ac), .ref a8, .ref tr, .int (nI k), .ref a11])), (f_, .inr (9, [.null, .null, .null, .null, .null, .int (nI 0), .int (nI k)]))] := hD
  refine lv_ldc (v := (-1000010)) hx hb hown (hts _ q397) dX0_found_8 ?_
  refine lv_aload_n hx hb dX0_found_10 rfl (lv_at hl 1 rfl) ?_
  refine va_get (D := D) (ci := 9) (v := .int (nI k)) (C := RX10) (T := TX10) (N := 7) hx hb hts in_X10 hown hK hP 1 rfl rfl 6 (by decide) (hts _ q359) (fun _ h9 => h9) rfl dX0_found_11 ?_
  refine lv_isub hx hb dX0_found_14 ?_
  exact wr_iret () hx hb hr hlk hQ dX0_found_15 (wp_to (hP.sub [0, 1] rfl) rfl) (wd_to (hD.sub [0, 1] (by decide) rfl) rfl) hS (Nat.le_refl _) (Nat.le_refl _) (by rfl)
