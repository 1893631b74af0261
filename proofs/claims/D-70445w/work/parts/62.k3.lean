set_option maxRecDepth 100000
set_option maxHeartbeats 4000000 in
theorem m_J3_init_2_X10 (l : Launch) (D : va_G) (ca : Nat → ClassId) (h : Nat) (zv : Nat → Option Nat) (sz : Nat)  : Met l yJ3_init_2 (ws_ yJ3_init_2 cJ3_init_2 5 none) (rmL 1) (PcZ (KK D ca) (ZZ zv) D [.ref h, .null, .null, .int (nI 0), .int (nI 0)] [(h, .inr (9, [.null, .null, .null, .null, .null, .int (nI 0), .int (nI 0)]))] sz) (QvA D (fun  (_ : Unit) => True) (fun _ => [(h, .inr (9, [.null, .null, .null, .null, .null, .int (nI 0), .int (nI 0)]))]) (va_A [(h, .inr (9, [.null, .null, .null, .null, .null, .int (nI 0), .int (nI 0)]))] sz)) 0 0 (va_A [(h, .inr (9, [.null, .null, .null, .null, .null, .int (nI 0), .int (nI 0)]))] sz) := by
  refine wz_head (y := yJ3_init_2) (n := 5) (av := [.ref h, .null, .null, .int (nI 0), .int (nI 0)]) (Qc := fun A => (QvA D (fun  (_ : Unit) => True) (fun _ => [(h, .inr (9, [.null, .null, .null, .null, .null, .int (nI 0), .int (nI 0)]))]) A)) (by decide) (Nat.le_of_ble_eq_true rfl) ?_
  intro zp ze zs zm za zb zt zc ls zQ A H locs hx hb hml hr hlk hown hts hnm hK hZ hP hD hS hA hl hQ
  have hown : zs.vm.findClass RJ3 = some zm.cls := hown
  have hl : lv_has ls 5 [(0, .ref h), (1, .null), (2, .null), (3, .int (nI 0)), (4, .int (nI 0))] := hl
  have hF : CallFix zp zm zc cJ3_init_2 5 zs za lw_all RJ3 := ⟨hx, hb, hml, hown, hts⟩
  have hKK := hK
  have hK : K1 D ca zs := hKK.1
  refine lv_aload_n hx hb dJ3_init_2_0 rfl (lv_at hl 0 rfl) ?_
  refine W.objInit hx hb hown (hts _ q332) (hts _ q97) (hts _ q98) rfl (hl.1.trans hml.symm) rfl dJ3_init_2_1 (by decide) (Nat.le_of_ble_eq_true rfl) ?_
  refine W.eq (g2 := F0 zm 4 ls []) rfl ?_
  refine lv_aload_n hx hb dJ3_init_2_4 rfl (lv_at hl 0 rfl) ?_
  refine lv_aload_n hx hb dJ3_init_2_5 rfl (lv_at hl 0 rfl) ?_
  refine va_put (D := D) (ci := 9) (v := .ref h) (ty := tyX10 0) (C := RX10) (T := TX10) (N := 7) hx hb hts in_X10 tyX10 tyX10_ok nmX10 hown hK hP hD hS 0 rfl rfl 0 (by decide) (hts _ q362) (fun _ h9 => h9) rfl (tyX10_ok 0 (by decide)) rfl rfl (Nat.le_of_ble_eq_true rfl) dJ3_init_2_6 (fun H locs hP hD hS => ?_)
  have hP : va_P D vwCl [(h, .inr (9, [.ref h, .null, .null, .null, .null, .int (nI 0), .int (nI 0)]))] H := hP
  have hD : va_D A [(h, .inr (9, [.ref h, .null, .null, .null, .null, .int (nI 0), .int (nI 0)]))] := hD
  refine lv_aload_n hx hb dJ3_init_2_9 rfl (lv_at hl 0 rfl) ?_
  refine va_gets (v := va_rf (zv 1)) hx hb (hZ.2.1) hS hown (hts _ q333) (fun _ h9 => h9) dJ3_init_2_10 ?_
  refine va_put (D := D) (ci := 9) (v := va_rf (zv 1)) (ty := tyX10 1) (C := RX10) (T := TX10) (N := 7) hx hb hts in_X10 tyX10 tyX10_ok nmX10 hown hK hP hD hS 0 rfl rfl 1 (by decide) (hts _ q363) (fun _ h9 => h9) rfl (tyX10_ok 1 (by decide)) (by rcases (zv 1) with _ | _ <;> rfl) (by rcases (zv 1) with _ | _ <;> rfl) (Nat.le_of_ble_eq_true rfl) dJ3_init_2_13 (fun H locs hP hD hS => ?_)
  have hP : va_P D vwCl [(h, .inr (9, [.ref h, va_rf (zv 1), .null, .null, .null, .int (nI 0), .int (nI 0)]))] H := hP
  have hD : va_D A [(h, .inr (9, [.ref h, va_rf (zv 1), .null, .null, .null, .int (nI 0), .int (nI 0)]))] := hD
  refine lv_aload_n hx hb dJ3_init_2_16 rfl (lv_at hl 0 rfl) ?_
  refine va_gets (v := va_rf (zv 2)) hx hb (hZ.2.2.1) hS hown (hts _ q335) (fun _ h9 => h9) dJ3_init_2_17 ?_
  refine va_put (D := D) (ci := 9) (v := va_rf (zv 2)) (ty := tyX10 2) (C := RX10) (T := TX10) (N := 7) hx hb hts in_X10 tyX10 tyX10_ok nmX10 hown hK hP hD hS 0 rfl rfl 2 (by decide) (hts _ q364) (fun _ h9 => h9) rfl (tyX10_ok 2 (by decide)) (by rcases (zv 2) with _ | _ <;> rfl) (by rcases (zv 2) with _ | _ <;> rfl) (Nat.le_of_ble_eq_true rfl) dJ3_init_2_20 (fun H locs hP hD hS => ?_)
  have hP : va_P D vwCl [(h, .inr (9, [.ref h, va_rf (zv 1), va_rf (zv 2), .null, .null, .int (nI 0), .int (nI 0)]))] H := hP
  have hD : va_D A [(h, .inr (9, [.ref h, va_rf (zv 1), va_rf (zv 2), .null, .null, .int (nI 0), .int (nI 0)]))] := hD
  refine lv_iload hx hb dJ3_init_2_23 (lv_at hl 4 rfl) ?_
  refine wn_ifeq (tgt := 36) hx hb (by omega) dJ3_init_2_25 (by decide) (fun c_25 => ?_) (fun zh => by first | exact absurd zh (by decide) | exact absurd rfl zh | omega)
  refine lv_aload_n hx hb dJ3_init_2_36 rfl (lv_at hl 0 rfl) ?_
  refine lv_null hx hb dJ3_init_2_37 ?_
  refine va_put (D := D) (ci := 9) (v := .null) (ty := tyX10 1) (C := RX10) (T := TX10) (N := 7) hx hb hts in_X10 tyX10 tyX10_ok nmX10 hown hK hP hD hS 0 rfl rfl 1 (by decide) (hts _ q363) (fun _ h9 => h9) rfl (tyX10_ok 1 (by decide)) rfl rfl (Nat.le_of_ble_eq_true rfl) dJ3_init_2_38 (fun H locs hP hD hS => ?_)
  have hP : va_P D vwCl [(h, .inr (9, [.ref h, .null, va_rf (zv 2), .null, .null, .int (nI 0), .int (nI 0)]))] H := hP
  have hD : va_D A [(h, .inr (9, [.ref h, .null, va_rf (zv 2), .null, .null, .int (nI 0), .int (nI 0)]))] := hD
  refine lv_aload_n hx hb dJ3_init_2_41 rfl (lv_at hl 0 rfl) ?_
  refine lv_aload_nN hx hb dJ3_init_2_42 rfl (lv_at hl 1 rfl) ?_
  refine va_put (D := D) (ci := 9) (v := .null) (ty := tyX10 3) (C := RX10) (T := TX10) (N := 7) hx hb hts in_X10 tyX10 tyX10_ok nmX10 hown hK hP hD hS 0 rfl rfl 3 (by decide) (hts _ q361) (fun _ h9 => h9) rfl (tyX10_ok 3 (by decide)) rfl rfl (Nat.le_of_ble_eq_true rfl) dJ3_init_2_43 (fun H locs hP hD hS => ?_)
  have hP : va_P D vwCl [(h, .inr (9, [.ref h, .null, va_rf (zv 2), .null, .null, .int (nI 0), .int (nI 0)]))] H := hP
  have hD : va_D A [(h, .inr (9, [.ref h, .null, va_rf (zv 2), .null, .null, .int (nI 0), .int (nI 0)]))] := hD
  refine lv_aload_n hx hb dJ3_init_2_46 rfl (lv_at hl 0 rfl) ?_
  refine lv_aload_nN hx hb dJ3_init_2_47 rfl (lv_at hl 2 rfl) ?_
  refine va_put (D := D) (ci := 9) (v := .null) (ty := tyX10 0) (C := RX10) (T := TX10) (N := 7) hx hb hts in_X10 tyX10 tyX10_ok nmX10 hown hK hP hD hS 0 rfl rfl 0 (by decide) (hts _ q362) (fun _ h9 => h9) rfl (tyX10_ok 0 (by decide)) rfl rfl (Nat.le_of_ble_eq_true rfl) dJ3_init_2_48 (fun H locs hP hD hS => ?_)
  have hP : va_P D vwCl [(h, .inr (9, [.null, .null, va_rf (zv 2), .null, .null, .int (nI 0), .int (nI 0)]))] H := hP
  have hD : va_D A [(h, .inr (9, [.null, .null, va_rf (zv 2), .null, .null, .int (nI 0), .int (nI 0)]))] := hD
  refine lv_iload_n hx hb dJ3_init_2_51 rfl (lv_at hl 3 rfl) ?_
  refine wn_ifne (tgt := 60) hx hb (by omega) dJ3_init_2_52 (by decide) (fun zh => by first | exact absurd zh (by decide) | exact absurd rfl zh | omega) (fun c_52 => ?_)
  refine lv_aload_n hx hb dJ3_init_2_55 rfl (lv_at hl 0 rfl) ?_
  refine lv_null hx hb dJ3_init_2_56 ?_
  refine va_put (D := D) (ci := 9) (v := .null) (ty := tyX10 2) (C := RX10) (T := TX10) (N := 7) hx hb hts in_X10 tyX10 tyX10_ok nmX10 hown hK hP hD hS 0 rfl rfl 2 (by decide) (hts _ q364) (fun _ h9 => h9) rfl (tyX10_ok 2 (by decide)) rfl rfl (Nat.le_of_ble_eq_true rfl) dJ3_init_2_57 (fun H locs hP hD hS => ?_)
  have hP : va_P D vwCl [(h, .inr (9, [.null, .null, .null, .null, .null, .int (nI 0), .int (nI 0)]))] H := hP
  have hD : va_D A [(h, .inr (9, [.null, .null, .null, .null, .null, .int (nI 0), .int (nI 0)]))] := hD
  exact wr_vret () hx hb hr hlk hQ dJ3_init_2_60 (wp_to (hP.sub [0] rfl) rfl) (wd_to (hD.sub [0] (by decide) rfl) rfl) hS (Nat.le_refl _) (Nat.le_refl _) trivial
theorem cs_J3_init_2 {R : Room} {s : State} {args : Array Value} {own : String} {index : Nat} (hts : ∀ w ∈ lw_all, w.before args s = true) (hl : Cond.methodLink own index yJ3_init_2 ∈ lw_all) {rm : Room} {mc ms : Nat} (hR : rm.frames + 1 ≤ R.frames ∧ 8 + (5 + 11) + rm.locals ≤ R.locals) (hc : rm.cells = mc := by rfl) (hs : rm.slots = ms := by rfl) : CallB R s args own index yJ3_init_2 cJ3_init_2 5 none (ws_ yJ3_init_2 cJ3_init_2 5 none) rm mc ms 4 ∧ yJ3_init_2.name = "<init>" ∧ (Cond.instanceMethod yJ3_init_2).before args s = true := cwI 4 hts (lw_meth q357) rfl hc hs (hts _ q71) (hts _ hl) (hts _ q356) rfl (by decide +kernel) hR
set_option maxHeartbeats 4000000 in
theorem m_J4_init_X10 (l : Launch) (D : va_G) (ca : Nat → ClassId) (h : Nat) (zv : Nat → Option Nat) (sz : Nat)  : Met l yJ4_init (ws_ yJ4_init cJ4_init 5 none) (rmL 2) (PcZ (KK D ca) (ZZ zv) D [.ref h, .null, .null, .int (nI 0), .int (nI 0)] [(h, .inr (9, [.null, .null, .null, .null, .null, .int (nI 0), .int (nI 0)]))] sz) (QvA D (fun  (_ : Unit) => True) (fun _ => [(h, .inr (9, [.null, .null, .null, .null, .null, .int (nI 0), .int (nI 0)]))]) (va_A [(h, .inr (9, [.null, .null, .null, .null, .null, .int (nI 0), .int (nI 0)]))] sz)) 0 0 (va_A [(h, .inr (9, [.null, .null, .null, .null, .null, .int (nI 0), .int (nI 0)]))] sz) := by
  refine wz_head (y := yJ4_init) (n := 5) (av := [.ref h, .null, .null, .int (nI 0), .int (nI 0)]) (Qc := fun A => (QvA D (fun  (_ : Unit) => True) (fun _ => [(h, .inr (9, [.null, .null, .null, .null, .null, .int (nI 0), .int (nI 0)]))]) A)) (by decide) (Nat.le_of_ble_eq_true rfl) ?_
  intro zp ze zs zm za zb zt zc ls zQ A H locs hx hb hml hr hlk hown hts hnm hK hZ hP hD hS hA hl hQ
  have hown : zs.vm.findClass RJ4 = some zm.cls := hown
  have hl : lv_has ls 5 [(0, .ref h), (1, .null), (2, .null), (3, .int (nI 0)), (4, .int (nI 0))] := hl
  have hF : CallFix zp zm zc cJ4_init 5 zs za lw_all RJ4 := ⟨hx, hb, hml, hown, hts⟩
  have hKK := hK
  have hK : K1 D ca zs := hKK.1
  refine lv_aload_n hx hb dJ4_init_0 rfl (lv_at hl 0 rfl) ?_
  refine lv_aload_nN hx hb dJ4_init_1 rfl (lv_at hl 1 rfl) ?_
  refine lv_aload_nN hx hb dJ4_init_2 rfl (lv_at hl 2 rfl) ?_
  refine lv_iload_n hx hb dJ4_init_3 rfl (lv_at hl 3 rfl) ?_
  refine lv_iload hx hb dJ4_init_4 (lv_at hl 4 rfl) ?_
  have hpm : ([(h, .inr (9, [.null, .null, .null, .null, .null, .int (nI 0), .int (nI 0)]))] : va_W).Perm ([(h, .inr (9, [.null, .null, .null, .null, .null, .int (nI 0), .int (nI 0)]))] ++ []) := wpermN [(h, .inr (9, [.null, .null, .null, .null, .null, .int (nI 0), .int (nI 0)]))] _ 1 [0] rfl (by decide) rfl
  refine mk_v (va_runI (b := h) (As := [.null, .null, .int (nI 0), .int (nI 0)]) hF (m_J3_init_2_X10 l D ca h zv H.size ) (cs_J3_init_2 hts q355 ⟨by decide, by decide⟩) (ps_Z (KK_mv D ca) (ZZ_mv zv) hKK hZ hS hA hP hD hpm) rfl rfl hl.1 rfl (lv_room (Nat.le_of_ble_eq_true rfl)) dJ4_init_6 ⟨Nat.zero_le _, Nat.zero_le _⟩) hP hD hS hA hpm (fun zu H locs hpo hP hD hS => ?_)
  have hP : va_P D vwCl [(h, .inr (9, [.null, .null, .null, .null, .null, .int (nI 0), .int (nI 0)]))] H := hP
  have hD : va_D A [(h, .inr (9, [.null, .null, .null, .null, .null, .int (nI 0), .int (nI 0)]))] := hD
  exact wr_vret () hx hb hr hlk hQ dJ4_init_9 (wp_to (hP.sub [0] rfl) rfl) (wd_to (hD.sub [0] (by decide) rfl) rfl) hS (Nat.le_refl _) (Nat.le_refl _) trivial
set_option maxHeartbeats 4000000 in
theorem m_J3_init_2_X13 (l : Launch) (D : va_G) (ca : Nat → ClassId) (h : Nat) (zv : Nat → Option Nat) (sz : Nat)  : Met l yJ3_init_2 (ws_ yJ3_init_2 cJ3_init_2 5 none) (rmL 1) (PcZ (KK D ca) (ZZ zv) D [.ref h, .null, .null, .int (nI 0), .int (nI 0)] [(h, .inr (12, [.null, .null, .null, .null, .null, .int (nI 0), .int (nI 0), .int (nI 0)]))] sz) (QvA D (fun  (_ : Unit) => True) (fun _ => [(h, .inr (12, [.null, .null, .null, .null, .null, .int (nI 0), .int (nI 0), .int (nI 0)]))]) (va_A [(h, .inr (12, [.null, .null, .null, .null, .null, .int (nI 0), .int (nI 0), .int (nI 0)]))] sz)) 0 0 (va_A [(h, .inr (12, [.null, .null, .null, .null, .null, .int (nI 0), .int (nI 0), .int (nI 0)]))] sz) := by
  refine wz_head (y := yJ3_init_2) (n := 5) (av := [.ref h, .null, .null, .int (nI 0), .int (nI 0)]) (Qc := fun A => (QvA D (fun  (_ : Unit) => True) (fun _ => [(h, .inr (12, [.null, .null, .null, .null, .null, .int (nI 0), .int (nI 0), .int (nI 0)]))]) A)) (by decide) (Nat.le_of_ble_eq_true rfl) ?_
  intro zp ze zs zm za zb zt zc ls zQ A H locs hx hb hml hr hlk hown hts hnm hK hZ hP hD hS hA hl hQ
  have hown : zs.vm.findClass RJ3 = some zm.cls := hown
  have hl : lv_has ls 5 [(0, .ref h), (1, .null), (2, .null), (3, .int (nI 0)), (4, .int (nI 0))] := hl
  have hF : CallFix zp zm zc cJ3_init_2 5 zs za lw_all RJ3 := ⟨hx, hb, hml, hown, hts⟩
  have hKK := hK
  have hK : K1 D ca zs := hKK.1
  refine lv_aload_n hx hb dJ3_init_2_0 rfl (lv_at hl 0 rfl) ?_
  refine W.objInit hx hb hown (hts _ q332) (hts _ q97) (hts _ q98) rfl (hl.1.trans hml.symm) rfl dJ3_init_2_1 (by decide) (Nat.le_of_ble_eq_true rfl) ?_
  refine W.eq (g2 := F0 zm 4 ls []) rfl ?_
  refine lv_aload_n hx hb dJ3_init_2_4 rfl (lv_at hl 0 rfl) ?_
  refine lv_aload_n hx hb dJ3_init_2_5 rfl (lv_at hl 0 rfl) ?_
  refine va_put (D := D) (ci := 12) (v := .ref h) (ty := tyX13 0) (C := RX13) (T := TX13) (N := 8) hx hb hts in_X13 tyX13 tyX13_ok nmX13 hown hK hP hD hS 0 rfl rfl 0 (by decide) (hts _ q362) (fun _ h9 => h9) rfl (tyX13_ok 0 (by decide)) rfl rfl (Nat.le_of_ble_eq_true rfl) dJ3_init_2_6 (fun H locs hP hD hS => ?_)
  have hP : va_P D vwCl [(h, .inr (12, [.ref h, .null, .null, .null, .null, .int (nI 0), .int (nI 0), .int (nI 0)]))] H := hP
  have hD : va_D A [(h, .inr (12, [.ref h, .null, .null, .null, .null, .int (nI 0), .int (nI 0), .int (nI 0)]))] := hD
  refine lv_aload_n hx hb dJ3_init_2_9 rfl (lv_at hl 0 rfl) ?_
  refine va_gets (v := va_rf (zv 1)) hx hb (hZ.2.1) hS hown (hts _ q333) (fun _ h9 => h9) dJ3_init_2_10 ?_
  refine va_put (D := D) (ci := 12) (v := va_rf (zv 1)) (ty := tyX13 1) (C := RX13) (T := TX13) (N := 8) hx hb hts in_X13 tyX13 tyX13_ok nmX13 hown hK hP hD hS 0 rfl rfl 1 (by decide) (hts _ q363) (fun _ h9 => h9) rfl (tyX13_ok 1 (by decide)) (by rcases (zv 1) with _ | _ <;> rfl) (by rcases (zv 1) with _ | _ <;> rfl) (Nat.le_of_ble_eq_true rfl) dJ3_init_2_13 (fun H locs hP hD hS => ?_)
  have hP : va_P D vwCl [(h, .inr (12, [.ref h, va_rf (zv 1), .null, .null, .null, .int (nI 0), .int (nI 0), .int (nI 0)]))] H := hP
  have hD : va_D A [(h, .inr (12, [.ref h, va_rf (zv 1), .null, .null, .null, .int (nI 0), .int (nI 0), .int (nI 0)]))] := hD
  refine lv_aload_n hx hb dJ3_init_2_16 rfl (lv_at hl 0 rfl) ?_
  refine va_gets (v := va_rf (zv 2)) hx hb (hZ.2.2.1) hS hown (hts _ q335) (fun _ h9 => h9) dJ3_init_2_17 ?_
  refine va_put (D := D) (ci := 12) (v := va_rf (zv 2)) (ty := tyX13 2) (C := RX13) (T := TX13) (N := 8) hx hb hts in_X13 tyX13 tyX13_ok nmX13 hown hK hP hD hS 0 rfl rfl 2 (by decide) (hts _ q364) (fun _ h9 => h9) rfl (tyX13_ok 2 (by decide)) (by rcases (zv 2) with _ | _ <;> rfl) (by rcases (zv 2) with _ | _ <;> rfl) (Nat.le_of_ble_eq_true rfl) dJ3_init_2_20 (fun H locs hP hD hS => ?_)
  have hP : va_P D vwCl [(h, .inr (12, [.ref h, va_rf (zv 1), va_rf (zv 2), .null, .null, .int (nI 0), .int (nI 0), .int (nI 0)]))] H := hP
  have hD : va_D A [(h, .inr (12, [.ref h, va_rf (zv 1), va_rf (zv 2), .null, .null, .int (nI 0), .int (nI 0), .int (nI 0)]))] := hD
  refine lv_iload hx hb dJ3_init_2_23 (lv_at hl 4 rfl) ?_
  refine wn_ifeq (tgt := 36) hx hb (by omega) dJ3_init_2_25 (by decide) (fun c_25 => ?_) (fun zh => by first | exact absurd zh (by decide) | exact absurd rfl zh | omega)
  refine lv_aload_n hx hb dJ3_init_2_36 rfl (lv_at hl 0 rfl) ?_
  refine lv_null hx hb dJ3_init_2_37 ?_
  refine va_put (D := D) (ci := 12) (v := .null) (ty := tyX13 1) (C := RX13) (T := TX13) (N := 8) hx hb hts in_X13 tyX13 tyX13_ok nmX13 hown hK hP hD hS 0 rfl rfl 1 (by decide) (hts _ q363) (fun _ h9 => h9) rfl (tyX13_ok 1 (by decide)) rfl rfl (Nat.le_of_ble_eq_true rfl) dJ3_init_2_38 (fun H locs hP hD hS => ?_)
  have hP : va_P D vwCl [(h, .inr (12, [.ref h, .null, va_rf (zv 2), .null, .null, .int (nI 0), .int (nI 0), .int (nI 0)]))] H := hP
  have hD : va_D A [(h, .inr (12, [.ref h, .null, va_rf (zv 2), .null, .null, .int (nI 0), .int (nI 0), .int (nI 0)]))] := hD
  refine lv_aload_n hx hb dJ3_init_2_41 rfl (lv_at hl 0 rfl) ?_
  refine lv_aload_nN hx hb dJ3_init_2_42 rfl (lv_at hl 1 rfl) ?_
  refine va_put (D := D) (ci := 12) (v := .null) (ty := tyX13 3) (C := RX13) (T := TX13) (N := 8) hx hb hts in_X13 tyX13 tyX13_ok nmX13 hown hK hP hD hS 0 rfl rfl 3 (by decide) (hts _ q361) (fun _ h9 => h9) rfl (tyX13_ok 3 (by decide)) rfl rfl (Nat.le_of_ble_eq_true rfl) dJ3_init_2_43 (fun H locs hP hD hS => ?_)
  have hP : va_P D vwCl [(h, .inr (12, [.ref h, .null, va_rf (zv 2), .null, .null, .int (nI 0), .int (nI 0), .int (nI 0)]))] H := hP
  have hD : va_D A [(h, .inr (12, [.ref h, .null, va_rf (zv 2), .null, .null, .int (nI 0), .int (nI 0), .int (nI 0)]))] := hD
  refine lv_aload_n hx hb dJ3_init_2_46 rfl (lv_at hl 0 rfl) ?_
  refine lv_aload_nN hx hb dJ3_init_2_47 rfl (lv_at hl 2 rfl) ?_
  refine va_put (D := D) (ci := 12) (v := .null) (ty := tyX13 0) (C := RX13) (T := TX13) (N := 8) hx hb hts in_X13 tyX13 tyX13_ok nmX13 hown hK hP hD hS 0 rfl rfl 0 (by decide) (hts _ q362) (fun _ h9 => h9) rfl (tyX13_ok 0 (by decide)) rfl rfl (Nat.le_of_ble_eq_true rfl) dJ3_init_2_48 (fun H locs hP hD hS => ?_)
  have hP : va_P D vwCl [(h, .inr (12, [.null, .null, va_rf (zv 2), .null, .null, .int (nI 0), .int (nI 0), .int (nI 0)]))] H := hP
  have hD : va_D A [(h, .inr (12, [.null, .null, va_rf (zv 2), .null, .null, .int (nI 0), .int (nI 0), .int (nI 0)]))] := hD
  refine lv_iload_n hx hb dJ3_init_2_51 rfl (lv_at hl 3 rfl) ?_
  refine wn_ifne (tgt := 60) hx hb (by omega) dJ3_init_2_52 (by decide) (fun zh => by first | exact absurd zh (by decide) | exact absurd rfl zh | omega) (fun c_52 => ?_)
  refine lv_aload_n hx hb dJ3_init_2_55 rfl (lv_at hl 0 rfl) ?_
  refine lv_null hx hb dJ3_init_2_56 ?_
  refine va_put (D := D) (ci := 12) (v := .null) (ty := tyX13 2) (C := RX13) (T := TX13) (N := 8) hx hb hts in_X13 tyX13 tyX13_ok nmX13 hown hK hP hD hS 0 rfl rfl 2 (by decide) (hts _ q364) (fun _ h9 => h9) rfl (tyX13_ok 2 (by decide)) rfl rfl (Nat.le_of_ble_eq_true rfl) dJ3_init_2_57 (fun H locs hP hD hS => ?_)
  have hP : va_P D vwCl [(h, .inr (12, [.null, .null, .null, .null, .null, .int (nI 0), .int (nI 0), .int (nI 0)]))] H := hP
  have hD : va_D A [(h, .inr (12, [.null, .null, .null, .null, .null, .int (nI 0), .int (nI 0), .int (nI 0)]))] := hD
  exact wr_vret () hx hb hr hlk hQ dJ3_init_2_60 (wp_to (hP.sub [0] rfl) rfl) (wd_to (hD.sub [0] (by decide) rfl) rfl) hS (Nat.le_refl _) (Nat.le_refl _) trivial
set_option maxHeartbeats 4000000 in
theorem m_J4_init_X13 (l : Launch) (D : va_G) (ca : Nat → ClassId) (h : Nat) (zv : Nat → Option Nat) (sz : Nat)  : Met l yJ4_init (ws_ yJ4_init cJ4_init 5 none) (rmL 2) (PcZ (KK D ca) (ZZ zv) D [.ref h, .null, .null, .int (nI 0), .int (nI 0)] [(h, .inr (12, [.null, .null, .null, .null, .null, .int (nI 0), .int (nI 0), .int (nI 0)]))] sz) (QvA D (fun  (_ : Unit) => True) (fun _ => [(h, .inr (12, [.null, .null, .null, .null, .null, .int (nI 0), .int (nI 0), .int (nI 0)]))]) (va_A [(h, .inr (12, [.null, .null, .null, .null, .null, .int (nI 0), .int (nI 0), .int (nI 0)]))] sz)) 0 0 (va_A [(h, .inr (12, [.null, .null, .null, .null, .null, .int (nI 0), .int (nI 0), .int (nI 0)]))] sz) := by
  refine wz_head (y := yJ4_init) (n := 5) (av := [.ref h, .null, .null, .int (nI 0), .int (nI 0)]) (Qc := fun A => (QvA D (fun  (_ : Unit) => True) (fun _ => [(h, .inr (12, [.null, .null, .null, .null, .null, .int (nI 0), .int (nI 0), .int (nI 0)]))]) A)) (by decide) (Nat.le_of_ble_eq_true rfl) ?_
  intro zp ze zs zm za zb zt zc ls zQ A H locs hx hb hml hr hlk hown hts hnm hK hZ hP hD hS hA hl hQ
  have hown : zs.vm.findClass RJ4 = some zm.cls := hown
  have hl : lv_has ls 5 [(0, .ref h), (1, .null), (2, .null), (3, .int (nI 0)), (4, .int (nI 0))] := hl
  have hF : CallFix zp zm zc cJ4_init 5 zs za lw_all RJ4 := ⟨hx, hb, hml, hown, hts⟩
  have hKK := hK
  have hK : K1 D ca zs := hKK.1
  refine lv_aload_n hx hb dJ4_init_0 rfl (lv_at hl 0 rfl) ?_
  refine lv_aload_nN hx hb dJ4_init_1 rfl (lv_at hl 1 rfl) ?_
  refine lv_aload_nN hx hb dJ4_init_2 rfl (lv_at hl 2 rfl) ?_
  refine lv_iload_n hx hb dJ4_init_3 rfl (lv_at hl 3 rfl) ?_
  refine lv_iload hx hb dJ4_init_4 (lv_at hl 4 rfl) ?_
  have hpm : ([(h, .inr (12, [.null, .null, .null, .null, .null, .int (nI 0), .int (nI 0), .int (nI 0)]))] : va_W).Perm ([(h, .inr (12, [.null, .null, .null, .null, .null, .int (nI 0), .int (nI 0), .int (nI 0)]))] ++ []) := wpermN [(h, .inr (12, [.null, .null, .null, .null, .null, .int (nI 0), .int (nI 0), .int (nI 0)]))] _ 1 [0] rfl (by decide) rfl
  refine mk_v (va_runI (b := h) (As := [.null, .null, .int (nI 0), .int (nI 0)]) hF (m_J3_init_2_X13 l D ca h zv H.size ) (cs_J3_init_2 hts q355 ⟨by decide, by decide⟩) (ps_Z (KK_mv D ca) (ZZ_mv zv) hKK hZ hS hA hP hD hpm) rfl rfl hl.1 rfl (lv_room (Nat.le_of_ble_eq_true rfl)) dJ4_init_6 ⟨Nat.zero_le _, Nat.zero_le _⟩) hP hD hS hA hpm (fun zu H locs hpo hP hD hS => ?_)
  have hP : va_P D vwCl [(h, .inr (12, [.null, .null, .null, .null, .null, .int (nI 0), .int (nI 0), .int (nI 0)]))] H := hP
  have hD : va_D A [(h, .inr (12, [.null, .null, .null, .null, .null, .int (nI 0), .int (nI 0), .int (nI 0)]))] := hD
  exact wr_vret () hx hb hr hlk hQ dJ4_init_9 (wp_to (hP.sub [0] rfl) rfl) (wd_to (hD.sub [0] (by decide) rfl) rfl) hS (Nat.le_refl _) (Nat.le_refl _) trivial
theorem cs_J4_init {R : Room} {s : State} {args : Array Value} {own : String} {index : Nat} (hts : ∀ w ∈ lw_all, w.before args s = true) (hl : Cond.methodLink own index yJ4_init ∈ lw_all) {rm : Room} {mc ms : Nat} (hR : rm.frames + 1 ≤ R.frames ∧ 8 + (5 + 11) + rm.locals ≤ R.locals) (hc : rm.cells = mc := by rfl) (hs : rm.slots = ms := by rfl) : CallB R s args own index yJ4_init cJ4_init 5 none (ws_ yJ4_init cJ4_init 5 none) rm mc ms 4 ∧ yJ4_init.name = "<init>" ∧ (Cond.instanceMethod yJ4_init).before args s = true := cwI 4 hts (lw_meth q354) rfl hc hs (hts _ q72) (hts _ hl) (hts _ q353) rfl (by decide +kernel) hR
set_option maxHeartbeats 4000000 in
theorem m_X10_init (l : Launch) (D : va_G) (ca : Nat → ClassId) (h : Nat) (n : Nat) (zv : Nat → Option Nat) (sz : Nat)  : Met l yX10_init (ws_ yX10_init cX10_init 2 none) (rmL 3) (PcZ (KK D ca) (ZZ zv) D [.ref h, .int (nI n)] [(h, .inr (9, [.null, .null, .null, .null, .null, .int (nI 0), .int (nI 0)]))] sz) (QvA D (fun  (_ : Unit) => True) (fun _ => [(h, .inr (9, [.null, .null, .null, .null, .null, .int (nI 0), .int (nI n)]))]) (va_A [(h, .inr (9, [.null, .null, .null, .null, .null, .int (nI 0), .int (nI 0)]))] sz)) 0 0 (va_A [(h, .inr (9, [.null, .null, .null, .null, .null, .int (nI 0), .int (nI 0)]))] sz) := by
  refine wz_head (y := yX10_init) (n := 2) (av := [.ref h, .int (nI n)]) (Qc := fun A => (QvA D (fun  (_ : Unit) => True) (fun _ => [(h, .inr (9, [.null, .null, .null, .null, .null, .int (nI 0), .int (nI n)]))]) A)) (by decide) (Nat.le_of_ble_eq_true rfl) ?_
  intro zp ze zs zm za zb zt zc ls zQ A H locs hx hb hml hr hlk hown hts hnm hK hZ hP hD hS hA hl hQ
  have hown : zs.vm.findClass RX10 = some zm.cls := hown
  have hl : lv_has ls 2 [(0, .ref h), (1, .int (nI n))] := hl
  have hF : CallFix zp zm zc cX10_init 2 zs za lw_all RX10 := ⟨hx, hb, hml, hown, hts⟩
  have hKK := hK
  have hK : K1 D ca zs := hKK.1
  refine lv_aload_n hx hb dX10_init_0 rfl (lv_at hl 0 rfl) ?_
  refine lv_null hx hb dX10_init_1 ?_
  refine lv_null hx hb dX10_init_2 ?_
  refine lv_iconst (v := nI 0) hx hb dX10_init_3 rfl ?_
  refine lv_iconst (v := nI 0) hx hb dX10_init_4 rfl ?_
  have hpm : ([(h, .inr (9, [.null, .null, .null, .null, .null, .int (nI 0), .int (nI 0)]))] : va_W).Perm ([(h, .inr (9, [.null, .null, .null, .null, .null, .int (nI 0), .int (nI 0)]))] ++ []) := wpermN [(h, .inr (9, [.null, .null, .null, .null, .null, .int (nI 0), .int (nI 0)]))] _ 1 [0] rfl (by decide) rfl
  refine mk_v (va_runI (b := h) (As := [.null, .null, .int (nI 0), .int (nI 0)]) hF (m_J4_init_X10 l D ca h zv H.size ) (cs_J4_init hts q352 ⟨by decide, by decide⟩) (ps_Z (KK_mv D ca) (ZZ_mv zv) hKK hZ hS hA hP hD hpm) rfl rfl hl.1 rfl (lv_room (Nat.le_of_ble_eq_true rfl)) dX10_init_5 ⟨Nat.zero_le _, Nat.zero_le _⟩) hP hD hS hA hpm (fun zu H locs hpo hP hD hS => ?_)
  have hP : va_P D vwCl [(h, .inr (9, [.null, .null, .null, .null, .null, .int (nI 0), .int (nI 0)]))] H := hP
  have hD : va_D A [(h, .inr (9, [.null, .null, .null, .null, .null, .int (nI 0), .int (nI 0)]))] := hD
  refine lv_aload_n hx hb dX10_init_8 rfl (lv_at hl 0 rfl) ?_
  refine lv_iload_n hx hb dX10_init_9 rfl (lv_at hl 1 rfl) ?_
  refine va_putF (D := D) (ci := 9) (v := .int (nI n)) (ty := .int) (C := RX10) (T := TX10) (N := 7) hx hb hts in_X10 tyX10 tyX10_ok nmX10 hown hK hP hD hS 0 rfl rfl 6 (by decide) (hts _ q358) (fun _ h9 => h9) rfl hnm rfl (tyX10_ok 6 (by decide)) rfl rfl (Nat.le_of_ble_eq_true rfl) dX10_init_10 (fun H locs hP hD hS => ?_)
  have hP : va_P D vwCl [(h, .inr (9, [.null, .null, .null, .null, .null, .int (nI 0), .int (nI n)]))] H := hP
  have hD : va_D A [(h, .inr (9, [.null, .null, .null, .null, .null, .int (nI 0), .int (nI n)]))] := hD
  exact wr_vret () hx hb hr hlk hQ dX10_init_13 (wp_to (hP.sub [0] rfl) rfl) (wd_to (hD.sub [0] (by decide) rfl) rfl) hS (Nat.le_refl _) (Nat.le_refl _) trivial
set_option maxHeartbeats 4000000 in
theorem m_X13_init (l : Launch) (D : va_G) (ca : Nat → ClassId) (h : Nat) (n : Nat) (q : Nat) (zv : Nat → Option Nat) (sz : Nat)  : Met l yX13_init (ws_ yX13_init cX13_init 3 none) (rmL 3) (PcZ (KK D ca) (ZZ zv) D [.ref h, .int (nI n), .int (nI q)] [(h, .inr (12, [.null, .null, .null, .null, .null, .int (nI 0), .int (nI 0), .int (nI 0)]))] sz) (QvA D (fun  (_ : Unit) => True) (fun _ => [(h, .inr (12, [.null, .null, .null, .null, .null, .int (nI 0), .int (nI n), .int (nI q)]))]) (va_A [(h, .inr (12, [.null, .null, .null, .null, .null, .int (nI 0), .int (nI 0), .int (nI 0)]))] sz)) 0 0 (va_A [(h, .inr (12, [.null, .null, .null, .null, .null, .int (nI 0), .int (nI 0), .int (nI 0)]))] sz) := by
  refine wz_head (y := yX13_init) (n := 3) (av := [.ref h, .int (nI n), .int (nI q)]) (Qc := fun A => (QvA D (fun  (_ : Unit) => True) (fun _ => [(h, .inr (12, [.null, .null, .null, .null, .null, .int (nI 0), .int (nI n), .int (nI q)]))]) A)) (by decide) (Nat.le_of_ble_eq_true rfl) ?_
  intro zp ze zs zm za zb zt zc ls zQ A H locs hx hb hml hr hlk hown hts hnm hK hZ hP hD hS hA hl hQ
  have hown : zs.vm.findClass RX13 = some zm.cls := hown
  have hl : lv_has ls 3 [(0, .ref h), (1, .int (nI n)), (2, .int (nI q))] := hl
  have hF : CallFix zp zm zc cX13_init 3 zs za lw_all RX13 := ⟨hx, hb, hml, hown, hts⟩
  have hKK := hK
  have hK : K1 D ca zs := hKK.1
  refine lv_aload_n hx hb dX13_init_0 rfl (lv_at hl 0 rfl) ?_
  refine lv_null hx hb dX13_init_1 ?_
  refine lv_null hx hb dX13_init_2 ?_
  refine lv_iconst (v := nI 0) hx hb dX13_init_3 rfl ?_
  refine lv_iconst (v := nI 0) hx hb dX13_init_4 rfl ?_
  have hpm : ([(h, .inr (12, [.null, .null, .null, .null, .null, .int (nI 0), .int (nI 0), .int (nI 0)]))] : va_W).Perm ([(h, .inr (12, [.null, .null, .null, .null, .null, .int (nI 0), .int (nI 0), .int (nI 0)]))] ++ []) := wpermN [(h, .inr (12, [.null, .null, .null, .null, .null, .int (nI 0), .int (nI 0), .int (nI 0)]))] _ 1 [0] rfl (by decide) rfl
  refine mk_v (va_runI (b := h) (As := [.null, .null, .int (nI 0), .int (nI 0)]) hF (m_J4_init_X13 l D ca h zv H.size ) (cs_J4_init hts q535 ⟨by decide, by decide⟩) (ps_Z (KK_mv D ca) (ZZ_mv zv) hKK hZ hS hA hP hD hpm) rfl rfl hl.1 rfl (lv_room (Nat.le_of_ble_eq_true rfl)) dX13_init_5 ⟨Nat.zero_le _, Nat.zero_le _⟩) hP hD hS hA hpm (fun zu H locs hpo hP hD hS => ?_)
  have hP : va_P D vwCl [(h, .inr (12, [.null, .null, .null, .null, .null, .int (nI 0), .int (nI 0), .int (nI 0)]))] H := hP
  have hD : va_D A [(h, .inr (12, [.null, .null, .null, .null, .null, .int (nI 0), .int (nI 0), .int (nI 0)]))] := hD
  refine lv_aload_n hx hb dX13_init_8 rfl (lv_at hl 0 rfl) ?_
  refine lv_iload_n hx hb dX13_init_9 rfl (lv_at hl 1 rfl) ?_
  refine va_putF (D := D) (ci := 12) (v := .int (nI n)) (ty := .int) (C := RX13) (T := TX13) (N := 8) hx hb hts in_X13 tyX13 tyX13_ok nmX13 hown hK hP hD hS 0 rfl rfl 6 (by decide) (hts _ q536) (fun _ h9 => h9) rfl hnm rfl (tyX13_ok 6 (by decide)) rfl rfl (Nat.le_of_ble_eq_true rfl) dX13_init_10 (fun H locs hP hD hS => ?_)
  have hP : va_P D vwCl [(h, .inr (12, [.null, .null, .null, .null, .null, .int (nI 0), .int (nI n), .int (nI 0)]))] H := hP
  have hD : va_D A [(h, .inr (12, [.null, .null, .null, .null, .null, .int (nI 0), .int (nI n), .int (nI 0)]))] := hD
  refine lv_aload_n hx hb dX13_init_13 rfl (lv_at hl 0 rfl) ?_
  refine lv_iload_n hx hb dX13_init_14 rfl (lv_at hl 2 rfl) ?_
  refine va_putF (D := D) (ci := 12) (v := .int (nI q)) (ty := .int) (C := RX13) (T := TX13) (N := 8) hx hb hts in_X13 tyX13 tyX13_ok nmX13 hown hK hP hD hS 0 rfl rfl 7 (by decide) (hts _ q538) (fun _ h9 => h9) rfl hnm rfl (tyX13_ok 7 (by decide)) rfl rfl (Nat.le_of_ble_eq_true rfl) dX13_init_15 (fun H locs hP hD hS => ?_)
  have hP : va_P D vwCl [(h, .inr (12, [.null, .null, .null, .null, .null, .int (nI 0), .int (nI n), .int (nI q)]))] H := hP
  have hD : va_D A [(h, .inr (12, [.null, .null, .null, .null, .null, .int (nI 0), .int (nI n), .int (nI q)]))] := hD
  exact wr_vret () hx hb hr hlk hQ dX13_init_18 (wp_to (hP.sub [0] rfl) rfl) (wd_to (hD.sub [0] (by decide) rfl) rfl) hS (Nat.le_refl _) (Nat.le_refl _) trivial
