set_option maxRecDepth 100000
set_option maxHeartbeats 4000000 in
theorem m_X9_finding (l : Launch) (D : va_G) (ca : Nat → ClassId) (h : Nat) (t0 : Int32) (t1 : Int32) (a2 : Nat) (a3 : Nat) (a4 : Nat) (a5 : Nat) (a6 : Nat) (a7 : Nat) (a8 : Nat) (a10 : Nat) (a19 : Nat) (a20 : Nat) (a21 : Nat) (a22 : Nat) (ac : Nat) (tpd : Nat) (cu : Nat) (sta : Nat) (tok : Nat) (fau : Nat) (trd : Nat) (val : Int32) (fat : Int32) (lat : Int32) (x : Nat) (sz : Nat)  : Met l yX9_finding (ws_ yX9_finding cX9_finding 2 (some .int)) (rmL 0) (PcA (K1 D ca) D [.ref h, .int (nI x)] [(h, .inr (8, [.int t0, .int t1, .ref a2, .ref a3, .ref a4, .ref a5, .ref a6, .ref a7, .ref a8, .int (nI ac), .ref a10, .int (nI tpd), .int (nI cu), .int (nI sta), .int (nI tok), .int val, .int (nI fau), .int fat, .int lat, .ref a19, .ref a20, .ref a21, .ref a22, .int (nI trd)]))] sz) (QiA D (fun zr (_ : Unit) => zr = -1000010 - nI x) (fun _ => [(h, .inr (8, [.int t0, .int (nI x), .ref a2, .ref a3, .ref a4, .ref a5, .ref a6, .ref a7, .ref a8, .int (nI ac), .ref a10, .int (nI tpd), .int (nI cu), .int (nI sta), .int (nI tok), .int val, .int (nI fau), .int fat, .int lat, .ref a19, .ref a20, .ref a21, .ref a22, .int (nI trd)]))]) (va_A [(h, .inr (8, [.int t0, .int t1, .ref a2, .ref a3, .ref a4, .ref a5, .ref a6, .ref a7, .ref a8, .int (nI ac), .ref a10, .int (nI tpd), .int (nI cu), .int (nI sta), .int (nI tok), .int val, .int (nI fau), .int fat, .int lat, .ref a19, .ref a20, .ref a21, .ref a22, .int (nI trd)]))] sz)) 0 0 (va_A [(h, .inr (8, [.int t0, .int t1, .ref a2, .ref a3, .ref a4, .ref a5, .ref a6, .ref a7, .ref a8, .int (nI ac), .ref a10, .int (nI tpd), .int (nI cu), .int (nI sta), .int (nI tok), .int val, .int (nI fau), .int fat, .int lat, .ref a19, .ref a20, .ref a21, .ref a22, .int (nI trd)]))] sz) := by
  refine wr_head (Qc := fun A => (QiA D (fun zr (_ : Unit) => zr = -1000010 - nI x) (fun _ => [(h, .inr (8, [.int t0, .int (nI x), .ref a2, .ref a3, .ref a4, .ref a5, .ref a6, .ref a7, .ref a8, .int (nI ac), .ref a10, .int (nI tpd), .int (nI cu), .int (nI sta), .int (nI tok), .int val, .int (nI fau), .int fat, .int lat, .ref a19, .ref a20, .ref a21, .ref a22, .int (nI trd)]))]) A)) (by decide) (Nat.le_of_ble_eq_true rfl) ?_
  intro zp ze zs zm za zb zt zc ls zQ A H locs hx hb hml hr hlk hown hts hnm hK hP hD hS hA hl hQ
  have hown : zs.vm.findClass RX9 = some zm.cls := hown
  have hl : lv_has ls 2 [(0, .ref h), (1, .int (nI x))] := hl
  have hF : CallFix zp zm zc cX9_finding 2 zs za lw_all RX9 := ⟨hx, hb, hml, hown, hts⟩
  refine lv_aload_n hx hb dX9_finding_0 rfl (lv_at hl 0 rfl) ?_
  refine lv_iload_n hx hb dX9_finding_1 rfl (lv_at hl 1 rfl) ?_
  refine va_put (D := D) (ci := 8) (v := .int (nI x)) (ty := .int) (C := RX9) (T := TX9) (N := 24) hx hb hts in_X9 tyX9 tyX9_ok nmX9 hown hK hP hD hS 0 rfl rfl 1 (by decide) (hts _ q1180) (fun _ h9 => h9) rfl (tyX9_ok 1 (by decide)) rfl rfl (Nat.le_of_ble_eq_true rfl) dX9_finding_2 (fun H locs hP hD hS => ?_)
  have hP : va_P D vwCl [(h, .inr (8, [.int t0, .int (nI x), .ref a2, .ref a3, .ref a4, .ref a5, .ref a6, .ref a7, .ref a8, .int (nI ac), .ref a10, .int (nI tpd), .int (nI cu), .int (nI sta), .int (nI tok), .int val, .int (nI fau), .int fat, .int lat, .ref a19, .ref a20, .ref a21, .ref a22, .int (nI trd)]))] H := hP
  have hD : va_D A [(h, .inr (8, [.int t0, .int (nI x), .ref a2, .ref a3, .ref a4, .ref a5, .ref a6, .ref a7, .ref a8, .int (nI ac), .ref a10, .int (nI tpd), .int (nI cu), .int (nI sta), .int (nI tok), .int val, .int (nI fau), .int fat, .int lat, .ref a19, .ref a20, .ref a21, .ref a22, .int (nI trd)]))] := hD
  refine lv_ldc (v := (-1000010)) hx hb hown (hts _ q1271) dX9_finding_5 ?_
  refine lv_iload_n hx hb dX9_finding_7 rfl (lv_at hl 1 rfl) ?_
  refine lv_isub hx hb dX9_finding_8 ?_
  exact wr_iret () hx hb hr hlk hQ dX9_finding_9 (wp_to (hP.sub [0] rfl) rfl) (wd_to (hD.sub [0] (by decide) rfl) rfl) hS (Nat.le_refl _) (Nat.le_refl _) (by rfl)
set_option maxHeartbeats 4000000 in
theorem m_X9_poses (l : Launch) (D : va_G) (ca : Nat → ClassId) (a : Nat) (d : Nat → Nat) (v : Nat) (set : Nat) (sz : Nat) (hd : dOK d) (hv : v < 5) (hs : set < 256) : Met l yX9_poses (ws_ yX9_poses cX9_poses 6 (some .boolean)) (rmL 5) (PcA (K1 D ca) D [.ref a, .int (nI v), .int (nI set)] [(a, .inl (ca 0, 64, .inl (dv d)))] sz) (QiA D (fun zr (_ : Unit) => zr = bI (letD d v set)) (fun _ => [(a, .inl (ca 0, 64, .inl (dv (poseD d v set))))]) (va_A [(a, .inl (ca 0, 64, .inl (dv d)))] sz)) 0 0 (va_A [(a, .inl (ca 0, 64, .inl (dv d)))] sz) := by
  refine wr_head (Qc := fun A => (QiA D (fun zr (_ : Unit) => zr = bI (letD d v set)) (fun _ => [(a, .inl (ca 0, 64, .inl (dv (poseD d v set))))]) A)) (by decide) (Nat.le_of_ble_eq_true rfl) ?_
  intro zp ze zs zm za zb zt zc ls zQ A H locs hx hb hml hr hlk hown hts hnm hK hP hD hS hA hl hQ
  have hown : zs.vm.findClass RX9 = some zm.cls := hown
  have hl : lv_has ls 6 [(0, .ref a), (1, .int (nI v)), (2, .int (nI set))] := hl
  have hF : CallFix zp zm zc cX9_poses 6 zs za lw_all RX9 := ⟨hx, hb, hml, hown, hts⟩
  have hd2 : d 2 ≤ 8 := hd.2.2.1
  have hd1 : d 1 ≤ 8 := hd.2.1
  have hwl := wroN_le d v set (d 2)
  refine lv_aload_n hx hb dX9_poses_0 rfl (lv_at hl 0 rfl) ?_
  refine lv_iload_n hx hb dX9_poses_1 rfl (lv_at hl 1 rfl) ?_
  refine lv_iload_n hx hb dX9_poses_2 rfl (lv_at hl 2 rfl) ?_
  refine rd_callS hF (m_X9_wrongOf l D ca a d v set (by assumption) (by first | assumption | omega) (by first | assumption | omega)) (cs_X9_wrongOf hts q1370 ⟨by decide, by decide⟩) (K1_mv D ca) hK (hP.sub [0] rfl) rfl hl.1 rfl (Nat.le_of_ble_eq_true rfl) dX9_poses_3 ⟨Nat.zero_le _, Nat.zero_le _⟩ ?_
  refine lv_aload_n hx hb dX9_poses_6 rfl (lv_at hl 0 rfl) ?_
  refine lv_iconst (v := nI 1) hx hb dX9_poses_7 rfl ?_
  refine wn_iald (v := nI (d 1)) hx hb hK hP 0 0 rfl rfl (by omega) (by decide) rfl dX9_poses_8 ?_
  refine wn_gt (tgt := 16) hx hb (by omega) (by omega) dX9_poses_9 (by decide) (fun c_9 => ?_) (fun c_9 => ?_)
  · have c_9n := Nat.not_le.mpr c_9
    refine lv_iconst (v := nI 0) hx hb dX9_poses_16 rfl ?_
    refine lv_istore_n (lv' := [(3, .int (nI 0)), (0, .ref a), (1, .int (nI v)), (2, .int (nI set))]) hx hb dX9_poses_17 rfl hl (by decide) rfl (fun ls hl => ?_)
    refine lv_iconst (v := nI 0) hx hb dX9_poses_18 rfl ?_
    refine lv_istore (lv' := [(4, .int (nI 0)), (3, .int (nI 0)), (0, .ref a), (1, .int (nI v)), (2, .int (nI set))]) hx hb dX9_poses_19 hl (by decide) rfl (fun ls hl => ?_)
    refine lv_iload hx hb dX9_poses_21 (lv_at hl 0 rfl) ?_
    refine lv_aload_n hx hb dX9_poses_23 rfl (lv_at hl 2 rfl) ?_
    refine lv_iconst (v := nI 2) hx hb dX9_poses_24 rfl ?_
    refine wn_iald (v := nI (d 2)) hx hb hK hP 0 0 rfl rfl (by omega) (by decide) rfl dX9_poses_25 ?_
    refine wn_ge (tgt := 102) hx hb (by omega) (by omega) dX9_poses_26 (by decide) (fun c_26 => ?_) (fun c_26 => ?_)
    · have c_26n := Nat.not_lt.mpr c_26
      refine lv_aload_n hx hb dX9_poses_102 rfl (lv_at hl 2 rfl) ?_
      refine lv_bipush (v := nI 44) hx hb dX9_poses_103 rfl ?_
      refine lv_iconst (v := nI 4) hx hb dX9_poses_105 rfl ?_
      refine lv_iload_n hx hb dX9_poses_106 rfl (lv_at hl 3 rfl) ?_
      refine wn_mul hx hb dX9_poses_107 ?_
      refine wn_add hx hb dX9_poses_108 ?_
      refine lv_iconst (v := nI 2) hx hb dX9_poses_109 rfl ?_
      refine wn_add hx hb dX9_poses_110 ?_
      refine lv_dup2_11 hx hb dX9_poses_111 rfl rfl ?_
      refine wn_iald (v := nI (d ((44 + (4 * v)) + 2))) hx hb hK hP 0 0 rfl rfl (by omega) (by decide) rfl dX9_poses_112 ?_
      refine lv_iconst (v := nI 1) hx hb dX9_poses_113 rfl ?_
      refine wn_add hx hb dX9_poses_114 ?_
      refine wn_iast (f' := dv (updN d ((44 + (4 * v)) + 2) ((d ((44 + (4 * v)) + 2)) + 1))) hx hb hK hP hD hS 0 0 rfl rfl (by omega) (by decide) (dv_upd d ((44 + (4 * v)) + 2) ((d ((44 + (4 * v)) + 2)) + 1)) dX9_poses_115 (fun H locs hP hD hS => ?_)
      have hP : va_P D vwCl [(a, .inl (ca 0, 64, .inl (dv (updN d ((44 + (4 * v)) + 2) ((d ((44 + (4 * v)) + 2)) + 1)))))] H := hP
      have hD : va_D A [(a, .inl (ca 0, 64, .inl (dv (updN d ((44 + (4 * v)) + 2) ((d ((44 + (4 * v)) + 2)) + 1)))))] := hD
      refine lv_aload_n hx hb dX9_poses_116 rfl (lv_at hl 2 rfl) ?_
      refine lv_bipush (v := nI 44) hx hb dX9_poses_117 rfl ?_
      refine lv_iconst (v := nI 4) hx hb dX9_poses_119 rfl ?_
      refine lv_iload_n hx hb dX9_poses_120 rfl (lv_at hl 3 rfl) ?_
      refine wn_mul hx hb dX9_poses_121 ?_
      refine wn_add hx hb dX9_poses_122 ?_
      refine lv_iconst (v := nI 3) hx hb dX9_poses_123 rfl ?_
      refine wn_add hx hb dX9_poses_124 ?_
      refine lv_dup2_11 hx hb dX9_poses_125 rfl rfl ?_
      refine wn_iald (v := nI ((updN d ((44 + (4 * v)) + 2) ((d ((44 + (4 * v)) + 2)) + 1)) ((44 + (4 * v)) + 3))) hx hb hK hP 0 0 rfl rfl (by omega) (by decide) rfl dX9_poses_126 ?_
      refine lv_iload_n hx hb dX9_poses_127 rfl (lv_at hl 1 rfl) ?_
      refine wn_ifeq (tgt := 135) hx hb (by omega) dX9_poses_128 (by decide) (fun c_128 => ?_) (fun zh => by first | exact absurd zh (by decide) | exact absurd rfl zh | omega)
      refine lv_iconst (v := nI 0) hx hb dX9_poses_135 rfl ?_
      refine wn_add hx hb dX9_poses_136 ?_
      refine wn_iast (f' := dv (updN ((updN d ((44 + (4 * v)) + 2) ((d ((44 + (4 * v)) + 2)) + 1))) ((44 + (4 * v)) + 3) (((updN d ((44 + (4 * v)) + 2) ((d ((44 + (4 * v)) + 2)) + 1)) ((44 + (4 * v)) + 3)) + 0))) hx hb hK hP hD hS 0 0 rfl rfl (by omega) (by decide) (dv_upd ((updN d ((44 + (4 * v)) + 2) ((d ((44 + (4 * v)) + 2)) + 1))) ((44 + (4 * v)) + 3) (((updN d ((44 + (4 * v)) + 2) ((d ((44 + (4 * v)) + 2)) + 1)) ((44 + (4 * v)) + 3)) + 0)) dX9_poses_137 (fun H locs hP hD hS => ?_)
      have hP : va_P D vwCl [(a, .inl (ca 0, 64, .inl (dv (updN ((updN d ((44 + (4 * v)) + 2) ((d ((44 + (4 * v)) + 2)) + 1))) ((44 + (4 * v)) + 3) (((updN d ((44 + (4 * v)) + 2) ((d ((44 + (4 * v)) + 2)) + 1)) ((44 + (4 * v)) + 3)) + 0)))))] H := hP
      have hD : va_D A [(a, .inl (ca 0, 64, .inl (dv (updN ((updN d ((44 + (4 * v)) + 2) ((d ((44 + (4 * v)) + 2)) + 1))) ((44 + (4 * v)) + 3) (((updN d ((44 + (4 * v)) + 2) ((d ((44 + (4 * v)) + 2)) + 1)) ((44 + (4 * v)) + 3)) + 0)))))] := hD
      refine lv_iload_n hx hb dX9_poses_138 rfl (lv_at hl 1 rfl) ?_
      have w_1 : dv (updN ((updN d ((44 + (4 * v)) + 2) ((d ((44 + (4 * v)) + 2)) + 1))) ((44 + (4 * v)) + 3) (((updN d ((44 + (4 * v)) + 2) ((d ((44 + (4 * v)) + 2)) + 1)) ((44 + (4 * v)) + 3)) + 0)) = dv (poseD d v set) := by first | rfl | (refine congrArg dv ?_; first | (have hle : letD d v set = false := decide_eq_false (by omega); simp [poseD, poseE, hle]; done) | (have hle : letD d v set = true := decide_eq_true (by omega); simp [poseD, poseE, hle]; done))
      refine W.eq (g2 := F0 zm 139 ls [.int (bI false)]) rfl ?_
      exact wr_zret () hx hb hr hlk hQ dX9_poses_139 (wp_to (hP.sub [0] rfl) (congrArg (fun zx => ([(a, .inl (ca 0, 64, .inl zx))] : va_W)) w_1)) (wd_to (hD.sub [0] (by decide) rfl) (congrArg (fun zx => ([(a, .inl (ca 0, 64, .inl zx))] : va_W)) w_1)) hS (Nat.le_refl _) (Nat.le_refl _) (by refine congrArg bI ?_; simp [letD]; omega)
    · have c_26n := Nat.not_le.mpr c_26
      refine lv_iload_n hx hb dX9_poses_29 rfl (lv_at hl 1 rfl) ?_
      refine wn_ifeq (tgt := 102) hx hb (by omega) dX9_poses_30 (by decide) (fun c_30 => ?_) (fun zh => by first | exact absurd zh (by decide) | exact absurd rfl zh | omega)
      refine lv_aload_n hx hb dX9_poses_102 rfl (lv_at hl 2 rfl) ?_
      refine lv_bipush (v := nI 44) hx hb dX9_poses_103 rfl ?_
      refine lv_iconst (v := nI 4) hx hb dX9_poses_105 rfl ?_
      refine lv_iload_n hx hb dX9_poses_106 rfl (lv_at hl 3 rfl) ?_
      refine wn_mul hx hb dX9_poses_107 ?_
      refine wn_add hx hb dX9_poses_108 ?_
      refine lv_iconst (v := nI 2) hx hb dX9_poses_109 rfl ?_
      refine wn_add hx hb dX9_poses_110 ?_
      refine lv_dup2_11 hx hb dX9_poses_111 rfl rfl ?_
      refine wn_iald (v := nI (d ((44 + (4 * v)) + 2))) hx hb hK hP 0 0 rfl rfl (by omega) (by decide) rfl dX9_poses_112 ?_
      refine lv_iconst (v := nI 1) hx hb dX9_poses_113 rfl ?_
      refine wn_add hx hb dX9_poses_114 ?_
      refine wn_iast (f' := dv (updN d ((44 + (4 * v)) + 2) ((d ((44 + (4 * v)) + 2)) + 1))) hx hb hK hP hD hS 0 0 rfl rfl (by omega) (by decide) (dv_upd d ((44 + (4 * v)) + 2) ((d ((44 + (4 * v)) + 2)) + 1)) dX9_poses_115 (fun H locs hP hD hS => ?_)
      have hP : va_P D vwCl [(a, .inl (ca 0, 64, .inl (dv (updN d ((44 + (4 * v)) + 2) ((d ((44 + (4 * v)) + 2)) + 1)))))] H := hP
      have hD : va_D A [(a, .inl (ca 0, 64, .inl (dv (updN d ((44 + (4 * v)) + 2) ((d ((44 + (4 * v)) + 2)) + 1)))))] := hD
      refine lv_aload_n hx hb dX9_poses_116 rfl (lv_at hl 2 rfl) ?_
      refine lv_bipush (v := nI 44) hx hb dX9_poses_117 rfl ?_
      refine lv_iconst (v := nI 4) hx hb dX9_poses_119 rfl ?_
      refine lv_iload_n hx hb dX9_poses_120 rfl (lv_at hl 3 rfl) ?_
      refine wn_mul hx hb dX9_poses_121 ?_
      refine wn_add hx hb dX9_poses_122 ?_
      refine lv_iconst (v := nI 3) hx hb dX9_poses_123 rfl ?_
      refine wn_add hx hb dX9_poses_124 ?_
      refine lv_dup2_11 hx hb dX9_poses_125 rfl rfl ?_
      refine wn_iald (v := nI ((updN d ((44 + (4 * v)) + 2) ((d ((44 + (4 * v)) + 2)) + 1)) ((44 + (4 * v)) + 3))) hx hb hK hP 0 0 rfl rfl (by omega) (by decide) rfl dX9_poses_126 ?_
      refine lv_iload_n hx hb dX9_poses_127 rfl (lv_at hl 1 rfl) ?_
      refine wn_ifeq (tgt := 135) hx hb (by omega) dX9_poses_128 (by decide) (fun c_128 => ?_) (fun zh => by first | exact absurd zh (by decide) | exact absurd rfl zh | omega)
      refine lv_iconst (v := nI 0) hx hb dX9_poses_135 rfl ?_
      refine wn_add hx hb dX9_poses_136 ?_
      refine wn_iast (f' := dv (updN ((updN d ((44 + (4 * v)) + 2) ((d ((44 + (4 * v)) + 2)) + 1))) ((44 + (4 * v)) + 3) (((updN d ((44 + (4 * v)) + 2) ((d ((44 + (4 * v)) + 2)) + 1)) ((44 + (4 * v)) + 3)) + 0))) hx hb hK hP hD hS 0 0 rfl rfl (by omega) (by decide) (dv_upd ((updN d ((44 + (4 * v)) + 2) ((d ((44 + (4 * v)) + 2)) + 1))) ((44 + (4 * v)) + 3) (((updN d ((44 + (4 * v)) + 2) ((d ((44 + (4 * v)) + 2)) + 1)) ((44 + (4 * v)) + 3)) + 0)) dX9_poses_137 (fun H locs hP hD hS => ?_)
      have hP : va_P D vwCl [(a, .inl (ca 0, 64, .inl (dv (updN ((updN d ((44 + (4 * v)) + 2) ((d ((44 + (4 * v)) + 2)) + 1))) ((44 + (4 * v)) + 3) (((updN d ((44 + (4 * v)) + 2) ((d ((44 + (4 * v)) + 2)) + 1)) ((44 + (4 * v)) + 3)) + 0)))))] H := hP
      have hD : va_D A [(a, .inl (ca 0, 64, .inl (dv (updN ((updN d ((44 + (4 * v)) + 2) ((d ((44 + (4 * v)) + 2)) + 1))) ((44 + (4 * v)) + 3) (((updN d ((44 + (4 * v)) + 2) ((d ((44 + (4 * v)) + 2)) + 1)) ((44 + (4 * v)) + 3)) + 0)))))] := hD
      refine lv_iload_n hx hb dX9_poses_138 rfl (lv_at hl 1 rfl) ?_
      have w_2 : dv (updN ((updN d ((44 + (4 * v)) + 2) ((d ((44 + (4 * v)) + 2)) + 1))) ((44 + (4 * v)) + 3) (((updN d ((44 + (4 * v)) + 2) ((d ((44 + (4 * v)) + 2)) + 1)) ((44 + (4 * v)) + 3)) + 0)) = dv (poseD d v set) := by first | rfl | (refine congrArg dv ?_; first | (have hle : letD d v set = false := decide_eq_false (by omega); simp [poseD, poseE, hle]; done) | (have hle : letD d v set = true := decide_eq_true (by omega); simp [poseD, poseE, hle]; done))
      refine W.eq (g2 := F0 zm 139 ls [.int (bI false)]) rfl ?_
      exact wr_zret () hx hb hr hlk hQ dX9_poses_139 (wp_to (hP.sub [0] rfl) (congrArg (fun zx => ([(a, .inl (ca 0, 64, .inl zx))] : va_W)) w_2)) (wd_to (hD.sub [0] (by decide) rfl) (congrArg (fun zx => ([(a, .inl (ca 0, 64, .inl zx))] : va_W)) w_2)) hS (Nat.le_refl _) (Nat.le_refl _) (by refine congrArg bI ?_; simp [letD]; omega)
  · have c_9n := Nat.not_lt.mpr c_9
    refine lv_iconst (v := nI 1) hx hb dX9_poses_12 rfl ?_
    refine lv_goto (tgt := 17) hx hb dX9_poses_13 (by decide) ?_
    refine lv_istore_n (lv' := [(3, .int (nI 1)), (0, .ref a), (1, .int (nI v)), (2, .int (nI set))]) hx hb dX9_poses_17 rfl hl (by decide) rfl (fun ls hl => ?_)
    refine lv_iconst (v := nI 0) hx hb dX9_poses_18 rfl ?_
    refine lv_istore (lv' := [(4, .int (nI 0)), (3, .int (nI 1)), (0, .ref a), (1, .int (nI v)), (2, .int (nI set))]) hx hb dX9_poses_19 hl (by decide) rfl (fun ls hl => ?_)
    have lp_21 : ∀ (zn : Nat) (i : Nat), (i ≤ d 2) →  (d 2 - i) < zn → ∀ (H : Heap) (locs : List Loc), va_P D vwCl [(a, .inl (ca 0, 64, .inl (dv (vot d v set i))))] H → va_D A [(a, .inl (ca 0, 64, .inl (dv (vot d v set i))))] → va_S A zs.heap H locs → ∀ (ls : Array Slot), lv_has ls 6 [(0, .ref a), (1, .int (nI v)), (2, .int (nI set)), (3, .int (nI 1)), (4, .int (nI i))] → W zp l ze (rmL 5) zs zm za zb zt zc H locs 0 0 zQ (F0 zm 21 ls []) := by
      intro zn
      induction zn with
      | zero => intro i hi hmu_21; exact absurd hmu_21 (Nat.not_lt_zero _)
      | succ zn ih_21 =>
        intro i hi hmu_21 H locs hP hD hS ls hl
        have hv2 : vot d v set i 2 = d 2 := vot_2 d v set i
        have hvd : dOK (vot d v set i) := vot_ok hd i (by omega)
        refine lv_iload hx hb dX9_poses_21 (lv_at hl 4 rfl) ?_
        refine lv_aload_n hx hb dX9_poses_23 rfl (lv_at hl 0 rfl) ?_
        refine lv_iconst (v := nI 2) hx hb dX9_poses_24 rfl ?_
        refine wn_iald (v := nI ((vot d v set i) 2)) hx hb hK hP 0 0 rfl rfl (by omega) (by decide) rfl dX9_poses_25 ?_
        refine wn_ge (tgt := 102) hx hb (by omega) (by omega) dX9_poses_26 (by decide) (fun c_26 => ?_) (fun c_26 => ?_)
        · have c_26n := Nat.not_lt.mpr c_26
          have hie : i = d 2 := (by omega)
          subst hie
          refine lv_aload_n hx hb dX9_poses_102 rfl (lv_at hl 0 rfl) ?_
          refine lv_bipush (v := nI 44) hx hb dX9_poses_103 rfl ?_
          refine lv_iconst (v := nI 4) hx hb dX9_poses_105 rfl ?_
          refine lv_iload_n hx hb dX9_poses_106 rfl (lv_at hl 1 rfl) ?_
          refine wn_mul hx hb dX9_poses_107 ?_
          refine wn_add hx hb dX9_poses_108 ?_
          refine lv_iconst (v := nI 2) hx hb dX9_poses_109 rfl ?_
          refine wn_add hx hb dX9_poses_110 ?_
          refine lv_dup2_11 hx hb dX9_poses_111 rfl rfl ?_
          refine wn_iald (v := nI ((vot d v set (d 2)) ((44 + (4 * v)) + 2))) hx hb hK hP 0 0 rfl rfl (by omega) (by decide) rfl dX9_poses_112 ?_
          refine lv_iconst (v := nI 1) hx hb dX9_poses_113 rfl ?_
          refine wn_add hx hb dX9_poses_114 ?_
          refine wn_iast (f' := dv (updN ((vot d v set (d 2))) ((44 + (4 * v)) + 2) (((vot d v set (d 2)) ((44 + (4 * v)) + 2)) + 1))) hx hb hK hP hD hS 0 0 rfl rfl (by omega) (by decide) (dv_upd ((vot d v set (d 2))) ((44 + (4 * v)) + 2) (((vot d v set (d 2)) ((44 + (4 * v)) + 2)) + 1)) dX9_poses_115 (fun H locs hP hD hS => ?_)
          have hP : va_P D vwCl [(a, .inl (ca 0, 64, .inl (dv (updN ((vot d v set (d 2))) ((44 + (4 * v)) + 2) (((vot d v set (d 2)) ((44 + (4 * v)) + 2)) + 1)))))] H := hP
          have hD : va_D A [(a, .inl (ca 0, 64, .inl (dv (updN ((vot d v set (d 2))) ((44 + (4 * v)) + 2) (((vot d v set (d 2)) ((44 + (4 * v)) + 2)) + 1)))))] := hD
          refine lv_aload_n hx hb dX9_poses_116 rfl (lv_at hl 0 rfl) ?_
          refine lv_bipush (v := nI 44) hx hb dX9_poses_117 rfl ?_
          refine lv_iconst (v := nI 4) hx hb dX9_poses_119 rfl ?_
          refine lv_iload_n hx hb dX9_poses_120 rfl (lv_at hl 1 rfl) ?_
          refine wn_mul hx hb dX9_poses_121 ?_
          refine wn_add hx hb dX9_poses_122 ?_
          refine lv_iconst (v := nI 3) hx hb dX9_poses_123 rfl ?_
          refine wn_add hx hb dX9_poses_124 ?_
          refine lv_dup2_11 hx hb dX9_poses_125 rfl rfl ?_
          refine wn_iald (v := nI ((updN ((vot d v set (d 2))) ((44 + (4 * v)) + 2) (((vot d v set (d 2)) ((44 + (4 * v)) + 2)) + 1)) ((44 + (4 * v)) + 3))) hx hb hK hP 0 0 rfl rfl (by omega) (by decide) rfl dX9_poses_126 ?_
          refine lv_iload_n hx hb dX9_poses_127 rfl (lv_at hl 3 rfl) ?_
          refine wn_ifeq (tgt := 135) hx hb (by omega) dX9_poses_128 (by decide) (fun zh => by first | exact absurd zh (by decide) | exact absurd rfl zh | omega) (fun c_128 => ?_)
          refine lv_iconst (v := nI 1) hx hb dX9_poses_131 rfl ?_
          refine lv_goto (tgt := 136) hx hb dX9_poses_132 (by decide) ?_
          refine wn_add hx hb dX9_poses_136 ?_
          refine wn_iast (f' := dv (updN ((updN ((vot d v set (d 2))) ((44 + (4 * v)) + 2) (((vot d v set (d 2)) ((44 + (4 * v)) + 2)) + 1))) ((44 + (4 * v)) + 3) (((updN ((vot d v set (d 2))) ((44 + (4 * v)) + 2) (((vot d v set (d 2)) ((44 + (4 * v)) + 2)) + 1)) ((44 + (4 * v)) + 3)) + 1))) hx hb hK hP hD hS 0 0 rfl rfl (by omega) (by decide) (dv_upd ((updN ((vot d v set (d 2))) ((44 + (4 * v)) + 2) (((vot d v set (d 2)) ((44 + (4 * v)) + 2)) + 1))) ((44 + (4 * v)) + 3) (((updN ((vot d v set (d 2))) ((44 + (4 * v)) + 2) (((vot d v set (d 2)) ((44 + (4 * v)) + 2)) + 1)) ((44 + (4 * v)) + 3)) + 1)) dX9_poses_137 (fun H locs hP hD hS => ?_)
          have hP : va_P D vwCl [(a, .inl (ca 0, 64, .inl (dv (updN ((updN ((vot d v set (d 2))) ((44 + (4 * v)) + 2) (((vot d v set (d 2)) ((44 + (4 * v)) + 2)) + 1))) ((44 + (4 * v)) + 3) (((updN ((vot d v set (d 2))) ((44 + (4 * v)) + 2) (((vot d v set (d 2)) ((44 + (4 * v)) + 2)) + 1)) ((44 + (4 * v)) + 3)) + 1)))))] H := hP
          have hD : va_D A [(a, .inl (ca 0, 64, .inl (dv (updN ((updN ((vot d v set (d 2))) ((44 + (4 * v)) + 2) (((vot d v set (d 2)) ((44 + (4 * v)) + 2)) + 1))) ((44 + (4 * v)) + 3) (((updN ((vot d v set (d 2))) ((44 + (4 * v)) + 2) (((vot d v set (d 2)) ((44 + (4 * v)) + 2)) + 1)) ((44 + (4 * v)) + 3)) + 1)))))] := hD
          refine lv_iload_n hx hb dX9_poses_138 rfl (lv_at hl 3 rfl) ?_
          have w_3 : dv (updN ((updN ((vot d v set (d 2))) ((44 + (4 * v)) + 2) (((vot d v set (d 2)) ((44 + (4 * v)) + 2)) + 1))) ((44 + (4 * v)) + 3) (((updN ((vot d v set (d 2))) ((44 + (4 * v)) + 2) (((vot d v set (d 2)) ((44 + (4 * v)) + 2)) + 1)) ((44 + (4 * v)) + 3)) + 1)) = dv (poseD d v set) := by first | rfl | (refine congrArg dv ?_; first | (have hle : letD d v set = false := decide_eq_false (by omega); simp [poseD, poseE, hle]; done) | (have hle : letD d v set = true := decide_eq_true (by omega); simp [poseD, poseE, hle]; done))
          refine W.eq (g2 := F0 zm 139 ls [.int (bI true)]) rfl ?_
          exact wr_zret () hx hb hr hlk hQ dX9_poses_139 (wp_to (hP.sub [0] rfl) (congrArg (fun zx => ([(a, .inl (ca 0, 64, .inl zx))] : va_W)) w_3)) (wd_to (hD.sub [0] (by decide) rfl) (congrArg (fun zx => ([(a, .inl (ca 0, 64, .inl zx))] : va_W)) w_3)) hS (Nat.le_refl _) (Nat.le_refl _) (by refine congrArg bI ?_; simp [letD]; omega)
        · have c_26n := Nat.not_le.mpr c_26
          have hvq := hvd.2.2.2.2.1 i (by omega)
          refine lv_iload_n hx hb dX9_poses_29 rfl (lv_at hl 3 rfl) ?_
          refine wn_ifeq (tgt := 102) hx hb (by omega) dX9_poses_30 (by decide) (fun zh => by first | exact absurd zh (by decide) | exact absurd rfl zh | omega) (fun c_30 => ?_)
          refine lv_iload_n hx hb dX9_poses_33 rfl (lv_at hl 2 rfl) ?_
          refine lv_iload hx hb dX9_poses_34 (lv_at hl 4 rfl) ?_
          refine rd_callS hF (m_X9_has l D ca set i (by first | assumption | omega) (by first | assumption | omega)) (cs_X9_has hts q1373 ⟨by decide, by decide⟩) (K1_mv D ca) hK (hP.sub [] rfl) rfl hl.1 rfl (Nat.le_of_ble_eq_true rfl) dX9_poses_36 ⟨Nat.zero_le _, Nat.zero_le _⟩ ?_
          refine wb_eq (tgt := 96) hx hb dX9_poses_39 (by decide) (fun c_39 => ?_) (fun c_39 => ?_)
          · refine lv_iinc (v := nI (i + 1)) (lv' := [(4, .int (nI (i + 1))), (0, .ref a), (1, .int (nI v)), (2, .int (nI set)), (3, .int (nI 1))]) hx hb dX9_poses_96 hl (k := 4) rfl (nI_add i 1) (by decide) rfl (fun ls hl => ?_)
            refine lv_goto (tgt := 21) hx hb dX9_poses_99 (by decide) ?_
            have w_4 : dv (vot d v set i) = dv (vot d v set (i + 1)) := by first | rfl | (refine congrArg dv ?_; simp [vot, votS, bump, c_26, c_26n, c_39])
            have e_5 : i + 1 = (i + 1) := by first | rfl | (rfl)
            exact ih_21 (i + 1) (by omega) (by omega) H locs (wp_to (hP.sub [0] rfl) (congrArg (fun zx => ([(a, .inl (ca 0, 64, .inl zx))] : va_W)) w_4)) (wd_to (hD.sub [0] (by decide) rfl) (congrArg (fun zx => ([(a, .inl (ca 0, 64, .inl zx))] : va_W)) w_4)) hS ls (lv_to (lv_sub hl [1, 2, 3, 4, 0] rfl) (congrArg (fun x => ([(0, .ref a), (1, .int (nI v)), (2, .int (nI set)), (3, .int (nI 1)), (4, .int (nI x))] : List (Nat × Value))) e_5))
          · refine lv_aload_n hx hb dX9_poses_42 rfl (lv_at hl 0 rfl) ?_
            refine lv_iload hx hb dX9_poses_43 (lv_at hl 4 rfl) ?_
            refine rd_callS hF (m_X9_counts l D ca a (vot d v set i) i (by assumption) (by first | assumption | omega)) (cs_X9_counts hts q1379 ⟨by decide, by decide⟩) (K1_mv D ca) hK (hP.sub [0] rfl) rfl hl.1 rfl (Nat.le_of_ble_eq_true rfl) dX9_poses_45 ⟨Nat.zero_le _, Nat.zero_le _⟩ ?_
            refine wb_ne (tgt := 96) hx hb dX9_poses_48 (by decide) (fun c_48 => ?_) (fun c_48 => ?_)
            · refine lv_iinc (v := nI (i + 1)) (lv' := [(4, .int (nI (i + 1))), (0, .ref a), (1, .int (nI v)), (2, .int (nI set)), (3, .int (nI 1))]) hx hb dX9_poses_96 hl (k := 4) rfl (nI_add i 1) (by decide) rfl (fun ls hl => ?_)
              refine lv_goto (tgt := 21) hx hb dX9_poses_99 (by decide) ?_
              have w_6 : dv (vot d v set i) = dv (vot d v set (i + 1)) := by first | rfl | (refine congrArg dv ?_; simp [vot, votS, bump, c_26, c_26n, c_39, c_48])
              have e_7 : i + 1 = (i + 1) := by first | rfl | (rfl)
              exact ih_21 (i + 1) (by omega) (by omega) H locs (wp_to (hP.sub [0] rfl) (congrArg (fun zx => ([(a, .inl (ca 0, 64, .inl zx))] : va_W)) w_6)) (wd_to (hD.sub [0] (by decide) rfl) (congrArg (fun zx => ([(a, .inl (ca 0, 64, .inl zx))] : va_W)) w_6)) hS ls (lv_to (lv_sub hl [1, 2, 3, 4, 0] rfl) (congrArg (fun x => ([(0, .ref a), (1, .int (nI v)), (2, .int (nI set)), (3, .int (nI 1)), (4, .int (nI x))] : List (Nat × Value))) e_7))
            · refine lv_iconst (v := nI 4) hx hb dX9_poses_51 rfl ?_
              refine lv_iconst (v := nI 5) hx hb dX9_poses_52 rfl ?_
              refine lv_iload hx hb dX9_poses_53 (lv_at hl 4 rfl) ?_
              refine wn_mul hx hb dX9_poses_55 ?_
              refine wn_add hx hb dX9_poses_56 ?_
              refine lv_aload_n hx hb dX9_poses_57 rfl (lv_at hl 0 rfl) ?_
              refine lv_iload_n hx hb dX9_poses_58 rfl (lv_at hl 1 rfl) ?_
              refine lv_iload hx hb dX9_poses_59 (lv_at hl 4 rfl) ?_
              refine rd_callS hF (m_X9_clicksIt l D ca a (vot d v set i) v i (by assumption) (by first | assumption | omega) (by first | assumption | omega)) (cs_X9_clicksIt hts q1385 ⟨by decide, by decide⟩) (K1_mv D ca) hK (hP.sub [0] rfl) rfl hl.1 rfl (Nat.le_of_ble_eq_true rfl) dX9_poses_61 ⟨Nat.zero_le _, Nat.zero_le _⟩ ?_
              refine wb_eq (tgt := 71) hx hb dX9_poses_64 (by decide) (fun c_64 => ?_) (fun c_64 => ?_)
              · refine lv_iconst (v := nI 3) hx hb dX9_poses_71 rfl ?_
                refine wn_add hx hb dX9_poses_72 ?_
                refine lv_istore (lv' := [(5, .int (nI ((4 + (5 * i)) + 3))), (0, .ref a), (1, .int (nI v)), (2, .int (nI set)), (3, .int (nI 1)), (4, .int (nI i))]) hx hb dX9_poses_73 hl (by decide) rfl (fun ls hl => ?_)
                refine lv_aload_n hx hb dX9_poses_75 rfl (lv_at hl 1 rfl) ?_
                refine lv_iload hx hb dX9_poses_76 (lv_at hl 0 rfl) ?_
                refine lv_dup2_11 hx hb dX9_poses_78 rfl rfl ?_
                refine wn_iald (v := nI ((vot d v set i) ((4 + (5 * i)) + 3))) hx hb hK hP 0 0 rfl rfl (by omega) (by decide) rfl dX9_poses_79 ?_
                refine lv_aload_n hx hb dX9_poses_80 rfl (lv_at hl 1 rfl) ?_
                refine lv_iload hx hb dX9_poses_81 (lv_at hl 0 rfl) ?_
                refine wn_iald (v := nI ((vot d v set i) ((4 + (5 * i)) + 3))) hx hb hK hP 0 0 rfl rfl (by omega) (by decide) rfl dX9_poses_83 ?_
                refine lv_bipush (v := nI 99) hx hb dX9_poses_84 rfl ?_
                refine wn_ge (tgt := 93) hx hb (by omega) (by omega) dX9_poses_86 (by decide) (fun c_86 => ?_) (fun c_86 => ?_)
                · have c_86n := Nat.not_lt.mpr c_86
                  refine lv_iconst (v := nI 0) hx hb dX9_poses_93 rfl ?_
                  refine wn_add hx hb dX9_poses_94 ?_
                  refine wn_iast (f' := dv (updN ((vot d v set i)) ((4 + (5 * i)) + 3) (((vot d v set i) ((4 + (5 * i)) + 3)) + 0))) hx hb hK hP hD hS 0 0 rfl rfl (by omega) (by decide) (dv_upd ((vot d v set i)) ((4 + (5 * i)) + 3) (((vot d v set i) ((4 + (5 * i)) + 3)) + 0)) dX9_poses_95 (fun H locs hP hD hS => ?_)
                  have hP : va_P D vwCl [(a, .inl (ca 0, 64, .inl (dv (updN ((vot d v set i)) ((4 + (5 * i)) + 3) (((vot d v set i) ((4 + (5 * i)) + 3)) + 0)))))] H := hP
                  have hD : va_D A [(a, .inl (ca 0, 64, .inl (dv (updN ((vot d v set i)) ((4 + (5 * i)) + 3) (((vot d v set i) ((4 + (5 * i)) + 3)) + 0)))))] := hD
                  refine lv_iinc (v := nI (i + 1)) (lv' := [(4, .int (nI (i + 1))), (5, .int (nI ((4 + (5 * i)) + 3))), (0, .ref a), (1, .int (nI v)), (2, .int (nI set)), (3, .int (nI 1))]) hx hb dX9_poses_96 hl (k := 5) rfl (nI_add i 1) (by decide) rfl (fun ls hl => ?_)
                  refine lv_goto (tgt := 21) hx hb dX9_poses_99 (by decide) ?_
                  have w_8 : dv (updN ((vot d v set i)) ((4 + (5 * i)) + 3) (((vot d v set i) ((4 + (5 * i)) + 3)) + 0)) = dv (vot d v set (i + 1)) := by first | rfl | (refine congrArg dv ?_; simp [vot, votS, bump, c_26, c_26n, c_39, c_48, c_64, c_86, c_86n])
                  have e_9 : i + 1 = (i + 1) := by first | rfl | (rfl)
                  exact ih_21 (i + 1) (by omega) (by omega) H locs (wp_to (hP.sub [0] rfl) (congrArg (fun zx => ([(a, .inl (ca 0, 64, .inl zx))] : va_W)) w_8)) (wd_to (hD.sub [0] (by decide) rfl) (congrArg (fun zx => ([(a, .inl (ca 0, 64, .inl zx))] : va_W)) w_8)) hS ls (lv_to (lv_sub hl [2, 3, 4, 5, 0] rfl) (congrArg (fun x => ([(0, .ref a), (1, .int (nI v)), (2, .int (nI set)), (3, .int (nI 1)), (4, .int (nI x))] : List (Nat × Value))) e_9))
                · have c_86n := Nat.not_le.mpr c_86
                  refine lv_iconst (v := nI 1) hx hb dX9_poses_89 rfl ?_
                  refine lv_goto (tgt := 94) hx hb dX9_poses_90 (by decide) ?_
                  refine wn_add hx hb dX9_poses_94 ?_
                  refine wn_iast (f' := dv (updN ((vot d v set i)) ((4 + (5 * i)) + 3) (((vot d v set i) ((4 + (5 * i)) + 3)) + 1))) hx hb hK hP hD hS 0 0 rfl rfl (by omega) (by decide) (dv_upd ((vot d v set i)) ((4 + (5 * i)) + 3) (((vot d v set i) ((4 + (5 * i)) + 3)) + 1)) dX9_poses_95 (fun H locs hP hD hS => ?_)
                  have hP : va_P D vwCl [(a, .inl (ca 0, 64, .inl (dv (updN ((vot d v set i)) ((4 + (5 * i)) + 3) (((vot d v set i) ((4 + (5 * i)) + 3)) + 1)))))] H := hP
                  have hD : va_D A [(a, .inl (ca 0, 64, .inl (dv (updN ((vot d v set i)) ((4 + (5 * i)) + 3) (((vot d v set i) ((4 + (5 * i)) + 3)) + 1)))))] := hD
                  refine lv_iinc (v := nI (i + 1)) (lv' := [(4, .int (nI (i + 1))), (5, .int (nI ((4 + (5 * i)) + 3))), (0, .ref a), (1, .int (nI v)), (2, .int (nI set)), (3, .int (nI 1))]) hx hb dX9_poses_96 hl (k := 5) rfl (nI_add i 1) (by decide) rfl (fun ls hl => ?_)
                  refine lv_goto (tgt := 21) hx hb dX9_poses_99 (by decide) ?_
                  have w_10 : dv (updN ((vot d v set i)) ((4 + (5 * i)) + 3) (((vot d v set i) ((4 + (5 * i)) + 3)) + 1)) = dv (vot d v set (i + 1)) := by first | rfl | (refine congrArg dv ?_; simp [vot, votS, bump, c_26, c_26n, c_39, c_48, c_64, c_86, c_86n])
                  have e_11 : i + 1 = (i + 1) := by first | rfl | (rfl)
                  exact ih_21 (i + 1) (by omega) (by omega) H locs (wp_to (hP.sub [0] rfl) (congrArg (fun zx => ([(a, .inl (ca 0, 64, .inl zx))] : va_W)) w_10)) (wd_to (hD.sub [0] (by decide) rfl) (congrArg (fun zx => ([(a, .inl (ca 0, 64, .inl zx))] : va_W)) w_10)) hS ls (lv_to (lv_sub hl [2, 3, 4, 5, 0] rfl) (congrArg (fun x => ([(0, .ref a), (1, .int (nI v)), (2, .int (nI set)), (3, .int (nI 1)), (4, .int (nI x))] : List (Nat × Value))) e_11))
              · refine lv_iconst (v := nI 2) hx hb dX9_poses_67 rfl ?_
                refine lv_goto (tgt := 72) hx hb dX9_poses_68 (by decide) ?_
                refine wn_add hx hb dX9_poses_72 ?_
                refine lv_istore (lv' := [(5, .int (nI ((4 + (5 * i)) + 2))), (0, .ref a), (1, .int (nI v)), (2, .int (nI set)), (3, .int (nI 1)), (4, .int (nI i))]) hx hb dX9_poses_73 hl (by decide) rfl (fun ls hl => ?_)
                refine lv_aload_n hx hb dX9_poses_75 rfl (lv_at hl 1 rfl) ?_
                refine lv_iload hx hb dX9_poses_76 (lv_at hl 0 rfl) ?_
                refine lv_dup2_11 hx hb dX9_poses_78 rfl rfl ?_
                refine wn_iald (v := nI ((vot d v set i) ((4 + (5 * i)) + 2))) hx hb hK hP 0 0 rfl rfl (by omega) (by decide) rfl dX9_poses_79 ?_
                refine lv_aload_n hx hb dX9_poses_80 rfl (lv_at hl 1 rfl) ?_
                refine lv_iload hx hb dX9_poses_81 (lv_at hl 0 rfl) ?_
                refine wn_iald (v := nI ((vot d v set i) ((4 + (5 * i)) + 2))) hx hb hK hP 0 0 rfl rfl (by omega) (by decide) rfl dX9_poses_83 ?_
                refine lv_bipush (v := nI 99) hx hb dX9_poses_84 rfl ?_
                refine wn_ge (tgt := 93) hx hb (by omega) (by omega) dX9_poses_86 (by decide) (fun c_86 => ?_) (fun c_86 => ?_)
                · have c_86n := Nat.not_lt.mpr c_86
                  refine lv_iconst (v := nI 0) hx hb dX9_poses_93 rfl ?_
                  refine wn_add hx hb dX9_poses_94 ?_
                  refine wn_iast (f' := dv (updN ((vot d v set i)) ((4 + (5 * i)) + 2) (((vot d v set i) ((4 + (5 * i)) + 2)) + 0))) hx hb hK hP hD hS 0 0 rfl rfl (by omega) (by decide) (dv_upd ((vot d v set i)) ((4 + (5 * i)) + 2) (((vot d v set i) ((4 + (5 * i)) + 2)) + 0)) dX9_poses_95 (fun H locs hP hD hS => ?_)
                  have hP : va_P D vwCl [(a, .inl (ca 0, 64, .inl (dv (updN ((vot d v set i)) ((4 + (5 * i)) + 2) (((vot d v set i) ((4 + (5 * i)) + 2)) + 0)))))] H := hP
                  have hD : va_D A [(a, .inl (ca 0, 64, .inl (dv (updN ((vot d v set i)) ((4 + (5 * i)) + 2) (((vot d v set i) ((4 + (5 * i)) + 2)) + 0)))))] := hD
                  refine lv_iinc (v := nI (i + 1)) (lv' := [(4, .int (nI (i + 1))), (5, .int (nI ((4 + (5 * i)) + 2))), (0, .ref a), (1, .int (nI v)), (2, .int (nI set)), (3, .int (nI 1))]) hx hb dX9_poses_96 hl (k := 5) rfl (nI_add i 1) (by decide) rfl (fun ls hl => ?_)
                  refine lv_goto (tgt := 21) hx hb dX9_poses_99 (by decide) ?_
                  have w_12 : dv (updN ((vot d v set i)) ((4 + (5 * i)) + 2) (((vot d v set i) ((4 + (5 * i)) + 2)) + 0)) = dv (vot d v set (i + 1)) := by first | rfl | (refine congrArg dv ?_; simp [vot, votS, bump, c_26, c_26n, c_39, c_48, c_64, c_86, c_86n])
                  have e_13 : i + 1 = (i + 1) := by first | rfl | (rfl)
                  exact ih_21 (i + 1) (by omega) (by omega) H locs (wp_to (hP.sub [0] rfl) (congrArg (fun zx => ([(a, .inl (ca 0, 64, .inl zx))] : va_W)) w_12)) (wd_to (hD.sub [0] (by decide) rfl) (congrArg (fun zx => ([(a, .inl (ca 0, 64, .inl zx))] : va_W)) w_12)) hS ls (lv_to (lv_sub hl [2, 3, 4, 5, 0] rfl) (congrArg (fun x => ([(0, .ref a), (1, .int (nI v)), (2, .int (nI set)), (3, .int (nI 1)), (4, .int (nI x))] : List (Nat × Value))) e_13))
                · have c_86n := Nat.not_le.mpr c_86
                  refine lv_iconst (v := nI 1) hx hb dX9_poses_89 rfl ?_
                  refine lv_goto (tgt := 94) hx hb dX9_poses_90 (by decide) ?_
                  refine wn_add hx hb dX9_poses_94 ?_
                  refine wn_iast (f' := dv (updN ((vot d v set i)) ((4 + (5 * i)) + 2) (((vot d v set i) ((4 + (5 * i)) + 2)) + 1))) hx hb hK hP hD hS 0 0 rfl rfl (by omega) (by decide) (dv_upd ((vot d v set i)) ((4 + (5 * i)) + 2) (((vot d v set i) ((4 + (5 * i)) + 2)) + 1)) dX9_poses_95 (fun H locs hP hD hS => ?_)
                  have hP : va_P D vwCl [(a, .inl (ca 0, 64, .inl (dv (updN ((vot d v set i)) ((4 + (5 * i)) + 2) (((vot d v set i) ((4 + (5 * i)) + 2)) + 1)))))] H := hP
                  have hD : va_D A [(a, .inl (ca 0, 64, .inl (dv (updN ((vot d v set i)) ((4 + (5 * i)) + 2) (((vot d v set i) ((4 + (5 * i)) + 2)) + 1)))))] := hD
                  refine lv_iinc (v := nI (i + 1)) (lv' := [(4, .int (nI (i + 1))), (5, .int (nI ((4 + (5 * i)) + 2))), (0, .ref a), (1, .int (nI v)), (2, .int (nI set)), (3, .int (nI 1))]) hx hb dX9_poses_96 hl (k := 5) rfl (nI_add i 1) (by decide) rfl (fun ls hl => ?_)
                  refine lv_goto (tgt := 21) hx hb dX9_poses_99 (by decide) ?_
                  have w_14 : dv (updN ((vot d v set i)) ((4 + (5 * i)) + 2) (((vot d v set i) ((4 + (5 * i)) + 2)) + 1)) = dv (vot d v set (i + 1)) := by first | rfl | (refine congrArg dv ?_; simp [vot, votS, bump, c_26, c_26n, c_39, c_48, c_64, c_86, c_86n])
                  have e_15 : i + 1 = (i + 1) := by first | rfl | (rfl)
                  exact ih_21 (i + 1) (by omega) (by omega) H locs (wp_to (hP.sub [0] rfl) (congrArg (fun zx => ([(a, .inl (ca 0, 64, .inl zx))] : va_W)) w_14)) (wd_to (hD.sub [0] (by decide) rfl) (congrArg (fun zx => ([(a, .inl (ca 0, 64, .inl zx))] : va_W)) w_14)) hS ls (lv_to (lv_sub hl [2, 3, 4, 5, 0] rfl) (congrArg (fun x => ([(0, .ref a), (1, .int (nI v)), (2, .int (nI set)), (3, .int (nI 1)), (4, .int (nI x))] : List (Nat × Value))) e_15))
    have w_16 : dv d = dv (vot d v set 0) := by first | rfl | (rfl)
    exact lp_21 ((d 2 - 0) + 1) 0 (by omega) (by omega) H locs (wp_to (hP.sub [0] rfl) (congrArg (fun zx => ([(a, .inl (ca 0, 64, .inl zx))] : va_W)) w_16)) (wd_to (hD.sub [0] (by decide) rfl) (congrArg (fun zx => ([(a, .inl (ca 0, 64, .inl zx))] : va_W)) w_16)) hS ls (lv_to (lv_sub hl [2, 3, 4, 1, 0] rfl) rfl)
