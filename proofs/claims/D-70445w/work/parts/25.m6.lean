set_option maxRecDepth 100000
set_option maxHeartbeats 4000000 in
theorem m_X9_learned (l : Launch) (D : va_G) (ca : Nat → ClassId) (h : Nat) (t0 : Int32) (t1 : Int32) (a2 : Nat) (a3 : Nat) (a4 : Nat) (a5 : Nat) (a6 : Nat) (a7 : Nat) (a8 : Nat) (a10 : Nat) (a19 : Nat) (a20 : Nat) (a21 : Nat) (a22 : Nat) (ac : Nat) (tpd : Nat) (cu : Nat) (sta : Nat) (tok : Nat) (fau : Nat) (trd : Nat) (val : Int32) (fat : Int32) (lat : Int32) (d : Nat → Nat) (x : Int32) (sz : Nat) (hd : dOK d) : Met l yX9_learned (ws_ yX9_learned cX9_learned 3 (some .int)) (rmL 3) (PcA (K1 D ca) D [.ref h, .int x] [(h, .inr (8, [.int t0, .int t1, .ref a2, .ref a3, .ref a4, .ref a5, .ref a6, .ref a7, .ref a8, .int (nI ac), .ref a10, .int (nI tpd), .int (nI cu), .int (nI sta), .int (nI tok), .int val, .int (nI fau), .int fat, .int lat, .ref a19, .ref a20, .ref a21, .ref a22, .int (nI trd)])), (a5, .inl (ca 0, 64, .inl (dv d)))] sz) (QiA D (fun zr (_ : Unit) => zr = lrnI d x) (fun _ => [(h, .inr (8, [.int (nI 0), .int t1, .ref a2, .ref a3, .ref a4, .ref a5, .ref a6, .ref a7, .ref a8, .int (nI ac), .ref a10, .int (nI tpd), .int (nI cu), .int (nI sta), .int (nI tok), .int val, .int (nI fau), .int fat, .int lat, .ref a19, .ref a20, .ref a21, .ref a22, .int (nI trd)])), (a5, .inl (ca 0, 64, .inl (dv d)))]) (va_A [(h, .inr (8, [.int t0, .int t1, .ref a2, .ref a3, .ref a4, .ref a5, .ref a6, .ref a7, .ref a8, .int (nI ac), .ref a10, .int (nI tpd), .int (nI cu), .int (nI sta), .int (nI tok), .int val, .int (nI fau), .int fat, .int lat, .ref a19, .ref a20, .ref a21, .ref a22, .int (nI trd)])), (a5, .inl (ca 0, 64, .inl (dv d)))] sz)) 0 0 (va_A [(h, .inr (8, [.int t0, .int t1, .ref a2, .ref a3, .ref a4, .ref a5, .ref a6, .ref a7, .ref a8, .int (nI ac), .ref a10, .int (nI tpd), .int (nI cu), .int (nI sta), .int (nI tok), .int val, .int (nI fau), .int fat, .int lat, .ref a19, .ref a20, .ref a21, .ref a22, .int (nI trd)])), (a5, .inl (ca 0, 64, .inl (dv d)))] sz) := by
  refine wr_head (Qc := fun A => (QiA D (fun zr (_ : Unit) => zr = lrnI d x) (fun _ => [(h, .inr (8, [.int (nI 0), .int t1, .ref a2, .ref a3, .ref a4, .ref a5, .ref a6, .ref a7, .ref a8, .int (nI ac), .ref a10, .int (nI tpd), .int (nI cu), .int (nI sta), .int (nI tok), .int val, .int (nI fau), .int fat, .int lat, .ref a19, .ref a20, .ref a21, .ref a22, .int (nI trd)])), (a5, .inl (ca 0, 64, .inl (dv d)))]) A)) (by decide) (Nat.le_of_ble_eq_true rfl) ?_
  intro zp ze zs zm za zb zt zc ls zQ A H locs hx hb hml hr hlk hown hts hnm hK hP hD hS hA hl hQ
  have hown : zs.vm.findClass RX9 = some zm.cls := hown
  have hl : lv_has ls 3 [(0, .ref h), (1, .int x)] := hl
  have hF : CallFix zp zm zc cX9_learned 3 zs za lw_all RX9 := ⟨hx, hb, hml, hown, hts⟩
  have hd2 : d 2 ≤ 8 := hd.2.2.1
  have hd3 : d 3 ≤ 5 := hd.2.2.2.1
  have hd0 : d 0 ≤ 9 := hd.1
  have hd1 : d 1 ≤ 8 := hd.2.1
  have hp2 := pow_8 hd2
  have hp3 := pow_8 (show d 3 ≤ 8 by omega)
  refine lv_aload_n hx hb dX9_learned_0 rfl (lv_at hl 0 rfl) ?_
  refine lv_iconst (v := nI 0) hx hb dX9_learned_1 rfl ?_
  refine va_put (D := D) (ci := 8) (v := .int (nI 0)) (ty := .int) (C := RX9) (T := TX9) (N := 24) hx hb hts in_X9 tyX9 tyX9_ok nmX9 hown hK hP hD hS 0 rfl rfl 0 (by decide) (hts _ q1179) (fun _ h9 => h9) rfl (tyX9_ok 0 (by decide)) rfl rfl (Nat.le_of_ble_eq_true rfl) dX9_learned_2 (fun H locs hP hD hS => ?_)
  have hP : va_P D vwCl [(h, .inr (8, [.int (nI 0), .int t1, .ref a2, .ref a3, .ref a4, .ref a5, .ref a6, .ref a7, .ref a8, .int (nI ac), .ref a10, .int (nI tpd), .int (nI cu), .int (nI sta), .int (nI tok), .int val, .int (nI fau), .int fat, .int lat, .ref a19, .ref a20, .ref a21, .ref a22, .int (nI trd)])), (a5, .inl (ca 0, 64, .inl (dv d)))] H := hP
  have hD : va_D A [(h, .inr (8, [.int (nI 0), .int t1, .ref a2, .ref a3, .ref a4, .ref a5, .ref a6, .ref a7, .ref a8, .int (nI ac), .ref a10, .int (nI tpd), .int (nI cu), .int (nI sta), .int (nI tok), .int val, .int (nI fau), .int fat, .int lat, .ref a19, .ref a20, .ref a21, .ref a22, .int (nI trd)])), (a5, .inl (ca 0, 64, .inl (dv d)))] := hD
  refine lv_aload_n hx hb dX9_learned_5 rfl (lv_at hl 0 rfl) ?_
  refine lv_iload_n hx hb dX9_learned_6 rfl (lv_at hl 1 rfl) ?_
  refine rd_callV hF (m_X9_isSquare l D ca h ([.int (nI 0), .int t1, .ref a2, .ref a3, .ref a4, .ref a5, .ref a6, .ref a7, .ref a8, .int (nI ac), .ref a10, .int (nI tpd), .int (nI cu), .int (nI sta), .int (nI tok), .int val, .int (nI fau), .int fat, .int lat, .ref a19, .ref a20, .ref a21, .ref a22, .int (nI trd)]) a5 d x (by first | rfl | assumption) (by assumption)) (cs_X9_isSquare hts q1414 ⟨by decide, by decide⟩) (K1_mv D ca) hK (hP.sub [0, 1] rfl) (va_recv hK hP (ci := 8) (q0 := 0) rfl rfl) rfl hl.1 rfl (Nat.le_of_ble_eq_true rfl) dX9_learned_7 ⟨Nat.zero_le _, Nat.zero_le _⟩ ?_
  refine wb_ne (tgt := 16) hx hb dX9_learned_10 (by decide) (fun c_10 => ?_) (fun c_10 => ?_)
  · obtain ⟨s, hs, hxs⟩ := (ltB_iff (by omega)).mp c_10
    subst hxs
    have ix_s : ixO (nI s) (d 2) = some s := ixO_t hs (by omega)
    have hq := hd.2.2.2.2.1 s (by omega)
    refine lv_aload_n hx hb dX9_learned_16 rfl (lv_at hl 0 rfl) ?_
    refine va_get (D := D) (ci := 8) (v := .ref a5) (C := RX9) (T := TX9) (N := 24) hx hb hts in_X9 hown hK hP 0 rfl rfl 5 (by decide) (hts _ q1184) (fun _ h9 => h9) rfl dX9_learned_17 ?_
    refine lv_iload_n hx hb dX9_learned_20 rfl (lv_at hl 1 rfl) ?_
    refine lv_iconst (v := nI 2) hx hb dX9_learned_21 rfl ?_
    refine rd_callS hF (m_X9_of l D ca a5 d s 2 (by first | assumption | omega)) (cs_X9_of hts q1382 ⟨by decide, by decide⟩) (K1_mv D ca) hK (hP.sub [1] rfl) rfl hl.1 rfl (Nat.le_of_ble_eq_true rfl) dX9_learned_22 ⟨Nat.zero_le _, Nat.zero_le _⟩ ?_
    refine lv_aload_n hx hb dX9_learned_25 rfl (lv_at hl 0 rfl) ?_
    refine va_get (D := D) (ci := 8) (v := .ref a5) (C := RX9) (T := TX9) (N := 24) hx hb hts in_X9 hown hK hP 0 rfl rfl 5 (by decide) (hts _ q1184) (fun _ h9 => h9) rfl dX9_learned_26 ?_
    refine lv_iload_n hx hb dX9_learned_29 rfl (lv_at hl 1 rfl) ?_
    refine lv_iconst (v := nI 3) hx hb dX9_learned_30 rfl ?_
    refine rd_callS hF (m_X9_of l D ca a5 d s 3 (by first | assumption | omega)) (cs_X9_of hts q1382 ⟨by decide, by decide⟩) (K1_mv D ca) hK (hP.sub [1] rfl) rfl hl.1 rfl (Nat.le_of_ble_eq_true rfl) dX9_learned_31 ⟨Nat.zero_le _, Nat.zero_le _⟩ ?_
    refine lv_isub hx hb dX9_learned_34 ?_
    refine lv_istore_n (lv' := [(2, .int ((nI (d (4 + 5 * s + 2))) - (nI (d (4 + 5 * s + 3))))), (0, .ref h), (1, .int (nI s))]) hx hb dX9_learned_35 rfl hl (by decide) rfl (fun ls hl => ?_)
    refine lv_iload_n hx hb dX9_learned_36 rfl (lv_at hl 0 rfl) ?_
    refine lv_if_le (tgt := 44) hx hb dX9_learned_37 (by decide) (fun c_37 => ?_) (fun c_37 => ?_)
    · rw [sub_le0 (by omega) (by omega)] at c_37
      refine lv_iload_n hx hb dX9_learned_44 rfl (lv_at hl 0 rfl) ?_
      refine lv_if_ne (tgt := 52) hx hb dX9_learned_45 (by decide) (fun c_45 => ?_) (fun c_45 => ?_)
      · rw [sub_eq0 (by omega) (by omega)] at c_45
        refine lv_iconst (v := nI 0) hx hb dX9_learned_52 rfl ?_
        exact wr_iret () hx hb hr hlk hQ dX9_learned_53 (wp_to (hP.sub [0, 1] rfl) rfl) (wd_to (hD.sub [0, 1] (by decide) rfl) rfl) hS (Nat.le_refl _) (Nat.le_refl _) (by first | (simp [lrnI, bI, nI1_1, nI_0, c_10, ix_s, c_37, c_45]; done) | (simp only [lrnI, c_10, ix_s, c_37, c_45]; (repeat' split) <;> first | rfl | (exfalso; omega)))
      · rw [sub_eq0 (by omega) (by omega)] at c_45
        refine lv_iconst (v := nI 1) hx hb dX9_learned_48 rfl ?_
        refine lv_goto (tgt := 53) hx hb dX9_learned_49 (by decide) ?_
        exact wr_iret () hx hb hr hlk hQ dX9_learned_53 (wp_to (hP.sub [0, 1] rfl) rfl) (wd_to (hD.sub [0, 1] (by decide) rfl) rfl) hS (Nat.le_refl _) (Nat.le_refl _) (by first | (simp [lrnI, bI, nI1_1, nI_0, c_10, ix_s, c_37, c_45]; done) | (simp only [lrnI, c_10, ix_s, c_37, c_45]; (repeat' split) <;> first | rfl | (exfalso; omega)))
    · rw [sub_le0 (by omega) (by omega)] at c_37
      refine lv_iconst (v := nI 2) hx hb dX9_learned_40 rfl ?_
      refine lv_goto (tgt := 53) hx hb dX9_learned_41 (by decide) ?_
      exact wr_iret () hx hb hr hlk hQ dX9_learned_53 (wp_to (hP.sub [0, 1] rfl) rfl) (wd_to (hD.sub [0, 1] (by decide) rfl) rfl) hS (Nat.le_refl _) (Nat.le_refl _) (by first | (simp [lrnI, bI, nI1_1, nI_0, c_10, ix_s, c_37]; done) | (simp only [lrnI, c_10, ix_s, c_37]; (repeat' split) <;> first | rfl | (exfalso; omega)))
  · have ix_x : ixO x (d 2) = none := ixO_f c_10
    refine lv_ldc (v := (-1000001)) hx hb hown (hts _ q1266) dX9_learned_13 ?_
    exact wr_iret () hx hb hr hlk hQ dX9_learned_15 (wp_to (hP.sub [0, 1] rfl) rfl) (wd_to (hD.sub [0, 1] (by decide) rfl) rfl) hS (Nat.le_refl _) (Nat.le_refl _) (by first | (simp [lrnI, bI, nI1_1, nI_0, c_10, ix_x]; done) | (simp only [lrnI, c_10, ix_x]; (repeat' split) <;> first | rfl | (exfalso; omega)))
set_option maxHeartbeats 4000000 in
theorem m_X9_needs (l : Launch) (D : va_G) (ca : Nat → ClassId) (h : Nat) (t0 : Int32) (t1 : Int32) (a2 : Nat) (a3 : Nat) (a4 : Nat) (a5 : Nat) (a6 : Nat) (a7 : Nat) (a8 : Nat) (a10 : Nat) (a19 : Nat) (a20 : Nat) (a21 : Nat) (a22 : Nat) (ac : Nat) (tpd : Nat) (cu : Nat) (sta : Nat) (tok : Nat) (fau : Nat) (trd : Nat) (val : Int32) (fat : Int32) (lat : Int32) (d : Nat → Nat) (x : Int32) (sz : Nat) (hd : dOK d) : Met l yX9_needs (ws_ yX9_needs cX9_needs 3 (some .int)) (rmL 3) (PcA (K1 D ca) D [.ref h, .int x] [(h, .inr (8, [.int t0, .int t1, .ref a2, .ref a3, .ref a4, .ref a5, .ref a6, .ref a7, .ref a8, .int (nI ac), .ref a10, .int (nI tpd), .int (nI cu), .int (nI sta), .int (nI tok), .int val, .int (nI fau), .int fat, .int lat, .ref a19, .ref a20, .ref a21, .ref a22, .int (nI trd)])), (a5, .inl (ca 0, 64, .inl (dv d)))] sz) (QiA D (fun zr (_ : Unit) => zr = neeI d x) (fun _ => [(h, .inr (8, [.int (nI 0), .int t1, .ref a2, .ref a3, .ref a4, .ref a5, .ref a6, .ref a7, .ref a8, .int (nI ac), .ref a10, .int (nI tpd), .int (nI cu), .int (nI sta), .int (nI tok), .int val, .int (nI fau), .int fat, .int lat, .ref a19, .ref a20, .ref a21, .ref a22, .int (nI trd)])), (a5, .inl (ca 0, 64, .inl (dv d)))]) (va_A [(h, .inr (8, [.int t0, .int t1, .ref a2, .ref a3, .ref a4, .ref a5, .ref a6, .ref a7, .ref a8, .int (nI ac), .ref a10, .int (nI tpd), .int (nI cu), .int (nI sta), .int (nI tok), .int val, .int (nI fau), .int fat, .int lat, .ref a19, .ref a20, .ref a21, .ref a22, .int (nI trd)])), (a5, .inl (ca 0, 64, .inl (dv d)))] sz)) 0 0 (va_A [(h, .inr (8, [.int t0, .int t1, .ref a2, .ref a3, .ref a4, .ref a5, .ref a6, .ref a7, .ref a8, .int (nI ac), .ref a10, .int (nI tpd), .int (nI cu), .int (nI sta), .int (nI tok), .int val, .int (nI fau), .int fat, .int lat, .ref a19, .ref a20, .ref a21, .ref a22, .int (nI trd)])), (a5, .inl (ca 0, 64, .inl (dv d)))] sz) := by
  refine wr_head (Qc := fun A => (QiA D (fun zr (_ : Unit) => zr = neeI d x) (fun _ => [(h, .inr (8, [.int (nI 0), .int t1, .ref a2, .ref a3, .ref a4, .ref a5, .ref a6, .ref a7, .ref a8, .int (nI ac), .ref a10, .int (nI tpd), .int (nI cu), .int (nI sta), .int (nI tok), .int val, .int (nI fau), .int fat, .int lat, .ref a19, .ref a20, .ref a21, .ref a22, .int (nI trd)])), (a5, .inl (ca 0, 64, .inl (dv d)))]) A)) (by decide) (Nat.le_of_ble_eq_true rfl) ?_
  intro zp ze zs zm za zb zt zc ls zQ A H locs hx hb hml hr hlk hown hts hnm hK hP hD hS hA hl hQ
  have hown : zs.vm.findClass RX9 = some zm.cls := hown
  have hl : lv_has ls 3 [(0, .ref h), (1, .int x)] := hl
  have hF : CallFix zp zm zc cX9_needs 3 zs za lw_all RX9 := ⟨hx, hb, hml, hown, hts⟩
  have hd2 : d 2 ≤ 8 := hd.2.2.1
  have hd3 : d 3 ≤ 5 := hd.2.2.2.1
  have hd0 : d 0 ≤ 9 := hd.1
  have hd1 : d 1 ≤ 8 := hd.2.1
  have hp2 := pow_8 hd2
  have hp3 := pow_8 (show d 3 ≤ 8 by omega)
  refine lv_aload_n hx hb dX9_needs_0 rfl (lv_at hl 0 rfl) ?_
  refine lv_iconst (v := nI 0) hx hb dX9_needs_1 rfl ?_
  refine va_put (D := D) (ci := 8) (v := .int (nI 0)) (ty := .int) (C := RX9) (T := TX9) (N := 24) hx hb hts in_X9 tyX9 tyX9_ok nmX9 hown hK hP hD hS 0 rfl rfl 0 (by decide) (hts _ q1179) (fun _ h9 => h9) rfl (tyX9_ok 0 (by decide)) rfl rfl (Nat.le_of_ble_eq_true rfl) dX9_needs_2 (fun H locs hP hD hS => ?_)
  have hP : va_P D vwCl [(h, .inr (8, [.int (nI 0), .int t1, .ref a2, .ref a3, .ref a4, .ref a5, .ref a6, .ref a7, .ref a8, .int (nI ac), .ref a10, .int (nI tpd), .int (nI cu), .int (nI sta), .int (nI tok), .int val, .int (nI fau), .int fat, .int lat, .ref a19, .ref a20, .ref a21, .ref a22, .int (nI trd)])), (a5, .inl (ca 0, 64, .inl (dv d)))] H := hP
  have hD : va_D A [(h, .inr (8, [.int (nI 0), .int t1, .ref a2, .ref a3, .ref a4, .ref a5, .ref a6, .ref a7, .ref a8, .int (nI ac), .ref a10, .int (nI tpd), .int (nI cu), .int (nI sta), .int (nI tok), .int val, .int (nI fau), .int fat, .int lat, .ref a19, .ref a20, .ref a21, .ref a22, .int (nI trd)])), (a5, .inl (ca 0, 64, .inl (dv d)))] := hD
  refine lv_aload_n hx hb dX9_needs_5 rfl (lv_at hl 0 rfl) ?_
  refine lv_iload_n hx hb dX9_needs_6 rfl (lv_at hl 1 rfl) ?_
  refine rd_callV hF (m_X9_isSquare l D ca h ([.int (nI 0), .int t1, .ref a2, .ref a3, .ref a4, .ref a5, .ref a6, .ref a7, .ref a8, .int (nI ac), .ref a10, .int (nI tpd), .int (nI cu), .int (nI sta), .int (nI tok), .int val, .int (nI fau), .int fat, .int lat, .ref a19, .ref a20, .ref a21, .ref a22, .int (nI trd)]) a5 d x (by first | rfl | assumption) (by assumption)) (cs_X9_isSquare hts q1414 ⟨by decide, by decide⟩) (K1_mv D ca) hK (hP.sub [0, 1] rfl) (va_recv hK hP (ci := 8) (q0 := 0) rfl rfl) rfl hl.1 rfl (Nat.le_of_ble_eq_true rfl) dX9_needs_7 ⟨Nat.zero_le _, Nat.zero_le _⟩ ?_
  refine wb_ne (tgt := 16) hx hb dX9_needs_10 (by decide) (fun c_10 => ?_) (fun c_10 => ?_)
  · obtain ⟨s, hs, hxs⟩ := (ltB_iff (by omega)).mp c_10
    subst hxs
    have ix_s : ixO (nI s) (d 2) = some s := ixO_t hs (by omega)
    have hq := hd.2.2.2.2.1 s (by omega)
    refine lv_aload_n hx hb dX9_needs_16 rfl (lv_at hl 0 rfl) ?_
    refine va_get (D := D) (ci := 8) (v := .ref a5) (C := RX9) (T := TX9) (N := 24) hx hb hts in_X9 hown hK hP 0 rfl rfl 5 (by decide) (hts _ q1184) (fun _ h9 => h9) rfl dX9_needs_17 ?_
    refine lv_iload_n hx hb dX9_needs_20 rfl (lv_at hl 1 rfl) ?_
    refine rd_callS hF (m_X9_counts l D ca a5 d s (by assumption) (by first | assumption | omega)) (cs_X9_counts hts q1379 ⟨by decide, by decide⟩) (K1_mv D ca) hK (hP.sub [1] rfl) rfl hl.1 rfl (Nat.le_of_ble_eq_true rfl) dX9_needs_21 ⟨Nat.zero_le _, Nat.zero_le _⟩ ?_
    refine wb_eq (tgt := 30) hx hb dX9_needs_24 (by decide) (fun c_24 => ?_) (fun c_24 => ?_)
    · refine lv_aload_n hx hb dX9_needs_30 rfl (lv_at hl 0 rfl) ?_
      refine va_get (D := D) (ci := 8) (v := .ref a5) (C := RX9) (T := TX9) (N := 24) hx hb hts in_X9 hown hK hP 0 rfl rfl 5 (by decide) (hts _ q1184) (fun _ h9 => h9) rfl dX9_needs_31 ?_
      refine lv_iload_n hx hb dX9_needs_34 rfl (lv_at hl 1 rfl) ?_
      refine lv_iconst (v := nI 2) hx hb dX9_needs_35 rfl ?_
      refine rd_callS hF (m_X9_of l D ca a5 d s 2 (by first | assumption | omega)) (cs_X9_of hts q1382 ⟨by decide, by decide⟩) (K1_mv D ca) hK (hP.sub [1] rfl) rfl hl.1 rfl (Nat.le_of_ble_eq_true rfl) dX9_needs_36 ⟨Nat.zero_le _, Nat.zero_le _⟩ ?_
      refine lv_aload_n hx hb dX9_needs_39 rfl (lv_at hl 0 rfl) ?_
      refine va_get (D := D) (ci := 8) (v := .ref a5) (C := RX9) (T := TX9) (N := 24) hx hb hts in_X9 hown hK hP 0 rfl rfl 5 (by decide) (hts _ q1184) (fun _ h9 => h9) rfl dX9_needs_40 ?_
      refine lv_iload_n hx hb dX9_needs_43 rfl (lv_at hl 1 rfl) ?_
      refine lv_iconst (v := nI 3) hx hb dX9_needs_44 rfl ?_
      refine rd_callS hF (m_X9_of l D ca a5 d s 3 (by first | assumption | omega)) (cs_X9_of hts q1382 ⟨by decide, by decide⟩) (K1_mv D ca) hK (hP.sub [1] rfl) rfl hl.1 rfl (Nat.le_of_ble_eq_true rfl) dX9_needs_45 ⟨Nat.zero_le _, Nat.zero_le _⟩ ?_
      refine lv_isub hx hb dX9_needs_48 ?_
      refine lv_istore_n (lv' := [(2, .int ((nI (d (4 + 5 * s + 2))) - (nI (d (4 + 5 * s + 3))))), (0, .ref h), (1, .int (nI s))]) hx hb dX9_needs_49 rfl hl (by decide) rfl (fun ls hl => ?_)
      refine lv_iload_n hx hb dX9_needs_50 rfl (lv_at hl 0 rfl) ?_
      refine lv_if_le (tgt := 58) hx hb dX9_needs_51 (by decide) (fun c_51 => ?_) (fun c_51 => ?_)
      · rw [sub_le0 (by omega) (by omega)] at c_51
        refine lv_iconst (v := nI 1) hx hb dX9_needs_58 rfl ?_
        refine lv_iload_n hx hb dX9_needs_59 rfl (lv_at hl 0 rfl) ?_
        refine lv_isub hx hb dX9_needs_60 ?_
        exact wr_iret () hx hb hr hlk hQ dX9_needs_61 (wp_to (hP.sub [0, 1] rfl) rfl) (wd_to (hD.sub [0, 1] (by decide) rfl) rfl) hS (Nat.le_refl _) (Nat.le_refl _) (by first | (simp [neeI, c_10, ix_s, c_24, c_51]; done) | (rw [one_sub_sub c_51]; simp [neeI, c_10, ix_s, c_24, c_51]; done) | (rw [pk_sub (by omega)]; simp [neeI, c_10, ix_s, c_24, c_51]; done))
      · rw [sub_le0 (by omega) (by omega)] at c_51
        refine lv_iload_n hx hb dX9_needs_54 rfl (lv_at hl 0 rfl) ?_
        refine lv_goto (tgt := 61) hx hb dX9_needs_55 (by decide) ?_
        exact wr_iret () hx hb hr hlk hQ dX9_needs_61 (wp_to (hP.sub [0, 1] rfl) rfl) (wd_to (hD.sub [0, 1] (by decide) rfl) rfl) hS (Nat.le_refl _) (Nat.le_refl _) (by first | (simp [neeI, c_10, ix_s, c_24, c_51]; done) | (rw [one_sub_sub c_51]; simp [neeI, c_10, ix_s, c_24, c_51]; done) | (rw [pk_sub (by omega)]; simp [neeI, c_10, ix_s, c_24, c_51]; done))
    · refine lv_ldc (v := (-1000002)) hx hb hown (hts _ q1408) dX9_needs_27 ?_
      exact wr_iret () hx hb hr hlk hQ dX9_needs_29 (wp_to (hP.sub [0, 1] rfl) rfl) (wd_to (hD.sub [0, 1] (by decide) rfl) rfl) hS (Nat.le_refl _) (Nat.le_refl _) (by first | (simp [neeI, c_10, ix_s, c_24]; done) | (rw [one_sub_sub c_51]; simp [neeI, c_10, ix_s, c_24]; done) | (rw [pk_sub (by omega)]; simp [neeI, c_10, ix_s, c_24]; done))
  · have ix_x : ixO x (d 2) = none := ixO_f c_10
    refine lv_ldc (v := (-1000001)) hx hb hown (hts _ q1266) dX9_needs_13 ?_
    exact wr_iret () hx hb hr hlk hQ dX9_needs_15 (wp_to (hP.sub [0, 1] rfl) rfl) (wd_to (hD.sub [0, 1] (by decide) rfl) rfl) hS (Nat.le_refl _) (Nat.le_refl _) (by first | (simp [neeI, c_10, ix_x]; done) | (rw [one_sub_sub c_51]; simp [neeI, c_10, ix_x]; done) | (rw [pk_sub (by omega)]; simp [neeI, c_10, ix_x]; done))
set_option maxHeartbeats 4000000 in
theorem m_X9_trace (l : Launch) (D : va_G) (ca : Nat → ClassId) (h : Nat) (t0 : Int32) (t1 : Int32) (a2 : Nat) (a3 : Nat) (a4 : Nat) (a5 : Nat) (a6 : Nat) (a7 : Nat) (a8 : Nat) (a10 : Nat) (a19 : Nat) (a20 : Nat) (a21 : Nat) (a22 : Nat) (ac : Nat) (tpd : Nat) (cu : Nat) (sta : Nat) (tok : Nat) (fau : Nat) (trd : Nat) (val : Int32) (fat : Int32) (lat : Int32) (d : Nat → Nat) (tr : Nat → Nat) (x : Int32) (sz : Nat) (htr : trd ≤ 16) : Met l yX9_trace (ws_ yX9_trace cX9_trace 2 (some .int)) (rmL 1) (PcA (K1 D ca) D [.ref h, .int x] [(h, .inr (8, [.int t0, .int t1, .ref a2, .ref a3, .ref a4, .ref a5, .ref a6, .ref a7, .ref a8, .int (nI ac), .ref a10, .int (nI tpd), .int (nI cu), .int (nI sta), .int (nI tok), .int val, .int (nI fau), .int fat, .int lat, .ref a19, .ref a20, .ref a21, .ref a22, .int (nI trd)])), (a22, .inl (ca 0, 16, .inl (dv tr)))] sz) (QiA D (fun zr (_ : Unit) => zr = trcI tr trd x) (fun _ => [(h, .inr (8, [.int (nI 0), .int t1, .ref a2, .ref a3, .ref a4, .ref a5, .ref a6, .ref a7, .ref a8, .int (nI ac), .ref a10, .int (nI tpd), .int (nI cu), .int (nI sta), .int (nI tok), .int val, .int (nI fau), .int fat, .int lat, .ref a19, .ref a20, .ref a21, .ref a22, .int (nI trd)])), (a22, .inl (ca 0, 16, .inl (dv tr)))]) (va_A [(h, .inr (8, [.int t0, .int t1, .ref a2, .ref a3, .ref a4, .ref a5, .ref a6, .ref a7, .ref a8, .int (nI ac), .ref a10, .int (nI tpd), .int (nI cu), .int (nI sta), .int (nI tok), .int val, .int (nI fau), .int fat, .int lat, .ref a19, .ref a20, .ref a21, .ref a22, .int (nI trd)])), (a22, .inl (ca 0, 16, .inl (dv tr)))] sz)) 0 0 (va_A [(h, .inr (8, [.int t0, .int t1, .ref a2, .ref a3, .ref a4, .ref a5, .ref a6, .ref a7, .ref a8, .int (nI ac), .ref a10, .int (nI tpd), .int (nI cu), .int (nI sta), .int (nI tok), .int val, .int (nI fau), .int fat, .int lat, .ref a19, .ref a20, .ref a21, .ref a22, .int (nI trd)])), (a22, .inl (ca 0, 16, .inl (dv tr)))] sz) := by
  refine wr_head (Qc := fun A => (QiA D (fun zr (_ : Unit) => zr = trcI tr trd x) (fun _ => [(h, .inr (8, [.int (nI 0), .int t1, .ref a2, .ref a3, .ref a4, .ref a5, .ref a6, .ref a7, .ref a8, .int (nI ac), .ref a10, .int (nI tpd), .int (nI cu), .int (nI sta), .int (nI tok), .int val, .int (nI fau), .int fat, .int lat, .ref a19, .ref a20, .ref a21, .ref a22, .int (nI trd)])), (a22, .inl (ca 0, 16, .inl (dv tr)))]) A)) (by decide) (Nat.le_of_ble_eq_true rfl) ?_
  intro zp ze zs zm za zb zt zc ls zQ A H locs hx hb hml hr hlk hown hts hnm hK hP hD hS hA hl hQ
  have hown : zs.vm.findClass RX9 = some zm.cls := hown
  have hl : lv_has ls 2 [(0, .ref h), (1, .int x)] := hl
  have hF : CallFix zp zm zc cX9_trace 2 zs za lw_all RX9 := ⟨hx, hb, hml, hown, hts⟩
  refine lv_aload_n hx hb dX9_trace_0 rfl (lv_at hl 0 rfl) ?_
  refine lv_iconst (v := nI 0) hx hb dX9_trace_1 rfl ?_
  refine va_put (D := D) (ci := 8) (v := .int (nI 0)) (ty := .int) (C := RX9) (T := TX9) (N := 24) hx hb hts in_X9 tyX9 tyX9_ok nmX9 hown hK hP hD hS 0 rfl rfl 0 (by decide) (hts _ q1179) (fun _ h9 => h9) rfl (tyX9_ok 0 (by decide)) rfl rfl (Nat.le_of_ble_eq_true rfl) dX9_trace_2 (fun H locs hP hD hS => ?_)
  have hP : va_P D vwCl [(h, .inr (8, [.int (nI 0), .int t1, .ref a2, .ref a3, .ref a4, .ref a5, .ref a6, .ref a7, .ref a8, .int (nI ac), .ref a10, .int (nI tpd), .int (nI cu), .int (nI sta), .int (nI tok), .int val, .int (nI fau), .int fat, .int lat, .ref a19, .ref a20, .ref a21, .ref a22, .int (nI trd)])), (a22, .inl (ca 0, 16, .inl (dv tr)))] H := hP
  have hD : va_D A [(h, .inr (8, [.int (nI 0), .int t1, .ref a2, .ref a3, .ref a4, .ref a5, .ref a6, .ref a7, .ref a8, .int (nI ac), .ref a10, .int (nI tpd), .int (nI cu), .int (nI sta), .int (nI tok), .int val, .int (nI fau), .int fat, .int lat, .ref a19, .ref a20, .ref a21, .ref a22, .int (nI trd)])), (a22, .inl (ca 0, 16, .inl (dv tr)))] := hD
  refine lv_iload_n hx hb dX9_trace_5 rfl (lv_at hl 1 rfl) ?_
  refine lv_i2l hx hb dX9_trace_6 rfl ?_
  refine lv_lconst (v := 0) hx hb dX9_trace_7 rfl ?_
  refine lv_aload_n hx hb dX9_trace_8 rfl (lv_at hl 0 rfl) ?_
  refine va_get (D := D) (ci := 8) (v := .int (nI trd)) (C := RX9) (T := TX9) (N := 24) hx hb hts in_X9 hown hK hP 0 rfl rfl 23 (by decide) (hts _ q1202) (fun _ h9 => h9) rfl dX9_trace_9 ?_
  refine lv_iconst (v := nI 1) hx hb dX9_trace_12 rfl ?_
  refine lv_isub hx hb dX9_trace_13 ?_
  refine lv_i2l hx hb dX9_trace_14 rfl ?_
  refine rd_callS hF (m_X9_in l D ca x.toInt64 0 (((nI trd) - (nI 1)).toInt64) ) (cs_X9_in hts q1262 ⟨by decide, by decide⟩) (K1_mv D ca) hK (hP.sub [] rfl) rfl hl.1 rfl (Nat.le_of_ble_eq_true rfl) dX9_trace_15 ⟨Nat.zero_le _, Nat.zero_le _⟩ ?_
  refine wb_eq (tgt := 30) hx hb dX9_trace_18 (by decide) (fun c_18 => ?_) (fun c_18 => ?_)
  · rw [inB_lt (by omega)] at c_18
    have ix_x : ixO x trd = none := ixO_f c_18
    refine lv_ldc (v := (-1000000)) hx hb hown (hts _ q1306) dX9_trace_30 ?_
    exact wr_iret () hx hb hr hlk hQ dX9_trace_32 (wp_to (hP.sub [0, 1] rfl) rfl) (wd_to (hD.sub [0, 1] (by decide) rfl) rfl) hS (Nat.le_refl _) (Nat.le_refl _) (by first | (simp [trcI, bI, nI1_1, nI_0, c_18, ix_x]; done) | (simp [trcI, bI, nI1_1, nI_0, c_18, ix_x]; omega) | grind [trcI, bI, nI1_1, nI_0])
  · rw [inB_lt (by omega)] at c_18
    obtain ⟨i, hi, hxi⟩ := (ltB_iff (by omega)).mp c_18
    subst hxi
    have ix_i : ixO (nI i) trd = some i := ixO_t hi (by omega)
    refine lv_aload_n hx hb dX9_trace_21 rfl (lv_at hl 0 rfl) ?_
    refine va_get (D := D) (ci := 8) (v := .ref a22) (C := RX9) (T := TX9) (N := 24) hx hb hts in_X9 hown hK hP 0 rfl rfl 22 (by decide) (hts _ q1201) (fun _ h9 => h9) rfl dX9_trace_22 ?_
    refine lv_iload_n hx hb dX9_trace_25 rfl (lv_at hl 1 rfl) ?_
    refine wn_iald (v := nI (tr i)) hx hb hK hP 1 0 rfl rfl (by omega) (by decide) rfl dX9_trace_26 ?_
    refine lv_goto (tgt := 32) hx hb dX9_trace_27 (by decide) ?_
    exact wr_iret () hx hb hr hlk hQ dX9_trace_32 (wp_to (hP.sub [0, 1] rfl) rfl) (wd_to (hD.sub [0, 1] (by decide) rfl) rfl) hS (Nat.le_refl _) (Nat.le_refl _) (by first | (simp [trcI, bI, nI1_1, nI_0, c_18, ix_i]; done) | (simp [trcI, bI, nI1_1, nI_0, c_18, ix_i]; omega) | grind [trcI, bI, nI1_1, nI_0])
theorem cs_X9_areVisitors {R : Room} {s : State} {args : Array Value} {own : String} {index : Nat} (hts : ∀ w ∈ lw_all, w.before args s = true) (hl : Cond.methodLink own index yX9_areVisitors ∈ lw_all) {rm : Room} {mc ms : Nat} (hR : rm.frames + 1 ≤ R.frames ∧ 8 + (2 + 11) + rm.locals ≤ R.locals) (hc : rm.cells = mc := by rfl) (hs : rm.slots = ms := by rfl) : CallW R s args own RX9 index yX9_areVisitors cX9_areVisitors 2 (some .boolean) (ws_ yX9_areVisitors cX9_areVisitors 2 (some .boolean)) rm mc ms 1 := cwV 1 hts (lw_V hl q1466 qs47 q70 q1467) rfl hc hs (by decide +kernel) hR
theorem cs_X9_fewestOf {R : Room} {s : State} {args : Array Value} {own : String} {index : Nat} (hts : ∀ w ∈ lw_all, w.before args s = true) (hl : Cond.methodLink own index yX9_fewestOf ∈ lw_all) {rm : Room} {mc ms : Nat} (hR : rm.frames + 1 ≤ R.frames ∧ 8 + (6 + 11) + rm.locals ≤ R.locals) (hc : rm.cells = mc := by rfl) (hs : rm.slots = ms := by rfl) : CallW R s args own RX9 index yX9_fewestOf cX9_fewestOf 6 (some .int) (ws_ yX9_fewestOf cX9_fewestOf 6 (some .int)) rm mc ms 2 := cwV 2 hts (lw_V hl q1470 qs48 q70 q1471) rfl hc hs (by decide +kernel) hR
set_option maxHeartbeats 4000000 in
theorem m_X9_fewest (l : Launch) (D : va_G) (ca : Nat → ClassId) (h : Nat) (t0 : Int32) (t1 : Int32) (a2 : Nat) (a3 : Nat) (a4 : Nat) (a5 : Nat) (a6 : Nat) (a7 : Nat) (a8 : Nat) (a10 : Nat) (a19 : Nat) (a20 : Nat) (a21 : Nat) (a22 : Nat) (ac : Nat) (tpd : Nat) (cu : Nat) (sta : Nat) (tok : Nat) (fau : Nat) (trd : Nat) (val : Int32) (fat : Int32) (lat : Int32) (d : Nat → Nat) (x : Int32) (w : Int32) (sz : Nat) (hd : dOK d) : Met l yX9_fewest (ws_ yX9_fewest cX9_fewest 4 (some .int)) (rmL 7) (PcA (K1 D ca) D [.ref h, .int x, .int w] [(h, .inr (8, [.int t0, .int t1, .ref a2, .ref a3, .ref a4, .ref a5, .ref a6, .ref a7, .ref a8, .int (nI ac), .ref a10, .int (nI tpd), .int (nI cu), .int (nI sta), .int (nI tok), .int val, .int (nI fau), .int fat, .int lat, .ref a19, .ref a20, .ref a21, .ref a22, .int (nI trd)])), (a5, .inl (ca 0, 64, .inl (dv d)))] sz) (QiA D (fun zr (_ : Unit) => zr = fewI d x w) (fun _ => [(h, .inr (8, [.int (nI 0), .int t1, .ref a2, .ref a3, .ref a4, .ref a5, .ref a6, .ref a7, .ref a8, .int (nI ac), .ref a10, .int (nI tpd), .int (nI cu), .int (nI sta), .int (nI tok), .int val, .int (nI fau), .int fat, .int lat, .ref a19, .ref a20, .ref a21, .ref a22, .int (nI trd)])), (a5, .inl (ca 0, 64, .inl (dv d)))]) (va_A [(h, .inr (8, [.int t0, .int t1, .ref a2, .ref a3, .ref a4, .ref a5, .ref a6, .ref a7, .ref a8, .int (nI ac), .ref a10, .int (nI tpd), .int (nI cu), .int (nI sta), .int (nI tok), .int val, .int (nI fau), .int fat, .int lat, .ref a19, .ref a20, .ref a21, .ref a22, .int (nI trd)])), (a5, .inl (ca 0, 64, .inl (dv d)))] sz)) 0 0 (va_A [(h, .inr (8, [.int t0, .int t1, .ref a2, .ref a3, .ref a4, .ref a5, .ref a6, .ref a7, .ref a8, .int (nI ac), .ref a10, .int (nI tpd), .int (nI cu), .int (nI sta), .int (nI tok), .int val, .int (nI fau), .int fat, .int lat, .ref a19, .ref a20, .ref a21, .ref a22, .int (nI trd)])), (a5, .inl (ca 0, 64, .inl (dv d)))] sz) := by
  refine wr_head (Qc := fun A => (QiA D (fun zr (_ : Unit) => zr = fewI d x w) (fun _ => [(h, .inr (8, [.int (nI 0), .int t1, .ref a2, .ref a3, .ref a4, .ref a5, .ref a6, .ref a7, .ref a8, .int (nI ac), .ref a10, .int (nI tpd), .int (nI cu), .int (nI sta), .int (nI tok), .int val, .int (nI fau), .int fat, .int lat, .ref a19, .ref a20, .ref a21, .ref a22, .int (nI trd)])), (a5, .inl (ca 0, 64, .inl (dv d)))]) A)) (by decide) (Nat.le_of_ble_eq_true rfl) ?_
  intro zp ze zs zm za zb zt zc ls zQ A H locs hx hb hml hr hlk hown hts hnm hK hP hD hS hA hl hQ
  have hown : zs.vm.findClass RX9 = some zm.cls := hown
  have hl : lv_has ls 4 [(0, .ref h), (1, .int x), (2, .int w)] := hl
  have hF : CallFix zp zm zc cX9_fewest 4 zs za lw_all RX9 := ⟨hx, hb, hml, hown, hts⟩
  have hd2 : d 2 ≤ 8 := hd.2.2.1
  have hd3 : d 3 ≤ 5 := hd.2.2.2.1
  have hd0 : d 0 ≤ 9 := hd.1
  have hd1 : d 1 ≤ 8 := hd.2.1
  have hp2 := pow_8 hd2
  have hp3 := pow_8 (show d 3 ≤ 8 by omega)
  refine lv_aload_n hx hb dX9_fewest_0 rfl (lv_at hl 0 rfl) ?_
  refine lv_iconst (v := nI 0) hx hb dX9_fewest_1 rfl ?_
  refine va_put (D := D) (ci := 8) (v := .int (nI 0)) (ty := .int) (C := RX9) (T := TX9) (N := 24) hx hb hts in_X9 tyX9 tyX9_ok nmX9 hown hK hP hD hS 0 rfl rfl 0 (by decide) (hts _ q1179) (fun _ h9 => h9) rfl (tyX9_ok 0 (by decide)) rfl rfl (Nat.le_of_ble_eq_true rfl) dX9_fewest_2 (fun H locs hP hD hS => ?_)
  have hP : va_P D vwCl [(h, .inr (8, [.int (nI 0), .int t1, .ref a2, .ref a3, .ref a4, .ref a5, .ref a6, .ref a7, .ref a8, .int (nI ac), .ref a10, .int (nI tpd), .int (nI cu), .int (nI sta), .int (nI tok), .int val, .int (nI fau), .int fat, .int lat, .ref a19, .ref a20, .ref a21, .ref a22, .int (nI trd)])), (a5, .inl (ca 0, 64, .inl (dv d)))] H := hP
  have hD : va_D A [(h, .inr (8, [.int (nI 0), .int t1, .ref a2, .ref a3, .ref a4, .ref a5, .ref a6, .ref a7, .ref a8, .int (nI ac), .ref a10, .int (nI tpd), .int (nI cu), .int (nI sta), .int (nI tok), .int val, .int (nI fau), .int fat, .int lat, .ref a19, .ref a20, .ref a21, .ref a22, .int (nI trd)])), (a5, .inl (ca 0, 64, .inl (dv d)))] := hD
  refine lv_aload_n hx hb dX9_fewest_5 rfl (lv_at hl 0 rfl) ?_
  refine rd_callV hF (m_X9_isThere l D ca h ([.int (nI 0), .int t1, .ref a2, .ref a3, .ref a4, .ref a5, .ref a6, .ref a7, .ref a8, .int (nI ac), .ref a10, .int (nI tpd), .int (nI cu), .int (nI sta), .int (nI tok), .int val, .int (nI fau), .int fat, .int lat, .ref a19, .ref a20, .ref a21, .ref a22, .int (nI trd)]) a5 d (by first | rfl | assumption) (by assumption)) (cs_X9_isThere hts q1404 ⟨by decide, by decide⟩) (K1_mv D ca) hK (hP.sub [0, 1] rfl) (va_recv hK hP (ci := 8) (q0 := 0) rfl rfl) rfl hl.1 rfl (Nat.le_of_ble_eq_true rfl) dX9_fewest_6 ⟨Nat.zero_le _, Nat.zero_le _⟩ ?_
  refine wb_ne (tgt := 15) hx hb dX9_fewest_9 (by decide) (fun c_9 => ?_) (fun c_9 => ?_)
  · refine lv_aload_n hx hb dX9_fewest_15 rfl (lv_at hl 0 rfl) ?_
    refine lv_iload_n hx hb dX9_fewest_16 rfl (lv_at hl 1 rfl) ?_
    refine rd_callV hF (m_X9_areVisitors l D ca h ([.int (nI 0), .int t1, .ref a2, .ref a3, .ref a4, .ref a5, .ref a6, .ref a7, .ref a8, .int (nI ac), .ref a10, .int (nI tpd), .int (nI cu), .int (nI sta), .int (nI tok), .int val, .int (nI fau), .int fat, .int lat, .ref a19, .ref a20, .ref a21, .ref a22, .int (nI trd)]) a5 d x (by first | rfl | assumption) (by assumption)) (cs_X9_areVisitors hts q1464 ⟨by decide, by decide⟩) (K1_mv D ca) hK (hP.sub [0, 1] rfl) (va_recv hK hP (ci := 8) (q0 := 0) rfl rfl) rfl hl.1 rfl (Nat.le_of_ble_eq_true rfl) dX9_fewest_17 ⟨Nat.zero_le _, Nat.zero_le _⟩ ?_
    refine wb_eq (tgt := 33) hx hb dX9_fewest_20 (by decide) (fun c_20 => ?_) (fun c_20 => ?_)
    · have ix_x : ixO x (2 ^ d 3) = none := ixO_f c_20
      refine lv_ldc (v := (-1000001)) hx hb hown (hts _ q1266) dX9_fewest_33 ?_
      exact wr_iret () hx hb hr hlk hQ dX9_fewest_35 (wp_to (hP.sub [0, 1] rfl) rfl) (wd_to (hD.sub [0, 1] (by decide) rfl) rfl) hS (Nat.le_refl _) (Nat.le_refl _) (by first | (simp [fewI, bI, nI1_1, nI_0, c_9, c_20, ix_x]; done) | (simp [fewI, bI, nI1_1, nI_0, c_9, c_20, ix_x]; omega) | grind [fewI, bI, nI1_1, nI_0])
    · obtain ⟨vis, hvis, hxvis⟩ := (ltB_iff (by omega)).mp c_20
      subst hxvis
      have ix_vis : ixO (nI vis) (2 ^ d 3) = some vis := ixO_t hvis (by omega)
      refine lv_iload_n hx hb dX9_fewest_23 rfl (lv_at hl 2 rfl) ?_
      refine lv_i2l hx hb dX9_fewest_24 rfl ?_
      refine lv_lconst (v := 0) hx hb dX9_fewest_25 rfl ?_
      refine lv_lconst (v := 1) hx hb dX9_fewest_26 rfl ?_
      refine rd_callS hF (m_X9_in l D ca w.toInt64 0 1 ) (cs_X9_in hts q1262 ⟨by decide, by decide⟩) (K1_mv D ca) hK (hP.sub [] rfl) rfl hl.1 rfl (Nat.le_of_ble_eq_true rfl) dX9_fewest_27 ⟨Nat.zero_le _, Nat.zero_le _⟩ ?_
      refine wb_ne (tgt := 36) hx hb dX9_fewest_30 (by decide) (fun c_30 => ?_) (fun c_30 => ?_)
      · rw [inB_c (n := 2) (by decide)] at c_30
        obtain ⟨k, hk, hxk⟩ := (ltB_iff (by omega)).mp c_30
        subst hxk
        have ix_k : ixO (nI k) 2 = some k := ixO_t hk (by omega)
        refine lv_aload_n hx hb dX9_fewest_36 rfl (lv_at hl 0 rfl) ?_
        refine lv_iconst (v := nI 1) hx hb dX9_fewest_37 rfl ?_
        refine lv_aload_n hx hb dX9_fewest_38 rfl (lv_at hl 0 rfl) ?_
        refine va_get (D := D) (ci := 8) (v := .ref a5) (C := RX9) (T := TX9) (N := 24) hx hb hts in_X9 hown hK hP 0 rfl rfl 5 (by decide) (hts _ q1184) (fun _ h9 => h9) rfl dX9_fewest_39 ?_
        refine lv_iconst (v := nI 2) hx hb dX9_fewest_42 rfl ?_
        refine wn_iald (v := nI (d 2)) hx hb hK hP 1 0 rfl rfl (by omega) (by decide) rfl dX9_fewest_43 ?_
        refine wn_shl hx hb (by omega) (by omega) dX9_fewest_44 ?_
        refine lv_iconst (v := nI 1) hx hb dX9_fewest_45 rfl ?_
        refine wn_sub hx hb (by omega) dX9_fewest_46 ?_
        refine lv_iload_n hx hb dX9_fewest_47 rfl (lv_at hl 1 rfl) ?_
        refine rd_callV hF (m_X9_fewestOf l D ca h ([.int (nI 0), .int t1, .ref a2, .ref a3, .ref a4, .ref a5, .ref a6, .ref a7, .ref a8, .int (nI ac), .ref a10, .int (nI tpd), .int (nI cu), .int (nI sta), .int (nI tok), .int val, .int (nI fau), .int fat, .int lat, .ref a19, .ref a20, .ref a21, .ref a22, .int (nI trd)]) a5 d ((1 * 2 ^ (d 2)) - 1) vis (by first | rfl | assumption) (by assumption) (by first | assumption | omega) (by first | assumption | omega)) (cs_X9_fewestOf hts q1468 ⟨by decide, by decide⟩) (K1_mv D ca) hK (hP.sub [0, 1] rfl) (va_recv hK hP (ci := 8) (q0 := 0) rfl rfl) rfl hl.1 rfl (Nat.le_of_ble_eq_true rfl) dX9_fewest_48 ⟨Nat.zero_le _, Nat.zero_le _⟩ ?_
        refine lv_istore_n (lv' := [(3, .int (oI (fewN (gD d) ((1 * 2 ^ (d 2)) - 1) vis (((1 * 2 ^ (d 2)) - 1) + 1)))), (0, .ref h), (1, .int (nI vis)), (2, .int (nI k))]) hx hb dX9_fewest_51 rfl hl (by decide) rfl (fun ls hl => ?_)
        rcases hO_52 : fewN (gD d) ((1 * 2 ^ (d 2)) - 1) vis ((1 * 2 ^ (d 2)) - 1 + 1) with _ | bs
        · rw [hO_52] at hl
          have hl : lv_has ls 4 [(3, .int ((-1000000))), (0, .ref h), (1, .int (nI vis)), (2, .int (nI k))] := hl
          refine lv_iload_n hx hb dX9_fewest_52 rfl (lv_at hl 0 rfl) ?_
          refine lv_ldc (v := (-1000000)) hx hb hown (hts _ q1306) dX9_fewest_53 ?_
          refine lv_icmp_eq (tgt := 63) hx hb dX9_fewest_55 (by decide) (fun c_55 => ?_) (fun zh => by first | exact absurd rfl zh | exact absurd zh (by simp))
          refine lv_iload_n hx hb dX9_fewest_63 rfl (lv_at hl 0 rfl) ?_
          refine lv_goto (tgt := 71) hx hb dX9_fewest_64 (by decide) ?_
          exact wr_iret () hx hb hr hlk hQ dX9_fewest_71 (wp_to (hP.sub [0, 1] rfl) rfl) (wd_to (hD.sub [0, 1] (by decide) rfl) rfl) hS (Nat.le_refl _) (Nat.le_refl _) (by first | (simp [fewI, bI, nI1_1, nI_0, c_9, c_20, ix_vis, c_30, ix_k, hO_52]; done) | (simp [fewI, bI, nI1_1, nI_0, c_9, c_20, ix_vis, c_30, ix_k, hO_52]; omega) | grind [fewI, bI, nI1_1, nI_0])
        · rw [hO_52] at hl
          have hl : lv_has ls 4 [(3, .int (nI bs)), (0, .ref h), (1, .int (nI vis)), (2, .int (nI k))] := hl
          have hbs : bs < 1 * 2 ^ d 2 - 1 + 1 := fewN_lt (by assumption)
          refine lv_iload_n hx hb dX9_fewest_52 rfl (lv_at hl 0 rfl) ?_
          refine lv_ldc (v := (-1000000)) hx hb hown (hts _ q1306) dX9_fewest_53 ?_
          refine lv_icmp_eq (tgt := 63) hx hb dX9_fewest_55 (by decide) (fun zh => by exact absurd zh (nI_neN (by omega))) (fun c_55 => ?_)
          refine lv_iload_n hx hb dX9_fewest_58 rfl (lv_at hl 3 rfl) ?_
          refine lv_iconst (v := nI 1) hx hb dX9_fewest_59 rfl ?_
          refine wn_ne (tgt := 67) hx hb (by omega) (by omega) dX9_fewest_60 (by decide) (fun c_60 => ?_) (fun c_60 => ?_)
          · refine lv_iload_n hx hb dX9_fewest_67 rfl (lv_at hl 0 rfl) ?_
            refine rd_callS hF (m_X9_bits l D ca bs (by first | assumption | omega)) (cs_X9_bits hts q1472 ⟨by decide, by decide⟩) (K1_mv D ca) hK (hP.sub [] rfl) rfl hl.1 rfl (Nat.le_of_ble_eq_true rfl) dX9_fewest_68 ⟨Nat.zero_le _, Nat.zero_le _⟩ ?_
            exact wr_iret () hx hb hr hlk hQ dX9_fewest_71 (wp_to (hP.sub [0, 1] rfl) rfl) (wd_to (hD.sub [0, 1] (by decide) rfl) rfl) hS (Nat.le_refl _) (Nat.le_refl _) (by first | (simp [fewI, bI, nI1_1, nI_0, c_9, c_20, ix_vis, c_30, ix_k, hO_52, c_60]; done) | (simp [fewI, bI, nI1_1, nI_0, c_9, c_20, ix_vis, c_30, ix_k, hO_52, c_60]; omega) | grind [fewI, bI, nI1_1, nI_0])
          · refine lv_iload_n hx hb dX9_fewest_63 rfl (lv_at hl 0 rfl) ?_
            refine lv_goto (tgt := 71) hx hb dX9_fewest_64 (by decide) ?_
            exact wr_iret () hx hb hr hlk hQ dX9_fewest_71 (wp_to (hP.sub [0, 1] rfl) rfl) (wd_to (hD.sub [0, 1] (by decide) rfl) rfl) hS (Nat.le_refl _) (Nat.le_refl _) (by first | (simp [fewI, bI, nI1_1, nI_0, c_9, c_20, ix_vis, c_30, ix_k, hO_52, c_60]; done) | (simp [fewI, bI, nI1_1, nI_0, c_9, c_20, ix_vis, c_30, ix_k, hO_52, c_60]; omega) | grind [fewI, bI, nI1_1, nI_0])
      · rw [inB_c (n := 2) (by decide)] at c_30
        have ix_w : ixO w 2 = none := ixO_f c_30
        refine lv_ldc (v := (-1000001)) hx hb hown (hts _ q1266) dX9_fewest_33 ?_
        exact wr_iret () hx hb hr hlk hQ dX9_fewest_35 (wp_to (hP.sub [0, 1] rfl) rfl) (wd_to (hD.sub [0, 1] (by decide) rfl) rfl) hS (Nat.le_refl _) (Nat.le_refl _) (by first | (simp [fewI, bI, nI1_1, nI_0, c_9, c_20, ix_vis, c_30, ix_w]; done) | (simp [fewI, bI, nI1_1, nI_0, c_9, c_20, ix_vis, c_30, ix_w]; omega) | grind [fewI, bI, nI1_1, nI_0])
  · refine lv_ldc (v := (-1000002)) hx hb hown (hts _ q1408) dX9_fewest_12 ?_
    exact wr_iret () hx hb hr hlk hQ dX9_fewest_14 (wp_to (hP.sub [0, 1] rfl) rfl) (wd_to (hD.sub [0, 1] (by decide) rfl) rfl) hS (Nat.le_refl _) (Nat.le_refl _) (by first | (simp [fewI, bI, nI1_1, nI_0, c_9]; done) | (simp [fewI, bI, nI1_1, nI_0, c_9]; omega) | grind [fewI, bI, nI1_1, nI_0])
set_option maxHeartbeats 4000000 in
theorem m_X9_save (l : Launch) (D : va_G) (ca : Nat → ClassId) (h : Nat) (t0 : Int32) (t1 : Int32) (a2 : Nat) (a3 : Nat) (a4 : Nat) (a5 : Nat) (a6 : Nat) (a7 : Nat) (a8 : Nat) (a10 : Nat) (a19 : Nat) (a20 : Nat) (a21 : Nat) (a22 : Nat) (ac : Nat) (tpd : Nat) (cu : Nat) (sta : Nat) (tok : Nat) (fau : Nat) (trd : Nat) (val : Int32) (fat : Int32) (lat : Int32) (d : Nat → Nat) (x : Int32) (w : Int32) (sz : Nat) (hd : dOK d) : Met l yX9_save (ws_ yX9_save cX9_save 4 (some .int)) (rmL 7) (PcA (K1 D ca) D [.ref h, .int x, .int w] [(h, .inr (8, [.int t0, .int t1, .ref a2, .ref a3, .ref a4, .ref a5, .ref a6, .ref a7, .ref a8, .int (nI ac), .ref a10, .int (nI tpd), .int (nI cu), .int (nI sta), .int (nI tok), .int val, .int (nI fau), .int fat, .int lat, .ref a19, .ref a20, .ref a21, .ref a22, .int (nI trd)])), (a5, .inl (ca 0, 64, .inl (dv d)))] sz) (QiA D (fun zr (_ : Unit) => zr = savI d x w) (fun _ => [(h, .inr (8, [.int (nI 0), .int t1, .ref a2, .ref a3, .ref a4, .ref a5, .ref a6, .ref a7, .ref a8, .int (nI ac), .ref a10, .int (nI tpd), .int (nI cu), .int (nI sta), .int (nI tok), .int val, .int (nI fau), .int fat, .int lat, .ref a19, .ref a20, .ref a21, .ref a22, .int (nI trd)])), (a5, .inl (ca 0, 64, .inl (dv d)))]) (va_A [(h, .inr (8, [.int t0, .int t1, .ref a2, .ref a3, .ref a4, .ref a5, .ref a6, .ref a7, .ref a8, .int (nI ac), .ref a10, .int (nI tpd), .int (nI cu), .int (nI sta), .int (nI tok), .int val, .int (nI fau), .int fat, .int lat, .ref a19, .ref a20, .ref a21, .ref a22, .int (nI trd)])), (a5, .inl (ca 0, 64, .inl (dv d)))] sz)) 0 0 (va_A [(h, .inr (8, [.int t0, .int t1, .ref a2, .ref a3, .ref a4, .ref a5, .ref a6, .ref a7, .ref a8, .int (nI ac), .ref a10, .int (nI tpd), .int (nI cu), .int (nI sta), .int (nI tok), .int val, .int (nI fau), .int fat, .int lat, .ref a19, .ref a20, .ref a21, .ref a22, .int (nI trd)])), (a5, .inl (ca 0, 64, .inl (dv d)))] sz) := by
  refine wr_head (Qc := fun A => (QiA D (fun zr (_ : Unit) => zr = savI d x w) (fun _ => [(h, .inr (8, [.int (nI 0), .int t1, .ref a2, .ref a3, .ref a4, .ref a5, .ref a6, .ref a7, .ref a8, .int (nI ac), .ref a10, .int (nI tpd), .int (nI cu), .int (nI sta), .int (nI tok), .int val, .int (nI fau), .int fat, .int lat, .ref a19, .ref a20, .ref a21, .ref a22, .int (nI trd)])), (a5, .inl (ca 0, 64, .inl (dv d)))]) A)) (by decide) (Nat.le_of_ble_eq_true rfl) ?_
  intro zp ze zs zm za zb zt zc ls zQ A H locs hx hb hml hr hlk hown hts hnm hK hP hD hS hA hl hQ
  have hown : zs.vm.findClass RX9 = some zm.cls := hown
  have hl : lv_has ls 4 [(0, .ref h), (1, .int x), (2, .int w)] := hl
  have hF : CallFix zp zm zc cX9_save 4 zs za lw_all RX9 := ⟨hx, hb, hml, hown, hts⟩
  have hd2 : d 2 ≤ 8 := hd.2.2.1
  have hd3 : d 3 ≤ 5 := hd.2.2.2.1
  have hd0 : d 0 ≤ 9 := hd.1
  have hd1 : d 1 ≤ 8 := hd.2.1
  have hp2 := pow_8 hd2
  have hp3 := pow_8 (show d 3 ≤ 8 by omega)
  refine lv_aload_n hx hb dX9_save_0 rfl (lv_at hl 0 rfl) ?_
  refine lv_iconst (v := nI 0) hx hb dX9_save_1 rfl ?_
  refine va_put (D := D) (ci := 8) (v := .int (nI 0)) (ty := .int) (C := RX9) (T := TX9) (N := 24) hx hb hts in_X9 tyX9 tyX9_ok nmX9 hown hK hP hD hS 0 rfl rfl 0 (by decide) (hts _ q1179) (fun _ h9 => h9) rfl (tyX9_ok 0 (by decide)) rfl rfl (Nat.le_of_ble_eq_true rfl) dX9_save_2 (fun H locs hP hD hS => ?_)
  have hP : va_P D vwCl [(h, .inr (8, [.int (nI 0), .int t1, .ref a2, .ref a3, .ref a4, .ref a5, .ref a6, .ref a7, .ref a8, .int (nI ac), .ref a10, .int (nI tpd), .int (nI cu), .int (nI sta), .int (nI tok), .int val, .int (nI fau), .int fat, .int lat, .ref a19, .ref a20, .ref a21, .ref a22, .int (nI trd)])), (a5, .inl (ca 0, 64, .inl (dv d)))] H := hP
  have hD : va_D A [(h, .inr (8, [.int (nI 0), .int t1, .ref a2, .ref a3, .ref a4, .ref a5, .ref a6, .ref a7, .ref a8, .int (nI ac), .ref a10, .int (nI tpd), .int (nI cu), .int (nI sta), .int (nI tok), .int val, .int (nI fau), .int fat, .int lat, .ref a19, .ref a20, .ref a21, .ref a22, .int (nI trd)])), (a5, .inl (ca 0, 64, .inl (dv d)))] := hD
  refine lv_aload_n hx hb dX9_save_5 rfl (lv_at hl 0 rfl) ?_
  refine rd_callV hF (m_X9_isThere l D ca h ([.int (nI 0), .int t1, .ref a2, .ref a3, .ref a4, .ref a5, .ref a6, .ref a7, .ref a8, .int (nI ac), .ref a10, .int (nI tpd), .int (nI cu), .int (nI sta), .int (nI tok), .int val, .int (nI fau), .int fat, .int lat, .ref a19, .ref a20, .ref a21, .ref a22, .int (nI trd)]) a5 d (by first | rfl | assumption) (by assumption)) (cs_X9_isThere hts q1404 ⟨by decide, by decide⟩) (K1_mv D ca) hK (hP.sub [0, 1] rfl) (va_recv hK hP (ci := 8) (q0 := 0) rfl rfl) rfl hl.1 rfl (Nat.le_of_ble_eq_true rfl) dX9_save_6 ⟨Nat.zero_le _, Nat.zero_le _⟩ ?_
  refine wb_ne (tgt := 15) hx hb dX9_save_9 (by decide) (fun c_9 => ?_) (fun c_9 => ?_)
  · refine lv_aload_n hx hb dX9_save_15 rfl (lv_at hl 0 rfl) ?_
    refine lv_iload_n hx hb dX9_save_16 rfl (lv_at hl 1 rfl) ?_
    refine rd_callV hF (m_X9_areSquares l D ca h ([.int (nI 0), .int t1, .ref a2, .ref a3, .ref a4, .ref a5, .ref a6, .ref a7, .ref a8, .int (nI ac), .ref a10, .int (nI tpd), .int (nI cu), .int (nI sta), .int (nI tok), .int val, .int (nI fau), .int fat, .int lat, .ref a19, .ref a20, .ref a21, .ref a22, .int (nI trd)]) a5 d x (by first | rfl | assumption) (by assumption)) (cs_X9_areSquares hts q1359 ⟨by decide, by decide⟩) (K1_mv D ca) hK (hP.sub [0, 1] rfl) (va_recv hK hP (ci := 8) (q0 := 0) rfl rfl) rfl hl.1 rfl (Nat.le_of_ble_eq_true rfl) dX9_save_17 ⟨Nat.zero_le _, Nat.zero_le _⟩ ?_
    refine wb_eq (tgt := 33) hx hb dX9_save_20 (by decide) (fun c_20 => ?_) (fun c_20 => ?_)
    · have ix_x : ixO x (2 ^ d 2) = none := ixO_f c_20
      refine lv_ldc (v := (-1000001)) hx hb hown (hts _ q1266) dX9_save_33 ?_
      exact wr_iret () hx hb hr hlk hQ dX9_save_35 (wp_to (hP.sub [0, 1] rfl) rfl) (wd_to (hD.sub [0, 1] (by decide) rfl) rfl) hS (Nat.le_refl _) (Nat.le_refl _) (by first | (simp [savI, bI, nI1_1, nI_0, c_9, c_20, ix_x]; done) | (simp [savI, bI, nI1_1, nI_0, c_9, c_20, ix_x]; omega) | grind [savI, bI, nI1_1, nI_0])
    · obtain ⟨s, hs, hxs⟩ := (ltB_iff (by omega)).mp c_20
      subst hxs
      have ix_s : ixO (nI s) (2 ^ d 2) = some s := ixO_t hs (by omega)
      refine lv_iload_n hx hb dX9_save_23 rfl (lv_at hl 2 rfl) ?_
      refine lv_i2l hx hb dX9_save_24 rfl ?_
      refine lv_lconst (v := 0) hx hb dX9_save_25 rfl ?_
      refine lv_lconst (v := 1) hx hb dX9_save_26 rfl ?_
      refine rd_callS hF (m_X9_in l D ca w.toInt64 0 1 ) (cs_X9_in hts q1262 ⟨by decide, by decide⟩) (K1_mv D ca) hK (hP.sub [] rfl) rfl hl.1 rfl (Nat.le_of_ble_eq_true rfl) dX9_save_27 ⟨Nat.zero_le _, Nat.zero_le _⟩ ?_
      refine wb_ne (tgt := 36) hx hb dX9_save_30 (by decide) (fun c_30 => ?_) (fun c_30 => ?_)
      · rw [inB_c (n := 2) (by decide)] at c_30
        obtain ⟨k, hk, hxk⟩ := (ltB_iff (by omega)).mp c_30
        subst hxk
        have ix_k : ixO (nI k) 2 = some k := ixO_t hk (by omega)
        refine lv_aload_n hx hb dX9_save_36 rfl (lv_at hl 0 rfl) ?_
        refine lv_iload_n hx hb dX9_save_37 rfl (lv_at hl 1 rfl) ?_
        refine lv_aload_n hx hb dX9_save_38 rfl (lv_at hl 0 rfl) ?_
        refine lv_iload_n hx hb dX9_save_39 rfl (lv_at hl 1 rfl) ?_
        refine rd_callV hF (m_X9_guestsOf l D ca h ([.int (nI 0), .int t1, .ref a2, .ref a3, .ref a4, .ref a5, .ref a6, .ref a7, .ref a8, .int (nI ac), .ref a10, .int (nI tpd), .int (nI cu), .int (nI sta), .int (nI tok), .int val, .int (nI fau), .int fat, .int lat, .ref a19, .ref a20, .ref a21, .ref a22, .int (nI trd)]) a5 d s (by first | rfl | assumption) (by assumption) (by first | assumption | omega)) (cs_X9_guestsOf hts q1456 ⟨by decide, by decide⟩) (K1_mv D ca) hK (hP.sub [0, 1] rfl) (va_recv hK hP (ci := 8) (q0 := 0) rfl rfl) rfl hl.1 rfl (Nat.le_of_ble_eq_true rfl) dX9_save_40 ⟨Nat.zero_le _, Nat.zero_le _⟩ ?_
        refine rd_callV hF (m_X9_fewestOf l D ca h ([.int (nI 0), .int t1, .ref a2, .ref a3, .ref a4, .ref a5, .ref a6, .ref a7, .ref a8, .int (nI ac), .ref a10, .int (nI tpd), .int (nI cu), .int (nI sta), .int (nI tok), .int val, .int (nI fau), .int fat, .int lat, .ref a19, .ref a20, .ref a21, .ref a22, .int (nI trd)]) a5 d s (gD d s) (by first | rfl | assumption) (by assumption) (by first | assumption | omega) (by exact gD_lt hd3)) (cs_X9_fewestOf hts q1468 ⟨by decide, by decide⟩) (K1_mv D ca) hK (hP.sub [0, 1] rfl) (va_recv hK hP (ci := 8) (q0 := 0) rfl rfl) rfl hl.1 rfl (Nat.le_of_ble_eq_true rfl) dX9_save_43 ⟨Nat.zero_le _, Nat.zero_le _⟩ ?_
        refine lv_istore_n (lv' := [(3, .int (oI (fewN (gD d) s (gD d s) (s + 1)))), (0, .ref h), (1, .int (nI s)), (2, .int (nI k))]) hx hb dX9_save_46 rfl hl (by decide) rfl (fun ls hl => ?_)
        rcases hO_47 : fewN (gD d) s (gD d s) (s + 1) with _ | bs
        · rw [hO_47] at hl
          have hl : lv_has ls 4 [(3, .int ((-1000000))), (0, .ref h), (1, .int (nI s)), (2, .int (nI k))] := hl
          exact absurd hO_47 (fewN_self _ _)
        · rw [hO_47] at hl
          have hl : lv_has ls 4 [(3, .int (nI bs)), (0, .ref h), (1, .int (nI s)), (2, .int (nI k))] := hl
          have hbs : bs < s + 1 := fewN_lt (by assumption)
          refine lv_iload_n hx hb dX9_save_47 rfl (lv_at hl 3 rfl) ?_
          refine lv_iconst (v := nI 1) hx hb dX9_save_48 rfl ?_
          refine wn_ne (tgt := 56) hx hb (by omega) (by omega) dX9_save_49 (by decide) (fun c_49 => ?_) (fun c_49 => ?_)
          · refine lv_iload_n hx hb dX9_save_56 rfl (lv_at hl 0 rfl) ?_
            refine rd_callS hF (m_X9_bits l D ca bs (by first | assumption | omega)) (cs_X9_bits hts q1472 ⟨by decide, by decide⟩) (K1_mv D ca) hK (hP.sub [] rfl) rfl hl.1 rfl (Nat.le_of_ble_eq_true rfl) dX9_save_57 ⟨Nat.zero_le _, Nat.zero_le _⟩ ?_
            exact wr_iret () hx hb hr hlk hQ dX9_save_60 (wp_to (hP.sub [0, 1] rfl) rfl) (wd_to (hD.sub [0, 1] (by decide) rfl) rfl) hS (Nat.le_refl _) (Nat.le_refl _) (by first | (simp [savI, bI, nI1_1, nI_0, c_9, c_20, ix_s, c_30, ix_k, hO_47, c_49]; done) | (simp [savI, bI, nI1_1, nI_0, c_9, c_20, ix_s, c_30, ix_k, hO_47, c_49]; omega) | grind [savI, bI, nI1_1, nI_0])
          · refine lv_iload_n hx hb dX9_save_52 rfl (lv_at hl 0 rfl) ?_
            refine lv_goto (tgt := 60) hx hb dX9_save_53 (by decide) ?_
            exact wr_iret () hx hb hr hlk hQ dX9_save_60 (wp_to (hP.sub [0, 1] rfl) rfl) (wd_to (hD.sub [0, 1] (by decide) rfl) rfl) hS (Nat.le_refl _) (Nat.le_refl _) (by first | (simp [savI, bI, nI1_1, nI_0, c_9, c_20, ix_s, c_30, ix_k, hO_47, c_49]; done) | (simp [savI, bI, nI1_1, nI_0, c_9, c_20, ix_s, c_30, ix_k, hO_47, c_49]; omega) | grind [savI, bI, nI1_1, nI_0])
      · rw [inB_c (n := 2) (by decide)] at c_30
        have ix_w : ixO w 2 = none := ixO_f c_30
        refine lv_ldc (v := (-1000001)) hx hb hown (hts _ q1266) dX9_save_33 ?_
        exact wr_iret () hx hb hr hlk hQ dX9_save_35 (wp_to (hP.sub [0, 1] rfl) rfl) (wd_to (hD.sub [0, 1] (by decide) rfl) rfl) hS (Nat.le_refl _) (Nat.le_refl _) (by first | (simp [savI, bI, nI1_1, nI_0, c_9, c_20, ix_s, c_30, ix_w]; done) | (simp [savI, bI, nI1_1, nI_0, c_9, c_20, ix_s, c_30, ix_w]; omega) | grind [savI, bI, nI1_1, nI_0])
  · refine lv_ldc (v := (-1000002)) hx hb hown (hts _ q1408) dX9_save_12 ?_
    exact wr_iret () hx hb hr hlk hQ dX9_save_14 (wp_to (hP.sub [0, 1] rfl) rfl) (wd_to (hD.sub [0, 1] (by decide) rfl) rfl) hS (Nat.le_refl _) (Nat.le_refl _) (by first | (simp [savI, bI, nI1_1, nI_0, c_9]; done) | (simp [savI, bI, nI1_1, nI_0, c_9]; omega) | grind [savI, bI, nI1_1, nI_0])
set_option maxHeartbeats 4000000 in
theorem m_X9_harsh (l : Launch) (D : va_G) (ca : Nat → ClassId) (h : Nat) (t0 : Int32) (t1 : Int32) (a2 : Nat) (a3 : Nat) (a4 : Nat) (a5 : Nat) (a6 : Nat) (a7 : Nat) (a8 : Nat) (a10 : Nat) (a19 : Nat) (a20 : Nat) (a21 : Nat) (a22 : Nat) (ac : Nat) (tpd : Nat) (cu : Nat) (sta : Nat) (tok : Nat) (fau : Nat) (trd : Nat) (val : Int32) (fat : Int32) (lat : Int32) (d : Nat → Nat) (x : Int32) (y : Int32) (sz : Nat) (hd : dOK d) : Met l yX9_harsh (ws_ yX9_harsh cX9_harsh 6 (some .int)) (rmL 5) (PcA (K1 D ca) D [.ref h, .int x, .int y] [(h, .inr (8, [.int t0, .int t1, .ref a2, .ref a3, .ref a4, .ref a5, .ref a6, .ref a7, .ref a8, .int (nI ac), .ref a10, .int (nI tpd), .int (nI cu), .int (nI sta), .int (nI tok), .int val, .int (nI fau), .int fat, .int lat, .ref a19, .ref a20, .ref a21, .ref a22, .int (nI trd)])), (a5, .inl (ca 0, 64, .inl (dv d)))] sz) (QiA D (fun zr (_ : Unit) => zr = harI d x y) (fun _ => [(h, .inr (8, [.int (nI 0), .int t1, .ref a2, .ref a3, .ref a4, .ref a5, .ref a6, .ref a7, .ref a8, .int (nI ac), .ref a10, .int (nI tpd), .int (nI cu), .int (nI sta), .int (nI tok), .int val, .int (nI fau), .int fat, .int lat, .ref a19, .ref a20, .ref a21, .ref a22, .int (nI trd)])), (a5, .inl (ca 0, 64, .inl (dv d)))]) (va_A [(h, .inr (8, [.int t0, .int t1, .ref a2, .ref a3, .ref a4, .ref a5, .ref a6, .ref a7, .ref a8, .int (nI ac), .ref a10, .int (nI tpd), .int (nI cu), .int (nI sta), .int (nI tok), .int val, .int (nI fau), .int fat, .int lat, .ref a19, .ref a20, .ref a21, .ref a22, .int (nI trd)])), (a5, .inl (ca 0, 64, .inl (dv d)))] sz)) 0 0 (va_A [(h, .inr (8, [.int t0, .int t1, .ref a2, .ref a3, .ref a4, .ref a5, .ref a6, .ref a7, .ref a8, .int (nI ac), .ref a10, .int (nI tpd), .int (nI cu), .int (nI sta), .int (nI tok), .int val, .int (nI fau), .int fat, .int lat, .ref a19, .ref a20, .ref a21, .ref a22, .int (nI trd)])), (a5, .inl (ca 0, 64, .inl (dv d)))] sz) := by
  refine wr_head (Qc := fun A => (QiA D (fun zr (_ : Unit) => zr = harI d x y) (fun _ => [(h, .inr (8, [.int (nI 0), .int t1, .ref a2, .ref a3, .ref a4, .ref a5, .ref a6, .ref a7, .ref a8, .int (nI ac), .ref a10, .int (nI tpd), .int (nI cu), .int (nI sta), .int (nI tok), .int val, .int (nI fau), .int fat, .int lat, .ref a19, .ref a20, .ref a21, .ref a22, .int (nI trd)])), (a5, .inl (ca 0, 64, .inl (dv d)))]) A)) (by decide) (Nat.le_of_ble_eq_true rfl) ?_
  intro zp ze zs zm za zb zt zc ls zQ A H locs hx hb hml hr hlk hown hts hnm hK hP hD hS hA hl hQ
  have hown : zs.vm.findClass RX9 = some zm.cls := hown
  have hl : lv_has ls 6 [(0, .ref h), (1, .int x), (2, .int y)] := hl
  have hF : CallFix zp zm zc cX9_harsh 6 zs za lw_all RX9 := ⟨hx, hb, hml, hown, hts⟩
  have hd2 : d 2 ≤ 8 := hd.2.2.1
  have hd3 : d 3 ≤ 5 := hd.2.2.2.1
  have hd0 : d 0 ≤ 9 := hd.1
  have hd1 : d 1 ≤ 8 := hd.2.1
  have hp2 := pow_8 hd2
  have hp3 := pow_8 (show d 3 ≤ 8 by omega)
  refine lv_aload_n hx hb dX9_harsh_0 rfl (lv_at hl 0 rfl) ?_
  refine lv_iconst (v := nI 0) hx hb dX9_harsh_1 rfl ?_
  refine va_put (D := D) (ci := 8) (v := .int (nI 0)) (ty := .int) (C := RX9) (T := TX9) (N := 24) hx hb hts in_X9 tyX9 tyX9_ok nmX9 hown hK hP hD hS 0 rfl rfl 0 (by decide) (hts _ q1179) (fun _ h9 => h9) rfl (tyX9_ok 0 (by decide)) rfl rfl (Nat.le_of_ble_eq_true rfl) dX9_harsh_2 (fun H locs hP hD hS => ?_)
  have hP : va_P D vwCl [(h, .inr (8, [.int (nI 0), .int t1, .ref a2, .ref a3, .ref a4, .ref a5, .ref a6, .ref a7, .ref a8, .int (nI ac), .ref a10, .int (nI tpd), .int (nI cu), .int (nI sta), .int (nI tok), .int val, .int (nI fau), .int fat, .int lat, .ref a19, .ref a20, .ref a21, .ref a22, .int (nI trd)])), (a5, .inl (ca 0, 64, .inl (dv d)))] H := hP
  have hD : va_D A [(h, .inr (8, [.int (nI 0), .int t1, .ref a2, .ref a3, .ref a4, .ref a5, .ref a6, .ref a7, .ref a8, .int (nI ac), .ref a10, .int (nI tpd), .int (nI cu), .int (nI sta), .int (nI tok), .int val, .int (nI fau), .int fat, .int lat, .ref a19, .ref a20, .ref a21, .ref a22, .int (nI trd)])), (a5, .inl (ca 0, 64, .inl (dv d)))] := hD
  refine lv_aload_n hx hb dX9_harsh_5 rfl (lv_at hl 0 rfl) ?_
  refine rd_callV hF (m_X9_isThere l D ca h ([.int (nI 0), .int t1, .ref a2, .ref a3, .ref a4, .ref a5, .ref a6, .ref a7, .ref a8, .int (nI ac), .ref a10, .int (nI tpd), .int (nI cu), .int (nI sta), .int (nI tok), .int val, .int (nI fau), .int fat, .int lat, .ref a19, .ref a20, .ref a21, .ref a22, .int (nI trd)]) a5 d (by first | rfl | assumption) (by assumption)) (cs_X9_isThere hts q1404 ⟨by decide, by decide⟩) (K1_mv D ca) hK (hP.sub [0, 1] rfl) (va_recv hK hP (ci := 8) (q0 := 0) rfl rfl) rfl hl.1 rfl (Nat.le_of_ble_eq_true rfl) dX9_harsh_6 ⟨Nat.zero_le _, Nat.zero_le _⟩ ?_
  refine wb_ne (tgt := 15) hx hb dX9_harsh_9 (by decide) (fun c_9 => ?_) (fun c_9 => ?_)
  · refine lv_aload_n hx hb dX9_harsh_15 rfl (lv_at hl 0 rfl) ?_
    refine lv_iload_n hx hb dX9_harsh_16 rfl (lv_at hl 1 rfl) ?_
    refine rd_callV hF (m_X9_areVisitors l D ca h ([.int (nI 0), .int t1, .ref a2, .ref a3, .ref a4, .ref a5, .ref a6, .ref a7, .ref a8, .int (nI ac), .ref a10, .int (nI tpd), .int (nI cu), .int (nI sta), .int (nI tok), .int val, .int (nI fau), .int fat, .int lat, .ref a19, .ref a20, .ref a21, .ref a22, .int (nI trd)]) a5 d x (by first | rfl | assumption) (by assumption)) (cs_X9_areVisitors hts q1464 ⟨by decide, by decide⟩) (K1_mv D ca) hK (hP.sub [0, 1] rfl) (va_recv hK hP (ci := 8) (q0 := 0) rfl rfl) rfl hl.1 rfl (Nat.le_of_ble_eq_true rfl) dX9_harsh_17 ⟨Nat.zero_le _, Nat.zero_le _⟩ ?_
    refine wb_eq (tgt := 31) hx hb dX9_harsh_20 (by decide) (fun c_20 => ?_) (fun c_20 => ?_)
    · have ix_x : ixO x (2 ^ d 3) = none := ixO_f c_20
      refine lv_ldc (v := (-1000001)) hx hb hown (hts _ q1266) dX9_harsh_31 ?_
      exact wr_iret () hx hb hr hlk hQ dX9_harsh_33 (wp_to (hP.sub [0, 1] rfl) rfl) (wd_to (hD.sub [0, 1] (by decide) rfl) rfl) hS (Nat.le_refl _) (Nat.le_refl _) (by first | (simp [harI, c_9, c_20, ix_x]; done) | grind [harI] | (have hie : i = d 3 := (by omega); subst hie; grind [harI]))
    · obtain ⟨vs, hvs, hxvs⟩ := (ltB_iff (by omega)).mp c_20
      subst hxvs
      have ix_vs : ixO (nI vs) (2 ^ d 3) = some vs := ixO_t hvs (by omega)
      refine lv_aload_n hx hb dX9_harsh_23 rfl (lv_at hl 0 rfl) ?_
      refine lv_iload_n hx hb dX9_harsh_24 rfl (lv_at hl 2 rfl) ?_
      refine rd_callV hF (m_X9_areSquares l D ca h ([.int (nI 0), .int t1, .ref a2, .ref a3, .ref a4, .ref a5, .ref a6, .ref a7, .ref a8, .int (nI ac), .ref a10, .int (nI tpd), .int (nI cu), .int (nI sta), .int (nI tok), .int val, .int (nI fau), .int fat, .int lat, .ref a19, .ref a20, .ref a21, .ref a22, .int (nI trd)]) a5 d y (by first | rfl | assumption) (by assumption)) (cs_X9_areSquares hts q1359 ⟨by decide, by decide⟩) (K1_mv D ca) hK (hP.sub [0, 1] rfl) (va_recv hK hP (ci := 8) (q0 := 0) rfl rfl) rfl hl.1 rfl (Nat.le_of_ble_eq_true rfl) dX9_harsh_25 ⟨Nat.zero_le _, Nat.zero_le _⟩ ?_
      refine wb_ne (tgt := 34) hx hb dX9_harsh_28 (by decide) (fun c_28 => ?_) (fun c_28 => ?_)
      · obtain ⟨s, hs, hxs⟩ := (ltB_iff (by omega)).mp c_28
        subst hxs
        have ix_s : ixO (nI s) (2 ^ d 2) = some s := ixO_t hs (by omega)
        refine lv_iconst (v := nI 0) hx hb dX9_harsh_34 rfl ?_
        refine lv_istore_n (lv' := [(3, .int (nI 0)), (0, .ref h), (1, .int (nI vs)), (2, .int (nI s))]) hx hb dX9_harsh_35 rfl hl (by decide) rfl (fun ls hl => ?_)
        refine lv_iconst (v := nI 0) hx hb dX9_harsh_36 rfl ?_
        refine lv_istore (lv' := [(4, .int (nI 0)), (3, .int (nI 0)), (0, .ref h), (1, .int (nI vs)), (2, .int (nI s))]) hx hb dX9_harsh_37 hl (by decide) rfl (fun ls hl => ?_)
        have lp_39 : ∀ (zn : Nat) (i : Nat), (i ≤ d 3) →  (d 3 - i) < zn → ∀ (H : Heap) (locs : List Loc), va_P D vwCl [(h, .inr (8, [.int (nI 0), .int t1, .ref a2, .ref a3, .ref a4, .ref a5, .ref a6, .ref a7, .ref a8, .int (nI ac), .ref a10, .int (nI tpd), .int (nI cu), .int (nI sta), .int (nI tok), .int val, .int (nI fau), .int fat, .int lat, .ref a19, .ref a20, .ref a21, .ref a22, .int (nI trd)])), (a5, .inl (ca 0, 64, .inl (dv d)))] H → va_D A [(h, .inr (8, [.int (nI 0), .int t1, .ref a2, .ref a3, .ref a4, .ref a5, .ref a6, .ref a7, .ref a8, .int (nI ac), .ref a10, .int (nI tpd), .int (nI cu), .int (nI sta), .int (nI tok), .int val, .int (nI fau), .int fat, .int lat, .ref a19, .ref a20, .ref a21, .ref a22, .int (nI trd)])), (a5, .inl (ca 0, 64, .inl (dv d)))] → va_S A zs.heap H locs → ∀ (ls : Array Slot), lv_has ls 6 [(0, .ref h), (1, .int (nI vs)), (2, .int (nI s)), (3, .int (nI (harN d vs s i))), (4, .int (nI i))] → W zp l ze (rmL 5) zs zm za zb zt zc H locs 0 0 zQ (F0 zm 39 ls []) := by
          intro zn
          induction zn with
          | zero => intro i hi hmu_39; exact absurd hmu_39 (Nat.not_lt_zero _)
          | succ zn ih_39 =>
            intro i hi hmu_39 H locs hP hD hS ls hl
            have hhl := harN_le d vs s i
            refine lv_iload hx hb dX9_harsh_39 (lv_at hl 4 rfl) ?_
            refine lv_aload_n hx hb dX9_harsh_41 rfl (lv_at hl 0 rfl) ?_
            refine va_get (D := D) (ci := 8) (v := .ref a5) (C := RX9) (T := TX9) (N := 24) hx hb hts in_X9 hown hK hP 0 rfl rfl 5 (by decide) (hts _ q1184) (fun _ h9 => h9) rfl dX9_harsh_42 ?_
            refine lv_iconst (v := nI 3) hx hb dX9_harsh_45 rfl ?_
            refine wn_iald (v := nI (d 3)) hx hb hK hP 1 0 rfl rfl (by omega) (by decide) rfl dX9_harsh_46 ?_
            refine wn_ge (tgt := 94) hx hb (by omega) (by omega) dX9_harsh_47 (by decide) (fun c_47 => ?_) (fun c_47 => ?_)
            · have c_47n := Nat.not_lt.mpr c_47
              refine lv_iload_n hx hb dX9_harsh_94 rfl (lv_at hl 3 rfl) ?_
              exact wr_iret () hx hb hr hlk hQ dX9_harsh_95 (wp_to (hP.sub [0, 1] rfl) rfl) (wd_to (hD.sub [0, 1] (by decide) rfl) rfl) hS (Nat.le_refl _) (Nat.le_refl _) (by first | (simp [harI, c_9, c_20, ix_vs, c_28, ix_s, c_47, c_47n]; done) | grind [harI] | (have hie : i = d 3 := (by omega); subst hie; grind [harI]))
            · have c_47n := Nat.not_le.mpr c_47
              refine lv_iload_n hx hb dX9_harsh_50 rfl (lv_at hl 1 rfl) ?_
              refine lv_iload hx hb dX9_harsh_51 (lv_at hl 4 rfl) ?_
              refine rd_callS hF (m_X9_has l D ca vs i (by first | assumption | omega) (by first | assumption | omega)) (cs_X9_has hts q1373 ⟨by decide, by decide⟩) (K1_mv D ca) hK (hP.sub [] rfl) rfl hl.1 rfl (Nat.le_of_ble_eq_true rfl) dX9_harsh_53 ⟨Nat.zero_le _, Nat.zero_le _⟩ ?_
              refine wb_eq (tgt := 72) hx hb dX9_harsh_56 (by decide) (fun c_56 => ?_) (fun c_56 => ?_)
              · refine lv_iconst (v := nI 0) hx hb dX9_harsh_72 rfl ?_
                refine lv_istore (lv' := [(5, .int (nI 0)), (0, .ref h), (1, .int (nI vs)), (2, .int (nI s)), (3, .int (nI (harN d vs s i))), (4, .int (nI i))]) hx hb dX9_harsh_73 hl (by decide) rfl (fun ls hl => ?_)
                refine lv_iload hx hb dX9_harsh_75 (lv_at hl 0 rfl) ?_
                refine lv_iload_n hx hb dX9_harsh_77 rfl (lv_at hl 4 rfl) ?_
                refine wn_le (tgt := 86) hx hb (by omega) (by omega) dX9_harsh_78 (by decide) (fun c_78 => ?_) (fun c_78 => ?_)
                · have c_78n := Nat.not_lt.mpr c_78
                  refine lv_iload_n hx hb dX9_harsh_86 rfl (lv_at hl 4 rfl) ?_
                  refine lv_istore_n (lv' := [(3, .int (nI (harN d vs s i))), (5, .int (nI 0)), (0, .ref h), (1, .int (nI vs)), (2, .int (nI s)), (4, .int (nI i))]) hx hb dX9_harsh_87 rfl hl (by decide) rfl (fun ls hl => ?_)
                  refine lv_iinc (v := nI (i + 1)) (lv' := [(4, .int (nI (i + 1))), (3, .int (nI (harN d vs s i))), (5, .int (nI 0)), (0, .ref h), (1, .int (nI vs)), (2, .int (nI s))]) hx hb dX9_harsh_88 hl (k := 5) rfl (nI_add i 1) (by decide) rfl (fun ls hl => ?_)
                  refine lv_goto (tgt := 39) hx hb dX9_harsh_91 (by decide) ?_
                  have e_1 : harN d vs s i = harN d vs s (i + 1) := by first | rfl | (simp [harN, c_9, c_20, ix_vs, c_28, ix_s, c_47, c_47n, c_56, c_78, c_78n])
                  have e_2 : i + 1 = (i + 1) := by first | rfl | (simp [harN, c_9, c_20, ix_vs, c_28, ix_s, c_47, c_47n, c_56, c_78, c_78n])
                  exact ih_39 (i + 1) (by omega) (by omega) H locs (wp_to (hP.sub [0, 1] rfl) rfl) (wd_to (hD.sub [0, 1] (by decide) rfl) rfl) hS ls (lv_to (lv_sub hl [3, 4, 5, 1, 0] rfl) (Eq.trans (congrArg (fun x => ([(0, .ref h), (1, .int (nI vs)), (2, .int (nI s)), (3, .int (nI x)), (4, .int (nI (i + 1)))] : List (Nat × Value))) e_1) (congrArg (fun x => ([(0, .ref h), (1, .int (nI vs)), (2, .int (nI s)), (3, .int (nI (harN d vs s (i + 1)))), (4, .int (nI x))] : List (Nat × Value))) e_2)))
                · have c_78n := Nat.not_le.mpr c_78
                  refine lv_iload hx hb dX9_harsh_81 (lv_at hl 0 rfl) ?_
                  refine lv_goto (tgt := 87) hx hb dX9_harsh_83 (by decide) ?_
                  refine lv_istore_n (lv' := [(3, .int (nI 0)), (5, .int (nI 0)), (0, .ref h), (1, .int (nI vs)), (2, .int (nI s)), (4, .int (nI i))]) hx hb dX9_harsh_87 rfl hl (by decide) rfl (fun ls hl => ?_)
                  refine lv_iinc (v := nI (i + 1)) (lv' := [(4, .int (nI (i + 1))), (3, .int (nI 0)), (5, .int (nI 0)), (0, .ref h), (1, .int (nI vs)), (2, .int (nI s))]) hx hb dX9_harsh_88 hl (k := 5) rfl (nI_add i 1) (by decide) rfl (fun ls hl => ?_)
                  refine lv_goto (tgt := 39) hx hb dX9_harsh_91 (by decide) ?_
                  have e_3 : 0 = harN d vs s (i + 1) := by first | rfl | (simp [harN, c_9, c_20, ix_vs, c_28, ix_s, c_47, c_47n, c_56, c_78, c_78n])
                  have e_4 : i + 1 = (i + 1) := by first | rfl | (simp [harN, c_9, c_20, ix_vs, c_28, ix_s, c_47, c_47n, c_56, c_78, c_78n])
                  exact ih_39 (i + 1) (by omega) (by omega) H locs (wp_to (hP.sub [0, 1] rfl) rfl) (wd_to (hD.sub [0, 1] (by decide) rfl) rfl) hS ls (lv_to (lv_sub hl [3, 4, 5, 1, 0] rfl) (Eq.trans (congrArg (fun x => ([(0, .ref h), (1, .int (nI vs)), (2, .int (nI s)), (3, .int (nI x)), (4, .int (nI (i + 1)))] : List (Nat × Value))) e_3) (congrArg (fun x => ([(0, .ref h), (1, .int (nI vs)), (2, .int (nI s)), (3, .int (nI (harN d vs s (i + 1)))), (4, .int (nI x))] : List (Nat × Value))) e_4)))
              · have hwl := wroN_le d i s (d 2)
                refine lv_aload_n hx hb dX9_harsh_59 rfl (lv_at hl 0 rfl) ?_
                refine va_get (D := D) (ci := 8) (v := .ref a5) (C := RX9) (T := TX9) (N := 24) hx hb hts in_X9 hown hK hP 0 rfl rfl 5 (by decide) (hts _ q1184) (fun _ h9 => h9) rfl dX9_harsh_60 ?_
                refine lv_iload hx hb dX9_harsh_63 (lv_at hl 4 rfl) ?_
                refine lv_iload_n hx hb dX9_harsh_65 rfl (lv_at hl 2 rfl) ?_
                refine rd_callS hF (m_X9_wrongOf l D ca a5 d i s (by assumption) (by first | assumption | omega) (by first | assumption | omega)) (cs_X9_wrongOf hts q1370 ⟨by decide, by decide⟩) (K1_mv D ca) hK (hP.sub [1] rfl) rfl hl.1 rfl (Nat.le_of_ble_eq_true rfl) dX9_harsh_66 ⟨Nat.zero_le _, Nat.zero_le _⟩ ?_
                refine lv_goto (tgt := 73) hx hb dX9_harsh_69 (by decide) ?_
                refine lv_istore (lv' := [(5, .int (nI (wroN d i s (d 2)))), (0, .ref h), (1, .int (nI vs)), (2, .int (nI s)), (3, .int (nI (harN d vs s i))), (4, .int (nI i))]) hx hb dX9_harsh_73 hl (by decide) rfl (fun ls hl => ?_)
                refine lv_iload hx hb dX9_harsh_75 (lv_at hl 0 rfl) ?_
                refine lv_iload_n hx hb dX9_harsh_77 rfl (lv_at hl 4 rfl) ?_
                refine wn_le (tgt := 86) hx hb (by omega) (by omega) dX9_harsh_78 (by decide) (fun c_78 => ?_) (fun c_78 => ?_)
                · have c_78n := Nat.not_lt.mpr c_78
                  refine lv_iload_n hx hb dX9_harsh_86 rfl (lv_at hl 4 rfl) ?_
                  refine lv_istore_n (lv' := [(3, .int (nI (harN d vs s i))), (5, .int (nI (wroN d i s (d 2)))), (0, .ref h), (1, .int (nI vs)), (2, .int (nI s)), (4, .int (nI i))]) hx hb dX9_harsh_87 rfl hl (by decide) rfl (fun ls hl => ?_)
                  refine lv_iinc (v := nI (i + 1)) (lv' := [(4, .int (nI (i + 1))), (3, .int (nI (harN d vs s i))), (5, .int (nI (wroN d i s (d 2)))), (0, .ref h), (1, .int (nI vs)), (2, .int (nI s))]) hx hb dX9_harsh_88 hl (k := 5) rfl (nI_add i 1) (by decide) rfl (fun ls hl => ?_)
                  refine lv_goto (tgt := 39) hx hb dX9_harsh_91 (by decide) ?_
                  have e_5 : harN d vs s i = harN d vs s (i + 1) := by first | rfl | (simp [harN, c_9, c_20, ix_vs, c_28, ix_s, c_47, c_47n, c_56, c_78, c_78n])
                  have e_6 : i + 1 = (i + 1) := by first | rfl | (simp [harN, c_9, c_20, ix_vs, c_28, ix_s, c_47, c_47n, c_56, c_78, c_78n])
                  exact ih_39 (i + 1) (by omega) (by omega) H locs (wp_to (hP.sub [0, 1] rfl) rfl) (wd_to (hD.sub [0, 1] (by decide) rfl) rfl) hS ls (lv_to (lv_sub hl [3, 4, 5, 1, 0] rfl) (Eq.trans (congrArg (fun x => ([(0, .ref h), (1, .int (nI vs)), (2, .int (nI s)), (3, .int (nI x)), (4, .int (nI (i + 1)))] : List (Nat × Value))) e_5) (congrArg (fun x => ([(0, .ref h), (1, .int (nI vs)), (2, .int (nI s)), (3, .int (nI (harN d vs s (i + 1)))), (4, .int (nI x))] : List (Nat × Value))) e_6)))
                · have c_78n := Nat.not_le.mpr c_78
                  refine lv_iload hx hb dX9_harsh_81 (lv_at hl 0 rfl) ?_
                  refine lv_goto (tgt := 87) hx hb dX9_harsh_83 (by decide) ?_
                  refine lv_istore_n (lv' := [(3, .int (nI (wroN d i s (d 2)))), (5, .int (nI (wroN d i s (d 2)))), (0, .ref h), (1, .int (nI vs)), (2, .int (nI s)), (4, .int (nI i))]) hx hb dX9_harsh_87 rfl hl (by decide) rfl (fun ls hl => ?_)
                  refine lv_iinc (v := nI (i + 1)) (lv' := [(4, .int (nI (i + 1))), (3, .int (nI (wroN d i s (d 2)))), (5, .int (nI (wroN d i s (d 2)))), (0, .ref h), (1, .int (nI vs)), (2, .int (nI s))]) hx hb dX9_harsh_88 hl (k := 5) rfl (nI_add i 1) (by decide) rfl (fun ls hl => ?_)
                  refine lv_goto (tgt := 39) hx hb dX9_harsh_91 (by decide) ?_
                  have e_7 : wroN d i s (d 2) = harN d vs s (i + 1) := by first | rfl | (simp [harN, c_9, c_20, ix_vs, c_28, ix_s, c_47, c_47n, c_56, c_78, c_78n])
                  have e_8 : i + 1 = (i + 1) := by first | rfl | (simp [harN, c_9, c_20, ix_vs, c_28, ix_s, c_47, c_47n, c_56, c_78, c_78n])
                  exact ih_39 (i + 1) (by omega) (by omega) H locs (wp_to (hP.sub [0, 1] rfl) rfl) (wd_to (hD.sub [0, 1] (by decide) rfl) rfl) hS ls (lv_to (lv_sub hl [3, 4, 5, 1, 0] rfl) (Eq.trans (congrArg (fun x => ([(0, .ref h), (1, .int (nI vs)), (2, .int (nI s)), (3, .int (nI x)), (4, .int (nI (i + 1)))] : List (Nat × Value))) e_7) (congrArg (fun x => ([(0, .ref h), (1, .int (nI vs)), (2, .int (nI s)), (3, .int (nI (harN d vs s (i + 1)))), (4, .int (nI x))] : List (Nat × Value))) e_8)))
        have e_9 : 0 = harN d vs s 0 := by first | rfl | (rfl)
        exact lp_39 ((d 3 - 0) + 1) 0 (by omega) (by omega) H locs (wp_to (hP.sub [0, 1] rfl) rfl) (wd_to (hD.sub [0, 1] (by decide) rfl) rfl) hS ls (lv_to (lv_sub hl [2, 3, 4, 1, 0] rfl) (congrArg (fun x => ([(0, .ref h), (1, .int (nI vs)), (2, .int (nI s)), (3, .int (nI x)), (4, .int (nI 0))] : List (Nat × Value))) e_9))
      · have ix_y : ixO y (2 ^ d 2) = none := ixO_f c_28
        refine lv_ldc (v := (-1000001)) hx hb hown (hts _ q1266) dX9_harsh_31 ?_
        exact wr_iret () hx hb hr hlk hQ dX9_harsh_33 (wp_to (hP.sub [0, 1] rfl) rfl) (wd_to (hD.sub [0, 1] (by decide) rfl) rfl) hS (Nat.le_refl _) (Nat.le_refl _) (by first | (simp [harI, c_9, c_20, ix_vs, c_28, ix_y]; done) | grind [harI] | (have hie : i = d 3 := (by omega); subst hie; grind [harI]))
  · refine lv_ldc (v := (-1000002)) hx hb hown (hts _ q1408) dX9_harsh_12 ?_
    exact wr_iret () hx hb hr hlk hQ dX9_harsh_14 (wp_to (hP.sub [0, 1] rfl) rfl) (wd_to (hD.sub [0, 1] (by decide) rfl) rfl) hS (Nat.le_refl _) (Nat.le_refl _) (by first | (simp [harI, c_9]; done) | grind [harI] | (have hie : i = d 3 := (by omega); subst hie; grind [harI]))
theorem cs_X9_votesOf {R : Room} {s : State} {args : Array Value} {own : String} {index : Nat} (hts : ∀ w ∈ lw_all, w.before args s = true) (hl : Cond.methodLink own index yX9_votesOf ∈ lw_all) {rm : Room} {mc ms : Nat} (hR : rm.frames + 1 ≤ R.frames ∧ 8 + (3 + 11) + rm.locals ≤ R.locals) (hc : rm.cells = mc := by rfl) (hs : rm.slots = ms := by rfl) : CallB R s args own index yX9_votesOf cX9_votesOf 3 (some .int) (ws_ yX9_votesOf cX9_votesOf 3 (some .int)) rm mc ms 1 ∧ (Cond.static yX9_votesOf).before args s = true := va_cwS 1 hts (lw_S hl q1543 q70 q1544) rfl hc hs (by decide +kernel) hR
set_option maxHeartbeats 4000000 in
theorem m_X9_count (l : Launch) (D : va_G) (ca : Nat → ClassId) (h : Nat) (t0 : Int32) (t1 : Int32) (a2 : Nat) (a3 : Nat) (a4 : Nat) (a5 : Nat) (a6 : Nat) (a7 : Nat) (a8 : Nat) (a10 : Nat) (a19 : Nat) (a20 : Nat) (a21 : Nat) (a22 : Nat) (ac : Nat) (tpd : Nat) (cu : Nat) (sta : Nat) (tok : Nat) (fau : Nat) (trd : Nat) (val : Int32) (fat : Int32) (lat : Int32) (d : Nat → Nat) (la : Nat → Int32) (w : Int32) (sz : Nat) (hd : dOK d) : Met l yX9_count (ws_ yX9_count cX9_count 4 (some .int)) (rmL 2) (PcA (K1 D ca) D [.ref h, .int w] [(h, .inr (8, [.int t0, .int t1, .ref a2, .ref a3, .ref a4, .ref a5, .ref a6, .ref a7, .ref a8, .int (nI ac), .ref a10, .int (nI tpd), .int (nI cu), .int (nI sta), .int (nI tok), .int val, .int (nI fau), .int fat, .int lat, .ref a19, .ref a20, .ref a21, .ref a22, .int (nI trd)])), (a5, .inl (ca 0, 64, .inl (dv d))), (a2, .inl (ca 0, 8, .inl la))] sz) (QiA D (fun zr (_ : Unit) => zr = cntI d la ac tpd w) (fun _ => [(h, .inr (8, [.int (nI 0), .int t1, .ref a2, .ref a3, .ref a4, .ref a5, .ref a6, .ref a7, .ref a8, .int (nI ac), .ref a10, .int (nI tpd), .int (nI cu), .int (nI sta), .int (nI tok), .int val, .int (nI fau), .int fat, .int lat, .ref a19, .ref a20, .ref a21, .ref a22, .int (nI trd)])), (a5, .inl (ca 0, 64, .inl (dv d))), (a2, .inl (ca 0, 8, .inl la))]) (va_A [(h, .inr (8, [.int t0, .int t1, .ref a2, .ref a3, .ref a4, .ref a5, .ref a6, .ref a7, .ref a8, .int (nI ac), .ref a10, .int (nI tpd), .int (nI cu), .int (nI sta), .int (nI tok), .int val, .int (nI fau), .int fat, .int lat, .ref a19, .ref a20, .ref a21, .ref a22, .int (nI trd)])), (a5, .inl (ca 0, 64, .inl (dv d))), (a2, .inl (ca 0, 8, .inl la))] sz)) 0 0 (va_A [(h, .inr (8, [.int t0, .int t1, .ref a2, .ref a3, .ref a4, .ref a5, .ref a6, .ref a7, .ref a8, .int (nI ac), .ref a10, .int (nI tpd), .int (nI cu), .int (nI sta), .int (nI tok), .int val, .int (nI fau), .int fat, .int lat, .ref a19, .ref a20, .ref a21, .ref a22, .int (nI trd)])), (a5, .inl (ca 0, 64, .inl (dv d))), (a2, .inl (ca 0, 8, .inl la))] sz) := by
  refine wr_head (Qc := fun A => (QiA D (fun zr (_ : Unit) => zr = cntI d la ac tpd w) (fun _ => [(h, .inr (8, [.int (nI 0), .int t1, .ref a2, .ref a3, .ref a4, .ref a5, .ref a6, .ref a7, .ref a8, .int (nI ac), .ref a10, .int (nI tpd), .int (nI cu), .int (nI sta), .int (nI tok), .int val, .int (nI fau), .int fat, .int lat, .ref a19, .ref a20, .ref a21, .ref a22, .int (nI trd)])), (a5, .inl (ca 0, 64, .inl (dv d))), (a2, .inl (ca 0, 8, .inl la))]) A)) (by decide) (Nat.le_of_ble_eq_true rfl) ?_
  intro zp ze zs zm za zb zt zc ls zQ A H locs hx hb hml hr hlk hown hts hnm hK hP hD hS hA hl hQ
  have hown : zs.vm.findClass RX9 = some zm.cls := hown
  have hl : lv_has ls 4 [(0, .ref h), (1, .int w)] := hl
  have hF : CallFix zp zm zc cX9_count 4 zs za lw_all RX9 := ⟨hx, hb, hml, hown, hts⟩
  have hd2 : d 2 ≤ 8 := hd.2.2.1
  have hd3 : d 3 ≤ 5 := hd.2.2.2.1
  have hd0 : d 0 ≤ 9 := hd.1
  have hd1 : d 1 ≤ 8 := hd.2.1
  have hp2 := pow_8 hd2
  have hp3 := pow_8 (show d 3 ≤ 8 by omega)
  refine lv_aload_n hx hb dX9_count_0 rfl (lv_at hl 0 rfl) ?_
  refine lv_iconst (v := nI 0) hx hb dX9_count_1 rfl ?_
  refine va_put (D := D) (ci := 8) (v := .int (nI 0)) (ty := .int) (C := RX9) (T := TX9) (N := 24) hx hb hts in_X9 tyX9 tyX9_ok nmX9 hown hK hP hD hS 0 rfl rfl 0 (by decide) (hts _ q1179) (fun _ h9 => h9) rfl (tyX9_ok 0 (by decide)) rfl rfl (Nat.le_of_ble_eq_true rfl) dX9_count_2 (fun H locs hP hD hS => ?_)
  have hP : va_P D vwCl [(h, .inr (8, [.int (nI 0), .int t1, .ref a2, .ref a3, .ref a4, .ref a5, .ref a6, .ref a7, .ref a8, .int (nI ac), .ref a10, .int (nI tpd), .int (nI cu), .int (nI sta), .int (nI tok), .int val, .int (nI fau), .int fat, .int lat, .ref a19, .ref a20, .ref a21, .ref a22, .int (nI trd)])), (a5, .inl (ca 0, 64, .inl (dv d))), (a2, .inl (ca 0, 8, .inl la))] H := hP
  have hD : va_D A [(h, .inr (8, [.int (nI 0), .int t1, .ref a2, .ref a3, .ref a4, .ref a5, .ref a6, .ref a7, .ref a8, .int (nI ac), .ref a10, .int (nI tpd), .int (nI cu), .int (nI sta), .int (nI tok), .int val, .int (nI fau), .int fat, .int lat, .ref a19, .ref a20, .ref a21, .ref a22, .int (nI trd)])), (a5, .inl (ca 0, 64, .inl (dv d))), (a2, .inl (ca 0, 8, .inl la))] := hD
  refine lv_iconst (v := nI 0) hx hb dX9_count_5 rfl ?_
  refine lv_istore_n (lv' := [(2, .int (nI 0)), (0, .ref h), (1, .int w)]) hx hb dX9_count_6 rfl hl (by decide) rfl (fun ls hl => ?_)
  refine lv_iload_n hx hb dX9_count_7 rfl (lv_at hl 2 rfl) ?_
  rcases sw_split w 7 (by decide) with c_8 | ⟨j_8, hj_8, c_8⟩
  · have iw_8 : ixO w 8 = none := ixO_out c_8
    refine lv_tableOut (tgt := 169) hx hb dX9_count_8 c_8 (by decide) ?_
    refine lv_ldc (v := (-1000001)) hx hb hown (hts _ q1266) dX9_count_169 ?_
    exact wr_iret () hx hb hr hlk hQ dX9_count_171 (wp_to (hP.sub [0, 1, 2] rfl) rfl) (wd_to (hD.sub [0, 1, 2] (by decide) rfl) rfl) hS (Nat.le_refl _) (Nat.le_refl _) (by first | (simp [cntI, c_8, iw_8]; done) | (have hie : i = 8 := (by omega); subst hie; simp [cntI, c_8, iw_8]; done) | (have hie : i = d 2 := (by omega); subst hie; simp [cntI, c_8, iw_8]; done))
  · rcases (show j_8 = 0 ∨ j_8 = 1 ∨ j_8 = 2 ∨ j_8 = 3 ∨ j_8 = 4 ∨ j_8 = 5 ∨ j_8 = 6 ∨ j_8 = 7 by omega) with rfl | rfl | rfl | rfl | rfl | rfl | rfl | rfl
    · have iw_8 : ixO w 8 = some 0 := by rw [c_8]; exact ixO_t (by decide) (by decide)
      refine lv_tableIn (off := 48) (tgt := 56) hx hb dX9_count_8 (by rw [c_8]; decide) (by rw [c_8]; decide) (by rw [c_8]; rfl) (by decide) ?_
      refine lv_iconst (v := nI 0) hx hb dX9_count_56 rfl ?_
      refine lv_istore_n (lv' := [(3, .int (nI 0)), (2, .int (nI 0)), (0, .ref h), (1, .int w)]) hx hb dX9_count_57 rfl hl (by decide) rfl (fun ls hl => ?_)
      have lp_58 : ∀ (zn : Nat) (i : Nat), (i ≤ 8) →  (8 - i) < zn → ∀ (H : Heap) (locs : List Loc), va_P D vwCl [(h, .inr (8, [.int (nI 0), .int t1, .ref a2, .ref a3, .ref a4, .ref a5, .ref a6, .ref a7, .ref a8, .int (nI ac), .ref a10, .int (nI tpd), .int (nI cu), .int (nI sta), .int (nI tok), .int val, .int (nI fau), .int fat, .int lat, .ref a19, .ref a20, .ref a21, .ref a22, .int (nI trd)])), (a5, .inl (ca 0, 64, .inl (dv d))), (a2, .inl (ca 0, 8, .inl la))] H → va_D A [(h, .inr (8, [.int (nI 0), .int t1, .ref a2, .ref a3, .ref a4, .ref a5, .ref a6, .ref a7, .ref a8, .int (nI ac), .ref a10, .int (nI tpd), .int (nI cu), .int (nI sta), .int (nI tok), .int val, .int (nI fau), .int fat, .int lat, .ref a19, .ref a20, .ref a21, .ref a22, .int (nI trd)])), (a5, .inl (ca 0, 64, .inl (dv d))), (a2, .inl (ca 0, 8, .inl la))] → va_S A zs.heap H locs → ∀ (ls : Array Slot), lv_has ls 4 [(0, .ref h), (1, .int w), (2, .int (nI (lanN la i))), (3, .int (nI i))] → W zp l ze (rmL 2) zs zm za zb zt zc H locs 0 0 zQ (F0 zm 58 ls []) := by
        intro zn
        induction zn with
        | zero => intro i hi hmu_58; exact absurd hmu_58 (Nat.not_lt_zero _)
        | succ zn ih_58 =>
          intro i hi hmu_58 H locs hP hD hS ls hl
          refine lv_iload_n hx hb dX9_count_58 rfl (lv_at hl 3 rfl) ?_
          refine lv_bipush (v := nI 8) hx hb dX9_count_59 rfl ?_
          refine wn_ge (tgt := 87) hx hb (by omega) (by omega) dX9_count_61 (by decide) (fun c_61 => ?_) (fun c_61 => ?_)
          · have c_61n := Nat.not_lt.mpr c_61
            refine lv_iload_n hx hb dX9_count_87 rfl (lv_at hl 2 rfl) ?_
            exact wr_iret () hx hb hr hlk hQ dX9_count_88 (wp_to (hP.sub [0, 1, 2] rfl) rfl) (wd_to (hD.sub [0, 1, 2] (by decide) rfl) rfl) hS (Nat.le_refl _) (Nat.le_refl _) (by first | (simp [cntI, iw_8, c_61, c_61n]; done) | (have hie : i = 8 := (by omega); subst hie; simp [cntI, iw_8, c_61, c_61n]; done) | (have hie : i = d 2 := (by omega); subst hie; simp [cntI, iw_8, c_61, c_61n]; done))
          · have c_61n := Nat.not_le.mpr c_61
            refine lv_iload_n hx hb dX9_count_64 rfl (lv_at hl 2 rfl) ?_
            refine lv_aload_n hx hb dX9_count_65 rfl (lv_at hl 0 rfl) ?_
            refine va_get (D := D) (ci := 8) (v := .ref a2) (C := RX9) (T := TX9) (N := 24) hx hb hts in_X9 hown hK hP 0 rfl rfl 2 (by decide) (hts _ q1181) (fun _ h9 => h9) rfl dX9_count_66 ?_
            refine lv_iload_n hx hb dX9_count_69 rfl (lv_at hl 3 rfl) ?_
            refine wn_iald (v := la i) hx hb hK hP 2 0 rfl rfl (by omega) (by decide) rfl dX9_count_70 ?_
            refine lv_if_lt (tgt := 78) hx hb dX9_count_71 (by decide) (fun c_71 => ?_) (fun c_71 => ?_)
            · refine lv_iconst (v := nI 0) hx hb dX9_count_78 rfl ?_
              refine wn_add hx hb dX9_count_79 ?_
              refine lv_istore_n (lv' := [(2, .int (nI ((lanN la i) + 0))), (0, .ref h), (1, .int w), (3, .int (nI i))]) hx hb dX9_count_80 rfl hl (by decide) rfl (fun ls hl => ?_)
              refine lv_iinc (v := nI (i + 1)) (lv' := [(3, .int (nI (i + 1))), (2, .int (nI ((lanN la i) + 0))), (0, .ref h), (1, .int w)]) hx hb dX9_count_81 hl (k := 3) rfl (nI_add i 1) (by decide) rfl (fun ls hl => ?_)
              refine lv_goto (tgt := 58) hx hb dX9_count_84 (by decide) ?_
              have e_1 : (lanN la i) + 0 = lanN la (i + 1) := by first | rfl | (simp [lanN, iw_8, c_61, c_61n, c_71])
              have e_2 : i + 1 = (i + 1) := by first | rfl | (simp [lanN, iw_8, c_61, c_61n, c_71])
              exact ih_58 (i + 1) (by omega) (by omega) H locs (wp_to (hP.sub [0, 1, 2] rfl) rfl) (wd_to (hD.sub [0, 1, 2] (by decide) rfl) rfl) hS ls (lv_to (lv_sub hl [2, 3, 1, 0] rfl) (Eq.trans (congrArg (fun x => ([(0, .ref h), (1, .int w), (2, .int (nI x)), (3, .int (nI (i + 1)))] : List (Nat × Value))) e_1) (congrArg (fun x => ([(0, .ref h), (1, .int w), (2, .int (nI (lanN la (i + 1)))), (3, .int (nI x))] : List (Nat × Value))) e_2)))
            · refine lv_iconst (v := nI 1) hx hb dX9_count_74 rfl ?_
              refine lv_goto (tgt := 79) hx hb dX9_count_75 (by decide) ?_
              refine wn_add hx hb dX9_count_79 ?_
              refine lv_istore_n (lv' := [(2, .int (nI ((lanN la i) + 1))), (0, .ref h), (1, .int w), (3, .int (nI i))]) hx hb dX9_count_80 rfl hl (by decide) rfl (fun ls hl => ?_)
              refine lv_iinc (v := nI (i + 1)) (lv' := [(3, .int (nI (i + 1))), (2, .int (nI ((lanN la i) + 1))), (0, .ref h), (1, .int w)]) hx hb dX9_count_81 hl (k := 3) rfl (nI_add i 1) (by decide) rfl (fun ls hl => ?_)
              refine lv_goto (tgt := 58) hx hb dX9_count_84 (by decide) ?_
              have e_3 : (lanN la i) + 1 = lanN la (i + 1) := by first | rfl | (simp [lanN, iw_8, c_61, c_61n, c_71])
              have e_4 : i + 1 = (i + 1) := by first | rfl | (simp [lanN, iw_8, c_61, c_61n, c_71])
              exact ih_58 (i + 1) (by omega) (by omega) H locs (wp_to (hP.sub [0, 1, 2] rfl) rfl) (wd_to (hD.sub [0, 1, 2] (by decide) rfl) rfl) hS ls (lv_to (lv_sub hl [2, 3, 1, 0] rfl) (Eq.trans (congrArg (fun x => ([(0, .ref h), (1, .int w), (2, .int (nI x)), (3, .int (nI (i + 1)))] : List (Nat × Value))) e_3) (congrArg (fun x => ([(0, .ref h), (1, .int w), (2, .int (nI (lanN la (i + 1)))), (3, .int (nI x))] : List (Nat × Value))) e_4)))
      have e_5 : 0 = lanN la 0 := by first | rfl | (rfl)
      exact lp_58 ((8 - 0) + 1) 0 (by omega) (by omega) H locs (wp_to (hP.sub [0, 1, 2] rfl) rfl) (wd_to (hD.sub [0, 1, 2] (by decide) rfl) rfl) hS ls (lv_to (lv_sub hl [2, 3, 1, 0] rfl) (congrArg (fun x => ([(0, .ref h), (1, .int w), (2, .int (nI x)), (3, .int (nI 0))] : List (Nat × Value))) e_5))
    · have iw_8 : ixO w 8 = some 1 := by rw [c_8]; exact ixO_t (by decide) (by decide)
      refine lv_tableIn (off := 81) (tgt := 89) hx hb dX9_count_8 (by rw [c_8]; decide) (by rw [c_8]; decide) (by rw [c_8]; rfl) (by decide) ?_
      refine lv_aload_n hx hb dX9_count_89 rfl (lv_at hl 1 rfl) ?_
      refine va_get (D := D) (ci := 8) (v := .ref a5) (C := RX9) (T := TX9) (N := 24) hx hb hts in_X9 hown hK hP 0 rfl rfl 5 (by decide) (hts _ q1184) (fun _ h9 => h9) rfl dX9_count_90 ?_
      refine lv_iconst (v := nI 2) hx hb dX9_count_93 rfl ?_
      refine wn_iald (v := nI (d 2)) hx hb hK hP 1 0 rfl rfl (by omega) (by decide) rfl dX9_count_94 ?_
      exact wr_iret () hx hb hr hlk hQ dX9_count_95 (wp_to (hP.sub [0, 1, 2] rfl) rfl) (wd_to (hD.sub [0, 1, 2] (by decide) rfl) rfl) hS (Nat.le_refl _) (Nat.le_refl _) (by first | (simp [cntI, iw_8]; done) | (have hie : i = 8 := (by omega); subst hie; simp [cntI, iw_8]; done) | (have hie : i = d 2 := (by omega); subst hie; simp [cntI, iw_8]; done))
    · have iw_8 : ixO w 8 = some 2 := by rw [c_8]; exact ixO_t (by decide) (by decide)
      refine lv_tableIn (off := 88) (tgt := 96) hx hb dX9_count_8 (by rw [c_8]; decide) (by rw [c_8]; decide) (by rw [c_8]; rfl) (by decide) ?_
      refine lv_aload_n hx hb dX9_count_96 rfl (lv_at hl 1 rfl) ?_
      refine va_get (D := D) (ci := 8) (v := .ref a5) (C := RX9) (T := TX9) (N := 24) hx hb hts in_X9 hown hK hP 0 rfl rfl 5 (by decide) (hts _ q1184) (fun _ h9 => h9) rfl dX9_count_97 ?_
      refine lv_iconst (v := nI 3) hx hb dX9_count_100 rfl ?_
      refine wn_iald (v := nI (d 3)) hx hb hK hP 1 0 rfl rfl (by omega) (by decide) rfl dX9_count_101 ?_
      exact wr_iret () hx hb hr hlk hQ dX9_count_102 (wp_to (hP.sub [0, 1, 2] rfl) rfl) (wd_to (hD.sub [0, 1, 2] (by decide) rfl) rfl) hS (Nat.le_refl _) (Nat.le_refl _) (by first | (simp [cntI, iw_8]; done) | (have hie : i = 8 := (by omega); subst hie; simp [cntI, iw_8]; done) | (have hie : i = d 2 := (by omega); subst hie; simp [cntI, iw_8]; done))
    · have iw_8 : ixO w 8 = some 3 := by rw [c_8]; exact ixO_t (by decide) (by decide)
      refine lv_tableIn (off := 95) (tgt := 103) hx hb dX9_count_8 (by rw [c_8]; decide) (by rw [c_8]; decide) (by rw [c_8]; rfl) (by decide) ?_
      refine lv_aload_n hx hb dX9_count_103 rfl (lv_at hl 1 rfl) ?_
      refine va_get (D := D) (ci := 8) (v := .ref a5) (C := RX9) (T := TX9) (N := 24) hx hb hts in_X9 hown hK hP 0 rfl rfl 5 (by decide) (hts _ q1184) (fun _ h9 => h9) rfl dX9_count_104 ?_
      refine lv_iconst (v := nI 1) hx hb dX9_count_107 rfl ?_
      refine wn_iald (v := nI (d 1)) hx hb hK hP 1 0 rfl rfl (by omega) (by decide) rfl dX9_count_108 ?_
      exact wr_iret () hx hb hr hlk hQ dX9_count_109 (wp_to (hP.sub [0, 1, 2] rfl) rfl) (wd_to (hD.sub [0, 1, 2] (by decide) rfl) rfl) hS (Nat.le_refl _) (Nat.le_refl _) (by first | (simp [cntI, iw_8]; done) | (have hie : i = 8 := (by omega); subst hie; simp [cntI, iw_8]; done) | (have hie : i = d 2 := (by omega); subst hie; simp [cntI, iw_8]; done))
    · have iw_8 : ixO w 8 = some 4 := by rw [c_8]; exact ixO_t (by decide) (by decide)
      refine lv_tableIn (off := 102) (tgt := 110) hx hb dX9_count_8 (by rw [c_8]; decide) (by rw [c_8]; decide) (by rw [c_8]; rfl) (by decide) ?_
      refine lv_iconst (v := nI 0) hx hb dX9_count_110 rfl ?_
      refine lv_istore_n (lv' := [(3, .int (nI 0)), (2, .int (nI 0)), (0, .ref h), (1, .int w)]) hx hb dX9_count_111 rfl hl (by decide) rfl (fun ls hl => ?_)
      have lp_112 : ∀ (zn : Nat) (i : Nat), (i ≤ d 2) →  (d 2 - i) < zn → ∀ (H : Heap) (locs : List Loc), va_P D vwCl [(h, .inr (8, [.int (nI 0), .int t1, .ref a2, .ref a3, .ref a4, .ref a5, .ref a6, .ref a7, .ref a8, .int (nI ac), .ref a10, .int (nI tpd), .int (nI cu), .int (nI sta), .int (nI tok), .int val, .int (nI fau), .int fat, .int lat, .ref a19, .ref a20, .ref a21, .ref a22, .int (nI trd)])), (a5, .inl (ca 0, 64, .inl (dv d))), (a2, .inl (ca 0, 8, .inl la))] H → va_D A [(h, .inr (8, [.int (nI 0), .int t1, .ref a2, .ref a3, .ref a4, .ref a5, .ref a6, .ref a7, .ref a8, .int (nI ac), .ref a10, .int (nI tpd), .int (nI cu), .int (nI sta), .int (nI tok), .int val, .int (nI fau), .int fat, .int lat, .ref a19, .ref a20, .ref a21, .ref a22, .int (nI trd)])), (a5, .inl (ca 0, 64, .inl (dv d))), (a2, .inl (ca 0, 8, .inl la))] → va_S A zs.heap H locs → ∀ (ls : Array Slot), lv_has ls 4 [(0, .ref h), (1, .int w), (2, .int (nI (setN (cntD d) i))), (3, .int (nI i))] → W zp l ze (rmL 2) zs zm za zb zt zc H locs 0 0 zQ (F0 zm 112 ls []) := by
        intro zn
        induction zn with
        | zero => intro i hi hmu_112; exact absurd hmu_112 (Nat.not_lt_zero _)
        | succ zn ih_112 =>
          intro i hi hmu_112 H locs hP hD hS ls hl
          have hp := pow_8 (show i ≤ 8 by omega)
          refine lv_iload_n hx hb dX9_count_112 rfl (lv_at hl 3 rfl) ?_
          refine lv_aload_n hx hb dX9_count_113 rfl (lv_at hl 0 rfl) ?_
          refine va_get (D := D) (ci := 8) (v := .ref a5) (C := RX9) (T := TX9) (N := 24) hx hb hts in_X9 hown hK hP 0 rfl rfl 5 (by decide) (hts _ q1184) (fun _ h9 => h9) rfl dX9_count_114 ?_
          refine lv_iconst (v := nI 2) hx hb dX9_count_117 rfl ?_
          refine wn_iald (v := nI (d 2)) hx hb hK hP 1 0 rfl rfl (by omega) (by decide) rfl dX9_count_118 ?_
          refine wn_ge (tgt := 149) hx hb (by omega) (by omega) dX9_count_119 (by decide) (fun c_119 => ?_) (fun c_119 => ?_)
          · have c_119n := Nat.not_lt.mpr c_119
            refine lv_iload_n hx hb dX9_count_149 rfl (lv_at hl 2 rfl) ?_
            exact wr_iret () hx hb hr hlk hQ dX9_count_150 (wp_to (hP.sub [0, 1, 2] rfl) rfl) (wd_to (hD.sub [0, 1, 2] (by decide) rfl) rfl) hS (Nat.le_refl _) (Nat.le_refl _) (by first | (simp [cntI, iw_8, c_119, c_119n]; done) | (have hie : i = 8 := (by omega); subst hie; simp [cntI, iw_8, c_119, c_119n]; done) | (have hie : i = d 2 := (by omega); subst hie; simp [cntI, iw_8, c_119, c_119n]; done))
          · have c_119n := Nat.not_le.mpr c_119
            refine lv_iload_n hx hb dX9_count_122 rfl (lv_at hl 2 rfl) ?_
            refine lv_aload_n hx hb dX9_count_123 rfl (lv_at hl 0 rfl) ?_
            refine va_get (D := D) (ci := 8) (v := .ref a5) (C := RX9) (T := TX9) (N := 24) hx hb hts in_X9 hown hK hP 0 rfl rfl 5 (by decide) (hts _ q1184) (fun _ h9 => h9) rfl dX9_count_124 ?_
            refine lv_iload_n hx hb dX9_count_127 rfl (lv_at hl 3 rfl) ?_
            refine rd_callS hF (m_X9_counts l D ca a5 d i (by assumption) (by first | assumption | omega)) (cs_X9_counts hts q1379 ⟨by decide, by decide⟩) (K1_mv D ca) hK (hP.sub [1] rfl) rfl hl.1 rfl (Nat.le_of_ble_eq_true rfl) dX9_count_128 ⟨Nat.zero_le _, Nat.zero_le _⟩ ?_
            refine wb_eq (tgt := 140) hx hb dX9_count_131 (by decide) (fun c_131 => ?_) (fun c_131 => ?_)
            · refine lv_iconst (v := nI 0) hx hb dX9_count_140 rfl ?_
              refine wn_or hx hb dX9_count_141 ?_
              refine lv_istore_n (lv' := [(2, .int (nI ((setN (cntD d) i) ||| 0))), (0, .ref h), (1, .int w), (3, .int (nI i))]) hx hb dX9_count_142 rfl hl (by decide) rfl (fun ls hl => ?_)
              refine lv_iinc (v := nI (i + 1)) (lv' := [(3, .int (nI (i + 1))), (2, .int (nI ((setN (cntD d) i) ||| 0))), (0, .ref h), (1, .int w)]) hx hb dX9_count_143 hl (k := 3) rfl (nI_add i 1) (by decide) rfl (fun ls hl => ?_)
              refine lv_goto (tgt := 112) hx hb dX9_count_146 (by decide) ?_
              have e_6 : (setN (cntD d) i) ||| 0 = setN (cntD d) (i + 1) := by first | rfl | (first | exact (setN_t _ (by assumption)).symm | exact (setN_f _ (by assumption)).symm)
              have e_7 : i + 1 = (i + 1) := by first | rfl | (first | exact (setN_t _ (by assumption)).symm | exact (setN_f _ (by assumption)).symm)
              exact ih_112 (i + 1) (by omega) (by omega) H locs (wp_to (hP.sub [0, 1, 2] rfl) rfl) (wd_to (hD.sub [0, 1, 2] (by decide) rfl) rfl) hS ls (lv_to (lv_sub hl [2, 3, 1, 0] rfl) (Eq.trans (congrArg (fun x => ([(0, .ref h), (1, .int w), (2, .int (nI x)), (3, .int (nI (i + 1)))] : List (Nat × Value))) e_6) (congrArg (fun x => ([(0, .ref h), (1, .int w), (2, .int (nI (setN (cntD d) (i + 1)))), (3, .int (nI x))] : List (Nat × Value))) e_7)))
            · refine lv_iconst (v := nI 1) hx hb dX9_count_134 rfl ?_
              refine lv_iload_n hx hb dX9_count_135 rfl (lv_at hl 3 rfl) ?_
              refine wn_shl hx hb (by omega) (by omega) dX9_count_136 ?_
              refine lv_goto (tgt := 141) hx hb dX9_count_137 (by decide) ?_
              refine wn_or hx hb dX9_count_141 ?_
              refine lv_istore_n (lv' := [(2, .int (nI ((setN (cntD d) i) ||| (1 * 2 ^ i)))), (0, .ref h), (1, .int w), (3, .int (nI i))]) hx hb dX9_count_142 rfl hl (by decide) rfl (fun ls hl => ?_)
              refine lv_iinc (v := nI (i + 1)) (lv' := [(3, .int (nI (i + 1))), (2, .int (nI ((setN (cntD d) i) ||| (1 * 2 ^ i)))), (0, .ref h), (1, .int w)]) hx hb dX9_count_143 hl (k := 3) rfl (nI_add i 1) (by decide) rfl (fun ls hl => ?_)
              refine lv_goto (tgt := 112) hx hb dX9_count_146 (by decide) ?_
              have e_8 : (setN (cntD d) i) ||| (1 * 2 ^ i) = setN (cntD d) (i + 1) := by first | rfl | (first | exact (setN_t _ (by assumption)).symm | exact (setN_f _ (by assumption)).symm)
              have e_9 : i + 1 = (i + 1) := by first | rfl | (first | exact (setN_t _ (by assumption)).symm | exact (setN_f _ (by assumption)).symm)
              exact ih_112 (i + 1) (by omega) (by omega) H locs (wp_to (hP.sub [0, 1, 2] rfl) rfl) (wd_to (hD.sub [0, 1, 2] (by decide) rfl) rfl) hS ls (lv_to (lv_sub hl [2, 3, 1, 0] rfl) (Eq.trans (congrArg (fun x => ([(0, .ref h), (1, .int w), (2, .int (nI x)), (3, .int (nI (i + 1)))] : List (Nat × Value))) e_8) (congrArg (fun x => ([(0, .ref h), (1, .int w), (2, .int (nI (setN (cntD d) (i + 1)))), (3, .int (nI x))] : List (Nat × Value))) e_9)))
      have e_10 : 0 = setN (cntD d) 0 := by first | rfl | (rfl)
      exact lp_112 ((d 2 - 0) + 1) 0 (by omega) (by omega) H locs (wp_to (hP.sub [0, 1, 2] rfl) rfl) (wd_to (hD.sub [0, 1, 2] (by decide) rfl) rfl) hS ls (lv_to (lv_sub hl [2, 3, 1, 0] rfl) (congrArg (fun x => ([(0, .ref h), (1, .int w), (2, .int (nI x)), (3, .int (nI 0))] : List (Nat × Value))) e_10))
    · have iw_8 : ixO w 8 = some 5 := by rw [c_8]; exact ixO_t (by decide) (by decide)
      refine lv_tableIn (off := 143) (tgt := 151) hx hb dX9_count_8 (by rw [c_8]; decide) (by rw [c_8]; decide) (by rw [c_8]; rfl) (by decide) ?_
      refine lv_aload_n hx hb dX9_count_151 rfl (lv_at hl 1 rfl) ?_
      refine va_get (D := D) (ci := 8) (v := .ref a5) (C := RX9) (T := TX9) (N := 24) hx hb hts in_X9 hown hK hP 0 rfl rfl 5 (by decide) (hts _ q1184) (fun _ h9 => h9) rfl dX9_count_152 ?_
      refine rd_callS hF (m_X9_votesOf l D ca a5 d (by assumption)) (cs_X9_votesOf hts q1542 ⟨by decide, by decide⟩) (K1_mv D ca) hK (hP.sub [1] rfl) rfl hl.1 rfl (Nat.le_of_ble_eq_true rfl) dX9_count_155 ⟨Nat.zero_le _, Nat.zero_le _⟩ ?_
      exact wr_iret () hx hb hr hlk hQ dX9_count_158 (wp_to (hP.sub [0, 1, 2] rfl) rfl) (wd_to (hD.sub [0, 1, 2] (by decide) rfl) rfl) hS (Nat.le_refl _) (Nat.le_refl _) (by first | (simp [cntI, iw_8]; done) | (have hie : i = 8 := (by omega); subst hie; simp [cntI, iw_8]; done) | (have hie : i = d 2 := (by omega); subst hie; simp [cntI, iw_8]; done))
    · have iw_8 : ixO w 8 = some 6 := by rw [c_8]; exact ixO_t (by decide) (by decide)
      refine lv_tableIn (off := 151) (tgt := 159) hx hb dX9_count_8 (by rw [c_8]; decide) (by rw [c_8]; decide) (by rw [c_8]; rfl) (by decide) ?_
      refine lv_aload_n hx hb dX9_count_159 rfl (lv_at hl 1 rfl) ?_
      refine va_get (D := D) (ci := 8) (v := .int (nI ac)) (C := RX9) (T := TX9) (N := 24) hx hb hts in_X9 hown hK hP 0 rfl rfl 9 (by decide) (hts _ q1188) (fun _ h9 => h9) rfl dX9_count_160 ?_
      exact wr_iret () hx hb hr hlk hQ dX9_count_163 (wp_to (hP.sub [0, 1, 2] rfl) rfl) (wd_to (hD.sub [0, 1, 2] (by decide) rfl) rfl) hS (Nat.le_refl _) (Nat.le_refl _) (by first | (simp [cntI, iw_8]; done) | (have hie : i = 8 := (by omega); subst hie; simp [cntI, iw_8]; done) | (have hie : i = d 2 := (by omega); subst hie; simp [cntI, iw_8]; done))
    · have iw_8 : ixO w 8 = some 7 := by rw [c_8]; exact ixO_t (by decide) (by decide)
      refine lv_tableIn (off := 156) (tgt := 164) hx hb dX9_count_8 (by rw [c_8]; decide) (by rw [c_8]; decide) (by rw [c_8]; rfl) (by decide) ?_
      refine lv_aload_n hx hb dX9_count_164 rfl (lv_at hl 1 rfl) ?_
      refine va_get (D := D) (ci := 8) (v := .int (nI tpd)) (C := RX9) (T := TX9) (N := 24) hx hb hts in_X9 hown hK hP 0 rfl rfl 11 (by decide) (hts _ q1190) (fun _ h9 => h9) rfl dX9_count_165 ?_
      exact wr_iret () hx hb hr hlk hQ dX9_count_168 (wp_to (hP.sub [0, 1, 2] rfl) rfl) (wd_to (hD.sub [0, 1, 2] (by decide) rfl) rfl) hS (Nat.le_refl _) (Nat.le_refl _) (by first | (simp [cntI, iw_8]; done) | (have hie : i = 8 := (by omega); subst hie; simp [cntI, iw_8]; done) | (have hie : i = d 2 := (by omega); subst hie; simp [cntI, iw_8]; done))
