set_option maxRecDepth 100000
theorem cs_X9_isSquare {R : Room} {s : State} {args : Array Value} {own : String} {index : Nat} (hts : ∀ w ∈ lw_all, w.before args s = true) (hl : Cond.methodLink own index yX9_isSquare ∈ lw_all) {rm : Room} {mc ms : Nat} (hR : rm.frames + 1 ≤ R.frames ∧ 8 + (2 + 11) + rm.locals ≤ R.locals) (hc : rm.cells = mc := by rfl) (hs : rm.slots = ms := by rfl) : CallW R s args own RX9 index yX9_isSquare cX9_isSquare 2 (some .boolean) (ws_ yX9_isSquare cX9_isSquare 2 (some .boolean)) rm mc ms 1 := cwV 1 hts (lw_V hl q1416 qs44 q70 q1417) rfl hc hs (by decide +kernel) hR
set_option maxHeartbeats 4000000 in
theorem m_X9_square (l : Launch) (D : va_G) (ca : Nat → ClassId) (h : Nat) (t0 : Int32) (t1 : Int32) (a2 : Nat) (a3 : Nat) (a4 : Nat) (a5 : Nat) (a6 : Nat) (a7 : Nat) (a8 : Nat) (a10 : Nat) (a19 : Nat) (a20 : Nat) (a21 : Nat) (a22 : Nat) (ac : Nat) (tpd : Nat) (cu : Nat) (sta : Nat) (tok : Nat) (fau : Nat) (trd : Nat) (val : Int32) (fat : Int32) (lat : Int32) (d : Nat → Nat) (x : Int32) (w : Int32) (sz : Nat) (hd : dOK d) : Met l yX9_square (ws_ yX9_square cX9_square 3 (some .int)) (rmL 3) (PcA (K1 D ca) D [.ref h, .int x, .int w] [(h, .inr (8, [.int t0, .int t1, .ref a2, .ref a3, .ref a4, .ref a5, .ref a6, .ref a7, .ref a8, .int (nI ac), .ref a10, .int (nI tpd), .int (nI cu), .int (nI sta), .int (nI tok), .int val, .int (nI fau), .int fat, .int lat, .ref a19, .ref a20, .ref a21, .ref a22, .int (nI trd)])), (a5, .inl (ca 0, 64, .inl (dv d)))] sz) (QiA D (fun zr (_ : Unit) => zr = sqI d x w) (fun _ => [(h, .inr (8, [.int (nI 0), .int t1, .ref a2, .ref a3, .ref a4, .ref a5, .ref a6, .ref a7, .ref a8, .int (nI ac), .ref a10, .int (nI tpd), .int (nI cu), .int (nI sta), .int (nI tok), .int val, .int (nI fau), .int fat, .int lat, .ref a19, .ref a20, .ref a21, .ref a22, .int (nI trd)])), (a5, .inl (ca 0, 64, .inl (dv d)))]) (va_A [(h, .inr (8, [.int t0, .int t1, .ref a2, .ref a3, .ref a4, .ref a5, .ref a6, .ref a7, .ref a8, .int (nI ac), .ref a10, .int (nI tpd), .int (nI cu), .int (nI sta), .int (nI tok), .int val, .int (nI fau), .int fat, .int lat, .ref a19, .ref a20, .ref a21, .ref a22, .int (nI trd)])), (a5, .inl (ca 0, 64, .inl (dv d)))] sz)) 0 0 (va_A [(h, .inr (8, [.int t0, .int t1, .ref a2, .ref a3, .ref a4, .ref a5, .ref a6, .ref a7, .ref a8, .int (nI ac), .ref a10, .int (nI tpd), .int (nI cu), .int (nI sta), .int (nI tok), .int val, .int (nI fau), .int fat, .int lat, .ref a19, .ref a20, .ref a21, .ref a22, .int (nI trd)])), (a5, .inl (ca 0, 64, .inl (dv d)))] sz) := by
  refine wr_head (Qc := fun A => (QiA D (fun zr (_ : Unit) => zr = sqI d x w) (fun _ => [(h, .inr (8, [.int (nI 0), .int t1, .ref a2, .ref a3, .ref a4, .ref a5, .ref a6, .ref a7, .ref a8, .int (nI ac), .ref a10, .int (nI tpd), .int (nI cu), .int (nI sta), .int (nI tok), .int val, .int (nI fau), .int fat, .int lat, .ref a19, .ref a20, .ref a21, .ref a22, .int (nI trd)])), (a5, .inl (ca 0, 64, .inl (dv d)))]) A)) (by decide) (Nat.le_of_ble_eq_true rfl) ?_
  intro zp ze zs zm za zb zt zc ls zQ A H locs hx hb hml hr hlk hown hts hnm hK hP hD hS hA hl hQ
  have hown : zs.vm.findClass RX9 = some zm.cls := hown
  have hl : lv_has ls 3 [(0, .ref h), (1, .int x), (2, .int w)] := hl
  have hF : CallFix zp zm zc cX9_square 3 zs za lw_all RX9 := ⟨hx, hb, hml, hown, hts⟩
  have hd2 : d 2 ≤ 8 := hd.2.2.1
  have hd3 : d 3 ≤ 5 := hd.2.2.2.1
  have hd0 : d 0 ≤ 9 := hd.1
  have hd1 : d 1 ≤ 8 := hd.2.1
  have hp2 := pow_8 hd2
  have hp3 := pow_8 (show d 3 ≤ 8 by omega)
  refine lv_aload_n hx hb dX9_square_0 rfl (lv_at hl 0 rfl) ?_
  refine lv_iconst (v := nI 0) hx hb dX9_square_1 rfl ?_
  refine va_put (D := D) (ci := 8) (v := .int (nI 0)) (ty := .int) (C := RX9) (T := TX9) (N := 24) hx hb hts in_X9 tyX9 tyX9_ok nmX9 hown hK hP hD hS 0 rfl rfl 0 (by decide) (hts _ q1179) (fun _ h9 => h9) rfl (tyX9_ok 0 (by decide)) rfl rfl (Nat.le_of_ble_eq_true rfl) dX9_square_2 (fun H locs hP hD hS => ?_)
  have hP : va_P D vwCl [(h, .inr (8, [.int (nI 0), .int t1, .ref a2, .ref a3, .ref a4, .ref a5, .ref a6, .ref a7, .ref a8, .int (nI ac), .ref a10, .int (nI tpd), .int (nI cu), .int (nI sta), .int (nI tok), .int val, .int (nI fau), .int fat, .int lat, .ref a19, .ref a20, .ref a21, .ref a22, .int (nI trd)])), (a5, .inl (ca 0, 64, .inl (dv d)))] H := hP
  have hD : va_D A [(h, .inr (8, [.int (nI 0), .int t1, .ref a2, .ref a3, .ref a4, .ref a5, .ref a6, .ref a7, .ref a8, .int (nI ac), .ref a10, .int (nI tpd), .int (nI cu), .int (nI sta), .int (nI tok), .int val, .int (nI fau), .int fat, .int lat, .ref a19, .ref a20, .ref a21, .ref a22, .int (nI trd)])), (a5, .inl (ca 0, 64, .inl (dv d)))] := hD
  refine lv_aload_n hx hb dX9_square_5 rfl (lv_at hl 0 rfl) ?_
  refine lv_iload_n hx hb dX9_square_6 rfl (lv_at hl 1 rfl) ?_
  refine rd_callV hF (m_X9_isSquare l D ca h ([.int (nI 0), .int t1, .ref a2, .ref a3, .ref a4, .ref a5, .ref a6, .ref a7, .ref a8, .int (nI ac), .ref a10, .int (nI tpd), .int (nI cu), .int (nI sta), .int (nI tok), .int val, .int (nI fau), .int fat, .int lat, .ref a19, .ref a20, .ref a21, .ref a22, .int (nI trd)]) a5 d x (by first | rfl | assumption) (by assumption)) (cs_X9_isSquare hts q1414 ⟨by decide, by decide⟩) (K1_mv D ca) hK (hP.sub [0, 1] rfl) (va_recv hK hP (ci := 8) (q0 := 0) rfl rfl) rfl hl.1 rfl (Nat.le_of_ble_eq_true rfl) dX9_square_7 ⟨Nat.zero_le _, Nat.zero_le _⟩ ?_
  refine wb_ne (tgt := 16) hx hb dX9_square_10 (by decide) (fun c_10 => ?_) (fun c_10 => ?_)
  · obtain ⟨s, hs, hxs⟩ := (ltB_iff (by omega)).mp c_10
    subst hxs
    have ix_s : ixO (nI s) (d 2) = some s := ixO_t hs (by omega)
    refine lv_iload_n hx hb dX9_square_16 rfl (lv_at hl 2 rfl) ?_
    rcases sw_split w 5 (by decide) with c_17 | ⟨j_17, hj_17, c_17⟩
    · have iw_17 : ixO w 6 = none := ixO_out c_17
      refine lv_tableOut (tgt := 156) hx hb dX9_square_17 c_17 (by decide) ?_
      refine lv_ldc (v := (-1000001)) hx hb hown (hts _ q1266) dX9_square_156 ?_
      exact wr_iret () hx hb hr hlk hQ dX9_square_158 (wp_to (hP.sub [0, 1] rfl) rfl) (wd_to (hD.sub [0, 1] (by decide) rfl) rfl) hS (Nat.le_refl _) (Nat.le_refl _) (by first | (simp [sqI, bI, nI1_1, nI_0, c_10, ix_s, c_17, iw_17]; done) | (simp [sqI, bI, nI1_1, nI_0, c_10, ix_s, c_17, iw_17]; omega) | grind [sqI, bI, nI1_1, nI_0])
    · rcases (show j_17 = 0 ∨ j_17 = 1 ∨ j_17 = 2 ∨ j_17 = 3 ∨ j_17 = 4 ∨ j_17 = 5 by omega) with rfl | rfl | rfl | rfl | rfl | rfl
      · have iw_17 : ixO w 6 = some 0 := by rw [c_17]; exact ixO_t (by decide) (by decide)
        refine lv_tableIn (off := 39) (tgt := 56) hx hb dX9_square_17 (by rw [c_17]; decide) (by rw [c_17]; decide) (by rw [c_17]; rfl) (by decide) ?_
        have hq := hd.2.2.2.2.1 s (by omega)
        refine lv_aload_n hx hb dX9_square_56 rfl (lv_at hl 0 rfl) ?_
        refine va_get (D := D) (ci := 8) (v := .ref a5) (C := RX9) (T := TX9) (N := 24) hx hb hts in_X9 hown hK hP 0 rfl rfl 5 (by decide) (hts _ q1184) (fun _ h9 => h9) rfl dX9_square_57 ?_
        refine lv_iload_n hx hb dX9_square_60 rfl (lv_at hl 1 rfl) ?_
        refine lv_iconst (v := nI 1) hx hb dX9_square_61 rfl ?_
        refine rd_callS hF (m_X9_of l D ca a5 d s 1 (by first | assumption | omega)) (cs_X9_of hts q1382 ⟨by decide, by decide⟩) (K1_mv D ca) hK (hP.sub [1] rfl) rfl hl.1 rfl (Nat.le_of_ble_eq_true rfl) dX9_square_62 ⟨Nat.zero_le _, Nat.zero_le _⟩ ?_
        exact wr_iret () hx hb hr hlk hQ dX9_square_65 (wp_to (hP.sub [0, 1] rfl) rfl) (wd_to (hD.sub [0, 1] (by decide) rfl) rfl) hS (Nat.le_refl _) (Nat.le_refl _) (by first | (simp [sqI, bI, nI1_1, nI_0, c_10, ix_s, iw_17]; done) | (simp [sqI, bI, nI1_1, nI_0, c_10, ix_s, iw_17]; omega) | grind [sqI, bI, nI1_1, nI_0])
      · have iw_17 : ixO w 6 = some 1 := by rw [c_17]; exact ixO_t (by decide) (by decide)
        refine lv_tableIn (off := 49) (tgt := 66) hx hb dX9_square_17 (by rw [c_17]; decide) (by rw [c_17]; decide) (by rw [c_17]; rfl) (by decide) ?_
        have hq := hd.2.2.2.2.1 s (by omega)
        refine lv_aload_n hx hb dX9_square_66 rfl (lv_at hl 0 rfl) ?_
        refine va_get (D := D) (ci := 8) (v := .ref a5) (C := RX9) (T := TX9) (N := 24) hx hb hts in_X9 hown hK hP 0 rfl rfl 5 (by decide) (hts _ q1184) (fun _ h9 => h9) rfl dX9_square_67 ?_
        refine lv_iload_n hx hb dX9_square_70 rfl (lv_at hl 1 rfl) ?_
        refine lv_iconst (v := nI 1) hx hb dX9_square_71 rfl ?_
        refine rd_callS hF (m_X9_of l D ca a5 d s 1 (by first | assumption | omega)) (cs_X9_of hts q1382 ⟨by decide, by decide⟩) (K1_mv D ca) hK (hP.sub [1] rfl) rfl hl.1 rfl (Nat.le_of_ble_eq_true rfl) dX9_square_72 ⟨Nat.zero_le _, Nat.zero_le _⟩ ?_
        refine lv_aload_n hx hb dX9_square_75 rfl (lv_at hl 0 rfl) ?_
        refine va_get (D := D) (ci := 8) (v := .ref a5) (C := RX9) (T := TX9) (N := 24) hx hb hts in_X9 hown hK hP 0 rfl rfl 5 (by decide) (hts _ q1184) (fun _ h9 => h9) rfl dX9_square_76 ?_
        refine lv_iconst (v := nI 0) hx hb dX9_square_79 rfl ?_
        refine wn_iald (v := nI (d 0)) hx hb hK hP 1 0 rfl rfl (by omega) (by decide) rfl dX9_square_80 ?_
        refine wn_lt (tgt := 88) hx hb (by omega) (by omega) dX9_square_81 (by decide) (fun c_81 => ?_) (fun c_81 => ?_)
        · have c_81n := Nat.not_le.mpr c_81
          refine lv_iconst (v := nI 0) hx hb dX9_square_88 rfl ?_
          exact wr_iret () hx hb hr hlk hQ dX9_square_89 (wp_to (hP.sub [0, 1] rfl) rfl) (wd_to (hD.sub [0, 1] (by decide) rfl) rfl) hS (Nat.le_refl _) (Nat.le_refl _) (by first | (simp [sqI, bI, nI1_1, nI_0, c_10, ix_s, iw_17, c_81, c_81n]; done) | (simp [sqI, bI, nI1_1, nI_0, c_10, ix_s, iw_17, c_81, c_81n]; omega) | grind [sqI, bI, nI1_1, nI_0])
        · have c_81n := Nat.not_lt.mpr c_81
          refine lv_iconst (v := nI 1) hx hb dX9_square_84 rfl ?_
          refine lv_goto (tgt := 89) hx hb dX9_square_85 (by decide) ?_
          exact wr_iret () hx hb hr hlk hQ dX9_square_89 (wp_to (hP.sub [0, 1] rfl) rfl) (wd_to (hD.sub [0, 1] (by decide) rfl) rfl) hS (Nat.le_refl _) (Nat.le_refl _) (by first | (simp [sqI, bI, nI1_1, nI_0, c_10, ix_s, iw_17, c_81, c_81n]; done) | (simp [sqI, bI, nI1_1, nI_0, c_10, ix_s, iw_17, c_81, c_81n]; omega) | grind [sqI, bI, nI1_1, nI_0])
      · have iw_17 : ixO w 6 = some 2 := by rw [c_17]; exact ixO_t (by decide) (by decide)
        refine lv_tableIn (off := 73) (tgt := 90) hx hb dX9_square_17 (by rw [c_17]; decide) (by rw [c_17]; decide) (by rw [c_17]; rfl) (by decide) ?_
        refine lv_aload_n hx hb dX9_square_90 rfl (lv_at hl 0 rfl) ?_
        refine va_get (D := D) (ci := 8) (v := .ref a5) (C := RX9) (T := TX9) (N := 24) hx hb hts in_X9 hown hK hP 0 rfl rfl 5 (by decide) (hts _ q1184) (fun _ h9 => h9) rfl dX9_square_91 ?_
        refine lv_iload_n hx hb dX9_square_94 rfl (lv_at hl 1 rfl) ?_
        refine rd_callS hF (m_X9_counts l D ca a5 d s (by assumption) (by first | assumption | omega)) (cs_X9_counts hts q1379 ⟨by decide, by decide⟩) (K1_mv D ca) hK (hP.sub [1] rfl) rfl hl.1 rfl (Nat.le_of_ble_eq_true rfl) dX9_square_95 ⟨Nat.zero_le _, Nat.zero_le _⟩ ?_
        refine wb_eq (tgt := 105) hx hb dX9_square_98 (by decide) (fun c_98 => ?_) (fun c_98 => ?_)
        · refine lv_iconst (v := nI 0) hx hb dX9_square_105 rfl ?_
          exact wr_iret () hx hb hr hlk hQ dX9_square_106 (wp_to (hP.sub [0, 1] rfl) rfl) (wd_to (hD.sub [0, 1] (by decide) rfl) rfl) hS (Nat.le_refl _) (Nat.le_refl _) (by first | (simp [sqI, bI, nI1_1, nI_0, c_10, ix_s, iw_17, c_98]; done) | (simp [sqI, bI, nI1_1, nI_0, c_10, ix_s, iw_17, c_98]; omega) | grind [sqI, bI, nI1_1, nI_0])
        · refine lv_iconst (v := nI 1) hx hb dX9_square_101 rfl ?_
          refine lv_goto (tgt := 106) hx hb dX9_square_102 (by decide) ?_
          exact wr_iret () hx hb hr hlk hQ dX9_square_106 (wp_to (hP.sub [0, 1] rfl) rfl) (wd_to (hD.sub [0, 1] (by decide) rfl) rfl) hS (Nat.le_refl _) (Nat.le_refl _) (by first | (simp [sqI, bI, nI1_1, nI_0, c_10, ix_s, iw_17, c_98]; done) | (simp [sqI, bI, nI1_1, nI_0, c_10, ix_s, iw_17, c_98]; omega) | grind [sqI, bI, nI1_1, nI_0])
      · have iw_17 : ixO w 6 = some 3 := by rw [c_17]; exact ixO_t (by decide) (by decide)
        refine lv_tableIn (off := 90) (tgt := 107) hx hb dX9_square_17 (by rw [c_17]; decide) (by rw [c_17]; decide) (by rw [c_17]; rfl) (by decide) ?_
        refine lv_aload_n hx hb dX9_square_107 rfl (lv_at hl 0 rfl) ?_
        refine va_get (D := D) (ci := 8) (v := .ref a5) (C := RX9) (T := TX9) (N := 24) hx hb hts in_X9 hown hK hP 0 rfl rfl 5 (by decide) (hts _ q1184) (fun _ h9 => h9) rfl dX9_square_108 ?_
        refine lv_iload_n hx hb dX9_square_111 rfl (lv_at hl 1 rfl) ?_
        refine lv_iconst (v := nI 2) hx hb dX9_square_112 rfl ?_
        refine rd_callS hF (m_X9_of l D ca a5 d s 2 (by first | assumption | omega)) (cs_X9_of hts q1382 ⟨by decide, by decide⟩) (K1_mv D ca) hK (hP.sub [1] rfl) rfl hl.1 rfl (Nat.le_of_ble_eq_true rfl) dX9_square_113 ⟨Nat.zero_le _, Nat.zero_le _⟩ ?_
        exact wr_iret () hx hb hr hlk hQ dX9_square_116 (wp_to (hP.sub [0, 1] rfl) rfl) (wd_to (hD.sub [0, 1] (by decide) rfl) rfl) hS (Nat.le_refl _) (Nat.le_refl _) (by first | (simp [sqI, bI, nI1_1, nI_0, c_10, ix_s, iw_17]; done) | (simp [sqI, bI, nI1_1, nI_0, c_10, ix_s, iw_17]; omega) | grind [sqI, bI, nI1_1, nI_0])
      · have iw_17 : ixO w 6 = some 4 := by rw [c_17]; exact ixO_t (by decide) (by decide)
        refine lv_tableIn (off := 100) (tgt := 117) hx hb dX9_square_17 (by rw [c_17]; decide) (by rw [c_17]; decide) (by rw [c_17]; rfl) (by decide) ?_
        refine lv_aload_n hx hb dX9_square_117 rfl (lv_at hl 0 rfl) ?_
        refine va_get (D := D) (ci := 8) (v := .ref a5) (C := RX9) (T := TX9) (N := 24) hx hb hts in_X9 hown hK hP 0 rfl rfl 5 (by decide) (hts _ q1184) (fun _ h9 => h9) rfl dX9_square_118 ?_
        refine lv_iload_n hx hb dX9_square_121 rfl (lv_at hl 1 rfl) ?_
        refine lv_iconst (v := nI 3) hx hb dX9_square_122 rfl ?_
        refine rd_callS hF (m_X9_of l D ca a5 d s 3 (by first | assumption | omega)) (cs_X9_of hts q1382 ⟨by decide, by decide⟩) (K1_mv D ca) hK (hP.sub [1] rfl) rfl hl.1 rfl (Nat.le_of_ble_eq_true rfl) dX9_square_123 ⟨Nat.zero_le _, Nat.zero_le _⟩ ?_
        exact wr_iret () hx hb hr hlk hQ dX9_square_126 (wp_to (hP.sub [0, 1] rfl) rfl) (wd_to (hD.sub [0, 1] (by decide) rfl) rfl) hS (Nat.le_refl _) (Nat.le_refl _) (by first | (simp [sqI, bI, nI1_1, nI_0, c_10, ix_s, iw_17]; done) | (simp [sqI, bI, nI1_1, nI_0, c_10, ix_s, iw_17]; omega) | grind [sqI, bI, nI1_1, nI_0])
      · have iw_17 : ixO w 6 = some 5 := by rw [c_17]; exact ixO_t (by decide) (by decide)
        refine lv_tableIn (off := 110) (tgt := 127) hx hb dX9_square_17 (by rw [c_17]; decide) (by rw [c_17]; decide) (by rw [c_17]; rfl) (by decide) ?_
        have hq := hd.2.2.2.2.1 s (by omega)
        refine lv_aload_n hx hb dX9_square_127 rfl (lv_at hl 0 rfl) ?_
        refine va_get (D := D) (ci := 8) (v := .ref a5) (C := RX9) (T := TX9) (N := 24) hx hb hts in_X9 hown hK hP 0 rfl rfl 5 (by decide) (hts _ q1184) (fun _ h9 => h9) rfl dX9_square_128 ?_
        refine lv_iload_n hx hb dX9_square_131 rfl (lv_at hl 1 rfl) ?_
        refine lv_iconst (v := nI 4) hx hb dX9_square_132 rfl ?_
        refine rd_callS hF (m_X9_of l D ca a5 d s 4 (by first | assumption | omega)) (cs_X9_of hts q1382 ⟨by decide, by decide⟩) (K1_mv D ca) hK (hP.sub [1] rfl) rfl hl.1 rfl (Nat.le_of_ble_eq_true rfl) dX9_square_133 ⟨Nat.zero_le _, Nat.zero_le _⟩ ?_
        refine wn_ifne (tgt := 144) hx hb (by omega) dX9_square_136 (by decide) (fun c_136 => ?_) (fun c_136 => ?_)
        · refine lv_aload_n hx hb dX9_square_144 rfl (lv_at hl 0 rfl) ?_
          refine va_get (D := D) (ci := 8) (v := .ref a5) (C := RX9) (T := TX9) (N := 24) hx hb hts in_X9 hown hK hP 0 rfl rfl 5 (by decide) (hts _ q1184) (fun _ h9 => h9) rfl dX9_square_145 ?_
          refine lv_iload_n hx hb dX9_square_148 rfl (lv_at hl 1 rfl) ?_
          refine lv_iconst (v := nI 4) hx hb dX9_square_149 rfl ?_
          refine rd_callS hF (m_X9_of l D ca a5 d s 4 (by first | assumption | omega)) (cs_X9_of hts q1382 ⟨by decide, by decide⟩) (K1_mv D ca) hK (hP.sub [1] rfl) rfl hl.1 rfl (Nat.le_of_ble_eq_true rfl) dX9_square_150 ⟨Nat.zero_le _, Nat.zero_le _⟩ ?_
          refine lv_iconst (v := nI 1) hx hb dX9_square_153 rfl ?_
          refine wn_sub hx hb (by omega) dX9_square_154 ?_
          exact wr_iret () hx hb hr hlk hQ dX9_square_155 (wp_to (hP.sub [0, 1] rfl) rfl) (wd_to (hD.sub [0, 1] (by decide) rfl) rfl) hS (Nat.le_refl _) (Nat.le_refl _) (by first | (simp [sqI, bI, nI1_1, nI_0, c_10, ix_s, iw_17, c_136]; done) | (simp [sqI, bI, nI1_1, nI_0, c_10, ix_s, iw_17, c_136]; omega) | grind [sqI, bI, nI1_1, nI_0])
        · refine lv_ldc (v := (-1000000)) hx hb hown (hts _ q1306) dX9_square_139 ?_
          refine lv_goto (tgt := 155) hx hb dX9_square_141 (by decide) ?_
          exact wr_iret () hx hb hr hlk hQ dX9_square_155 (wp_to (hP.sub [0, 1] rfl) rfl) (wd_to (hD.sub [0, 1] (by decide) rfl) rfl) hS (Nat.le_refl _) (Nat.le_refl _) (by first | (simp [sqI, bI, nI1_1, nI_0, c_10, ix_s, iw_17, c_136]; done) | (simp [sqI, bI, nI1_1, nI_0, c_10, ix_s, iw_17, c_136]; omega) | grind [sqI, bI, nI1_1, nI_0])
  · have ix_x : ixO x (d 2) = none := ixO_f c_10
    refine lv_ldc (v := (-1000001)) hx hb hown (hts _ q1266) dX9_square_13 ?_
    exact wr_iret () hx hb hr hlk hQ dX9_square_15 (wp_to (hP.sub [0, 1] rfl) rfl) (wd_to (hD.sub [0, 1] (by decide) rfl) rfl) hS (Nat.le_refl _) (Nat.le_refl _) (by first | (simp [sqI, bI, nI1_1, nI_0, c_10, ix_x]; done) | (simp [sqI, bI, nI1_1, nI_0, c_10, ix_x]; omega) | grind [sqI, bI, nI1_1, nI_0])
theorem cs_X9_isVisitor {R : Room} {s : State} {args : Array Value} {own : String} {index : Nat} (hts : ∀ w ∈ lw_all, w.before args s = true) (hl : Cond.methodLink own index yX9_isVisitor ∈ lw_all) {rm : Room} {mc ms : Nat} (hR : rm.frames + 1 ≤ R.frames ∧ 8 + (2 + 11) + rm.locals ≤ R.locals) (hc : rm.cells = mc := by rfl) (hs : rm.slots = ms := by rfl) : CallW R s args own RX9 index yX9_isVisitor cX9_isVisitor 2 (some .boolean) (ws_ yX9_isVisitor cX9_isVisitor 2 (some .boolean)) rm mc ms 1 := cwV 1 hts (lw_V hl q1357 qs40 q70 q1358) rfl hc hs (by decide +kernel) hR
set_option maxHeartbeats 4000000 in
theorem m_X9_visitor (l : Launch) (D : va_G) (ca : Nat → ClassId) (h : Nat) (t0 : Int32) (t1 : Int32) (a2 : Nat) (a3 : Nat) (a4 : Nat) (a5 : Nat) (a6 : Nat) (a7 : Nat) (a8 : Nat) (a10 : Nat) (a19 : Nat) (a20 : Nat) (a21 : Nat) (a22 : Nat) (ac : Nat) (tpd : Nat) (cu : Nat) (sta : Nat) (tok : Nat) (fau : Nat) (trd : Nat) (val : Int32) (fat : Int32) (lat : Int32) (d : Nat → Nat) (x : Int32) (w : Int32) (sz : Nat) (hd : dOK d) : Met l yX9_visitor (ws_ yX9_visitor cX9_visitor 3 (some .int)) (rmL 3) (PcA (K1 D ca) D [.ref h, .int x, .int w] [(h, .inr (8, [.int t0, .int t1, .ref a2, .ref a3, .ref a4, .ref a5, .ref a6, .ref a7, .ref a8, .int (nI ac), .ref a10, .int (nI tpd), .int (nI cu), .int (nI sta), .int (nI tok), .int val, .int (nI fau), .int fat, .int lat, .ref a19, .ref a20, .ref a21, .ref a22, .int (nI trd)])), (a5, .inl (ca 0, 64, .inl (dv d)))] sz) (QiA D (fun zr (_ : Unit) => zr = visI d x w) (fun _ => [(h, .inr (8, [.int (nI 0), .int t1, .ref a2, .ref a3, .ref a4, .ref a5, .ref a6, .ref a7, .ref a8, .int (nI ac), .ref a10, .int (nI tpd), .int (nI cu), .int (nI sta), .int (nI tok), .int val, .int (nI fau), .int fat, .int lat, .ref a19, .ref a20, .ref a21, .ref a22, .int (nI trd)])), (a5, .inl (ca 0, 64, .inl (dv d)))]) (va_A [(h, .inr (8, [.int t0, .int t1, .ref a2, .ref a3, .ref a4, .ref a5, .ref a6, .ref a7, .ref a8, .int (nI ac), .ref a10, .int (nI tpd), .int (nI cu), .int (nI sta), .int (nI tok), .int val, .int (nI fau), .int fat, .int lat, .ref a19, .ref a20, .ref a21, .ref a22, .int (nI trd)])), (a5, .inl (ca 0, 64, .inl (dv d)))] sz)) 0 0 (va_A [(h, .inr (8, [.int t0, .int t1, .ref a2, .ref a3, .ref a4, .ref a5, .ref a6, .ref a7, .ref a8, .int (nI ac), .ref a10, .int (nI tpd), .int (nI cu), .int (nI sta), .int (nI tok), .int val, .int (nI fau), .int fat, .int lat, .ref a19, .ref a20, .ref a21, .ref a22, .int (nI trd)])), (a5, .inl (ca 0, 64, .inl (dv d)))] sz) := by
  refine wr_head (Qc := fun A => (QiA D (fun zr (_ : Unit) => zr = visI d x w) (fun _ => [(h, .inr (8, [.int (nI 0), .int t1, .ref a2, .ref a3, .ref a4, .ref a5, .ref a6, .ref a7, .ref a8, .int (nI ac), .ref a10, .int (nI tpd), .int (nI cu), .int (nI sta), .int (nI tok), .int val, .int (nI fau), .int fat, .int lat, .ref a19, .ref a20, .ref a21, .ref a22, .int (nI trd)])), (a5, .inl (ca 0, 64, .inl (dv d)))]) A)) (by decide) (Nat.le_of_ble_eq_true rfl) ?_
  intro zp ze zs zm za zb zt zc ls zQ A H locs hx hb hml hr hlk hown hts hnm hK hP hD hS hA hl hQ
  have hown : zs.vm.findClass RX9 = some zm.cls := hown
  have hl : lv_has ls 3 [(0, .ref h), (1, .int x), (2, .int w)] := hl
  have hF : CallFix zp zm zc cX9_visitor 3 zs za lw_all RX9 := ⟨hx, hb, hml, hown, hts⟩
  have hd2 : d 2 ≤ 8 := hd.2.2.1
  have hd3 : d 3 ≤ 5 := hd.2.2.2.1
  have hd0 : d 0 ≤ 9 := hd.1
  have hd1 : d 1 ≤ 8 := hd.2.1
  have hp2 := pow_8 hd2
  have hp3 := pow_8 (show d 3 ≤ 8 by omega)
  refine lv_aload_n hx hb dX9_visitor_0 rfl (lv_at hl 0 rfl) ?_
  refine lv_iconst (v := nI 0) hx hb dX9_visitor_1 rfl ?_
  refine va_put (D := D) (ci := 8) (v := .int (nI 0)) (ty := .int) (C := RX9) (T := TX9) (N := 24) hx hb hts in_X9 tyX9 tyX9_ok nmX9 hown hK hP hD hS 0 rfl rfl 0 (by decide) (hts _ q1179) (fun _ h9 => h9) rfl (tyX9_ok 0 (by decide)) rfl rfl (Nat.le_of_ble_eq_true rfl) dX9_visitor_2 (fun H locs hP hD hS => ?_)
  have hP : va_P D vwCl [(h, .inr (8, [.int (nI 0), .int t1, .ref a2, .ref a3, .ref a4, .ref a5, .ref a6, .ref a7, .ref a8, .int (nI ac), .ref a10, .int (nI tpd), .int (nI cu), .int (nI sta), .int (nI tok), .int val, .int (nI fau), .int fat, .int lat, .ref a19, .ref a20, .ref a21, .ref a22, .int (nI trd)])), (a5, .inl (ca 0, 64, .inl (dv d)))] H := hP
  have hD : va_D A [(h, .inr (8, [.int (nI 0), .int t1, .ref a2, .ref a3, .ref a4, .ref a5, .ref a6, .ref a7, .ref a8, .int (nI ac), .ref a10, .int (nI tpd), .int (nI cu), .int (nI sta), .int (nI tok), .int val, .int (nI fau), .int fat, .int lat, .ref a19, .ref a20, .ref a21, .ref a22, .int (nI trd)])), (a5, .inl (ca 0, 64, .inl (dv d)))] := hD
  refine lv_aload_n hx hb dX9_visitor_5 rfl (lv_at hl 0 rfl) ?_
  refine lv_iload_n hx hb dX9_visitor_6 rfl (lv_at hl 1 rfl) ?_
  refine rd_callV hF (m_X9_isVisitor l D ca h ([.int (nI 0), .int t1, .ref a2, .ref a3, .ref a4, .ref a5, .ref a6, .ref a7, .ref a8, .int (nI ac), .ref a10, .int (nI tpd), .int (nI cu), .int (nI sta), .int (nI tok), .int val, .int (nI fau), .int fat, .int lat, .ref a19, .ref a20, .ref a21, .ref a22, .int (nI trd)]) a5 d x (by first | rfl | assumption) (by assumption)) (cs_X9_isVisitor hts q1355 ⟨by decide, by decide⟩) (K1_mv D ca) hK (hP.sub [0, 1] rfl) (va_recv hK hP (ci := 8) (q0 := 0) rfl rfl) rfl hl.1 rfl (Nat.le_of_ble_eq_true rfl) dX9_visitor_7 ⟨Nat.zero_le _, Nat.zero_le _⟩ ?_
  refine wb_eq (tgt := 37) hx hb dX9_visitor_10 (by decide) (fun c_10 => ?_) (fun c_10 => ?_)
  · have ix_x : ixO x (d 3) = none := ixO_f c_10
    refine lv_ldc (v := (-1000001)) hx hb hown (hts _ q1266) dX9_visitor_37 ?_
    exact wr_iret () hx hb hr hlk hQ dX9_visitor_39 (wp_to (hP.sub [0, 1] rfl) rfl) (wd_to (hD.sub [0, 1] (by decide) rfl) rfl) hS (Nat.le_refl _) (Nat.le_refl _) (by first | (simp [visI, bI, nI1_1, nI_0, c_10, ix_x]; done) | (simp [visI, bI, nI1_1, nI_0, c_10, ix_x]; omega) | grind [visI, bI, nI1_1, nI_0])
  · obtain ⟨v, hv, hxv⟩ := (ltB_iff (by omega)).mp c_10
    subst hxv
    have ix_v : ixO (nI v) (d 3) = some v := ixO_t hv (by omega)
    refine lv_iload_n hx hb dX9_visitor_13 rfl (lv_at hl 2 rfl) ?_
    refine lv_i2l hx hb dX9_visitor_14 rfl ?_
    refine lv_lconst (v := 0) hx hb dX9_visitor_15 rfl ?_
    refine lv_ldc2 (v := 3) hx hb hown (hts _ q1435) dX9_visitor_16 ?_
    refine rd_callS hF (m_X9_in l D ca w.toInt64 0 3 ) (cs_X9_in hts q1262 ⟨by decide, by decide⟩) (K1_mv D ca) hK (hP.sub [] rfl) rfl hl.1 rfl (Nat.le_of_ble_eq_true rfl) dX9_visitor_19 ⟨Nat.zero_le _, Nat.zero_le _⟩ ?_
    refine wb_eq (tgt := 37) hx hb dX9_visitor_22 (by decide) (fun c_22 => ?_) (fun c_22 => ?_)
    · rw [inB_c (n := 4) (by decide)] at c_22
      have ix_w : ixO w 4 = none := ixO_f c_22
      refine lv_ldc (v := (-1000001)) hx hb hown (hts _ q1266) dX9_visitor_37 ?_
      exact wr_iret () hx hb hr hlk hQ dX9_visitor_39 (wp_to (hP.sub [0, 1] rfl) rfl) (wd_to (hD.sub [0, 1] (by decide) rfl) rfl) hS (Nat.le_refl _) (Nat.le_refl _) (by first | (simp [visI, bI, nI1_1, nI_0, c_10, ix_v, c_22, ix_w]; done) | (simp [visI, bI, nI1_1, nI_0, c_10, ix_v, c_22, ix_w]; omega) | grind [visI, bI, nI1_1, nI_0])
    · rw [inB_c (n := 4) (by decide)] at c_22
      obtain ⟨k, hk, hxk⟩ := (ltB_iff (by omega)).mp c_22
      subst hxk
      have ix_k : ixO (nI k) 4 = some k := ixO_t hk (by omega)
      refine lv_aload_n hx hb dX9_visitor_25 rfl (lv_at hl 0 rfl) ?_
      refine va_get (D := D) (ci := 8) (v := .ref a5) (C := RX9) (T := TX9) (N := 24) hx hb hts in_X9 hown hK hP 0 rfl rfl 5 (by decide) (hts _ q1184) (fun _ h9 => h9) rfl dX9_visitor_26 ?_
      refine lv_iload_n hx hb dX9_visitor_29 rfl (lv_at hl 1 rfl) ?_
      refine lv_iload_n hx hb dX9_visitor_30 rfl (lv_at hl 2 rfl) ?_
      refine rd_callS hF (m_X9_guest l D ca a5 d v k (by first | assumption | omega)) (cs_X9_guest hts q1388 ⟨by decide, by decide⟩) (K1_mv D ca) hK (hP.sub [1] rfl) rfl hl.1 rfl (Nat.le_of_ble_eq_true rfl) dX9_visitor_31 ⟨Nat.zero_le _, Nat.zero_le _⟩ ?_
      refine lv_goto (tgt := 39) hx hb dX9_visitor_34 (by decide) ?_
      exact wr_iret () hx hb hr hlk hQ dX9_visitor_39 (wp_to (hP.sub [0, 1] rfl) rfl) (wd_to (hD.sub [0, 1] (by decide) rfl) rfl) hS (Nat.le_refl _) (Nat.le_refl _) (by first | (simp [visI, bI, nI1_1, nI_0, c_10, ix_v, c_22, ix_k]; done) | (simp [visI, bI, nI1_1, nI_0, c_10, ix_v, c_22, ix_k]; omega) | grind [visI, bI, nI1_1, nI_0])
set_option maxHeartbeats 4000000 in
theorem m_X9_sees (l : Launch) (D : va_G) (ca : Nat → ClassId) (h : Nat) (t0 : Int32) (t1 : Int32) (a2 : Nat) (a3 : Nat) (a4 : Nat) (a5 : Nat) (a6 : Nat) (a7 : Nat) (a8 : Nat) (a10 : Nat) (a19 : Nat) (a20 : Nat) (a21 : Nat) (a22 : Nat) (ac : Nat) (tpd : Nat) (cu : Nat) (sta : Nat) (tok : Nat) (fau : Nat) (trd : Nat) (val : Int32) (fat : Int32) (lat : Int32) (d : Nat → Nat) (x : Int32) (y : Int32) (sz : Nat) (hd : dOK d) : Met l yX9_sees (ws_ yX9_sees cX9_sees 3 (some .int)) (rmL 3) (PcA (K1 D ca) D [.ref h, .int x, .int y] [(h, .inr (8, [.int t0, .int t1, .ref a2, .ref a3, .ref a4, .ref a5, .ref a6, .ref a7, .ref a8, .int (nI ac), .ref a10, .int (nI tpd), .int (nI cu), .int (nI sta), .int (nI tok), .int val, .int (nI fau), .int fat, .int lat, .ref a19, .ref a20, .ref a21, .ref a22, .int (nI trd)])), (a5, .inl (ca 0, 64, .inl (dv d)))] sz) (QiA D (fun zr (_ : Unit) => zr = seeI d x y) (fun _ => [(h, .inr (8, [.int (nI 0), .int t1, .ref a2, .ref a3, .ref a4, .ref a5, .ref a6, .ref a7, .ref a8, .int (nI ac), .ref a10, .int (nI tpd), .int (nI cu), .int (nI sta), .int (nI tok), .int val, .int (nI fau), .int fat, .int lat, .ref a19, .ref a20, .ref a21, .ref a22, .int (nI trd)])), (a5, .inl (ca 0, 64, .inl (dv d)))]) (va_A [(h, .inr (8, [.int t0, .int t1, .ref a2, .ref a3, .ref a4, .ref a5, .ref a6, .ref a7, .ref a8, .int (nI ac), .ref a10, .int (nI tpd), .int (nI cu), .int (nI sta), .int (nI tok), .int val, .int (nI fau), .int fat, .int lat, .ref a19, .ref a20, .ref a21, .ref a22, .int (nI trd)])), (a5, .inl (ca 0, 64, .inl (dv d)))] sz)) 0 0 (va_A [(h, .inr (8, [.int t0, .int t1, .ref a2, .ref a3, .ref a4, .ref a5, .ref a6, .ref a7, .ref a8, .int (nI ac), .ref a10, .int (nI tpd), .int (nI cu), .int (nI sta), .int (nI tok), .int val, .int (nI fau), .int fat, .int lat, .ref a19, .ref a20, .ref a21, .ref a22, .int (nI trd)])), (a5, .inl (ca 0, 64, .inl (dv d)))] sz) := by
  refine wr_head (Qc := fun A => (QiA D (fun zr (_ : Unit) => zr = seeI d x y) (fun _ => [(h, .inr (8, [.int (nI 0), .int t1, .ref a2, .ref a3, .ref a4, .ref a5, .ref a6, .ref a7, .ref a8, .int (nI ac), .ref a10, .int (nI tpd), .int (nI cu), .int (nI sta), .int (nI tok), .int val, .int (nI fau), .int fat, .int lat, .ref a19, .ref a20, .ref a21, .ref a22, .int (nI trd)])), (a5, .inl (ca 0, 64, .inl (dv d)))]) A)) (by decide) (Nat.le_of_ble_eq_true rfl) ?_
  intro zp ze zs zm za zb zt zc ls zQ A H locs hx hb hml hr hlk hown hts hnm hK hP hD hS hA hl hQ
  have hown : zs.vm.findClass RX9 = some zm.cls := hown
  have hl : lv_has ls 3 [(0, .ref h), (1, .int x), (2, .int y)] := hl
  have hF : CallFix zp zm zc cX9_sees 3 zs za lw_all RX9 := ⟨hx, hb, hml, hown, hts⟩
  have hd2 : d 2 ≤ 8 := hd.2.2.1
  have hd3 : d 3 ≤ 5 := hd.2.2.2.1
  have hd0 : d 0 ≤ 9 := hd.1
  have hd1 : d 1 ≤ 8 := hd.2.1
  have hp2 := pow_8 hd2
  have hp3 := pow_8 (show d 3 ≤ 8 by omega)
  refine lv_aload_n hx hb dX9_sees_0 rfl (lv_at hl 0 rfl) ?_
  refine lv_iconst (v := nI 0) hx hb dX9_sees_1 rfl ?_
  refine va_put (D := D) (ci := 8) (v := .int (nI 0)) (ty := .int) (C := RX9) (T := TX9) (N := 24) hx hb hts in_X9 tyX9 tyX9_ok nmX9 hown hK hP hD hS 0 rfl rfl 0 (by decide) (hts _ q1179) (fun _ h9 => h9) rfl (tyX9_ok 0 (by decide)) rfl rfl (Nat.le_of_ble_eq_true rfl) dX9_sees_2 (fun H locs hP hD hS => ?_)
  have hP : va_P D vwCl [(h, .inr (8, [.int (nI 0), .int t1, .ref a2, .ref a3, .ref a4, .ref a5, .ref a6, .ref a7, .ref a8, .int (nI ac), .ref a10, .int (nI tpd), .int (nI cu), .int (nI sta), .int (nI tok), .int val, .int (nI fau), .int fat, .int lat, .ref a19, .ref a20, .ref a21, .ref a22, .int (nI trd)])), (a5, .inl (ca 0, 64, .inl (dv d)))] H := hP
  have hD : va_D A [(h, .inr (8, [.int (nI 0), .int t1, .ref a2, .ref a3, .ref a4, .ref a5, .ref a6, .ref a7, .ref a8, .int (nI ac), .ref a10, .int (nI tpd), .int (nI cu), .int (nI sta), .int (nI tok), .int val, .int (nI fau), .int fat, .int lat, .ref a19, .ref a20, .ref a21, .ref a22, .int (nI trd)])), (a5, .inl (ca 0, 64, .inl (dv d)))] := hD
  refine lv_aload_n hx hb dX9_sees_5 rfl (lv_at hl 0 rfl) ?_
  refine lv_iload_n hx hb dX9_sees_6 rfl (lv_at hl 1 rfl) ?_
  refine rd_callV hF (m_X9_isVisitor l D ca h ([.int (nI 0), .int t1, .ref a2, .ref a3, .ref a4, .ref a5, .ref a6, .ref a7, .ref a8, .int (nI ac), .ref a10, .int (nI tpd), .int (nI cu), .int (nI sta), .int (nI tok), .int val, .int (nI fau), .int fat, .int lat, .ref a19, .ref a20, .ref a21, .ref a22, .int (nI trd)]) a5 d x (by first | rfl | assumption) (by assumption)) (cs_X9_isVisitor hts q1355 ⟨by decide, by decide⟩) (K1_mv D ca) hK (hP.sub [0, 1] rfl) (va_recv hK hP (ci := 8) (q0 := 0) rfl rfl) rfl hl.1 rfl (Nat.le_of_ble_eq_true rfl) dX9_sees_7 ⟨Nat.zero_le _, Nat.zero_le _⟩ ?_
  refine wb_eq (tgt := 21) hx hb dX9_sees_10 (by decide) (fun c_10 => ?_) (fun c_10 => ?_)
  · have ix_x : ixO x (d 3) = none := ixO_f c_10
    refine lv_ldc (v := (-1000001)) hx hb hown (hts _ q1266) dX9_sees_21 ?_
    exact wr_iret () hx hb hr hlk hQ dX9_sees_23 (wp_to (hP.sub [0, 1] rfl) rfl) (wd_to (hD.sub [0, 1] (by decide) rfl) rfl) hS (Nat.le_refl _) (Nat.le_refl _) (by first | (simp [seeI, bI, nI1_1, nI_0, c_10, ix_x]; done) | (simp [seeI, bI, nI1_1, nI_0, c_10, ix_x]; omega) | grind [seeI, bI, nI1_1, nI_0])
  · obtain ⟨v, hv, hxv⟩ := (ltB_iff (by omega)).mp c_10
    subst hxv
    have ix_v : ixO (nI v) (d 3) = some v := ixO_t hv (by omega)
    refine lv_aload_n hx hb dX9_sees_13 rfl (lv_at hl 0 rfl) ?_
    refine lv_iload_n hx hb dX9_sees_14 rfl (lv_at hl 2 rfl) ?_
    refine rd_callV hF (m_X9_isSquare l D ca h ([.int (nI 0), .int t1, .ref a2, .ref a3, .ref a4, .ref a5, .ref a6, .ref a7, .ref a8, .int (nI ac), .ref a10, .int (nI tpd), .int (nI cu), .int (nI sta), .int (nI tok), .int val, .int (nI fau), .int fat, .int lat, .ref a19, .ref a20, .ref a21, .ref a22, .int (nI trd)]) a5 d y (by first | rfl | assumption) (by assumption)) (cs_X9_isSquare hts q1414 ⟨by decide, by decide⟩) (K1_mv D ca) hK (hP.sub [0, 1] rfl) (va_recv hK hP (ci := 8) (q0 := 0) rfl rfl) rfl hl.1 rfl (Nat.le_of_ble_eq_true rfl) dX9_sees_15 ⟨Nat.zero_le _, Nat.zero_le _⟩ ?_
    refine wb_ne (tgt := 24) hx hb dX9_sees_18 (by decide) (fun c_18 => ?_) (fun c_18 => ?_)
    · obtain ⟨s, hs, hxs⟩ := (ltB_iff (by omega)).mp c_18
      subst hxs
      have ix_s : ixO (nI s) (d 2) = some s := ixO_t hs (by omega)
      have hq := hd.2.2.2.2.1 s (by omega)
      have hw := hd.2.2.2.2.2.1 v (by omega)
      refine lv_aload_n hx hb dX9_sees_24 rfl (lv_at hl 0 rfl) ?_
      refine va_get (D := D) (ci := 8) (v := .ref a5) (C := RX9) (T := TX9) (N := 24) hx hb hts in_X9 hown hK hP 0 rfl rfl 5 (by decide) (hts _ q1184) (fun _ h9 => h9) rfl dX9_sees_25 ?_
      refine lv_iload_n hx hb dX9_sees_28 rfl (lv_at hl 2 rfl) ?_
      refine lv_iconst (v := nI 0) hx hb dX9_sees_29 rfl ?_
      refine rd_callS hF (m_X9_of l D ca a5 d s 0 (by first | assumption | omega)) (cs_X9_of hts q1382 ⟨by decide, by decide⟩) (K1_mv D ca) hK (hP.sub [1] rfl) rfl hl.1 rfl (Nat.le_of_ble_eq_true rfl) dX9_sees_30 ⟨Nat.zero_le _, Nat.zero_le _⟩ ?_
      refine lv_aload_n hx hb dX9_sees_33 rfl (lv_at hl 0 rfl) ?_
      refine va_get (D := D) (ci := 8) (v := .ref a5) (C := RX9) (T := TX9) (N := 24) hx hb hts in_X9 hown hK hP 0 rfl rfl 5 (by decide) (hts _ q1184) (fun _ h9 => h9) rfl dX9_sees_34 ?_
      refine lv_iload_n hx hb dX9_sees_37 rfl (lv_at hl 2 rfl) ?_
      refine lv_iconst (v := nI 1) hx hb dX9_sees_38 rfl ?_
      refine rd_callS hF (m_X9_of l D ca a5 d s 1 (by first | assumption | omega)) (cs_X9_of hts q1382 ⟨by decide, by decide⟩) (K1_mv D ca) hK (hP.sub [1] rfl) rfl hl.1 rfl (Nat.le_of_ble_eq_true rfl) dX9_sees_39 ⟨Nat.zero_le _, Nat.zero_le _⟩ ?_
      refine lv_aload_n hx hb dX9_sees_42 rfl (lv_at hl 0 rfl) ?_
      refine va_get (D := D) (ci := 8) (v := .ref a5) (C := RX9) (T := TX9) (N := 24) hx hb hts in_X9 hown hK hP 0 rfl rfl 5 (by decide) (hts _ q1184) (fun _ h9 => h9) rfl dX9_sees_43 ?_
      refine lv_iload_n hx hb dX9_sees_46 rfl (lv_at hl 1 rfl) ?_
      refine lv_iconst (v := nI 0) hx hb dX9_sees_47 rfl ?_
      refine rd_callS hF (m_X9_guest l D ca a5 d v 0 (by first | assumption | omega)) (cs_X9_guest hts q1388 ⟨by decide, by decide⟩) (K1_mv D ca) hK (hP.sub [1] rfl) rfl hl.1 rfl (Nat.le_of_ble_eq_true rfl) dX9_sees_48 ⟨Nat.zero_le _, Nat.zero_le _⟩ ?_
      refine lv_aload_n hx hb dX9_sees_51 rfl (lv_at hl 0 rfl) ?_
      refine va_get (D := D) (ci := 8) (v := .ref a5) (C := RX9) (T := TX9) (N := 24) hx hb hts in_X9 hown hK hP 0 rfl rfl 5 (by decide) (hts _ q1184) (fun _ h9 => h9) rfl dX9_sees_52 ?_
      refine lv_iload_n hx hb dX9_sees_55 rfl (lv_at hl 1 rfl) ?_
      refine lv_iconst (v := nI 1) hx hb dX9_sees_56 rfl ?_
      refine rd_callS hF (m_X9_guest l D ca a5 d v 1 (by first | assumption | omega)) (cs_X9_guest hts q1388 ⟨by decide, by decide⟩) (K1_mv D ca) hK (hP.sub [1] rfl) rfl hl.1 rfl (Nat.le_of_ble_eq_true rfl) dX9_sees_57 ⟨Nat.zero_le _, Nat.zero_le _⟩ ?_
      refine rd_callS hF (m_X9_seesBy l D ca (d (4 + 5 * s + 0)) (d (4 + 5 * s + 1)) (d (44 + 4 * v + 0)) (d (44 + 4 * v + 1)) (by first | assumption | omega) (by first | assumption | omega) (by first | assumption | omega) (by first | assumption | omega)) (cs_X9_seesBy hts q1394 ⟨by decide, by decide⟩) (K1_mv D ca) hK (hP.sub [] rfl) rfl hl.1 rfl (Nat.le_of_ble_eq_true rfl) dX9_sees_60 ⟨Nat.zero_le _, Nat.zero_le _⟩ ?_
      exact wr_iret () hx hb hr hlk hQ dX9_sees_63 (wp_to (hP.sub [0, 1] rfl) rfl) (wd_to (hD.sub [0, 1] (by decide) rfl) rfl) hS (Nat.le_refl _) (Nat.le_refl _) (by first | (simp [seeI, bI, nI1_1, nI_0, c_10, ix_v, c_18, ix_s]; done) | (simp [seeI, bI, nI1_1, nI_0, c_10, ix_v, c_18, ix_s]; omega) | grind [seeI, bI, nI1_1, nI_0])
    · have ix_y : ixO y (d 2) = none := ixO_f c_18
      refine lv_ldc (v := (-1000001)) hx hb hown (hts _ q1266) dX9_sees_21 ?_
      exact wr_iret () hx hb hr hlk hQ dX9_sees_23 (wp_to (hP.sub [0, 1] rfl) rfl) (wd_to (hD.sub [0, 1] (by decide) rfl) rfl) hS (Nat.le_refl _) (Nat.le_refl _) (by first | (simp [seeI, bI, nI1_1, nI_0, c_10, ix_v, c_18, ix_y]; done) | (simp [seeI, bI, nI1_1, nI_0, c_10, ix_v, c_18, ix_y]; omega) | grind [seeI, bI, nI1_1, nI_0])
theorem cs_X9_clicksOf {R : Room} {s : State} {args : Array Value} {own : String} {index : Nat} (hts : ∀ w ∈ lw_all, w.before args s = true) (hl : Cond.methodLink own index yX9_clicksOf ∈ lw_all) {rm : Room} {mc ms : Nat} (hR : rm.frames + 1 ≤ R.frames ∧ 8 + (4 + 11) + rm.locals ≤ R.locals) (hc : rm.cells = mc := by rfl) (hs : rm.slots = ms := by rfl) : CallW R s args own RX9 index yX9_clicksOf cX9_clicksOf 4 (some .int) (ws_ yX9_clicksOf cX9_clicksOf 4 (some .int)) rm mc ms 1 := cwV 1 hts (lw_V hl q1446 qs45 q70 q1447) rfl hc hs (by decide +kernel) hR
set_option maxHeartbeats 4000000 in
theorem m_X9_clicks (l : Launch) (D : va_G) (ca : Nat → ClassId) (h : Nat) (t0 : Int32) (t1 : Int32) (a2 : Nat) (a3 : Nat) (a4 : Nat) (a5 : Nat) (a6 : Nat) (a7 : Nat) (a8 : Nat) (a10 : Nat) (a19 : Nat) (a20 : Nat) (a21 : Nat) (a22 : Nat) (ac : Nat) (tpd : Nat) (cu : Nat) (sta : Nat) (tok : Nat) (fau : Nat) (trd : Nat) (val : Int32) (fat : Int32) (lat : Int32) (d : Nat → Nat) (x : Int32) (sz : Nat) (hd : dOK d) : Met l yX9_clicks (ws_ yX9_clicks cX9_clicks 2 (some .int)) (rmL 4) (PcA (K1 D ca) D [.ref h, .int x] [(h, .inr (8, [.int t0, .int t1, .ref a2, .ref a3, .ref a4, .ref a5, .ref a6, .ref a7, .ref a8, .int (nI ac), .ref a10, .int (nI tpd), .int (nI cu), .int (nI sta), .int (nI tok), .int val, .int (nI fau), .int fat, .int lat, .ref a19, .ref a20, .ref a21, .ref a22, .int (nI trd)])), (a5, .inl (ca 0, 64, .inl (dv d)))] sz) (QiA D (fun zr (_ : Unit) => zr = clkI d x) (fun _ => [(h, .inr (8, [.int (nI 0), .int t1, .ref a2, .ref a3, .ref a4, .ref a5, .ref a6, .ref a7, .ref a8, .int (nI ac), .ref a10, .int (nI tpd), .int (nI cu), .int (nI sta), .int (nI tok), .int val, .int (nI fau), .int fat, .int lat, .ref a19, .ref a20, .ref a21, .ref a22, .int (nI trd)])), (a5, .inl (ca 0, 64, .inl (dv d)))]) (va_A [(h, .inr (8, [.int t0, .int t1, .ref a2, .ref a3, .ref a4, .ref a5, .ref a6, .ref a7, .ref a8, .int (nI ac), .ref a10, .int (nI tpd), .int (nI cu), .int (nI sta), .int (nI tok), .int val, .int (nI fau), .int fat, .int lat, .ref a19, .ref a20, .ref a21, .ref a22, .int (nI trd)])), (a5, .inl (ca 0, 64, .inl (dv d)))] sz)) 0 0 (va_A [(h, .inr (8, [.int t0, .int t1, .ref a2, .ref a3, .ref a4, .ref a5, .ref a6, .ref a7, .ref a8, .int (nI ac), .ref a10, .int (nI tpd), .int (nI cu), .int (nI sta), .int (nI tok), .int val, .int (nI fau), .int fat, .int lat, .ref a19, .ref a20, .ref a21, .ref a22, .int (nI trd)])), (a5, .inl (ca 0, 64, .inl (dv d)))] sz) := by
  refine wr_head (Qc := fun A => (QiA D (fun zr (_ : Unit) => zr = clkI d x) (fun _ => [(h, .inr (8, [.int (nI 0), .int t1, .ref a2, .ref a3, .ref a4, .ref a5, .ref a6, .ref a7, .ref a8, .int (nI ac), .ref a10, .int (nI tpd), .int (nI cu), .int (nI sta), .int (nI tok), .int val, .int (nI fau), .int fat, .int lat, .ref a19, .ref a20, .ref a21, .ref a22, .int (nI trd)])), (a5, .inl (ca 0, 64, .inl (dv d)))]) A)) (by decide) (Nat.le_of_ble_eq_true rfl) ?_
  intro zp ze zs zm za zb zt zc ls zQ A H locs hx hb hml hr hlk hown hts hnm hK hP hD hS hA hl hQ
  have hown : zs.vm.findClass RX9 = some zm.cls := hown
  have hl : lv_has ls 2 [(0, .ref h), (1, .int x)] := hl
  have hF : CallFix zp zm zc cX9_clicks 2 zs za lw_all RX9 := ⟨hx, hb, hml, hown, hts⟩
  have hd2 : d 2 ≤ 8 := hd.2.2.1
  have hd3 : d 3 ≤ 5 := hd.2.2.2.1
  have hd0 : d 0 ≤ 9 := hd.1
  have hd1 : d 1 ≤ 8 := hd.2.1
  have hp2 := pow_8 hd2
  have hp3 := pow_8 (show d 3 ≤ 8 by omega)
  refine lv_aload_n hx hb dX9_clicks_0 rfl (lv_at hl 0 rfl) ?_
  refine lv_iconst (v := nI 0) hx hb dX9_clicks_1 rfl ?_
  refine va_put (D := D) (ci := 8) (v := .int (nI 0)) (ty := .int) (C := RX9) (T := TX9) (N := 24) hx hb hts in_X9 tyX9 tyX9_ok nmX9 hown hK hP hD hS 0 rfl rfl 0 (by decide) (hts _ q1179) (fun _ h9 => h9) rfl (tyX9_ok 0 (by decide)) rfl rfl (Nat.le_of_ble_eq_true rfl) dX9_clicks_2 (fun H locs hP hD hS => ?_)
  have hP : va_P D vwCl [(h, .inr (8, [.int (nI 0), .int t1, .ref a2, .ref a3, .ref a4, .ref a5, .ref a6, .ref a7, .ref a8, .int (nI ac), .ref a10, .int (nI tpd), .int (nI cu), .int (nI sta), .int (nI tok), .int val, .int (nI fau), .int fat, .int lat, .ref a19, .ref a20, .ref a21, .ref a22, .int (nI trd)])), (a5, .inl (ca 0, 64, .inl (dv d)))] H := hP
  have hD : va_D A [(h, .inr (8, [.int (nI 0), .int t1, .ref a2, .ref a3, .ref a4, .ref a5, .ref a6, .ref a7, .ref a8, .int (nI ac), .ref a10, .int (nI tpd), .int (nI cu), .int (nI sta), .int (nI tok), .int val, .int (nI fau), .int fat, .int lat, .ref a19, .ref a20, .ref a21, .ref a22, .int (nI trd)])), (a5, .inl (ca 0, 64, .inl (dv d)))] := hD
  refine lv_aload_n hx hb dX9_clicks_5 rfl (lv_at hl 0 rfl) ?_
  refine lv_iload_n hx hb dX9_clicks_6 rfl (lv_at hl 1 rfl) ?_
  refine rd_callV hF (m_X9_isVisitor l D ca h ([.int (nI 0), .int t1, .ref a2, .ref a3, .ref a4, .ref a5, .ref a6, .ref a7, .ref a8, .int (nI ac), .ref a10, .int (nI tpd), .int (nI cu), .int (nI sta), .int (nI tok), .int val, .int (nI fau), .int fat, .int lat, .ref a19, .ref a20, .ref a21, .ref a22, .int (nI trd)]) a5 d x (by first | rfl | assumption) (by assumption)) (cs_X9_isVisitor hts q1355 ⟨by decide, by decide⟩) (K1_mv D ca) hK (hP.sub [0, 1] rfl) (va_recv hK hP (ci := 8) (q0 := 0) rfl rfl) rfl hl.1 rfl (Nat.le_of_ble_eq_true rfl) dX9_clicks_7 ⟨Nat.zero_le _, Nat.zero_le _⟩ ?_
  refine wb_eq (tgt := 21) hx hb dX9_clicks_10 (by decide) (fun c_10 => ?_) (fun c_10 => ?_)
  · have ix_x : ixO x (d 3) = none := ixO_f c_10
    refine lv_ldc (v := (-1000001)) hx hb hown (hts _ q1266) dX9_clicks_21 ?_
    exact wr_iret () hx hb hr hlk hQ dX9_clicks_23 (wp_to (hP.sub [0, 1] rfl) rfl) (wd_to (hD.sub [0, 1] (by decide) rfl) rfl) hS (Nat.le_refl _) (Nat.le_refl _) (by first | (simp [clkI, bI, nI1_1, nI_0, c_10, ix_x]; done) | (simp [clkI, bI, nI1_1, nI_0, c_10, ix_x]; omega) | grind [clkI, bI, nI1_1, nI_0])
  · obtain ⟨v, hv, hxv⟩ := (ltB_iff (by omega)).mp c_10
    subst hxv
    have ix_v : ixO (nI v) (d 3) = some v := ixO_t hv (by omega)
    refine lv_aload_n hx hb dX9_clicks_13 rfl (lv_at hl 0 rfl) ?_
    refine lv_iload_n hx hb dX9_clicks_14 rfl (lv_at hl 1 rfl) ?_
    refine rd_callV hF (m_X9_clicksOf l D ca h ([.int (nI 0), .int t1, .ref a2, .ref a3, .ref a4, .ref a5, .ref a6, .ref a7, .ref a8, .int (nI ac), .ref a10, .int (nI tpd), .int (nI cu), .int (nI sta), .int (nI tok), .int val, .int (nI fau), .int fat, .int lat, .ref a19, .ref a20, .ref a21, .ref a22, .int (nI trd)]) a5 d v (by first | rfl | assumption) (by assumption) (by first | assumption | omega)) (cs_X9_clicksOf hts q1444 ⟨by decide, by decide⟩) (K1_mv D ca) hK (hP.sub [0, 1] rfl) (va_recv hK hP (ci := 8) (q0 := 0) rfl rfl) rfl hl.1 rfl (Nat.le_of_ble_eq_true rfl) dX9_clicks_15 ⟨Nat.zero_le _, Nat.zero_le _⟩ ?_
    refine lv_goto (tgt := 23) hx hb dX9_clicks_18 (by decide) ?_
    exact wr_iret () hx hb hr hlk hQ dX9_clicks_23 (wp_to (hP.sub [0, 1] rfl) rfl) (wd_to (hD.sub [0, 1] (by decide) rfl) rfl) hS (Nat.le_refl _) (Nat.le_refl _) (by first | (simp [clkI, bI, nI1_1, nI_0, c_10, ix_v]; done) | (simp [clkI, bI, nI1_1, nI_0, c_10, ix_v]; omega) | grind [clkI, bI, nI1_1, nI_0])
theorem cs_X9_areSquares {R : Room} {s : State} {args : Array Value} {own : String} {index : Nat} (hts : ∀ w ∈ lw_all, w.before args s = true) (hl : Cond.methodLink own index yX9_areSquares ∈ lw_all) {rm : Room} {mc ms : Nat} (hR : rm.frames + 1 ≤ R.frames ∧ 8 + (2 + 11) + rm.locals ≤ R.locals) (hc : rm.cells = mc := by rfl) (hs : rm.slots = ms := by rfl) : CallW R s args own RX9 index yX9_areSquares cX9_areSquares 2 (some .boolean) (ws_ yX9_areSquares cX9_areSquares 2 (some .boolean)) rm mc ms 1 := cwV 1 hts (lw_V hl q1361 qs41 q70 q1362) rfl hc hs (by decide +kernel) hR
set_option maxHeartbeats 4000000 in
theorem m_X9_wrong (l : Launch) (D : va_G) (ca : Nat → ClassId) (h : Nat) (t0 : Int32) (t1 : Int32) (a2 : Nat) (a3 : Nat) (a4 : Nat) (a5 : Nat) (a6 : Nat) (a7 : Nat) (a8 : Nat) (a10 : Nat) (a19 : Nat) (a20 : Nat) (a21 : Nat) (a22 : Nat) (ac : Nat) (tpd : Nat) (cu : Nat) (sta : Nat) (tok : Nat) (fau : Nat) (trd : Nat) (val : Int32) (fat : Int32) (lat : Int32) (d : Nat → Nat) (x : Int32) (y : Int32) (sz : Nat) (hd : dOK d) : Met l yX9_wrong (ws_ yX9_wrong cX9_wrong 3 (some .int)) (rmL 5) (PcA (K1 D ca) D [.ref h, .int x, .int y] [(h, .inr (8, [.int t0, .int t1, .ref a2, .ref a3, .ref a4, .ref a5, .ref a6, .ref a7, .ref a8, .int (nI ac), .ref a10, .int (nI tpd), .int (nI cu), .int (nI sta), .int (nI tok), .int val, .int (nI fau), .int fat, .int lat, .ref a19, .ref a20, .ref a21, .ref a22, .int (nI trd)])), (a5, .inl (ca 0, 64, .inl (dv d)))] sz) (QiA D (fun zr (_ : Unit) => zr = wroI d x y) (fun _ => [(h, .inr (8, [.int (nI 0), .int t1, .ref a2, .ref a3, .ref a4, .ref a5, .ref a6, .ref a7, .ref a8, .int (nI ac), .ref a10, .int (nI tpd), .int (nI cu), .int (nI sta), .int (nI tok), .int val, .int (nI fau), .int fat, .int lat, .ref a19, .ref a20, .ref a21, .ref a22, .int (nI trd)])), (a5, .inl (ca 0, 64, .inl (dv d)))]) (va_A [(h, .inr (8, [.int t0, .int t1, .ref a2, .ref a3, .ref a4, .ref a5, .ref a6, .ref a7, .ref a8, .int (nI ac), .ref a10, .int (nI tpd), .int (nI cu), .int (nI sta), .int (nI tok), .int val, .int (nI fau), .int fat, .int lat, .ref a19, .ref a20, .ref a21, .ref a22, .int (nI trd)])), (a5, .inl (ca 0, 64, .inl (dv d)))] sz)) 0 0 (va_A [(h, .inr (8, [.int t0, .int t1, .ref a2, .ref a3, .ref a4, .ref a5, .ref a6, .ref a7, .ref a8, .int (nI ac), .ref a10, .int (nI tpd), .int (nI cu), .int (nI sta), .int (nI tok), .int val, .int (nI fau), .int fat, .int lat, .ref a19, .ref a20, .ref a21, .ref a22, .int (nI trd)])), (a5, .inl (ca 0, 64, .inl (dv d)))] sz) := by
  refine wr_head (Qc := fun A => (QiA D (fun zr (_ : Unit) => zr = wroI d x y) (fun _ => [(h, .inr (8, [.int (nI 0), .int t1, .ref a2, .ref a3, .ref a4, .ref a5, .ref a6, .ref a7, .ref a8, .int (nI ac), .ref a10, .int (nI tpd), .int (nI cu), .int (nI sta), .int (nI tok), .int val, .int (nI fau), .int fat, .int lat, .ref a19, .ref a20, .ref a21, .ref a22, .int (nI trd)])), (a5, .inl (ca 0, 64, .inl (dv d)))]) A)) (by decide) (Nat.le_of_ble_eq_true rfl) ?_
  intro zp ze zs zm za zb zt zc ls zQ A H locs hx hb hml hr hlk hown hts hnm hK hP hD hS hA hl hQ
  have hown : zs.vm.findClass RX9 = some zm.cls := hown
  have hl : lv_has ls 3 [(0, .ref h), (1, .int x), (2, .int y)] := hl
  have hF : CallFix zp zm zc cX9_wrong 3 zs za lw_all RX9 := ⟨hx, hb, hml, hown, hts⟩
  have hd2 : d 2 ≤ 8 := hd.2.2.1
  have hd3 : d 3 ≤ 5 := hd.2.2.2.1
  have hd0 : d 0 ≤ 9 := hd.1
  have hd1 : d 1 ≤ 8 := hd.2.1
  have hp2 := pow_8 hd2
  have hp3 := pow_8 (show d 3 ≤ 8 by omega)
  refine lv_aload_n hx hb dX9_wrong_0 rfl (lv_at hl 0 rfl) ?_
  refine lv_iconst (v := nI 0) hx hb dX9_wrong_1 rfl ?_
  refine va_put (D := D) (ci := 8) (v := .int (nI 0)) (ty := .int) (C := RX9) (T := TX9) (N := 24) hx hb hts in_X9 tyX9 tyX9_ok nmX9 hown hK hP hD hS 0 rfl rfl 0 (by decide) (hts _ q1179) (fun _ h9 => h9) rfl (tyX9_ok 0 (by decide)) rfl rfl (Nat.le_of_ble_eq_true rfl) dX9_wrong_2 (fun H locs hP hD hS => ?_)
  have hP : va_P D vwCl [(h, .inr (8, [.int (nI 0), .int t1, .ref a2, .ref a3, .ref a4, .ref a5, .ref a6, .ref a7, .ref a8, .int (nI ac), .ref a10, .int (nI tpd), .int (nI cu), .int (nI sta), .int (nI tok), .int val, .int (nI fau), .int fat, .int lat, .ref a19, .ref a20, .ref a21, .ref a22, .int (nI trd)])), (a5, .inl (ca 0, 64, .inl (dv d)))] H := hP
  have hD : va_D A [(h, .inr (8, [.int (nI 0), .int t1, .ref a2, .ref a3, .ref a4, .ref a5, .ref a6, .ref a7, .ref a8, .int (nI ac), .ref a10, .int (nI tpd), .int (nI cu), .int (nI sta), .int (nI tok), .int val, .int (nI fau), .int fat, .int lat, .ref a19, .ref a20, .ref a21, .ref a22, .int (nI trd)])), (a5, .inl (ca 0, 64, .inl (dv d)))] := hD
  refine lv_aload_n hx hb dX9_wrong_5 rfl (lv_at hl 0 rfl) ?_
  refine lv_iload_n hx hb dX9_wrong_6 rfl (lv_at hl 1 rfl) ?_
  refine rd_callV hF (m_X9_isVisitor l D ca h ([.int (nI 0), .int t1, .ref a2, .ref a3, .ref a4, .ref a5, .ref a6, .ref a7, .ref a8, .int (nI ac), .ref a10, .int (nI tpd), .int (nI cu), .int (nI sta), .int (nI tok), .int val, .int (nI fau), .int fat, .int lat, .ref a19, .ref a20, .ref a21, .ref a22, .int (nI trd)]) a5 d x (by first | rfl | assumption) (by assumption)) (cs_X9_isVisitor hts q1355 ⟨by decide, by decide⟩) (K1_mv D ca) hK (hP.sub [0, 1] rfl) (va_recv hK hP (ci := 8) (q0 := 0) rfl rfl) rfl hl.1 rfl (Nat.le_of_ble_eq_true rfl) dX9_wrong_7 ⟨Nat.zero_le _, Nat.zero_le _⟩ ?_
  refine wb_eq (tgt := 33) hx hb dX9_wrong_10 (by decide) (fun c_10 => ?_) (fun c_10 => ?_)
  · have ix_x : ixO x (d 3) = none := ixO_f c_10
    refine lv_ldc (v := (-1000001)) hx hb hown (hts _ q1266) dX9_wrong_33 ?_
    exact wr_iret () hx hb hr hlk hQ dX9_wrong_35 (wp_to (hP.sub [0, 1] rfl) rfl) (wd_to (hD.sub [0, 1] (by decide) rfl) rfl) hS (Nat.le_refl _) (Nat.le_refl _) (by first | (simp [wroI, bI, nI1_1, nI_0, c_10, ix_x]; done) | (simp [wroI, bI, nI1_1, nI_0, c_10, ix_x]; omega) | grind [wroI, bI, nI1_1, nI_0])
  · obtain ⟨v, hv, hxv⟩ := (ltB_iff (by omega)).mp c_10
    subst hxv
    have ix_v : ixO (nI v) (d 3) = some v := ixO_t hv (by omega)
    refine lv_aload_n hx hb dX9_wrong_13 rfl (lv_at hl 0 rfl) ?_
    refine lv_iload_n hx hb dX9_wrong_14 rfl (lv_at hl 2 rfl) ?_
    refine rd_callV hF (m_X9_areSquares l D ca h ([.int (nI 0), .int t1, .ref a2, .ref a3, .ref a4, .ref a5, .ref a6, .ref a7, .ref a8, .int (nI ac), .ref a10, .int (nI tpd), .int (nI cu), .int (nI sta), .int (nI tok), .int val, .int (nI fau), .int fat, .int lat, .ref a19, .ref a20, .ref a21, .ref a22, .int (nI trd)]) a5 d y (by first | rfl | assumption) (by assumption)) (cs_X9_areSquares hts q1359 ⟨by decide, by decide⟩) (K1_mv D ca) hK (hP.sub [0, 1] rfl) (va_recv hK hP (ci := 8) (q0 := 0) rfl rfl) rfl hl.1 rfl (Nat.le_of_ble_eq_true rfl) dX9_wrong_15 ⟨Nat.zero_le _, Nat.zero_le _⟩ ?_
    refine wb_eq (tgt := 33) hx hb dX9_wrong_18 (by decide) (fun c_18 => ?_) (fun c_18 => ?_)
    · have ix_y : ixO y (2 ^ d 2) = none := ixO_f c_18
      refine lv_ldc (v := (-1000001)) hx hb hown (hts _ q1266) dX9_wrong_33 ?_
      exact wr_iret () hx hb hr hlk hQ dX9_wrong_35 (wp_to (hP.sub [0, 1] rfl) rfl) (wd_to (hD.sub [0, 1] (by decide) rfl) rfl) hS (Nat.le_refl _) (Nat.le_refl _) (by first | (simp [wroI, bI, nI1_1, nI_0, c_10, ix_v, c_18, ix_y]; done) | (simp [wroI, bI, nI1_1, nI_0, c_10, ix_v, c_18, ix_y]; omega) | grind [wroI, bI, nI1_1, nI_0])
    · obtain ⟨s, hs, hxs⟩ := (ltB_iff (by omega)).mp c_18
      subst hxs
      have ix_s : ixO (nI s) (2 ^ d 2) = some s := ixO_t hs (by omega)
      refine lv_aload_n hx hb dX9_wrong_21 rfl (lv_at hl 0 rfl) ?_
      refine va_get (D := D) (ci := 8) (v := .ref a5) (C := RX9) (T := TX9) (N := 24) hx hb hts in_X9 hown hK hP 0 rfl rfl 5 (by decide) (hts _ q1184) (fun _ h9 => h9) rfl dX9_wrong_22 ?_
      refine lv_iload_n hx hb dX9_wrong_25 rfl (lv_at hl 1 rfl) ?_
      refine lv_iload_n hx hb dX9_wrong_26 rfl (lv_at hl 2 rfl) ?_
      refine rd_callS hF (m_X9_wrongOf l D ca a5 d v s (by assumption) (by first | assumption | omega) (by first | assumption | omega)) (cs_X9_wrongOf hts q1370 ⟨by decide, by decide⟩) (K1_mv D ca) hK (hP.sub [1] rfl) rfl hl.1 rfl (Nat.le_of_ble_eq_true rfl) dX9_wrong_27 ⟨Nat.zero_le _, Nat.zero_le _⟩ ?_
      refine lv_goto (tgt := 35) hx hb dX9_wrong_30 (by decide) ?_
      exact wr_iret () hx hb hr hlk hQ dX9_wrong_35 (wp_to (hP.sub [0, 1] rfl) rfl) (wd_to (hD.sub [0, 1] (by decide) rfl) rfl) hS (Nat.le_refl _) (Nat.le_refl _) (by first | (simp [wroI, bI, nI1_1, nI_0, c_10, ix_v, c_18, ix_s]; done) | (simp [wroI, bI, nI1_1, nI_0, c_10, ix_v, c_18, ix_s]; omega) | grind [wroI, bI, nI1_1, nI_0])
theorem cs_X9_isThere {R : Room} {s : State} {args : Array Value} {own : String} {index : Nat} (hts : ∀ w ∈ lw_all, w.before args s = true) (hl : Cond.methodLink own index yX9_isThere ∈ lw_all) {rm : Room} {mc ms : Nat} (hR : rm.frames + 1 ≤ R.frames ∧ 8 + (1 + 11) + rm.locals ≤ R.locals) (hc : rm.cells = mc := by rfl) (hs : rm.slots = ms := by rfl) : CallW R s args own RX9 index yX9_isThere cX9_isThere 1 (some .boolean) (ws_ yX9_isThere cX9_isThere 1 (some .boolean)) rm mc ms 0 := cwV 0 hts (lw_V hl q1406 qs43 q70 q1407) rfl hc hs (by decide +kernel) hR
set_option maxHeartbeats 4000000 in
theorem m_X9_guests (l : Launch) (D : va_G) (ca : Nat → ClassId) (h : Nat) (t0 : Int32) (t1 : Int32) (a2 : Nat) (a3 : Nat) (a4 : Nat) (a5 : Nat) (a6 : Nat) (a7 : Nat) (a8 : Nat) (a10 : Nat) (a19 : Nat) (a20 : Nat) (a21 : Nat) (a22 : Nat) (ac : Nat) (tpd : Nat) (cu : Nat) (sta : Nat) (tok : Nat) (fau : Nat) (trd : Nat) (val : Int32) (fat : Int32) (lat : Int32) (d : Nat → Nat) (x : Int32) (sz : Nat) (hd : dOK d) : Met l yX9_guests (ws_ yX9_guests cX9_guests 2 (some .int)) (rmL 6) (PcA (K1 D ca) D [.ref h, .int x] [(h, .inr (8, [.int t0, .int t1, .ref a2, .ref a3, .ref a4, .ref a5, .ref a6, .ref a7, .ref a8, .int (nI ac), .ref a10, .int (nI tpd), .int (nI cu), .int (nI sta), .int (nI tok), .int val, .int (nI fau), .int fat, .int lat, .ref a19, .ref a20, .ref a21, .ref a22, .int (nI trd)])), (a5, .inl (ca 0, 64, .inl (dv d)))] sz) (QiA D (fun zr (_ : Unit) => zr = gstI d x) (fun _ => [(h, .inr (8, [.int (nI 0), .int t1, .ref a2, .ref a3, .ref a4, .ref a5, .ref a6, .ref a7, .ref a8, .int (nI ac), .ref a10, .int (nI tpd), .int (nI cu), .int (nI sta), .int (nI tok), .int val, .int (nI fau), .int fat, .int lat, .ref a19, .ref a20, .ref a21, .ref a22, .int (nI trd)])), (a5, .inl (ca 0, 64, .inl (dv d)))]) (va_A [(h, .inr (8, [.int t0, .int t1, .ref a2, .ref a3, .ref a4, .ref a5, .ref a6, .ref a7, .ref a8, .int (nI ac), .ref a10, .int (nI tpd), .int (nI cu), .int (nI sta), .int (nI tok), .int val, .int (nI fau), .int fat, .int lat, .ref a19, .ref a20, .ref a21, .ref a22, .int (nI trd)])), (a5, .inl (ca 0, 64, .inl (dv d)))] sz)) 0 0 (va_A [(h, .inr (8, [.int t0, .int t1, .ref a2, .ref a3, .ref a4, .ref a5, .ref a6, .ref a7, .ref a8, .int (nI ac), .ref a10, .int (nI tpd), .int (nI cu), .int (nI sta), .int (nI tok), .int val, .int (nI fau), .int fat, .int lat, .ref a19, .ref a20, .ref a21, .ref a22, .int (nI trd)])), (a5, .inl (ca 0, 64, .inl (dv d)))] sz) := by
  refine wr_head (Qc := fun A => (QiA D (fun zr (_ : Unit) => zr = gstI d x) (fun _ => [(h, .inr (8, [.int (nI 0), .int t1, .ref a2, .ref a3, .ref a4, .ref a5, .ref a6, .ref a7, .ref a8, .int (nI ac), .ref a10, .int (nI tpd), .int (nI cu), .int (nI sta), .int (nI tok), .int val, .int (nI fau), .int fat, .int lat, .ref a19, .ref a20, .ref a21, .ref a22, .int (nI trd)])), (a5, .inl (ca 0, 64, .inl (dv d)))]) A)) (by decide) (Nat.le_of_ble_eq_true rfl) ?_
  intro zp ze zs zm za zb zt zc ls zQ A H locs hx hb hml hr hlk hown hts hnm hK hP hD hS hA hl hQ
  have hown : zs.vm.findClass RX9 = some zm.cls := hown
  have hl : lv_has ls 2 [(0, .ref h), (1, .int x)] := hl
  have hF : CallFix zp zm zc cX9_guests 2 zs za lw_all RX9 := ⟨hx, hb, hml, hown, hts⟩
  have hd2 : d 2 ≤ 8 := hd.2.2.1
  have hd3 : d 3 ≤ 5 := hd.2.2.2.1
  have hd0 : d 0 ≤ 9 := hd.1
  have hd1 : d 1 ≤ 8 := hd.2.1
  have hp2 := pow_8 hd2
  have hp3 := pow_8 (show d 3 ≤ 8 by omega)
  refine lv_aload_n hx hb dX9_guests_0 rfl (lv_at hl 0 rfl) ?_
  refine lv_iconst (v := nI 0) hx hb dX9_guests_1 rfl ?_
  refine va_put (D := D) (ci := 8) (v := .int (nI 0)) (ty := .int) (C := RX9) (T := TX9) (N := 24) hx hb hts in_X9 tyX9 tyX9_ok nmX9 hown hK hP hD hS 0 rfl rfl 0 (by decide) (hts _ q1179) (fun _ h9 => h9) rfl (tyX9_ok 0 (by decide)) rfl rfl (Nat.le_of_ble_eq_true rfl) dX9_guests_2 (fun H locs hP hD hS => ?_)
  have hP : va_P D vwCl [(h, .inr (8, [.int (nI 0), .int t1, .ref a2, .ref a3, .ref a4, .ref a5, .ref a6, .ref a7, .ref a8, .int (nI ac), .ref a10, .int (nI tpd), .int (nI cu), .int (nI sta), .int (nI tok), .int val, .int (nI fau), .int fat, .int lat, .ref a19, .ref a20, .ref a21, .ref a22, .int (nI trd)])), (a5, .inl (ca 0, 64, .inl (dv d)))] H := hP
  have hD : va_D A [(h, .inr (8, [.int (nI 0), .int t1, .ref a2, .ref a3, .ref a4, .ref a5, .ref a6, .ref a7, .ref a8, .int (nI ac), .ref a10, .int (nI tpd), .int (nI cu), .int (nI sta), .int (nI tok), .int val, .int (nI fau), .int fat, .int lat, .ref a19, .ref a20, .ref a21, .ref a22, .int (nI trd)])), (a5, .inl (ca 0, 64, .inl (dv d)))] := hD
  refine lv_aload_n hx hb dX9_guests_5 rfl (lv_at hl 0 rfl) ?_
  refine rd_callV hF (m_X9_isThere l D ca h ([.int (nI 0), .int t1, .ref a2, .ref a3, .ref a4, .ref a5, .ref a6, .ref a7, .ref a8, .int (nI ac), .ref a10, .int (nI tpd), .int (nI cu), .int (nI sta), .int (nI tok), .int val, .int (nI fau), .int fat, .int lat, .ref a19, .ref a20, .ref a21, .ref a22, .int (nI trd)]) a5 d (by first | rfl | assumption) (by assumption)) (cs_X9_isThere hts q1404 ⟨by decide, by decide⟩) (K1_mv D ca) hK (hP.sub [0, 1] rfl) (va_recv hK hP (ci := 8) (q0 := 0) rfl rfl) rfl hl.1 rfl (Nat.le_of_ble_eq_true rfl) dX9_guests_6 ⟨Nat.zero_le _, Nat.zero_le _⟩ ?_
  refine wb_ne (tgt := 15) hx hb dX9_guests_9 (by decide) (fun c_9 => ?_) (fun c_9 => ?_)
  · refine lv_aload_n hx hb dX9_guests_15 rfl (lv_at hl 0 rfl) ?_
    refine lv_iload_n hx hb dX9_guests_16 rfl (lv_at hl 1 rfl) ?_
    refine rd_callV hF (m_X9_areSquares l D ca h ([.int (nI 0), .int t1, .ref a2, .ref a3, .ref a4, .ref a5, .ref a6, .ref a7, .ref a8, .int (nI ac), .ref a10, .int (nI tpd), .int (nI cu), .int (nI sta), .int (nI tok), .int val, .int (nI fau), .int fat, .int lat, .ref a19, .ref a20, .ref a21, .ref a22, .int (nI trd)]) a5 d x (by first | rfl | assumption) (by assumption)) (cs_X9_areSquares hts q1359 ⟨by decide, by decide⟩) (K1_mv D ca) hK (hP.sub [0, 1] rfl) (va_recv hK hP (ci := 8) (q0 := 0) rfl rfl) rfl hl.1 rfl (Nat.le_of_ble_eq_true rfl) dX9_guests_17 ⟨Nat.zero_le _, Nat.zero_le _⟩ ?_
    refine wb_eq (tgt := 31) hx hb dX9_guests_20 (by decide) (fun c_20 => ?_) (fun c_20 => ?_)
    · have ix_x : ixO x (2 ^ d 2) = none := ixO_f c_20
      refine lv_ldc (v := (-1000001)) hx hb hown (hts _ q1266) dX9_guests_31 ?_
      exact wr_iret () hx hb hr hlk hQ dX9_guests_33 (wp_to (hP.sub [0, 1] rfl) rfl) (wd_to (hD.sub [0, 1] (by decide) rfl) rfl) hS (Nat.le_refl _) (Nat.le_refl _) (by first | (simp [gstI, bI, nI1_1, nI_0, c_9, c_20, ix_x]; done) | (simp [gstI, bI, nI1_1, nI_0, c_9, c_20, ix_x]; omega) | grind [gstI, bI, nI1_1, nI_0])
    · obtain ⟨s, hs, hxs⟩ := (ltB_iff (by omega)).mp c_20
      subst hxs
      have ix_s : ixO (nI s) (2 ^ d 2) = some s := ixO_t hs (by omega)
      refine lv_aload_n hx hb dX9_guests_23 rfl (lv_at hl 0 rfl) ?_
      refine lv_iload_n hx hb dX9_guests_24 rfl (lv_at hl 1 rfl) ?_
      refine rd_callV hF (m_X9_guestsOf l D ca h ([.int (nI 0), .int t1, .ref a2, .ref a3, .ref a4, .ref a5, .ref a6, .ref a7, .ref a8, .int (nI ac), .ref a10, .int (nI tpd), .int (nI cu), .int (nI sta), .int (nI tok), .int val, .int (nI fau), .int fat, .int lat, .ref a19, .ref a20, .ref a21, .ref a22, .int (nI trd)]) a5 d s (by first | rfl | assumption) (by assumption) (by first | assumption | omega)) (cs_X9_guestsOf hts q1456 ⟨by decide, by decide⟩) (K1_mv D ca) hK (hP.sub [0, 1] rfl) (va_recv hK hP (ci := 8) (q0 := 0) rfl rfl) rfl hl.1 rfl (Nat.le_of_ble_eq_true rfl) dX9_guests_25 ⟨Nat.zero_le _, Nat.zero_le _⟩ ?_
      refine lv_goto (tgt := 33) hx hb dX9_guests_28 (by decide) ?_
      exact wr_iret () hx hb hr hlk hQ dX9_guests_33 (wp_to (hP.sub [0, 1] rfl) rfl) (wd_to (hD.sub [0, 1] (by decide) rfl) rfl) hS (Nat.le_refl _) (Nat.le_refl _) (by first | (simp [gstI, bI, nI1_1, nI_0, c_9, c_20, ix_s]; done) | (simp [gstI, bI, nI1_1, nI_0, c_9, c_20, ix_s]; omega) | grind [gstI, bI, nI1_1, nI_0])
  · refine lv_ldc (v := (-1000002)) hx hb hown (hts _ q1408) dX9_guests_12 ?_
    exact wr_iret () hx hb hr hlk hQ dX9_guests_14 (wp_to (hP.sub [0, 1] rfl) rfl) (wd_to (hD.sub [0, 1] (by decide) rfl) rfl) hS (Nat.le_refl _) (Nat.le_refl _) (by first | (simp [gstI, bI, nI1_1, nI_0, c_9]; done) | (simp [gstI, bI, nI1_1, nI_0, c_9]; omega) | grind [gstI, bI, nI1_1, nI_0])
set_option maxHeartbeats 4000000 in
theorem m_X9_kind (l : Launch) (D : va_G) (ca : Nat → ClassId) (h : Nat) (t0 : Int32) (t1 : Int32) (a2 : Nat) (a3 : Nat) (a4 : Nat) (a5 : Nat) (a6 : Nat) (a7 : Nat) (a8 : Nat) (a10 : Nat) (a19 : Nat) (a20 : Nat) (a21 : Nat) (a22 : Nat) (ac : Nat) (tpd : Nat) (cu : Nat) (sta : Nat) (tok : Nat) (fau : Nat) (trd : Nat) (val : Int32) (fat : Int32) (lat : Int32) (d : Nat → Nat) (x : Int32) (sz : Nat) (hd : dOK d) : Met l yX9_kind (ws_ yX9_kind cX9_kind 2 (some .int)) (rmL 3) (PcA (K1 D ca) D [.ref h, .int x] [(h, .inr (8, [.int t0, .int t1, .ref a2, .ref a3, .ref a4, .ref a5, .ref a6, .ref a7, .ref a8, .int (nI ac), .ref a10, .int (nI tpd), .int (nI cu), .int (nI sta), .int (nI tok), .int val, .int (nI fau), .int fat, .int lat, .ref a19, .ref a20, .ref a21, .ref a22, .int (nI trd)])), (a5, .inl (ca 0, 64, .inl (dv d)))] sz) (QiA D (fun zr (_ : Unit) => zr = kinI d x) (fun _ => [(h, .inr (8, [.int (nI 0), .int t1, .ref a2, .ref a3, .ref a4, .ref a5, .ref a6, .ref a7, .ref a8, .int (nI ac), .ref a10, .int (nI tpd), .int (nI cu), .int (nI sta), .int (nI tok), .int val, .int (nI fau), .int fat, .int lat, .ref a19, .ref a20, .ref a21, .ref a22, .int (nI trd)])), (a5, .inl (ca 0, 64, .inl (dv d)))]) (va_A [(h, .inr (8, [.int t0, .int t1, .ref a2, .ref a3, .ref a4, .ref a5, .ref a6, .ref a7, .ref a8, .int (nI ac), .ref a10, .int (nI tpd), .int (nI cu), .int (nI sta), .int (nI tok), .int val, .int (nI fau), .int fat, .int lat, .ref a19, .ref a20, .ref a21, .ref a22, .int (nI trd)])), (a5, .inl (ca 0, 64, .inl (dv d)))] sz)) 0 0 (va_A [(h, .inr (8, [.int t0, .int t1, .ref a2, .ref a3, .ref a4, .ref a5, .ref a6, .ref a7, .ref a8, .int (nI ac), .ref a10, .int (nI tpd), .int (nI cu), .int (nI sta), .int (nI tok), .int val, .int (nI fau), .int fat, .int lat, .ref a19, .ref a20, .ref a21, .ref a22, .int (nI trd)])), (a5, .inl (ca 0, 64, .inl (dv d)))] sz) := by
  refine wr_head (Qc := fun A => (QiA D (fun zr (_ : Unit) => zr = kinI d x) (fun _ => [(h, .inr (8, [.int (nI 0), .int t1, .ref a2, .ref a3, .ref a4, .ref a5, .ref a6, .ref a7, .ref a8, .int (nI ac), .ref a10, .int (nI tpd), .int (nI cu), .int (nI sta), .int (nI tok), .int val, .int (nI fau), .int fat, .int lat, .ref a19, .ref a20, .ref a21, .ref a22, .int (nI trd)])), (a5, .inl (ca 0, 64, .inl (dv d)))]) A)) (by decide) (Nat.le_of_ble_eq_true rfl) ?_
  intro zp ze zs zm za zb zt zc ls zQ A H locs hx hb hml hr hlk hown hts hnm hK hP hD hS hA hl hQ
  have hown : zs.vm.findClass RX9 = some zm.cls := hown
  have hl : lv_has ls 2 [(0, .ref h), (1, .int x)] := hl
  have hF : CallFix zp zm zc cX9_kind 2 zs za lw_all RX9 := ⟨hx, hb, hml, hown, hts⟩
  have hd2 : d 2 ≤ 8 := hd.2.2.1
  have hd3 : d 3 ≤ 5 := hd.2.2.2.1
  have hd0 : d 0 ≤ 9 := hd.1
  have hd1 : d 1 ≤ 8 := hd.2.1
  have hp2 := pow_8 hd2
  have hp3 := pow_8 (show d 3 ≤ 8 by omega)
  refine lv_aload_n hx hb dX9_kind_0 rfl (lv_at hl 0 rfl) ?_
  refine lv_iconst (v := nI 0) hx hb dX9_kind_1 rfl ?_
  refine va_put (D := D) (ci := 8) (v := .int (nI 0)) (ty := .int) (C := RX9) (T := TX9) (N := 24) hx hb hts in_X9 tyX9 tyX9_ok nmX9 hown hK hP hD hS 0 rfl rfl 0 (by decide) (hts _ q1179) (fun _ h9 => h9) rfl (tyX9_ok 0 (by decide)) rfl rfl (Nat.le_of_ble_eq_true rfl) dX9_kind_2 (fun H locs hP hD hS => ?_)
  have hP : va_P D vwCl [(h, .inr (8, [.int (nI 0), .int t1, .ref a2, .ref a3, .ref a4, .ref a5, .ref a6, .ref a7, .ref a8, .int (nI ac), .ref a10, .int (nI tpd), .int (nI cu), .int (nI sta), .int (nI tok), .int val, .int (nI fau), .int fat, .int lat, .ref a19, .ref a20, .ref a21, .ref a22, .int (nI trd)])), (a5, .inl (ca 0, 64, .inl (dv d)))] H := hP
  have hD : va_D A [(h, .inr (8, [.int (nI 0), .int t1, .ref a2, .ref a3, .ref a4, .ref a5, .ref a6, .ref a7, .ref a8, .int (nI ac), .ref a10, .int (nI tpd), .int (nI cu), .int (nI sta), .int (nI tok), .int val, .int (nI fau), .int fat, .int lat, .ref a19, .ref a20, .ref a21, .ref a22, .int (nI trd)])), (a5, .inl (ca 0, 64, .inl (dv d)))] := hD
  refine lv_aload_n hx hb dX9_kind_5 rfl (lv_at hl 0 rfl) ?_
  refine lv_iload_n hx hb dX9_kind_6 rfl (lv_at hl 1 rfl) ?_
  refine rd_callV hF (m_X9_isSquare l D ca h ([.int (nI 0), .int t1, .ref a2, .ref a3, .ref a4, .ref a5, .ref a6, .ref a7, .ref a8, .int (nI ac), .ref a10, .int (nI tpd), .int (nI cu), .int (nI sta), .int (nI tok), .int val, .int (nI fau), .int fat, .int lat, .ref a19, .ref a20, .ref a21, .ref a22, .int (nI trd)]) a5 d x (by first | rfl | assumption) (by assumption)) (cs_X9_isSquare hts q1414 ⟨by decide, by decide⟩) (K1_mv D ca) hK (hP.sub [0, 1] rfl) (va_recv hK hP (ci := 8) (q0 := 0) rfl rfl) rfl hl.1 rfl (Nat.le_of_ble_eq_true rfl) dX9_kind_7 ⟨Nat.zero_le _, Nat.zero_le _⟩ ?_
  refine wb_eq (tgt := 25) hx hb dX9_kind_10 (by decide) (fun c_10 => ?_) (fun c_10 => ?_)
  · have ix_x : ixO x (d 2) = none := ixO_f c_10
    refine lv_ldc (v := (-1000001)) hx hb hown (hts _ q1266) dX9_kind_25 ?_
    exact wr_iret () hx hb hr hlk hQ dX9_kind_27 (wp_to (hP.sub [0, 1] rfl) rfl) (wd_to (hD.sub [0, 1] (by decide) rfl) rfl) hS (Nat.le_refl _) (Nat.le_refl _) (by first | (simp [kinI, bI, nI1_1, nI_0, c_10, ix_x]; done) | (simp [kinI, bI, nI1_1, nI_0, c_10, ix_x]; omega) | grind [kinI, bI, nI1_1, nI_0])
  · obtain ⟨s, hs, hxs⟩ := (ltB_iff (by omega)).mp c_10
    subst hxs
    have ix_s : ixO (nI s) (d 2) = some s := ixO_t hs (by omega)
    refine lv_aload_n hx hb dX9_kind_13 rfl (lv_at hl 0 rfl) ?_
    refine va_get (D := D) (ci := 8) (v := .ref a5) (C := RX9) (T := TX9) (N := 24) hx hb hts in_X9 hown hK hP 0 rfl rfl 5 (by decide) (hts _ q1184) (fun _ h9 => h9) rfl dX9_kind_14 ?_
    refine lv_iload_n hx hb dX9_kind_17 rfl (lv_at hl 1 rfl) ?_
    refine lv_iconst (v := nI 0) hx hb dX9_kind_18 rfl ?_
    refine rd_callS hF (m_X9_of l D ca a5 d s 0 (by first | assumption | omega)) (cs_X9_of hts q1382 ⟨by decide, by decide⟩) (K1_mv D ca) hK (hP.sub [1] rfl) rfl hl.1 rfl (Nat.le_of_ble_eq_true rfl) dX9_kind_19 ⟨Nat.zero_le _, Nat.zero_le _⟩ ?_
    refine lv_goto (tgt := 27) hx hb dX9_kind_22 (by decide) ?_
    exact wr_iret () hx hb hr hlk hQ dX9_kind_27 (wp_to (hP.sub [0, 1] rfl) rfl) (wd_to (hD.sub [0, 1] (by decide) rfl) rfl) hS (Nat.le_refl _) (Nat.le_refl _) (by first | (simp [kinI, bI, nI1_1, nI_0, c_10, ix_s]; done) | (simp [kinI, bI, nI1_1, nI_0, c_10, ix_s]; omega) | grind [kinI, bI, nI1_1, nI_0])
set_option maxHeartbeats 4000000 in
theorem m_X9_status (l : Launch) (D : va_G) (ca : Nat → ClassId) (h : Nat) (t0 : Int32) (t1 : Int32) (a2 : Nat) (a3 : Nat) (a4 : Nat) (a5 : Nat) (a6 : Nat) (a7 : Nat) (a8 : Nat) (a10 : Nat) (a19 : Nat) (a20 : Nat) (a21 : Nat) (a22 : Nat) (ac : Nat) (tpd : Nat) (cu : Nat) (sta : Nat) (tok : Nat) (fau : Nat) (trd : Nat) (val : Int32) (fat : Int32) (lat : Int32) (d : Nat → Nat) (sz : Nat) (hd : dOK d) : Met l yX9_status (ws_ yX9_status cX9_status 1 (some .int)) (rmL 0) (PcA (K1 D ca) D [.ref h] [(h, .inr (8, [.int t0, .int t1, .ref a2, .ref a3, .ref a4, .ref a5, .ref a6, .ref a7, .ref a8, .int (nI ac), .ref a10, .int (nI tpd), .int (nI cu), .int (nI sta), .int (nI tok), .int val, .int (nI fau), .int fat, .int lat, .ref a19, .ref a20, .ref a21, .ref a22, .int (nI trd)])), (a5, .inl (ca 0, 64, .inl (dv d)))] sz) (QiA D (fun zr (_ : Unit) => zr = t1) (fun _ => [(h, .inr (8, [.int (nI 0), .int t1, .ref a2, .ref a3, .ref a4, .ref a5, .ref a6, .ref a7, .ref a8, .int (nI ac), .ref a10, .int (nI tpd), .int (nI cu), .int (nI sta), .int (nI tok), .int val, .int (nI fau), .int fat, .int lat, .ref a19, .ref a20, .ref a21, .ref a22, .int (nI trd)])), (a5, .inl (ca 0, 64, .inl (dv d)))]) (va_A [(h, .inr (8, [.int t0, .int t1, .ref a2, .ref a3, .ref a4, .ref a5, .ref a6, .ref a7, .ref a8, .int (nI ac), .ref a10, .int (nI tpd), .int (nI cu), .int (nI sta), .int (nI tok), .int val, .int (nI fau), .int fat, .int lat, .ref a19, .ref a20, .ref a21, .ref a22, .int (nI trd)])), (a5, .inl (ca 0, 64, .inl (dv d)))] sz)) 0 0 (va_A [(h, .inr (8, [.int t0, .int t1, .ref a2, .ref a3, .ref a4, .ref a5, .ref a6, .ref a7, .ref a8, .int (nI ac), .ref a10, .int (nI tpd), .int (nI cu), .int (nI sta), .int (nI tok), .int val, .int (nI fau), .int fat, .int lat, .ref a19, .ref a20, .ref a21, .ref a22, .int (nI trd)])), (a5, .inl (ca 0, 64, .inl (dv d)))] sz) := by
  refine wr_head (Qc := fun A => (QiA D (fun zr (_ : Unit) => zr = t1) (fun _ => [(h, .inr (8, [.int (nI 0), .int t1, .ref a2, .ref a3, .ref a4, .ref a5, .ref a6, .ref a7, .ref a8, .int (nI ac), .ref a10, .int (nI tpd), .int (nI cu), .int (nI sta), .int (nI tok), .int val, .int (nI fau), .int fat, .int lat, .ref a19, .ref a20, .ref a21, .ref a22, .int (nI trd)])), (a5, .inl (ca 0, 64, .inl (dv d)))]) A)) (by decide) (Nat.le_of_ble_eq_true rfl) ?_
  intro zp ze zs zm za zb zt zc ls zQ A H locs hx hb hml hr hlk hown hts hnm hK hP hD hS hA hl hQ
  have hown : zs.vm.findClass RX9 = some zm.cls := hown
  have hl : lv_has ls 1 [(0, .ref h)] := hl
  have hF : CallFix zp zm zc cX9_status 1 zs za lw_all RX9 := ⟨hx, hb, hml, hown, hts⟩
  have hd2 : d 2 ≤ 8 := hd.2.2.1
  have hd3 : d 3 ≤ 5 := hd.2.2.2.1
  have hd0 : d 0 ≤ 9 := hd.1
  have hd1 : d 1 ≤ 8 := hd.2.1
  have hp2 := pow_8 hd2
  have hp3 := pow_8 (show d 3 ≤ 8 by omega)
  refine lv_aload_n hx hb dX9_status_0 rfl (lv_at hl 0 rfl) ?_
  refine lv_iconst (v := nI 0) hx hb dX9_status_1 rfl ?_
  refine va_put (D := D) (ci := 8) (v := .int (nI 0)) (ty := .int) (C := RX9) (T := TX9) (N := 24) hx hb hts in_X9 tyX9 tyX9_ok nmX9 hown hK hP hD hS 0 rfl rfl 0 (by decide) (hts _ q1179) (fun _ h9 => h9) rfl (tyX9_ok 0 (by decide)) rfl rfl (Nat.le_of_ble_eq_true rfl) dX9_status_2 (fun H locs hP hD hS => ?_)
  have hP : va_P D vwCl [(h, .inr (8, [.int (nI 0), .int t1, .ref a2, .ref a3, .ref a4, .ref a5, .ref a6, .ref a7, .ref a8, .int (nI ac), .ref a10, .int (nI tpd), .int (nI cu), .int (nI sta), .int (nI tok), .int val, .int (nI fau), .int fat, .int lat, .ref a19, .ref a20, .ref a21, .ref a22, .int (nI trd)])), (a5, .inl (ca 0, 64, .inl (dv d)))] H := hP
  have hD : va_D A [(h, .inr (8, [.int (nI 0), .int t1, .ref a2, .ref a3, .ref a4, .ref a5, .ref a6, .ref a7, .ref a8, .int (nI ac), .ref a10, .int (nI tpd), .int (nI cu), .int (nI sta), .int (nI tok), .int val, .int (nI fau), .int fat, .int lat, .ref a19, .ref a20, .ref a21, .ref a22, .int (nI trd)])), (a5, .inl (ca 0, 64, .inl (dv d)))] := hD
  refine lv_aload_n hx hb dX9_status_5 rfl (lv_at hl 0 rfl) ?_
  refine va_get (D := D) (ci := 8) (v := .int t1) (C := RX9) (T := TX9) (N := 24) hx hb hts in_X9 hown hK hP 0 rfl rfl 1 (by decide) (hts _ q1180) (fun _ h9 => h9) rfl dX9_status_6 ?_
  exact wr_iret () hx hb hr hlk hQ dX9_status_9 (wp_to (hP.sub [0, 1] rfl) rfl) (wd_to (hD.sub [0, 1] (by decide) rfl) rfl) hS (Nat.le_refl _) (Nat.le_refl _) (by rfl)
set_option maxHeartbeats 4000000 in
theorem m_X9_fault (l : Launch) (D : va_G) (ca : Nat → ClassId) (h : Nat) (t0 : Int32) (t1 : Int32) (a2 : Nat) (a3 : Nat) (a4 : Nat) (a5 : Nat) (a6 : Nat) (a7 : Nat) (a8 : Nat) (a10 : Nat) (a19 : Nat) (a20 : Nat) (a21 : Nat) (a22 : Nat) (ac : Nat) (tpd : Nat) (cu : Nat) (sta : Nat) (tok : Nat) (fau : Nat) (trd : Nat) (val : Int32) (fat : Int32) (lat : Int32) (d : Nat → Nat) (sz : Nat) (hd : dOK d) : Met l yX9_fault (ws_ yX9_fault cX9_fault 1 (some .int)) (rmL 0) (PcA (K1 D ca) D [.ref h] [(h, .inr (8, [.int t0, .int t1, .ref a2, .ref a3, .ref a4, .ref a5, .ref a6, .ref a7, .ref a8, .int (nI ac), .ref a10, .int (nI tpd), .int (nI cu), .int (nI sta), .int (nI tok), .int val, .int (nI fau), .int fat, .int lat, .ref a19, .ref a20, .ref a21, .ref a22, .int (nI trd)])), (a5, .inl (ca 0, 64, .inl (dv d)))] sz) (QiA D (fun zr (_ : Unit) => zr = lat) (fun _ => [(h, .inr (8, [.int (nI 0), .int t1, .ref a2, .ref a3, .ref a4, .ref a5, .ref a6, .ref a7, .ref a8, .int (nI ac), .ref a10, .int (nI tpd), .int (nI cu), .int (nI sta), .int (nI tok), .int val, .int (nI fau), .int fat, .int lat, .ref a19, .ref a20, .ref a21, .ref a22, .int (nI trd)])), (a5, .inl (ca 0, 64, .inl (dv d)))]) (va_A [(h, .inr (8, [.int t0, .int t1, .ref a2, .ref a3, .ref a4, .ref a5, .ref a6, .ref a7, .ref a8, .int (nI ac), .ref a10, .int (nI tpd), .int (nI cu), .int (nI sta), .int (nI tok), .int val, .int (nI fau), .int fat, .int lat, .ref a19, .ref a20, .ref a21, .ref a22, .int (nI trd)])), (a5, .inl (ca 0, 64, .inl (dv d)))] sz)) 0 0 (va_A [(h, .inr (8, [.int t0, .int t1, .ref a2, .ref a3, .ref a4, .ref a5, .ref a6, .ref a7, .ref a8, .int (nI ac), .ref a10, .int (nI tpd), .int (nI cu), .int (nI sta), .int (nI tok), .int val, .int (nI fau), .int fat, .int lat, .ref a19, .ref a20, .ref a21, .ref a22, .int (nI trd)])), (a5, .inl (ca 0, 64, .inl (dv d)))] sz) := by
  refine wr_head (Qc := fun A => (QiA D (fun zr (_ : Unit) => zr = lat) (fun _ => [(h, .inr (8, [.int (nI 0), .int t1, .ref a2, .ref a3, .ref a4, .ref a5, .ref a6, .ref a7, .ref a8, .int (nI ac), .ref a10, .int (nI tpd), .int (nI cu), .int (nI sta), .int (nI tok), .int val, .int (nI fau), .int fat, .int lat, .ref a19, .ref a20, .ref a21, .ref a22, .int (nI trd)])), (a5, .inl (ca 0, 64, .inl (dv d)))]) A)) (by decide) (Nat.le_of_ble_eq_true rfl) ?_
  intro zp ze zs zm za zb zt zc ls zQ A H locs hx hb hml hr hlk hown hts hnm hK hP hD hS hA hl hQ
  have hown : zs.vm.findClass RX9 = some zm.cls := hown
  have hl : lv_has ls 1 [(0, .ref h)] := hl
  have hF : CallFix zp zm zc cX9_fault 1 zs za lw_all RX9 := ⟨hx, hb, hml, hown, hts⟩
  have hd2 : d 2 ≤ 8 := hd.2.2.1
  have hd3 : d 3 ≤ 5 := hd.2.2.2.1
  have hd0 : d 0 ≤ 9 := hd.1
  have hd1 : d 1 ≤ 8 := hd.2.1
  have hp2 := pow_8 hd2
  have hp3 := pow_8 (show d 3 ≤ 8 by omega)
  refine lv_aload_n hx hb dX9_fault_0 rfl (lv_at hl 0 rfl) ?_
  refine lv_iconst (v := nI 0) hx hb dX9_fault_1 rfl ?_
  refine va_put (D := D) (ci := 8) (v := .int (nI 0)) (ty := .int) (C := RX9) (T := TX9) (N := 24) hx hb hts in_X9 tyX9 tyX9_ok nmX9 hown hK hP hD hS 0 rfl rfl 0 (by decide) (hts _ q1179) (fun _ h9 => h9) rfl (tyX9_ok 0 (by decide)) rfl rfl (Nat.le_of_ble_eq_true rfl) dX9_fault_2 (fun H locs hP hD hS => ?_)
  have hP : va_P D vwCl [(h, .inr (8, [.int (nI 0), .int t1, .ref a2, .ref a3, .ref a4, .ref a5, .ref a6, .ref a7, .ref a8, .int (nI ac), .ref a10, .int (nI tpd), .int (nI cu), .int (nI sta), .int (nI tok), .int val, .int (nI fau), .int fat, .int lat, .ref a19, .ref a20, .ref a21, .ref a22, .int (nI trd)])), (a5, .inl (ca 0, 64, .inl (dv d)))] H := hP
  have hD : va_D A [(h, .inr (8, [.int (nI 0), .int t1, .ref a2, .ref a3, .ref a4, .ref a5, .ref a6, .ref a7, .ref a8, .int (nI ac), .ref a10, .int (nI tpd), .int (nI cu), .int (nI sta), .int (nI tok), .int val, .int (nI fau), .int fat, .int lat, .ref a19, .ref a20, .ref a21, .ref a22, .int (nI trd)])), (a5, .inl (ca 0, 64, .inl (dv d)))] := hD
  refine lv_aload_n hx hb dX9_fault_5 rfl (lv_at hl 0 rfl) ?_
  refine va_get (D := D) (ci := 8) (v := .int lat) (C := RX9) (T := TX9) (N := 24) hx hb hts in_X9 hown hK hP 0 rfl rfl 18 (by decide) (hts _ q1197) (fun _ h9 => h9) rfl dX9_fault_6 ?_
  exact wr_iret () hx hb hr hlk hQ dX9_fault_9 (wp_to (hP.sub [0, 1] rfl) rfl) (wd_to (hD.sub [0, 1] (by decide) rfl) rfl) hS (Nat.le_refl _) (Nat.le_refl _) (by rfl)
