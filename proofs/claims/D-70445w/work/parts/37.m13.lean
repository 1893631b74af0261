set_option maxRecDepth 100000
set_option maxHeartbeats 4000000 in
theorem m_X9_keen (l : Launch) (D : va_G) (ca : Nat → ClassId) (h : Nat) (t0 : Int32) (t1 : Int32) (a2 : Nat) (a3 : Nat) (a4 : Nat) (a5 : Nat) (a6 : Nat) (a7 : Nat) (a8 : Nat) (a10 : Nat) (a19 : Nat) (a20 : Nat) (a21 : Nat) (a22 : Nat) (ac : Nat) (tpd : Nat) (cu : Nat) (sta : Nat) (tok : Nat) (fau : Nat) (trd : Nat) (val : Int32) (fat : Int32) (lat : Int32) (d : Nat → Nat) (w : Int32) (sz : Nat) (hd : dOK d) : Met l yX9_keen (ws_ yX9_keen cX9_keen 7 (some .int)) (rmL 4) (PcA (K1 D ca) D [.ref h, .int w] [(h, .inr (8, [.int t0, .int t1, .ref a2, .ref a3, .ref a4, .ref a5, .ref a6, .ref a7, .ref a8, .int (nI ac), .ref a10, .int (nI tpd), .int (nI cu), .int (nI sta), .int (nI tok), .int val, .int (nI fau), .int fat, .int lat, .ref a19, .ref a20, .ref a21, .ref a22, .int (nI trd)])), (a5, .inl (ca 0, 64, .inl (dv d)))] sz) (QiA D (fun zr (_ : Unit) => zr = keeI d w) (fun _ => [(h, .inr (8, [.int (nI 0), .int t1, .ref a2, .ref a3, .ref a4, .ref a5, .ref a6, .ref a7, .ref a8, .int (nI ac), .ref a10, .int (nI tpd), .int (nI cu), .int (nI sta), .int (nI tok), .int val, .int (nI fau), .int fat, .int lat, .ref a19, .ref a20, .ref a21, .ref a22, .int (nI trd)])), (a5, .inl (ca 0, 64, .inl (dv d)))]) (va_A [(h, .inr (8, [.int t0, .int t1, .ref a2, .ref a3, .ref a4, .ref a5, .ref a6, .ref a7, .ref a8, .int (nI ac), .ref a10, .int (nI tpd), .int (nI cu), .int (nI sta), .int (nI tok), .int val, .int (nI fau), .int fat, .int lat, .ref a19, .ref a20, .ref a21, .ref a22, .int (nI trd)])), (a5, .inl (ca 0, 64, .inl (dv d)))] sz)) 0 0 (va_A [(h, .inr (8, [.int t0, .int t1, .ref a2, .ref a3, .ref a4, .ref a5, .ref a6, .ref a7, .ref a8, .int (nI ac), .ref a10, .int (nI tpd), .int (nI cu), .int (nI sta), .int (nI tok), .int val, .int (nI fau), .int fat, .int lat, .ref a19, .ref a20, .ref a21, .ref a22, .int (nI trd)])), (a5, .inl (ca 0, 64, .inl (dv d)))] sz) := by
  refine wr_head (Qc := fun A => (QiA D (fun zr (_ : Unit) => zr = keeI d w) (fun _ => [(h, .inr (8, [.int (nI 0), .int t1, .ref a2, .ref a3, .ref a4, .ref a5, .ref a6, .ref a7, .ref a8, .int (nI ac), .ref a10, .int (nI tpd), .int (nI cu), .int (nI sta), .int (nI tok), .int val, .int (nI fau), .int fat, .int lat, .ref a19, .ref a20, .ref a21, .ref a22, .int (nI trd)])), (a5, .inl (ca 0, 64, .inl (dv d)))]) A)) (by decide) (Nat.le_of_ble_eq_true rfl) ?_
  intro zp ze zs zm za zb zt zc ls zQ A H locs hx hb hml hr hlk hown hts hnm hK hP hD hS hA hl hQ
  have hown : zs.vm.findClass RX9 = some zm.cls := hown
  have hl : lv_has ls 7 [(0, .ref h), (1, .int w)] := hl
  have hF : CallFix zp zm zc cX9_keen 7 zs za lw_all RX9 := ⟨hx, hb, hml, hown, hts⟩
  have hd2 : d 2 ≤ 8 := hd.2.2.1
  have hd3 : d 3 ≤ 5 := hd.2.2.2.1
  have hd0 : d 0 ≤ 9 := hd.1
  have hd1 : d 1 ≤ 8 := hd.2.1
  have hp2 := pow_8 hd2
  have hp3 := pow_8 (show d 3 ≤ 8 by omega)
  refine lv_aload_n hx hb dX9_keen_0 rfl (lv_at hl 0 rfl) ?_
  refine lv_iconst (v := nI 0) hx hb dX9_keen_1 rfl ?_
  refine va_put (D := D) (ci := 8) (v := .int (nI 0)) (ty := .int) (C := RX9) (T := TX9) (N := 24) hx hb hts in_X9 tyX9 tyX9_ok nmX9 hown hK hP hD hS 0 rfl rfl 0 (by decide) (hts _ q1179) (fun _ h9 => h9) rfl (tyX9_ok 0 (by decide)) rfl rfl (Nat.le_of_ble_eq_true rfl) dX9_keen_2 (fun H locs hP hD hS => ?_)
  have hP : va_P D vwCl [(h, .inr (8, [.int (nI 0), .int t1, .ref a2, .ref a3, .ref a4, .ref a5, .ref a6, .ref a7, .ref a8, .int (nI ac), .ref a10, .int (nI tpd), .int (nI cu), .int (nI sta), .int (nI tok), .int val, .int (nI fau), .int fat, .int lat, .ref a19, .ref a20, .ref a21, .ref a22, .int (nI trd)])), (a5, .inl (ca 0, 64, .inl (dv d)))] H := hP
  have hD : va_D A [(h, .inr (8, [.int (nI 0), .int t1, .ref a2, .ref a3, .ref a4, .ref a5, .ref a6, .ref a7, .ref a8, .int (nI ac), .ref a10, .int (nI tpd), .int (nI cu), .int (nI sta), .int (nI tok), .int val, .int (nI fau), .int fat, .int lat, .ref a19, .ref a20, .ref a21, .ref a22, .int (nI trd)])), (a5, .inl (ca 0, 64, .inl (dv d)))] := hD
  refine lv_aload_n hx hb dX9_keen_5 rfl (lv_at hl 0 rfl) ?_
  refine rd_callV hF (m_X9_isThere l D ca h ([.int (nI 0), .int t1, .ref a2, .ref a3, .ref a4, .ref a5, .ref a6, .ref a7, .ref a8, .int (nI ac), .ref a10, .int (nI tpd), .int (nI cu), .int (nI sta), .int (nI tok), .int val, .int (nI fau), .int fat, .int lat, .ref a19, .ref a20, .ref a21, .ref a22, .int (nI trd)]) a5 d (by first | rfl | assumption) (by assumption)) (cs_X9_isThere hts q1404 ⟨by decide, by decide⟩) (K1_mv D ca) hK (hP.sub [0, 1] rfl) (va_recv hK hP (ci := 8) (q0 := 0) rfl rfl) rfl hl.1 rfl (Nat.le_of_ble_eq_true rfl) dX9_keen_6 ⟨Nat.zero_le _, Nat.zero_le _⟩ ?_
  refine wb_ne (tgt := 15) hx hb dX9_keen_9 (by decide) (fun c_9 => ?_) (fun c_9 => ?_)
  · refine lv_iload_n hx hb dX9_keen_15 rfl (lv_at hl 1 rfl) ?_
    refine lv_i2l hx hb dX9_keen_16 rfl ?_
    refine lv_lconst (v := 0) hx hb dX9_keen_17 rfl ?_
    refine lv_lconst (v := 1) hx hb dX9_keen_18 rfl ?_
    refine rd_callS hF (m_X9_in l D ca w.toInt64 0 1 ) (cs_X9_in hts q1262 ⟨by decide, by decide⟩) (K1_mv D ca) hK (hP.sub [] rfl) rfl hl.1 rfl (Nat.le_of_ble_eq_true rfl) dX9_keen_19 ⟨Nat.zero_le _, Nat.zero_le _⟩ ?_
    refine wb_ne (tgt := 28) hx hb dX9_keen_22 (by decide) (fun c_22 => ?_) (fun c_22 => ?_)
    · rw [inB_c (n := 2) (by decide)] at c_22
      obtain ⟨k, hk, hxk⟩ := (ltB_iff (by omega)).mp c_22
      subst hxk
      have ix_k : ixO (nI k) 2 = some k := ixO_t hk (by omega)
      refine lv_ldc (v := (-1000000)) hx hb hown (hts _ q1306) dX9_keen_28 ?_
      refine lv_istore_n (lv' := [(2, .int ((-1000000))), (0, .ref h), (1, .int (nI k))]) hx hb dX9_keen_30 rfl hl (by decide) rfl (fun ls hl => ?_)
      refine lv_ldc (v := (-1000000)) hx hb hown (hts _ q1306) dX9_keen_31 ?_
      refine lv_istore_n (lv' := [(3, .int ((-1000000))), (2, .int ((-1000000))), (0, .ref h), (1, .int (nI k))]) hx hb dX9_keen_33 rfl hl (by decide) rfl (fun ls hl => ?_)
      refine lv_iconst (v := nI 0) hx hb dX9_keen_34 rfl ?_
      refine lv_istore (lv' := [(4, .int (nI 0)), (3, .int ((-1000000))), (2, .int ((-1000000))), (0, .ref h), (1, .int (nI k))]) hx hb dX9_keen_35 hl (by decide) rfl (fun ls hl => ?_)
      have lp_37 : ∀ (zn : Nat) (i : Nat), (i ≤ d 2) →  (d 2 - i) < zn → ∀ (H : Heap) (locs : List Loc), va_P D vwCl [(h, .inr (8, [.int (nI 0), .int t1, .ref a2, .ref a3, .ref a4, .ref a5, .ref a6, .ref a7, .ref a8, .int (nI ac), .ref a10, .int (nI tpd), .int (nI cu), .int (nI sta), .int (nI tok), .int val, .int (nI fau), .int fat, .int lat, .ref a19, .ref a20, .ref a21, .ref a22, .int (nI trd)])), (a5, .inl (ca 0, 64, .inl (dv d)))] H → va_D A [(h, .inr (8, [.int (nI 0), .int t1, .ref a2, .ref a3, .ref a4, .ref a5, .ref a6, .ref a7, .ref a8, .int (nI ac), .ref a10, .int (nI tpd), .int (nI cu), .int (nI sta), .int (nI tok), .int val, .int (nI fau), .int fat, .int lat, .ref a19, .ref a20, .ref a21, .ref a22, .int (nI trd)])), (a5, .inl (ca 0, 64, .inl (dv d)))] → va_S A zs.heap H locs → ∀ (ls : Array Slot), lv_has ls 7 [(0, .ref h), (1, .int (nI k)), (2, .int (oI (keeN d i))), (3, .int (oI ((keeN d i).map (apN d)))), (4, .int (nI i))] → W zp l ze (rmL 4) zs zm za zb zt zc H locs 0 0 zQ (F0 zm 37 ls []) := by
        intro zn
        induction zn with
        | zero => intro i hi hmu_37; exact absurd hmu_37 (Nat.not_lt_zero _)
        | succ zn ih_37 =>
          intro i hi hmu_37 H locs hP hD hS ls hl
          refine lv_iload hx hb dX9_keen_37 (lv_at hl 4 rfl) ?_
          refine lv_aload_n hx hb dX9_keen_39 rfl (lv_at hl 0 rfl) ?_
          refine va_get (D := D) (ci := 8) (v := .ref a5) (C := RX9) (T := TX9) (N := 24) hx hb hts in_X9 hown hK hP 0 rfl rfl 5 (by decide) (hts _ q1184) (fun _ h9 => h9) rfl dX9_keen_40 ?_
          refine lv_iconst (v := nI 2) hx hb dX9_keen_43 rfl ?_
          refine wn_iald (v := nI (d 2)) hx hb hK hP 1 0 rfl rfl (by omega) (by decide) rfl dX9_keen_44 ?_
          refine wn_ge (tgt := 171) hx hb (by omega) (by omega) dX9_keen_45 (by decide) (fun c_45 => ?_) (fun c_45 => ?_)
          · have c_45n := Nat.not_lt.mpr c_45
            refine lv_iload_n hx hb dX9_keen_171 rfl (lv_at hl 1 rfl) ?_
            refine wn_ifne (tgt := 179) hx hb (by omega) dX9_keen_172 (by decide) (fun c_172 => ?_) (fun c_172 => ?_)
            · refine lv_iload_n hx hb dX9_keen_179 rfl (lv_at hl 3 rfl) ?_
              exact wr_iret () hx hb hr hlk hQ dX9_keen_180 (wp_to (hP.sub [0, 1] rfl) rfl) (wd_to (hD.sub [0, 1] (by decide) rfl) rfl) hS (Nat.le_refl _) (Nat.le_refl _) (by first | (simp [keeI, c_9, c_22, ix_k, c_45, c_45n, c_172]; done) | (have hie : i = d 2 := (by omega); subst hie; simp [keeI, c_9, c_22, ix_k, c_45, c_45n, c_172]; done) | grind [keeI])
            · refine lv_iload_n hx hb dX9_keen_175 rfl (lv_at hl 2 rfl) ?_
              refine lv_goto (tgt := 180) hx hb dX9_keen_176 (by decide) ?_
              exact wr_iret () hx hb hr hlk hQ dX9_keen_180 (wp_to (hP.sub [0, 1] rfl) rfl) (wd_to (hD.sub [0, 1] (by decide) rfl) rfl) hS (Nat.le_refl _) (Nat.le_refl _) (by first | (simp [keeI, c_9, c_22, ix_k, c_45, c_45n, c_172]; done) | (have hie : i = d 2 := (by omega); subst hie; simp [keeI, c_9, c_22, ix_k, c_45, c_45n, c_172]; done) | grind [keeI])
          · have c_45n := Nat.not_le.mpr c_45
            have hap := apN_le d i
            refine lv_iconst (v := nI 0) hx hb dX9_keen_48 rfl ?_
            refine lv_istore (lv' := [(5, .int (nI 0)), (0, .ref h), (1, .int (nI k)), (2, .int (oI (keeN d i))), (3, .int (oI ((keeN d i).map (apN d)))), (4, .int (nI i))]) hx hb dX9_keen_49 hl (by decide) rfl (fun ls hl => ?_)
            refine lv_iconst (v := nI 0) hx hb dX9_keen_51 rfl ?_
            refine lv_istore (lv' := [(6, .int (nI 0)), (5, .int (nI 0)), (0, .ref h), (1, .int (nI k)), (2, .int (oI (keeN d i))), (3, .int (oI ((keeN d i).map (apN d)))), (4, .int (nI i))]) hx hb dX9_keen_52 hl (by decide) rfl (fun ls hl => ?_)
            have lp_54 : ∀ (zn : Nat) (j : Nat), (j ≤ d 3) →  (d 3 - j) < zn → ∀ (H : Heap) (locs : List Loc), va_P D vwCl [(h, .inr (8, [.int (nI 0), .int t1, .ref a2, .ref a3, .ref a4, .ref a5, .ref a6, .ref a7, .ref a8, .int (nI ac), .ref a10, .int (nI tpd), .int (nI cu), .int (nI sta), .int (nI tok), .int val, .int (nI fau), .int fat, .int lat, .ref a19, .ref a20, .ref a21, .ref a22, .int (nI trd)])), (a5, .inl (ca 0, 64, .inl (dv d)))] H → va_D A [(h, .inr (8, [.int (nI 0), .int t1, .ref a2, .ref a3, .ref a4, .ref a5, .ref a6, .ref a7, .ref a8, .int (nI ac), .ref a10, .int (nI tpd), .int (nI cu), .int (nI sta), .int (nI tok), .int val, .int (nI fau), .int fat, .int lat, .ref a19, .ref a20, .ref a21, .ref a22, .int (nI trd)])), (a5, .inl (ca 0, 64, .inl (dv d)))] → va_S A zs.heap H locs → ∀ (ls : Array Slot), lv_has ls 7 [(0, .ref h), (1, .int (nI k)), (2, .int (oI (keeN d i))), (3, .int (oI ((keeN d i).map (apN d)))), (4, .int (nI i)), (5, .int (nI (wrC d i j) - nI (j - wrC d i j))), (6, .int (nI j))] → W zp l ze (rmL 4) zs zm za zb zt zc H locs 0 0 zQ (F0 zm 54 ls []) := by
              intro zn
              induction zn with
              | zero => intro j hj hmu_54; exact absurd hmu_54 (Nat.not_lt_zero _)
              | succ zn ih_54 =>
                intro j hj hmu_54 H locs hP hD hS ls hl
                have hwc := wrC_le d i j
                refine lv_iload hx hb dX9_keen_54 (lv_at hl 6 rfl) ?_
                refine lv_aload_n hx hb dX9_keen_56 rfl (lv_at hl 0 rfl) ?_
                refine va_get (D := D) (ci := 8) (v := .ref a5) (C := RX9) (T := TX9) (N := 24) hx hb hts in_X9 hown hK hP 0 rfl rfl 5 (by decide) (hts _ q1184) (fun _ h9 => h9) rfl dX9_keen_57 ?_
                refine lv_iconst (v := nI 3) hx hb dX9_keen_60 rfl ?_
                refine wn_iald (v := nI (d 3)) hx hb hK hP 1 0 rfl rfl (by omega) (by decide) rfl dX9_keen_61 ?_
                refine wn_ge (tgt := 95) hx hb (by omega) (by omega) dX9_keen_62 (by decide) (fun c_62 => ?_) (fun c_62 => ?_)
                · have c_62n := Nat.not_lt.mpr c_62
                  have hje : j = d 3 := (by omega)
                  subst hje
                  refine lv_iload hx hb dX9_keen_95 (lv_at hl 5 rfl) ?_
                  refine lv_if_ge (tgt := 106) hx hb dX9_keen_97 (by decide) (fun c_97 => ?_) (fun c_97 => ?_)
                  · refine lv_iload hx hb dX9_keen_106 (lv_at hl 5 rfl) ?_
                    refine top_to (y := nI (apN d i)) (by first | exact ap_t (by omega) (by omega) c_97 | exact ap_f (by omega) (by omega) c_97) ?_
                    refine lv_istore (lv' := [(5, .int (nI (apN d i))), (0, .ref h), (1, .int (nI k)), (2, .int (oI (keeN d i))), (3, .int (oI ((keeN d i).map (apN d)))), (4, .int (nI i)), (6, .int (nI ((d 3))))]) hx hb dX9_keen_108 hl (by decide) rfl (fun ls hl => ?_)
                    refine lv_aload_n hx hb dX9_keen_110 rfl (lv_at hl 1 rfl) ?_
                    refine va_get (D := D) (ci := 8) (v := .ref a5) (C := RX9) (T := TX9) (N := 24) hx hb hts in_X9 hown hK hP 0 rfl rfl 5 (by decide) (hts _ q1184) (fun _ h9 => h9) rfl dX9_keen_111 ?_
                    refine lv_iload hx hb dX9_keen_114 (lv_at hl 5 rfl) ?_
                    refine rd_callS hF (m_X9_counts l D ca a5 d i (by assumption) (by first | assumption | omega)) (cs_X9_counts hts q1379 ⟨by decide, by decide⟩) (K1_mv D ca) hK (hP.sub [1] rfl) rfl hl.1 rfl (Nat.le_of_ble_eq_true rfl) dX9_keen_116 ⟨Nat.zero_le _, Nat.zero_le _⟩ ?_
                    refine wb_eq (tgt := 138) hx hb dX9_keen_119 (by decide) (fun c_119 => ?_) (fun c_119 => ?_)
                    · refine lv_iconst (v := nI 0) hx hb dX9_keen_138 rfl ?_
                      refine lv_istore (lv' := [(6, .int (nI 0)), (5, .int (nI (apN d i))), (0, .ref h), (1, .int (nI k)), (2, .int (oI (keeN d i))), (3, .int (oI ((keeN d i).map (apN d)))), (4, .int (nI i))]) hx hb dX9_keen_139 hl (by decide) rfl (fun ls hl => ?_)
                      refine lv_iload hx hb dX9_keen_141 (lv_at hl 0 rfl) ?_
                      refine wn_ifeq (tgt := 151) hx hb (by omega) dX9_keen_143 (by decide) (fun c_143 => ?_) (fun zh => by first | exact absurd zh (by decide) | exact absurd rfl zh | omega)
                      refine lv_iload_n hx hb dX9_keen_151 rfl (lv_at hl 4 rfl) ?_
                      refine lv_istore_n (lv' := [(2, .int (oI (keeN d i))), (6, .int (nI 0)), (5, .int (nI (apN d i))), (0, .ref h), (1, .int (nI k)), (3, .int (oI ((keeN d i).map (apN d)))), (4, .int (nI i))]) hx hb dX9_keen_152 rfl hl (by decide) rfl (fun ls hl => ?_)
                      refine lv_iload hx hb dX9_keen_153 (lv_at hl 1 rfl) ?_
                      refine wn_ifeq (tgt := 163) hx hb (by omega) dX9_keen_155 (by decide) (fun c_155 => ?_) (fun zh => by first | exact absurd zh (by decide) | exact absurd rfl zh | omega)
                      refine lv_iload_n hx hb dX9_keen_163 rfl (lv_at hl 5 rfl) ?_
                      refine lv_istore_n (lv' := [(3, .int (oI ((keeN d i).map (apN d)))), (2, .int (oI (keeN d i))), (6, .int (nI 0)), (5, .int (nI (apN d i))), (0, .ref h), (1, .int (nI k)), (4, .int (nI i))]) hx hb dX9_keen_164 rfl hl (by decide) rfl (fun ls hl => ?_)
                      have hk : keeN d (i + 1) = keeN d i := by first | exact keeN_n (Or.inl (by assumption)) | exact keeN_y (by assumption) (by rw [hO_122]; first | rfl | exact decide_eq_true (by assumption)) | exact (keeN_n (Or.inr (by rw [hO_122]; exact decide_eq_false (by assumption)))).trans hO_122
                      refine lv_iinc (v := nI (i + 1)) (lv' := [(4, .int (nI (i + 1))), (3, .int (oI ((keeN d i).map (apN d)))), (2, .int (oI (keeN d i))), (6, .int (nI 0)), (5, .int (nI (apN d i))), (0, .ref h), (1, .int (nI k))]) hx hb dX9_keen_165 hl (k := 6) rfl (nI_add i 1) (by decide) rfl (fun ls hl => ?_)
                      refine lv_goto (tgt := 37) hx hb dX9_keen_168 (by decide) ?_
                      have e_1 : oI (keeN d i) = oI (keeN d (i + 1)) := by first | rfl | (first | (rw [hk]; done) | (rw [hk]; rfl) | (rw [hk, hO_122]; rfl))
                      have e_2 : oI ((keeN d i).map (apN d)) = oI ((keeN d (i + 1)).map (apN d)) := by first | rfl | (first | (rw [hk]; done) | (rw [hk]; rfl) | (rw [hk, hO_122]; rfl))
                      have e_3 : i + 1 = (i + 1) := by first | rfl | (first | (rw [hk]; done) | (rw [hk]; rfl) | (rw [hk, hO_122]; rfl))
                      exact ih_37 (i + 1) (by omega) (by omega) H locs (wp_to (hP.sub [0, 1] rfl) rfl) (wd_to (hD.sub [0, 1] (by decide) rfl) rfl) hS ls (lv_to (lv_sub hl [5, 6, 2, 1, 0] rfl) (Eq.trans (congrArg (fun x => ([(0, .ref h), (1, .int (nI k)), (2, .int x), (3, .int (oI ((keeN d i).map (apN d)))), (4, .int (nI (i + 1)))] : List (Nat × Value))) e_1) (Eq.trans (congrArg (fun x => ([(0, .ref h), (1, .int (nI k)), (2, .int (oI (keeN d (i + 1)))), (3, .int x), (4, .int (nI (i + 1)))] : List (Nat × Value))) e_2) (congrArg (fun x => ([(0, .ref h), (1, .int (nI k)), (2, .int (oI (keeN d (i + 1)))), (3, .int (oI ((keeN d (i + 1)).map (apN d)))), (4, .int (nI x))] : List (Nat × Value))) e_3))))
                    · rcases hO_122 : keeN d i with _ | bs
                      · rw [hO_122] at hl
                        have hl : lv_has ls 7 [(5, .int (nI (apN d i))), (0, .ref h), (1, .int (nI k)), (2, .int ((-1000000))), (3, .int ((-1000000))), (4, .int (nI i)), (6, .int (nI ((d 3))))] := hl
                        refine lv_iload_n hx hb dX9_keen_122 rfl (lv_at hl 3 rfl) ?_
                        refine lv_ldc (v := (-1000000)) hx hb hown (hts _ q1306) dX9_keen_123 ?_
                        refine lv_icmp_eq (tgt := 134) hx hb dX9_keen_125 (by decide) (fun c_125 => ?_) (fun zh => by first | exact absurd rfl zh | exact absurd zh (by simp))
                        refine lv_iconst (v := nI 1) hx hb dX9_keen_134 rfl ?_
                        refine lv_goto (tgt := 139) hx hb dX9_keen_135 (by decide) ?_
                        refine lv_istore (lv' := [(6, .int (nI 1)), (5, .int (nI (apN d i))), (0, .ref h), (1, .int (nI k)), (2, .int ((-1000000))), (3, .int ((-1000000))), (4, .int (nI i))]) hx hb dX9_keen_139 hl (by decide) rfl (fun ls hl => ?_)
                        refine lv_iload hx hb dX9_keen_141 (lv_at hl 0 rfl) ?_
                        refine wn_ifeq (tgt := 151) hx hb (by omega) dX9_keen_143 (by decide) (fun zh => by first | exact absurd zh (by decide) | exact absurd rfl zh | omega) (fun c_143 => ?_)
                        refine lv_iload hx hb dX9_keen_146 (lv_at hl 6 rfl) ?_
                        refine lv_goto (tgt := 152) hx hb dX9_keen_148 (by decide) ?_
                        refine lv_istore_n (lv' := [(2, .int (nI i)), (6, .int (nI 1)), (5, .int (nI (apN d i))), (0, .ref h), (1, .int (nI k)), (3, .int ((-1000000))), (4, .int (nI i))]) hx hb dX9_keen_152 rfl hl (by decide) rfl (fun ls hl => ?_)
                        refine lv_iload hx hb dX9_keen_153 (lv_at hl 1 rfl) ?_
                        refine wn_ifeq (tgt := 163) hx hb (by omega) dX9_keen_155 (by decide) (fun zh => by first | exact absurd zh (by decide) | exact absurd rfl zh | omega) (fun c_155 => ?_)
                        refine lv_iload hx hb dX9_keen_158 (lv_at hl 2 rfl) ?_
                        refine lv_goto (tgt := 164) hx hb dX9_keen_160 (by decide) ?_
                        refine lv_istore_n (lv' := [(3, .int (nI (apN d i))), (2, .int (nI i)), (6, .int (nI 1)), (5, .int (nI (apN d i))), (0, .ref h), (1, .int (nI k)), (4, .int (nI i))]) hx hb dX9_keen_164 rfl hl (by decide) rfl (fun ls hl => ?_)
                        have hk : keeN d (i + 1) = some i := by first | exact keeN_n (Or.inl (by assumption)) | exact keeN_y (by assumption) (by rw [hO_122]; first | rfl | exact decide_eq_true (by assumption)) | exact (keeN_n (Or.inr (by rw [hO_122]; exact decide_eq_false (by assumption)))).trans hO_122
                        refine lv_iinc (v := nI (i + 1)) (lv' := [(4, .int (nI (i + 1))), (3, .int (nI (apN d i))), (2, .int (nI i)), (6, .int (nI 1)), (5, .int (nI (apN d i))), (0, .ref h), (1, .int (nI k))]) hx hb dX9_keen_165 hl (k := 6) rfl (nI_add i 1) (by decide) rfl (fun ls hl => ?_)
                        refine lv_goto (tgt := 37) hx hb dX9_keen_168 (by decide) ?_
                        have e_4 : nI i = oI (keeN d (i + 1)) := by first | rfl | (first | (rw [hk]; done) | (rw [hk]; rfl) | (rw [hk, hO_122]; rfl))
                        have e_5 : nI (apN d i) = oI ((keeN d (i + 1)).map (apN d)) := by first | rfl | (first | (rw [hk]; done) | (rw [hk]; rfl) | (rw [hk, hO_122]; rfl))
                        have e_6 : i + 1 = (i + 1) := by first | rfl | (first | (rw [hk]; done) | (rw [hk]; rfl) | (rw [hk, hO_122]; rfl))
                        exact ih_37 (i + 1) (by omega) (by omega) H locs (wp_to (hP.sub [0, 1] rfl) rfl) (wd_to (hD.sub [0, 1] (by decide) rfl) rfl) hS ls (lv_to (lv_sub hl [5, 6, 2, 1, 0] rfl) (Eq.trans (congrArg (fun x => ([(0, .ref h), (1, .int (nI k)), (2, .int x), (3, .int (nI (apN d i))), (4, .int (nI (i + 1)))] : List (Nat × Value))) e_4) (Eq.trans (congrArg (fun x => ([(0, .ref h), (1, .int (nI k)), (2, .int (oI (keeN d (i + 1)))), (3, .int x), (4, .int (nI (i + 1)))] : List (Nat × Value))) e_5) (congrArg (fun x => ([(0, .ref h), (1, .int (nI k)), (2, .int (oI (keeN d (i + 1)))), (3, .int (oI ((keeN d (i + 1)).map (apN d)))), (4, .int (nI x))] : List (Nat × Value))) e_6))))
                      · rw [hO_122] at hl
                        have hl : lv_has ls 7 [(5, .int (nI (apN d i))), (0, .ref h), (1, .int (nI k)), (2, .int (nI bs)), (3, .int (nI (apN d bs))), (4, .int (nI i)), (6, .int (nI ((d 3))))] := hl
                        have hbs : bs < i := keeN_lt (by assumption)
                        have hab := apN_le d bs
                        refine lv_iload_n hx hb dX9_keen_122 rfl (lv_at hl 3 rfl) ?_
                        refine lv_ldc (v := (-1000000)) hx hb hown (hts _ q1306) dX9_keen_123 ?_
                        refine lv_icmp_eq (tgt := 134) hx hb dX9_keen_125 (by decide) (fun zh => by exact absurd zh (nI_neN (by omega))) (fun c_125 => ?_)
                        refine lv_iload hx hb dX9_keen_128 (lv_at hl 0 rfl) ?_
                        refine lv_iload_n hx hb dX9_keen_130 rfl (lv_at hl 4 rfl) ?_
                        refine wn_ge (tgt := 138) hx hb (by omega) (by omega) dX9_keen_131 (by decide) (fun c_131 => ?_) (fun c_131 => ?_)
                        · have c_131n := Nat.not_lt.mpr c_131
                          refine lv_iconst (v := nI 0) hx hb dX9_keen_138 rfl ?_
                          refine lv_istore (lv' := [(6, .int (nI 0)), (5, .int (nI (apN d i))), (0, .ref h), (1, .int (nI k)), (2, .int (nI bs)), (3, .int (nI (apN d bs))), (4, .int (nI i))]) hx hb dX9_keen_139 hl (by decide) rfl (fun ls hl => ?_)
                          refine lv_iload hx hb dX9_keen_141 (lv_at hl 0 rfl) ?_
                          refine wn_ifeq (tgt := 151) hx hb (by omega) dX9_keen_143 (by decide) (fun c_143 => ?_) (fun zh => by first | exact absurd zh (by decide) | exact absurd rfl zh | omega)
                          refine lv_iload_n hx hb dX9_keen_151 rfl (lv_at hl 4 rfl) ?_
                          refine lv_istore_n (lv' := [(2, .int (nI bs)), (6, .int (nI 0)), (5, .int (nI (apN d i))), (0, .ref h), (1, .int (nI k)), (3, .int (nI (apN d bs))), (4, .int (nI i))]) hx hb dX9_keen_152 rfl hl (by decide) rfl (fun ls hl => ?_)
                          refine lv_iload hx hb dX9_keen_153 (lv_at hl 1 rfl) ?_
                          refine wn_ifeq (tgt := 163) hx hb (by omega) dX9_keen_155 (by decide) (fun c_155 => ?_) (fun zh => by first | exact absurd zh (by decide) | exact absurd rfl zh | omega)
                          refine lv_iload_n hx hb dX9_keen_163 rfl (lv_at hl 5 rfl) ?_
                          refine lv_istore_n (lv' := [(3, .int (nI (apN d bs))), (2, .int (nI bs)), (6, .int (nI 0)), (5, .int (nI (apN d i))), (0, .ref h), (1, .int (nI k)), (4, .int (nI i))]) hx hb dX9_keen_164 rfl hl (by decide) rfl (fun ls hl => ?_)
                          have hk : keeN d (i + 1) = some bs := by first | exact keeN_n (Or.inl (by assumption)) | exact keeN_y (by assumption) (by rw [hO_122]; first | rfl | exact decide_eq_true (by assumption)) | exact (keeN_n (Or.inr (by rw [hO_122]; exact decide_eq_false (by assumption)))).trans hO_122
                          refine lv_iinc (v := nI (i + 1)) (lv' := [(4, .int (nI (i + 1))), (3, .int (nI (apN d bs))), (2, .int (nI bs)), (6, .int (nI 0)), (5, .int (nI (apN d i))), (0, .ref h), (1, .int (nI k))]) hx hb dX9_keen_165 hl (k := 6) rfl (nI_add i 1) (by decide) rfl (fun ls hl => ?_)
                          refine lv_goto (tgt := 37) hx hb dX9_keen_168 (by decide) ?_
                          have e_7 : nI bs = oI (keeN d (i + 1)) := by first | rfl | (first | (rw [hk]; done) | (rw [hk]; rfl) | (rw [hk, hO_122]; rfl))
                          have e_8 : nI (apN d bs) = oI ((keeN d (i + 1)).map (apN d)) := by first | rfl | (first | (rw [hk]; done) | (rw [hk]; rfl) | (rw [hk, hO_122]; rfl))
                          have e_9 : i + 1 = (i + 1) := by first | rfl | (first | (rw [hk]; done) | (rw [hk]; rfl) | (rw [hk, hO_122]; rfl))
                          exact ih_37 (i + 1) (by omega) (by omega) H locs (wp_to (hP.sub [0, 1] rfl) rfl) (wd_to (hD.sub [0, 1] (by decide) rfl) rfl) hS ls (lv_to (lv_sub hl [5, 6, 2, 1, 0] rfl) (Eq.trans (congrArg (fun x => ([(0, .ref h), (1, .int (nI k)), (2, .int x), (3, .int (nI (apN d bs))), (4, .int (nI (i + 1)))] : List (Nat × Value))) e_7) (Eq.trans (congrArg (fun x => ([(0, .ref h), (1, .int (nI k)), (2, .int (oI (keeN d (i + 1)))), (3, .int x), (4, .int (nI (i + 1)))] : List (Nat × Value))) e_8) (congrArg (fun x => ([(0, .ref h), (1, .int (nI k)), (2, .int (oI (keeN d (i + 1)))), (3, .int (oI ((keeN d (i + 1)).map (apN d)))), (4, .int (nI x))] : List (Nat × Value))) e_9))))
                        · have c_131n := Nat.not_le.mpr c_131
                          refine lv_iconst (v := nI 1) hx hb dX9_keen_134 rfl ?_
                          refine lv_goto (tgt := 139) hx hb dX9_keen_135 (by decide) ?_
                          refine lv_istore (lv' := [(6, .int (nI 1)), (5, .int (nI (apN d i))), (0, .ref h), (1, .int (nI k)), (2, .int (nI bs)), (3, .int (nI (apN d bs))), (4, .int (nI i))]) hx hb dX9_keen_139 hl (by decide) rfl (fun ls hl => ?_)
                          refine lv_iload hx hb dX9_keen_141 (lv_at hl 0 rfl) ?_
                          refine wn_ifeq (tgt := 151) hx hb (by omega) dX9_keen_143 (by decide) (fun zh => by first | exact absurd zh (by decide) | exact absurd rfl zh | omega) (fun c_143 => ?_)
                          refine lv_iload hx hb dX9_keen_146 (lv_at hl 6 rfl) ?_
                          refine lv_goto (tgt := 152) hx hb dX9_keen_148 (by decide) ?_
                          refine lv_istore_n (lv' := [(2, .int (nI i)), (6, .int (nI 1)), (5, .int (nI (apN d i))), (0, .ref h), (1, .int (nI k)), (3, .int (nI (apN d bs))), (4, .int (nI i))]) hx hb dX9_keen_152 rfl hl (by decide) rfl (fun ls hl => ?_)
                          refine lv_iload hx hb dX9_keen_153 (lv_at hl 1 rfl) ?_
                          refine wn_ifeq (tgt := 163) hx hb (by omega) dX9_keen_155 (by decide) (fun zh => by first | exact absurd zh (by decide) | exact absurd rfl zh | omega) (fun c_155 => ?_)
                          refine lv_iload hx hb dX9_keen_158 (lv_at hl 2 rfl) ?_
                          refine lv_goto (tgt := 164) hx hb dX9_keen_160 (by decide) ?_
                          refine lv_istore_n (lv' := [(3, .int (nI (apN d i))), (2, .int (nI i)), (6, .int (nI 1)), (5, .int (nI (apN d i))), (0, .ref h), (1, .int (nI k)), (4, .int (nI i))]) hx hb dX9_keen_164 rfl hl (by decide) rfl (fun ls hl => ?_)
                          have hk : keeN d (i + 1) = some i := by first | exact keeN_n (Or.inl (by assumption)) | exact keeN_y (by assumption) (by rw [hO_122]; first | rfl | exact decide_eq_true (by assumption)) | exact (keeN_n (Or.inr (by rw [hO_122]; exact decide_eq_false (by assumption)))).trans hO_122
                          refine lv_iinc (v := nI (i + 1)) (lv' := [(4, .int (nI (i + 1))), (3, .int (nI (apN d i))), (2, .int (nI i)), (6, .int (nI 1)), (5, .int (nI (apN d i))), (0, .ref h), (1, .int (nI k))]) hx hb dX9_keen_165 hl (k := 6) rfl (nI_add i 1) (by decide) rfl (fun ls hl => ?_)
                          refine lv_goto (tgt := 37) hx hb dX9_keen_168 (by decide) ?_
                          have e_10 : nI i = oI (keeN d (i + 1)) := by first | rfl | (first | (rw [hk]; done) | (rw [hk]; rfl) | (rw [hk, hO_122]; rfl))
                          have e_11 : nI (apN d i) = oI ((keeN d (i + 1)).map (apN d)) := by first | rfl | (first | (rw [hk]; done) | (rw [hk]; rfl) | (rw [hk, hO_122]; rfl))
                          have e_12 : i + 1 = (i + 1) := by first | rfl | (first | (rw [hk]; done) | (rw [hk]; rfl) | (rw [hk, hO_122]; rfl))
                          exact ih_37 (i + 1) (by omega) (by omega) H locs (wp_to (hP.sub [0, 1] rfl) rfl) (wd_to (hD.sub [0, 1] (by decide) rfl) rfl) hS ls (lv_to (lv_sub hl [5, 6, 2, 1, 0] rfl) (Eq.trans (congrArg (fun x => ([(0, .ref h), (1, .int (nI k)), (2, .int x), (3, .int (nI (apN d i))), (4, .int (nI (i + 1)))] : List (Nat × Value))) e_10) (Eq.trans (congrArg (fun x => ([(0, .ref h), (1, .int (nI k)), (2, .int (oI (keeN d (i + 1)))), (3, .int x), (4, .int (nI (i + 1)))] : List (Nat × Value))) e_11) (congrArg (fun x => ([(0, .ref h), (1, .int (nI k)), (2, .int (oI (keeN d (i + 1)))), (3, .int (oI ((keeN d (i + 1)).map (apN d)))), (4, .int (nI x))] : List (Nat × Value))) e_12))))
                  · refine lv_iload hx hb dX9_keen_100 (lv_at hl 5 rfl) ?_
                    refine lv_ineg hx hb dX9_keen_102 ?_
                    refine lv_goto (tgt := 108) hx hb dX9_keen_103 (by decide) ?_
                    refine top_to (y := nI (apN d i)) (by first | exact ap_t (by omega) (by omega) c_97 | exact ap_f (by omega) (by omega) c_97) ?_
                    refine lv_istore (lv' := [(5, .int (nI (apN d i))), (0, .ref h), (1, .int (nI k)), (2, .int (oI (keeN d i))), (3, .int (oI ((keeN d i).map (apN d)))), (4, .int (nI i)), (6, .int (nI ((d 3))))]) hx hb dX9_keen_108 hl (by decide) rfl (fun ls hl => ?_)
                    refine lv_aload_n hx hb dX9_keen_110 rfl (lv_at hl 1 rfl) ?_
                    refine va_get (D := D) (ci := 8) (v := .ref a5) (C := RX9) (T := TX9) (N := 24) hx hb hts in_X9 hown hK hP 0 rfl rfl 5 (by decide) (hts _ q1184) (fun _ h9 => h9) rfl dX9_keen_111 ?_
                    refine lv_iload hx hb dX9_keen_114 (lv_at hl 5 rfl) ?_
                    refine rd_callS hF (m_X9_counts l D ca a5 d i (by assumption) (by first | assumption | omega)) (cs_X9_counts hts q1379 ⟨by decide, by decide⟩) (K1_mv D ca) hK (hP.sub [1] rfl) rfl hl.1 rfl (Nat.le_of_ble_eq_true rfl) dX9_keen_116 ⟨Nat.zero_le _, Nat.zero_le _⟩ ?_
                    refine wb_eq (tgt := 138) hx hb dX9_keen_119 (by decide) (fun c_119 => ?_) (fun c_119 => ?_)
                    · refine lv_iconst (v := nI 0) hx hb dX9_keen_138 rfl ?_
                      refine lv_istore (lv' := [(6, .int (nI 0)), (5, .int (nI (apN d i))), (0, .ref h), (1, .int (nI k)), (2, .int (oI (keeN d i))), (3, .int (oI ((keeN d i).map (apN d)))), (4, .int (nI i))]) hx hb dX9_keen_139 hl (by decide) rfl (fun ls hl => ?_)
                      refine lv_iload hx hb dX9_keen_141 (lv_at hl 0 rfl) ?_
                      refine wn_ifeq (tgt := 151) hx hb (by omega) dX9_keen_143 (by decide) (fun c_143 => ?_) (fun zh => by first | exact absurd zh (by decide) | exact absurd rfl zh | omega)
                      refine lv_iload_n hx hb dX9_keen_151 rfl (lv_at hl 4 rfl) ?_
                      refine lv_istore_n (lv' := [(2, .int (oI (keeN d i))), (6, .int (nI 0)), (5, .int (nI (apN d i))), (0, .ref h), (1, .int (nI k)), (3, .int (oI ((keeN d i).map (apN d)))), (4, .int (nI i))]) hx hb dX9_keen_152 rfl hl (by decide) rfl (fun ls hl => ?_)
                      refine lv_iload hx hb dX9_keen_153 (lv_at hl 1 rfl) ?_
                      refine wn_ifeq (tgt := 163) hx hb (by omega) dX9_keen_155 (by decide) (fun c_155 => ?_) (fun zh => by first | exact absurd zh (by decide) | exact absurd rfl zh | omega)
                      refine lv_iload_n hx hb dX9_keen_163 rfl (lv_at hl 5 rfl) ?_
                      refine lv_istore_n (lv' := [(3, .int (oI ((keeN d i).map (apN d)))), (2, .int (oI (keeN d i))), (6, .int (nI 0)), (5, .int (nI (apN d i))), (0, .ref h), (1, .int (nI k)), (4, .int (nI i))]) hx hb dX9_keen_164 rfl hl (by decide) rfl (fun ls hl => ?_)
                      have hk : keeN d (i + 1) = keeN d i := by first | exact keeN_n (Or.inl (by assumption)) | exact keeN_y (by assumption) (by rw [hO_122]; first | rfl | exact decide_eq_true (by assumption)) | exact (keeN_n (Or.inr (by rw [hO_122]; exact decide_eq_false (by assumption)))).trans hO_122
                      refine lv_iinc (v := nI (i + 1)) (lv' := [(4, .int (nI (i + 1))), (3, .int (oI ((keeN d i).map (apN d)))), (2, .int (oI (keeN d i))), (6, .int (nI 0)), (5, .int (nI (apN d i))), (0, .ref h), (1, .int (nI k))]) hx hb dX9_keen_165 hl (k := 6) rfl (nI_add i 1) (by decide) rfl (fun ls hl => ?_)
                      refine lv_goto (tgt := 37) hx hb dX9_keen_168 (by decide) ?_
                      have e_13 : oI (keeN d i) = oI (keeN d (i + 1)) := by first | rfl | (first | (rw [hk]; done) | (rw [hk]; rfl) | (rw [hk, hO_122]; rfl))
                      have e_14 : oI ((keeN d i).map (apN d)) = oI ((keeN d (i + 1)).map (apN d)) := by first | rfl | (first | (rw [hk]; done) | (rw [hk]; rfl) | (rw [hk, hO_122]; rfl))
                      have e_15 : i + 1 = (i + 1) := by first | rfl | (first | (rw [hk]; done) | (rw [hk]; rfl) | (rw [hk, hO_122]; rfl))
                      exact ih_37 (i + 1) (by omega) (by omega) H locs (wp_to (hP.sub [0, 1] rfl) rfl) (wd_to (hD.sub [0, 1] (by decide) rfl) rfl) hS ls (lv_to (lv_sub hl [5, 6, 2, 1, 0] rfl) (Eq.trans (congrArg (fun x => ([(0, .ref h), (1, .int (nI k)), (2, .int x), (3, .int (oI ((keeN d i).map (apN d)))), (4, .int (nI (i + 1)))] : List (Nat × Value))) e_13) (Eq.trans (congrArg (fun x => ([(0, .ref h), (1, .int (nI k)), (2, .int (oI (keeN d (i + 1)))), (3, .int x), (4, .int (nI (i + 1)))] : List (Nat × Value))) e_14) (congrArg (fun x => ([(0, .ref h), (1, .int (nI k)), (2, .int (oI (keeN d (i + 1)))), (3, .int (oI ((keeN d (i + 1)).map (apN d)))), (4, .int (nI x))] : List (Nat × Value))) e_15))))
                    · rcases hO_122 : keeN d i with _ | bs
                      · rw [hO_122] at hl
                        have hl : lv_has ls 7 [(5, .int (nI (apN d i))), (0, .ref h), (1, .int (nI k)), (2, .int ((-1000000))), (3, .int ((-1000000))), (4, .int (nI i)), (6, .int (nI ((d 3))))] := hl
                        refine lv_iload_n hx hb dX9_keen_122 rfl (lv_at hl 3 rfl) ?_
                        refine lv_ldc (v := (-1000000)) hx hb hown (hts _ q1306) dX9_keen_123 ?_
                        refine lv_icmp_eq (tgt := 134) hx hb dX9_keen_125 (by decide) (fun c_125 => ?_) (fun zh => by first | exact absurd rfl zh | exact absurd zh (by simp))
                        refine lv_iconst (v := nI 1) hx hb dX9_keen_134 rfl ?_
                        refine lv_goto (tgt := 139) hx hb dX9_keen_135 (by decide) ?_
                        refine lv_istore (lv' := [(6, .int (nI 1)), (5, .int (nI (apN d i))), (0, .ref h), (1, .int (nI k)), (2, .int ((-1000000))), (3, .int ((-1000000))), (4, .int (nI i))]) hx hb dX9_keen_139 hl (by decide) rfl (fun ls hl => ?_)
                        refine lv_iload hx hb dX9_keen_141 (lv_at hl 0 rfl) ?_
                        refine wn_ifeq (tgt := 151) hx hb (by omega) dX9_keen_143 (by decide) (fun zh => by first | exact absurd zh (by decide) | exact absurd rfl zh | omega) (fun c_143 => ?_)
                        refine lv_iload hx hb dX9_keen_146 (lv_at hl 6 rfl) ?_
                        refine lv_goto (tgt := 152) hx hb dX9_keen_148 (by decide) ?_
                        refine lv_istore_n (lv' := [(2, .int (nI i)), (6, .int (nI 1)), (5, .int (nI (apN d i))), (0, .ref h), (1, .int (nI k)), (3, .int ((-1000000))), (4, .int (nI i))]) hx hb dX9_keen_152 rfl hl (by decide) rfl (fun ls hl => ?_)
                        refine lv_iload hx hb dX9_keen_153 (lv_at hl 1 rfl) ?_
                        refine wn_ifeq (tgt := 163) hx hb (by omega) dX9_keen_155 (by decide) (fun zh => by first | exact absurd zh (by decide) | exact absurd rfl zh | omega) (fun c_155 => ?_)
                        refine lv_iload hx hb dX9_keen_158 (lv_at hl 2 rfl) ?_
                        refine lv_goto (tgt := 164) hx hb dX9_keen_160 (by decide) ?_
                        refine lv_istore_n (lv' := [(3, .int (nI (apN d i))), (2, .int (nI i)), (6, .int (nI 1)), (5, .int (nI (apN d i))), (0, .ref h), (1, .int (nI k)), (4, .int (nI i))]) hx hb dX9_keen_164 rfl hl (by decide) rfl (fun ls hl => ?_)
                        have hk : keeN d (i + 1) = some i := by first | exact keeN_n (Or.inl (by assumption)) | exact keeN_y (by assumption) (by rw [hO_122]; first | rfl | exact decide_eq_true (by assumption)) | exact (keeN_n (Or.inr (by rw [hO_122]; exact decide_eq_false (by assumption)))).trans hO_122
                        refine lv_iinc (v := nI (i + 1)) (lv' := [(4, .int (nI (i + 1))), (3, .int (nI (apN d i))), (2, .int (nI i)), (6, .int (nI 1)), (5, .int (nI (apN d i))), (0, .ref h), (1, .int (nI k))]) hx hb dX9_keen_165 hl (k := 6) rfl (nI_add i 1) (by decide) rfl (fun ls hl => ?_)
                        refine lv_goto (tgt := 37) hx hb dX9_keen_168 (by decide) ?_
                        have e_16 : nI i = oI (keeN d (i + 1)) := by first | rfl | (first | (rw [hk]; done) | (rw [hk]; rfl) | (rw [hk, hO_122]; rfl))
                        have e_17 : nI (apN d i) = oI ((keeN d (i + 1)).map (apN d)) := by first | rfl | (first | (rw [hk]; done) | (rw [hk]; rfl) | (rw [hk, hO_122]; rfl))
                        have e_18 : i + 1 = (i + 1) := by first | rfl | (first | (rw [hk]; done) | (rw [hk]; rfl) | (rw [hk, hO_122]; rfl))
                        exact ih_37 (i + 1) (by omega) (by omega) H locs (wp_to (hP.sub [0, 1] rfl) rfl) (wd_to (hD.sub [0, 1] (by decide) rfl) rfl) hS ls (lv_to (lv_sub hl [5, 6, 2, 1, 0] rfl) (Eq.trans (congrArg (fun x => ([(0, .ref h), (1, .int (nI k)), (2, .int x), (3, .int (nI (apN d i))), (4, .int (nI (i + 1)))] : List (Nat × Value))) e_16) (Eq.trans (congrArg (fun x => ([(0, .ref h), (1, .int (nI k)), (2, .int (oI (keeN d (i + 1)))), (3, .int x), (4, .int (nI (i + 1)))] : List (Nat × Value))) e_17) (congrArg (fun x => ([(0, .ref h), (1, .int (nI k)), (2, .int (oI (keeN d (i + 1)))), (3, .int (oI ((keeN d (i + 1)).map (apN d)))), (4, .int (nI x))] : List (Nat × Value))) e_18))))
                      · rw [hO_122] at hl
                        have hl : lv_has ls 7 [(5, .int (nI (apN d i))), (0, .ref h), (1, .int (nI k)), (2, .int (nI bs)), (3, .int (nI (apN d bs))), (4, .int (nI i)), (6, .int (nI ((d 3))))] := hl
                        have hbs : bs < i := keeN_lt (by assumption)
                        have hab := apN_le d bs
                        refine lv_iload_n hx hb dX9_keen_122 rfl (lv_at hl 3 rfl) ?_
                        refine lv_ldc (v := (-1000000)) hx hb hown (hts _ q1306) dX9_keen_123 ?_
                        refine lv_icmp_eq (tgt := 134) hx hb dX9_keen_125 (by decide) (fun zh => by exact absurd zh (nI_neN (by omega))) (fun c_125 => ?_)
                        refine lv_iload hx hb dX9_keen_128 (lv_at hl 0 rfl) ?_
                        refine lv_iload_n hx hb dX9_keen_130 rfl (lv_at hl 4 rfl) ?_
                        refine wn_ge (tgt := 138) hx hb (by omega) (by omega) dX9_keen_131 (by decide) (fun c_131 => ?_) (fun c_131 => ?_)
                        · have c_131n := Nat.not_lt.mpr c_131
                          refine lv_iconst (v := nI 0) hx hb dX9_keen_138 rfl ?_
                          refine lv_istore (lv' := [(6, .int (nI 0)), (5, .int (nI (apN d i))), (0, .ref h), (1, .int (nI k)), (2, .int (nI bs)), (3, .int (nI (apN d bs))), (4, .int (nI i))]) hx hb dX9_keen_139 hl (by decide) rfl (fun ls hl => ?_)
                          refine lv_iload hx hb dX9_keen_141 (lv_at hl 0 rfl) ?_
                          refine wn_ifeq (tgt := 151) hx hb (by omega) dX9_keen_143 (by decide) (fun c_143 => ?_) (fun zh => by first | exact absurd zh (by decide) | exact absurd rfl zh | omega)
                          refine lv_iload_n hx hb dX9_keen_151 rfl (lv_at hl 4 rfl) ?_
                          refine lv_istore_n (lv' := [(2, .int (nI bs)), (6, .int (nI 0)), (5, .int (nI (apN d i))), (0, .ref h), (1, .int (nI k)), (3, .int (nI (apN d bs))), (4, .int (nI i))]) hx hb dX9_keen_152 rfl hl (by decide) rfl (fun ls hl => ?_)
                          refine lv_iload hx hb dX9_keen_153 (lv_at hl 1 rfl) ?_
                          refine wn_ifeq (tgt := 163) hx hb (by omega) dX9_keen_155 (by decide) (fun c_155 => ?_) (fun zh => by first | exact absurd zh (by decide) | exact absurd rfl zh | omega)
                          refine lv_iload_n hx hb dX9_keen_163 rfl (lv_at hl 5 rfl) ?_
                          refine lv_istore_n (lv' := [(3, .int (nI (apN d bs))), (2, .int (nI bs)), (6, .int (nI 0)), (5, .int (nI (apN d i))), (0, .ref h), (1, .int (nI k)), (4, .int (nI i))]) hx hb dX9_keen_164 rfl hl (by decide) rfl (fun ls hl => ?_)
                          have hk : keeN d (i + 1) = some bs := by first | exact keeN_n (Or.inl (by assumption)) | exact keeN_y (by assumption) (by rw [hO_122]; first | rfl | exact decide_eq_true (by assumption)) | exact (keeN_n (Or.inr (by rw [hO_122]; exact decide_eq_false (by assumption)))).trans hO_122
                          refine lv_iinc (v := nI (i + 1)) (lv' := [(4, .int (nI (i + 1))), (3, .int (nI (apN d bs))), (2, .int (nI bs)), (6, .int (nI 0)), (5, .int (nI (apN d i))), (0, .ref h), (1, .int (nI k))]) hx hb dX9_keen_165 hl (k := 6) rfl (nI_add i 1) (by decide) rfl (fun ls hl => ?_)
                          refine lv_goto (tgt := 37) hx hb dX9_keen_168 (by decide) ?_
                          have e_19 : nI bs = oI (keeN d (i + 1)) := by first | rfl | (first | (rw [hk]; done) | (rw [hk]; rfl) | (rw [hk, hO_122]; rfl))
                          have e_20 : nI (apN d bs) = oI ((keeN d (i + 1)).map (apN d)) := by first | rfl | (first | (rw [hk]; done) | (rw [hk]; rfl) | (rw [hk, hO_122]; rfl))
                          have e_21 : i + 1 = (i + 1) := by first | rfl | (first | (rw [hk]; done) | (rw [hk]; rfl) | (rw [hk, hO_122]; rfl))
                          exact ih_37 (i + 1) (by omega) (by omega) H locs (wp_to (hP.sub [0, 1] rfl) rfl) (wd_to (hD.sub [0, 1] (by decide) rfl) rfl) hS ls (lv_to (lv_sub hl [5, 6, 2, 1, 0] rfl) (Eq.trans (congrArg (fun x => ([(0, .ref h), (1, .int (nI k)), (2, .int x), (3, .int (nI (apN d bs))), (4, .int (nI (i + 1)))] : List (Nat × Value))) e_19) (Eq.trans (congrArg (fun x => ([(0, .ref h), (1, .int (nI k)), (2, .int (oI (keeN d (i + 1)))), (3, .int x), (4, .int (nI (i + 1)))] : List (Nat × Value))) e_20) (congrArg (fun x => ([(0, .ref h), (1, .int (nI k)), (2, .int (oI (keeN d (i + 1)))), (3, .int (oI ((keeN d (i + 1)).map (apN d)))), (4, .int (nI x))] : List (Nat × Value))) e_21))))
                        · have c_131n := Nat.not_le.mpr c_131
                          refine lv_iconst (v := nI 1) hx hb dX9_keen_134 rfl ?_
                          refine lv_goto (tgt := 139) hx hb dX9_keen_135 (by decide) ?_
                          refine lv_istore (lv' := [(6, .int (nI 1)), (5, .int (nI (apN d i))), (0, .ref h), (1, .int (nI k)), (2, .int (nI bs)), (3, .int (nI (apN d bs))), (4, .int (nI i))]) hx hb dX9_keen_139 hl (by decide) rfl (fun ls hl => ?_)
                          refine lv_iload hx hb dX9_keen_141 (lv_at hl 0 rfl) ?_
                          refine wn_ifeq (tgt := 151) hx hb (by omega) dX9_keen_143 (by decide) (fun zh => by first | exact absurd zh (by decide) | exact absurd rfl zh | omega) (fun c_143 => ?_)
                          refine lv_iload hx hb dX9_keen_146 (lv_at hl 6 rfl) ?_
                          refine lv_goto (tgt := 152) hx hb dX9_keen_148 (by decide) ?_
                          refine lv_istore_n (lv' := [(2, .int (nI i)), (6, .int (nI 1)), (5, .int (nI (apN d i))), (0, .ref h), (1, .int (nI k)), (3, .int (nI (apN d bs))), (4, .int (nI i))]) hx hb dX9_keen_152 rfl hl (by decide) rfl (fun ls hl => ?_)
                          refine lv_iload hx hb dX9_keen_153 (lv_at hl 1 rfl) ?_
                          refine wn_ifeq (tgt := 163) hx hb (by omega) dX9_keen_155 (by decide) (fun zh => by first | exact absurd zh (by decide) | exact absurd rfl zh | omega) (fun c_155 => ?_)
                          refine lv_iload hx hb dX9_keen_158 (lv_at hl 2 rfl) ?_
                          refine lv_goto (tgt := 164) hx hb dX9_keen_160 (by decide) ?_
                          refine lv_istore_n (lv' := [(3, .int (nI (apN d i))), (2, .int (nI i)), (6, .int (nI 1)), (5, .int (nI (apN d i))), (0, .ref h), (1, .int (nI k)), (4, .int (nI i))]) hx hb dX9_keen_164 rfl hl (by decide) rfl (fun ls hl => ?_)
                          have hk : keeN d (i + 1) = some i := by first | exact keeN_n (Or.inl (by assumption)) | exact keeN_y (by assumption) (by rw [hO_122]; first | rfl | exact decide_eq_true (by assumption)) | exact (keeN_n (Or.inr (by rw [hO_122]; exact decide_eq_false (by assumption)))).trans hO_122
                          refine lv_iinc (v := nI (i + 1)) (lv' := [(4, .int (nI (i + 1))), (3, .int (nI (apN d i))), (2, .int (nI i)), (6, .int (nI 1)), (5, .int (nI (apN d i))), (0, .ref h), (1, .int (nI k))]) hx hb dX9_keen_165 hl (k := 6) rfl (nI_add i 1) (by decide) rfl (fun ls hl => ?_)
                          refine lv_goto (tgt := 37) hx hb dX9_keen_168 (by decide) ?_
                          have e_22 : nI i = oI (keeN d (i + 1)) := by first | rfl | (first | (rw [hk]; done) | (rw [hk]; rfl) | (rw [hk, hO_122]; rfl))
                          have e_23 : nI (apN d i) = oI ((keeN d (i + 1)).map (apN d)) := by first | rfl | (first | (rw [hk]; done) | (rw [hk]; rfl) | (rw [hk, hO_122]; rfl))
                          have e_24 : i + 1 = (i + 1) := by first | rfl | (first | (rw [hk]; done) | (rw [hk]; rfl) | (rw [hk, hO_122]; rfl))
                          exact ih_37 (i + 1) (by omega) (by omega) H locs (wp_to (hP.sub [0, 1] rfl) rfl) (wd_to (hD.sub [0, 1] (by decide) rfl) rfl) hS ls (lv_to (lv_sub hl [5, 6, 2, 1, 0] rfl) (Eq.trans (congrArg (fun x => ([(0, .ref h), (1, .int (nI k)), (2, .int x), (3, .int (nI (apN d i))), (4, .int (nI (i + 1)))] : List (Nat × Value))) e_22) (Eq.trans (congrArg (fun x => ([(0, .ref h), (1, .int (nI k)), (2, .int (oI (keeN d (i + 1)))), (3, .int x), (4, .int (nI (i + 1)))] : List (Nat × Value))) e_23) (congrArg (fun x => ([(0, .ref h), (1, .int (nI k)), (2, .int (oI (keeN d (i + 1)))), (3, .int (oI ((keeN d (i + 1)).map (apN d)))), (4, .int (nI x))] : List (Nat × Value))) e_24))))
                · have c_62n := Nat.not_le.mpr c_62
                  refine lv_iload hx hb dX9_keen_65 (lv_at hl 5 rfl) ?_
                  refine lv_aload_n hx hb dX9_keen_67 rfl (lv_at hl 0 rfl) ?_
                  refine va_get (D := D) (ci := 8) (v := .ref a5) (C := RX9) (T := TX9) (N := 24) hx hb hts in_X9 hown hK hP 0 rfl rfl 5 (by decide) (hts _ q1184) (fun _ h9 => h9) rfl dX9_keen_68 ?_
                  refine lv_iload hx hb dX9_keen_71 (lv_at hl 6 rfl) ?_
                  refine lv_iload hx hb dX9_keen_73 (lv_at hl 4 rfl) ?_
                  refine rd_callS hF (m_X9_isWrong l D ca a5 d j i (by assumption) (by first | assumption | omega) (by first | assumption | omega)) (cs_X9_isWrong hts q1376 ⟨by decide, by decide⟩) (K1_mv D ca) hK (hP.sub [1] rfl) rfl hl.1 rfl (Nat.le_of_ble_eq_true rfl) dX9_keen_75 ⟨Nat.zero_le _, Nat.zero_le _⟩ ?_
                  refine wb_eq (tgt := 85) hx hb dX9_keen_78 (by decide) (fun c_78 => ?_) (fun c_78 => ?_)
                  · refine lv_iconst (v := (-1)) hx hb dX9_keen_85 rfl ?_
                    refine lv_iadd hx hb dX9_keen_86 ?_
                    refine lv_istore (lv' := [(5, .int ((nI (wrC d i j) - nI (j - wrC d i j)) + ((-1)))), (0, .ref h), (1, .int (nI k)), (2, .int (oI (keeN d i))), (3, .int (oI ((keeN d i).map (apN d)))), (4, .int (nI i)), (6, .int (nI j))]) hx hb dX9_keen_87 hl (by decide) rfl (fun ls hl => ?_)
                    refine lv_iinc (v := nI (j + 1)) (lv' := [(6, .int (nI (j + 1))), (5, .int ((nI (wrC d i j) - nI (j - wrC d i j)) + ((-1)))), (0, .ref h), (1, .int (nI k)), (2, .int (oI (keeN d i))), (3, .int (oI ((keeN d i).map (apN d)))), (4, .int (nI i))]) hx hb dX9_keen_89 hl (k := 6) rfl (nI_add j 1) (by decide) rfl (fun ls hl => ?_)
                    refine lv_goto (tgt := 54) hx hb dX9_keen_92 (by decide) ?_
                    have e_25 : (nI (wrC d i j) - nI (j - wrC d i j)) + ((-1)) = nI (wrC d i (j + 1)) - nI ((j + 1) - wrC d i (j + 1)) := by first | with_reducible rfl | (first | (have zz := keC_f c_78; exact zz) | (have zz := keC_t c_78; exact zz))
                    have e_26 : j + 1 = (j + 1) := by first | with_reducible rfl | (first | (have zz := keC_f c_78; exact zz) | (have zz := keC_t c_78; exact zz))
                    exact ih_54 (j + 1) (by omega) (by omega) H locs (wp_to (hP.sub [0, 1] rfl) rfl) (wd_to (hD.sub [0, 1] (by decide) rfl) rfl) hS ls (lv_to (lv_sub hl [2, 3, 4, 5, 6, 1, 0] rfl) (Eq.trans (congrArg (fun x => ([(0, .ref h), (1, .int (nI k)), (2, .int (oI (keeN d i))), (3, .int (oI ((keeN d i).map (apN d)))), (4, .int (nI i)), (5, .int x), (6, .int (nI (j + 1)))] : List (Nat × Value))) e_25) (congrArg (fun x => ([(0, .ref h), (1, .int (nI k)), (2, .int (oI (keeN d i))), (3, .int (oI ((keeN d i).map (apN d)))), (4, .int (nI i)), (5, .int (nI (wrC d i (j + 1)) - nI ((j + 1) - wrC d i (j + 1)))), (6, .int (nI x))] : List (Nat × Value))) e_26)))
                  · refine lv_iconst (v := nI 1) hx hb dX9_keen_81 rfl ?_
                    refine lv_goto (tgt := 86) hx hb dX9_keen_82 (by decide) ?_
                    refine lv_iadd hx hb dX9_keen_86 ?_
                    refine lv_istore (lv' := [(5, .int ((nI (wrC d i j) - nI (j - wrC d i j)) + (nI 1))), (0, .ref h), (1, .int (nI k)), (2, .int (oI (keeN d i))), (3, .int (oI ((keeN d i).map (apN d)))), (4, .int (nI i)), (6, .int (nI j))]) hx hb dX9_keen_87 hl (by decide) rfl (fun ls hl => ?_)
                    refine lv_iinc (v := nI (j + 1)) (lv' := [(6, .int (nI (j + 1))), (5, .int ((nI (wrC d i j) - nI (j - wrC d i j)) + (nI 1))), (0, .ref h), (1, .int (nI k)), (2, .int (oI (keeN d i))), (3, .int (oI ((keeN d i).map (apN d)))), (4, .int (nI i))]) hx hb dX9_keen_89 hl (k := 6) rfl (nI_add j 1) (by decide) rfl (fun ls hl => ?_)
                    refine lv_goto (tgt := 54) hx hb dX9_keen_92 (by decide) ?_
                    have e_27 : (nI (wrC d i j) - nI (j - wrC d i j)) + (nI 1) = nI (wrC d i (j + 1)) - nI ((j + 1) - wrC d i (j + 1)) := by first | with_reducible rfl | (first | (have zz := keC_f c_78; exact zz) | (have zz := keC_t c_78; exact zz))
                    have e_28 : j + 1 = (j + 1) := by first | with_reducible rfl | (first | (have zz := keC_f c_78; exact zz) | (have zz := keC_t c_78; exact zz))
                    exact ih_54 (j + 1) (by omega) (by omega) H locs (wp_to (hP.sub [0, 1] rfl) rfl) (wd_to (hD.sub [0, 1] (by decide) rfl) rfl) hS ls (lv_to (lv_sub hl [2, 3, 4, 5, 6, 1, 0] rfl) (Eq.trans (congrArg (fun x => ([(0, .ref h), (1, .int (nI k)), (2, .int (oI (keeN d i))), (3, .int (oI ((keeN d i).map (apN d)))), (4, .int (nI i)), (5, .int x), (6, .int (nI (j + 1)))] : List (Nat × Value))) e_27) (congrArg (fun x => ([(0, .ref h), (1, .int (nI k)), (2, .int (oI (keeN d i))), (3, .int (oI ((keeN d i).map (apN d)))), (4, .int (nI i)), (5, .int (nI (wrC d i (j + 1)) - nI ((j + 1) - wrC d i (j + 1)))), (6, .int (nI x))] : List (Nat × Value))) e_28)))
            have e_29 : nI 0 = nI (wrC d i 0) - nI (0 - wrC d i 0) := by first | with_reducible rfl | (show nI 0 = nI 0 - nI 0; decide)
            exact lp_54 ((d 3 - 0) + 1) 0 (by omega) (by omega) H locs (wp_to (hP.sub [0, 1] rfl) rfl) (wd_to (hD.sub [0, 1] (by decide) rfl) rfl) hS ls (lv_to (lv_sub hl [2, 3, 4, 5, 6, 1, 0] rfl) (congrArg (fun x => ([(0, .ref h), (1, .int (nI k)), (2, .int (oI (keeN d i))), (3, .int (oI ((keeN d i).map (apN d)))), (4, .int (nI i)), (5, .int x), (6, .int (nI 0))] : List (Nat × Value))) e_29))
      have e_30 : (-1000000) = oI (keeN d 0) := by first | rfl | (rfl)
      have e_31 : (-1000000) = oI ((keeN d 0).map (apN d)) := by first | rfl | (rfl)
      exact lp_37 ((d 2 - 0) + 1) 0 (by omega) (by omega) H locs (wp_to (hP.sub [0, 1] rfl) rfl) (wd_to (hD.sub [0, 1] (by decide) rfl) rfl) hS ls (lv_to (lv_sub hl [3, 4, 2, 1, 0] rfl) (Eq.trans (congrArg (fun x => ([(0, .ref h), (1, .int (nI k)), (2, .int x), (3, .int ((-1000000))), (4, .int (nI 0))] : List (Nat × Value))) e_30) (congrArg (fun x => ([(0, .ref h), (1, .int (nI k)), (2, .int (oI (keeN d 0))), (3, .int x), (4, .int (nI 0))] : List (Nat × Value))) e_31)))
    · rw [inB_c (n := 2) (by decide)] at c_22
      have ix_w : ixO w 2 = none := ixO_f c_22
      refine lv_ldc (v := (-1000001)) hx hb hown (hts _ q1266) dX9_keen_25 ?_
      exact wr_iret () hx hb hr hlk hQ dX9_keen_27 (wp_to (hP.sub [0, 1] rfl) rfl) (wd_to (hD.sub [0, 1] (by decide) rfl) rfl) hS (Nat.le_refl _) (Nat.le_refl _) (by first | (simp [keeI, c_9, c_22, ix_w]; done) | (have hie : i = d 2 := (by omega); subst hie; simp [keeI, c_9, c_22, ix_w]; done) | grind [keeI])
  · refine lv_ldc (v := (-1000002)) hx hb hown (hts _ q1408) dX9_keen_12 ?_
    exact wr_iret () hx hb hr hlk hQ dX9_keen_14 (wp_to (hP.sub [0, 1] rfl) rfl) (wd_to (hD.sub [0, 1] (by decide) rfl) rfl) hS (Nat.le_refl _) (Nat.le_refl _) (by first | (simp [keeI, c_9]; done) | (have hie : i = d 2 := (by omega); subst hie; simp [keeI, c_9]; done) | grind [keeI])
set_option maxHeartbeats 4000000 in
theorem m_X9_tells (l : Launch) (D : va_G) (ca : Nat → ClassId) (h : Nat) (t0 : Int32) (t1 : Int32) (a2 : Nat) (a3 : Nat) (a4 : Nat) (a5 : Nat) (a6 : Nat) (a7 : Nat) (a8 : Nat) (a10 : Nat) (a19 : Nat) (a20 : Nat) (a21 : Nat) (a22 : Nat) (ac : Nat) (tpd : Nat) (cu : Nat) (sta : Nat) (tok : Nat) (fau : Nat) (trd : Nat) (val : Int32) (fat : Int32) (lat : Int32) (d : Nat → Nat) (x : Int32) (w : Int32) (sz : Nat) (hd : dOK d) : Met l yX9_tells (ws_ yX9_tells cX9_tells 8 (some .int)) (rmL 4) (PcA (K1 D ca) D [.ref h, .int x, .int w] [(h, .inr (8, [.int t0, .int t1, .ref a2, .ref a3, .ref a4, .ref a5, .ref a6, .ref a7, .ref a8, .int (nI ac), .ref a10, .int (nI tpd), .int (nI cu), .int (nI sta), .int (nI tok), .int val, .int (nI fau), .int fat, .int lat, .ref a19, .ref a20, .ref a21, .ref a22, .int (nI trd)])), (a5, .inl (ca 0, 64, .inl (dv d)))] sz) (QiA D (fun zr (_ : Unit) => zr = telI d x w) (fun _ => [(h, .inr (8, [.int (nI 0), .int t1, .ref a2, .ref a3, .ref a4, .ref a5, .ref a6, .ref a7, .ref a8, .int (nI ac), .ref a10, .int (nI tpd), .int (nI cu), .int (nI sta), .int (nI tok), .int val, .int (nI fau), .int fat, .int lat, .ref a19, .ref a20, .ref a21, .ref a22, .int (nI trd)])), (a5, .inl (ca 0, 64, .inl (dv d)))]) (va_A [(h, .inr (8, [.int t0, .int t1, .ref a2, .ref a3, .ref a4, .ref a5, .ref a6, .ref a7, .ref a8, .int (nI ac), .ref a10, .int (nI tpd), .int (nI cu), .int (nI sta), .int (nI tok), .int val, .int (nI fau), .int fat, .int lat, .ref a19, .ref a20, .ref a21, .ref a22, .int (nI trd)])), (a5, .inl (ca 0, 64, .inl (dv d)))] sz)) 0 0 (va_A [(h, .inr (8, [.int t0, .int t1, .ref a2, .ref a3, .ref a4, .ref a5, .ref a6, .ref a7, .ref a8, .int (nI ac), .ref a10, .int (nI tpd), .int (nI cu), .int (nI sta), .int (nI tok), .int val, .int (nI fau), .int fat, .int lat, .ref a19, .ref a20, .ref a21, .ref a22, .int (nI trd)])), (a5, .inl (ca 0, 64, .inl (dv d)))] sz) := by
  refine wr_head (Qc := fun A => (QiA D (fun zr (_ : Unit) => zr = telI d x w) (fun _ => [(h, .inr (8, [.int (nI 0), .int t1, .ref a2, .ref a3, .ref a4, .ref a5, .ref a6, .ref a7, .ref a8, .int (nI ac), .ref a10, .int (nI tpd), .int (nI cu), .int (nI sta), .int (nI tok), .int val, .int (nI fau), .int fat, .int lat, .ref a19, .ref a20, .ref a21, .ref a22, .int (nI trd)])), (a5, .inl (ca 0, 64, .inl (dv d)))]) A)) (by decide) (Nat.le_of_ble_eq_true rfl) ?_
  intro zp ze zs zm za zb zt zc ls zQ A H locs hx hb hml hr hlk hown hts hnm hK hP hD hS hA hl hQ
  have hown : zs.vm.findClass RX9 = some zm.cls := hown
  have hl : lv_has ls 8 [(0, .ref h), (1, .int x), (2, .int w)] := hl
  have hF : CallFix zp zm zc cX9_tells 8 zs za lw_all RX9 := ⟨hx, hb, hml, hown, hts⟩
  have hd2 : d 2 ≤ 8 := hd.2.2.1
  have hd3 : d 3 ≤ 5 := hd.2.2.2.1
  have hd0 : d 0 ≤ 9 := hd.1
  have hd1 : d 1 ≤ 8 := hd.2.1
  have hp2 := pow_8 hd2
  have hp3 := pow_8 (show d 3 ≤ 8 by omega)
  refine lv_aload_n hx hb dX9_tells_0 rfl (lv_at hl 0 rfl) ?_
  refine lv_iconst (v := nI 0) hx hb dX9_tells_1 rfl ?_
  refine va_put (D := D) (ci := 8) (v := .int (nI 0)) (ty := .int) (C := RX9) (T := TX9) (N := 24) hx hb hts in_X9 tyX9 tyX9_ok nmX9 hown hK hP hD hS 0 rfl rfl 0 (by decide) (hts _ q1179) (fun _ h9 => h9) rfl (tyX9_ok 0 (by decide)) rfl rfl (Nat.le_of_ble_eq_true rfl) dX9_tells_2 (fun H locs hP hD hS => ?_)
  have hP : va_P D vwCl [(h, .inr (8, [.int (nI 0), .int t1, .ref a2, .ref a3, .ref a4, .ref a5, .ref a6, .ref a7, .ref a8, .int (nI ac), .ref a10, .int (nI tpd), .int (nI cu), .int (nI sta), .int (nI tok), .int val, .int (nI fau), .int fat, .int lat, .ref a19, .ref a20, .ref a21, .ref a22, .int (nI trd)])), (a5, .inl (ca 0, 64, .inl (dv d)))] H := hP
  have hD : va_D A [(h, .inr (8, [.int (nI 0), .int t1, .ref a2, .ref a3, .ref a4, .ref a5, .ref a6, .ref a7, .ref a8, .int (nI ac), .ref a10, .int (nI tpd), .int (nI cu), .int (nI sta), .int (nI tok), .int val, .int (nI fau), .int fat, .int lat, .ref a19, .ref a20, .ref a21, .ref a22, .int (nI trd)])), (a5, .inl (ca 0, 64, .inl (dv d)))] := hD
  refine lv_aload_n hx hb dX9_tells_5 rfl (lv_at hl 0 rfl) ?_
  refine rd_callV hF (m_X9_isThere l D ca h ([.int (nI 0), .int t1, .ref a2, .ref a3, .ref a4, .ref a5, .ref a6, .ref a7, .ref a8, .int (nI ac), .ref a10, .int (nI tpd), .int (nI cu), .int (nI sta), .int (nI tok), .int val, .int (nI fau), .int fat, .int lat, .ref a19, .ref a20, .ref a21, .ref a22, .int (nI trd)]) a5 d (by first | rfl | assumption) (by assumption)) (cs_X9_isThere hts q1404 ⟨by decide, by decide⟩) (K1_mv D ca) hK (hP.sub [0, 1] rfl) (va_recv hK hP (ci := 8) (q0 := 0) rfl rfl) rfl hl.1 rfl (Nat.le_of_ble_eq_true rfl) dX9_tells_6 ⟨Nat.zero_le _, Nat.zero_le _⟩ ?_
  refine wb_ne (tgt := 15) hx hb dX9_tells_9 (by decide) (fun c_9 => ?_) (fun c_9 => ?_)
  · refine lv_aload_n hx hb dX9_tells_15 rfl (lv_at hl 0 rfl) ?_
    refine lv_iload_n hx hb dX9_tells_16 rfl (lv_at hl 1 rfl) ?_
    refine rd_callV hF (m_X9_areSquares l D ca h ([.int (nI 0), .int t1, .ref a2, .ref a3, .ref a4, .ref a5, .ref a6, .ref a7, .ref a8, .int (nI ac), .ref a10, .int (nI tpd), .int (nI cu), .int (nI sta), .int (nI tok), .int val, .int (nI fau), .int fat, .int lat, .ref a19, .ref a20, .ref a21, .ref a22, .int (nI trd)]) a5 d x (by first | rfl | assumption) (by assumption)) (cs_X9_areSquares hts q1359 ⟨by decide, by decide⟩) (K1_mv D ca) hK (hP.sub [0, 1] rfl) (va_recv hK hP (ci := 8) (q0 := 0) rfl rfl) rfl hl.1 rfl (Nat.le_of_ble_eq_true rfl) dX9_tells_17 ⟨Nat.zero_le _, Nat.zero_le _⟩ ?_
    refine wb_eq (tgt := 33) hx hb dX9_tells_20 (by decide) (fun c_20 => ?_) (fun c_20 => ?_)
    · have ix_x : ixO x (2 ^ d 2) = none := ixO_f c_20
      refine lv_ldc (v := (-1000001)) hx hb hown (hts _ q1266) dX9_tells_33 ?_
      exact wr_iret () hx hb hr hlk hQ dX9_tells_35 (wp_to (hP.sub [0, 1] rfl) rfl) (wd_to (hD.sub [0, 1] (by decide) rfl) rfl) hS (Nat.le_refl _) (Nat.le_refl _) (by first | (simp [telI, c_9, c_20, ix_x]; done) | grind [telI])
    · obtain ⟨s, hs, hxs⟩ := (ltB_iff (by omega)).mp c_20
      subst hxs
      have ix_s : ixO (nI s) (2 ^ d 2) = some s := ixO_t hs (by omega)
      refine lv_iload_n hx hb dX9_tells_23 rfl (lv_at hl 2 rfl) ?_
      refine lv_i2l hx hb dX9_tells_24 rfl ?_
      refine lv_lconst (v := 0) hx hb dX9_tells_25 rfl ?_
      refine lv_lconst (v := 1) hx hb dX9_tells_26 rfl ?_
      refine rd_callS hF (m_X9_in l D ca w.toInt64 0 1 ) (cs_X9_in hts q1262 ⟨by decide, by decide⟩) (K1_mv D ca) hK (hP.sub [] rfl) rfl hl.1 rfl (Nat.le_of_ble_eq_true rfl) dX9_tells_27 ⟨Nat.zero_le _, Nat.zero_le _⟩ ?_
      refine wb_ne (tgt := 36) hx hb dX9_tells_30 (by decide) (fun c_30 => ?_) (fun c_30 => ?_)
      · rw [inB_c (n := 2) (by decide)] at c_30
        obtain ⟨k, hk, hxk⟩ := (ltB_iff (by omega)).mp c_30
        subst hxk
        have ix_k : ixO (nI k) 2 = some k := ixO_t hk (by omega)
        refine lv_iconst (v := nI 0) hx hb dX9_tells_36 rfl ?_
        refine lv_istore_n (lv' := [(3, .int (nI 0)), (0, .ref h), (1, .int (nI s)), (2, .int (nI k))]) hx hb dX9_tells_37 rfl hl (by decide) rfl (fun ls hl => ?_)
        refine lv_ldc (v := (-1000000)) hx hb hown (hts _ q1306) dX9_tells_38 ?_
        refine lv_istore (lv' := [(4, .int ((-1000000))), (3, .int (nI 0)), (0, .ref h), (1, .int (nI s)), (2, .int (nI k))]) hx hb dX9_tells_40 hl (by decide) rfl (fun ls hl => ?_)
        refine lv_aload_n hx hb dX9_tells_42 rfl (lv_at hl 2 rfl) ?_
        refine va_get (D := D) (ci := 8) (v := .ref a5) (C := RX9) (T := TX9) (N := 24) hx hb hts in_X9 hown hK hP 0 rfl rfl 5 (by decide) (hts _ q1184) (fun _ h9 => h9) rfl dX9_tells_43 ?_
        refine lv_iconst (v := nI 3) hx hb dX9_tells_46 rfl ?_
        refine wn_iald (v := nI (d 3)) hx hb hK hP 1 0 rfl rfl (by omega) (by decide) rfl dX9_tells_47 ?_
        refine lv_iconst (v := nI 1) hx hb dX9_tells_48 rfl ?_
        refine lv_isub hx hb dX9_tells_49 ?_
        refine lv_istore (lv' := [(5, .int ((nI (d 3)) - (nI 1))), (4, .int ((-1000000))), (3, .int (nI 0)), (0, .ref h), (1, .int (nI s)), (2, .int (nI k))]) hx hb dX9_tells_50 hl (by decide) rfl (fun ls hl => ?_)
        have lp_52 : ∀ (zn : Nat) (t_ : Nat), (t_ ≤ d 3) →  (d 3 - t_) < zn → ∀ (H : Heap) (locs : List Loc), va_P D vwCl [(h, .inr (8, [.int (nI 0), .int t1, .ref a2, .ref a3, .ref a4, .ref a5, .ref a6, .ref a7, .ref a8, .int (nI ac), .ref a10, .int (nI tpd), .int (nI cu), .int (nI sta), .int (nI tok), .int val, .int (nI fau), .int fat, .int lat, .ref a19, .ref a20, .ref a21, .ref a22, .int (nI trd)])), (a5, .inl (ca 0, 64, .inl (dv d)))] H → va_D A [(h, .inr (8, [.int (nI 0), .int t1, .ref a2, .ref a3, .ref a4, .ref a5, .ref a6, .ref a7, .ref a8, .int (nI ac), .ref a10, .int (nI tpd), .int (nI cu), .int (nI sta), .int (nI tok), .int val, .int (nI fau), .int fat, .int lat, .ref a19, .ref a20, .ref a21, .ref a22, .int (nI trd)])), (a5, .inl (ca 0, 64, .inl (dv d)))] → va_S A zs.heap H locs → ∀ (ls : Array Slot), lv_has ls 8 [(0, .ref h), (1, .int (nI s)), (2, .int (nI k)), (3, .int (nI (nA (alkB d s) (d 3) t_))), (4, .int (oI (fA (alkB d s) (d 3) t_))), (5, .int (nI (d 3 - t_) - nI 1))] → W zp l ze (rmL 4) zs zm za zb zt zc H locs 0 0 zQ (F0 zm 52 ls []) := by
          intro zn
          induction zn with
          | zero => intro t_ ht_ hmu_52; exact absurd hmu_52 (Nat.not_lt_zero _)
          | succ zn ih_52 =>
            intro t_ ht_ hmu_52 H locs hP hD hS ls hl
            refine lv_iload hx hb dX9_tells_52 (lv_at hl 5 rfl) ?_
            refine lv_if_lt (tgt := 144) hx hb dX9_tells_54 (by decide) (fun c_54 => ?_) (fun c_54 => ?_)
            · rw [sub1_lt0 (by omega)] at c_54
              have hte : t_ = d 3 := (by omega)
              subst hte
              refine lv_iload_n hx hb dX9_tells_144 rfl (lv_at hl 2 rfl) ?_
              refine wn_ifne (tgt := 152) hx hb (by omega) dX9_tells_145 (by decide) (fun c_145 => ?_) (fun c_145 => ?_)
              · refine lv_iload hx hb dX9_tells_152 (lv_at hl 4 rfl) ?_
                exact wr_iret () hx hb hr hlk hQ dX9_tells_154 (wp_to (hP.sub [0, 1] rfl) rfl) (wd_to (hD.sub [0, 1] (by decide) rfl) rfl) hS (Nat.le_refl _) (Nat.le_refl _) (by first | (simp [telI, c_9, c_20, ix_s, c_30, ix_k, c_54, c_145]; done) | grind [telI])
              · refine lv_iload_n hx hb dX9_tells_148 rfl (lv_at hl 3 rfl) ?_
                refine lv_goto (tgt := 154) hx hb dX9_tells_149 (by decide) ?_
                exact wr_iret () hx hb hr hlk hQ dX9_tells_154 (wp_to (hP.sub [0, 1] rfl) rfl) (wd_to (hD.sub [0, 1] (by decide) rfl) rfl) hS (Nat.le_refl _) (Nat.le_refl _) (by first | (simp [telI, c_9, c_20, ix_s, c_30, ix_k, c_54, c_145]; done) | grind [telI])
            · rw [sub1_lt0 (by omega)] at c_54
              have er_1 : nI (d 3 - t_) - nI 1 = nI (d 3 - 1 - t_) := by rw [pk_sub (by omega)]; congr 1; omega
              have hl := lv_to hl (congrArg (fun zx => ([(0, .ref h), (1, .int (nI s)), (2, .int (nI k)), (3, .int (nI (nA (alkB d s) (d 3) t_))), (4, .int (oI (fA (alkB d s) (d 3) t_))), (5, .int zx)] : List (Nat × Value))) er_1)
              have hl : lv_has ls 8 [(0, .ref h), (1, .int (nI s)), (2, .int (nI k)), (3, .int (nI (nA (alkB d s) (d 3) t_))), (4, .int (oI (fA (alkB d s) (d 3) t_))), (5, .int (nI (d 3 - 1 - t_)))] := hl
              refine lv_aload_n hx hb dX9_tells_57 rfl (lv_at hl 0 rfl) ?_
              refine va_get (D := D) (ci := 8) (v := .ref a5) (C := RX9) (T := TX9) (N := 24) hx hb hts in_X9 hown hK hP 0 rfl rfl 5 (by decide) (hts _ q1184) (fun _ h9 => h9) rfl dX9_tells_58 ?_
              refine lv_iconst (v := nI 3) hx hb dX9_tells_61 rfl ?_
              refine wn_iald (v := nI (d 3)) hx hb hK hP 1 0 rfl rfl (by omega) (by decide) rfl dX9_tells_62 ?_
              refine lv_iconst (v := nI 1) hx hb dX9_tells_63 rfl ?_
              refine wn_sub hx hb (by omega) dX9_tells_64 ?_
              refine lv_istore (lv' := [(6, .int (nI ((d 3) - 1))), (0, .ref h), (1, .int (nI s)), (2, .int (nI k)), (3, .int (nI (nA (alkB d s) (d 3) t_))), (4, .int (oI (fA (alkB d s) (d 3) t_))), (5, .int (nI (d 3 - 1 - t_)))]) hx hb dX9_tells_65 hl (by decide) rfl (fun ls hl => ?_)
              have lp_67 : ∀ (zn : Nat) (m_ : Nat), (m_ ≤ t_) →  (t_ - m_) < zn → ∀ (H : Heap) (locs : List Loc), va_P D vwCl [(h, .inr (8, [.int (nI 0), .int t1, .ref a2, .ref a3, .ref a4, .ref a5, .ref a6, .ref a7, .ref a8, .int (nI ac), .ref a10, .int (nI tpd), .int (nI cu), .int (nI sta), .int (nI tok), .int val, .int (nI fau), .int fat, .int lat, .ref a19, .ref a20, .ref a21, .ref a22, .int (nI trd)])), (a5, .inl (ca 0, 64, .inl (dv d)))] H → va_D A [(h, .inr (8, [.int (nI 0), .int t1, .ref a2, .ref a3, .ref a4, .ref a5, .ref a6, .ref a7, .ref a8, .int (nI ac), .ref a10, .int (nI tpd), .int (nI cu), .int (nI sta), .int (nI tok), .int val, .int (nI fau), .int fat, .int lat, .ref a19, .ref a20, .ref a21, .ref a22, .int (nI trd)])), (a5, .inl (ca 0, 64, .inl (dv d)))] → va_S A zs.heap H locs → ∀ (ls : Array Slot), lv_has ls 8 [(0, .ref h), (1, .int (nI s)), (2, .int (nI k)), (3, .int (nI (nA (alkB d s) (d 3) t_ + nB (alkB d s) (d 3) (d 3 - 1 - t_) m_))), (4, .int (oI (fB (alkB d s) (d 3) (d 3 - 1 - t_) (fA (alkB d s) (d 3) t_) m_))), (5, .int (nI (d 3 - 1 - t_))), (6, .int (nI (d 3 - 1 - m_)))] → W zp l ze (rmL 4) zs zm za zb zt zc H locs 0 0 zQ (F0 zm 67 ls []) := by
                intro zn
                induction zn with
                | zero => intro m_ hm_ hmu_67; exact absurd hmu_67 (Nat.not_lt_zero _)
                | succ zn ih_67 =>
                  intro m_ hm_ hmu_67 H locs hP hD hS ls hl
                  have hnb := nB_le (alkB d s) (d 3) (d 3 - 1 - t_) m_
                  refine lv_iload hx hb dX9_tells_67 (lv_at hl 6 rfl) ?_
                  refine lv_iload hx hb dX9_tells_69 (lv_at hl 5 rfl) ?_
                  refine wn_le (tgt := 138) hx hb (by omega) (by omega) dX9_tells_71 (by decide) (fun c_71 => ?_) (fun c_71 => ?_)
                  · have c_71n := Nat.not_lt.mpr c_71
                    refine lv_iinc (v := nI (d 3 - 1 - t_) + (-1)) (lv' := [(5, .int (nI (d 3 - 1 - t_) + (-1))), (0, .ref h), (1, .int (nI s)), (2, .int (nI k)), (3, .int (nI (nA (alkB d s) (d 3) t_ + nB (alkB d s) (d 3) (d 3 - 1 - t_) m_))), (4, .int (oI (fB (alkB d s) (d 3) (d 3 - 1 - t_) (fA (alkB d s) (d 3) t_) m_))), (6, .int (nI (d 3 - 1 - m_)))]) hx hb dX9_tells_138 hl (k := 5) rfl rfl (by decide) rfl (fun ls hl => ?_)
                    refine lv_goto (tgt := 52) hx hb dX9_tells_141 (by decide) ?_
                    have e_2 : nA (alkB d s) (d 3) t_ + nB (alkB d s) (d 3) (d 3 - 1 - t_) m_ = nA (alkB d s) (d 3) (t_ + 1) := by first | with_reducible rfl | (first | (rw [add_m1]; congr 2; omega) | (have hme : m_ = t_ := (by omega); subst hme; rfl))
                    have e_3 : oI (fB (alkB d s) (d 3) (d 3 - 1 - t_) (fA (alkB d s) (d 3) t_) m_) = oI (fA (alkB d s) (d 3) (t_ + 1)) := by first | with_reducible rfl | (first | (rw [add_m1]; congr 2; omega) | (have hme : m_ = t_ := (by omega); subst hme; rfl))
                    have e_4 : nI (d 3 - 1 - t_) + (-1) = nI (d 3 - (t_ + 1)) - nI 1 := by first | with_reducible rfl | (first | (rw [add_m1]; congr 2; omega) | (have hme : m_ = t_ := (by omega); subst hme; rfl))
                    exact ih_52 (t_ + 1) (by omega) (by omega) H locs (wp_to (hP.sub [0, 1] rfl) rfl) (wd_to (hD.sub [0, 1] (by decide) rfl) rfl) hS ls (lv_to (lv_sub hl [1, 2, 3, 4, 5, 0] rfl) (Eq.trans (congrArg (fun x => ([(0, .ref h), (1, .int (nI s)), (2, .int (nI k)), (3, .int (nI x)), (4, .int (oI (fB (alkB d s) (d 3) (d 3 - 1 - t_) (fA (alkB d s) (d 3) t_) m_))), (5, .int (nI (d 3 - 1 - t_) + (-1)))] : List (Nat × Value))) e_2) (Eq.trans (congrArg (fun x => ([(0, .ref h), (1, .int (nI s)), (2, .int (nI k)), (3, .int (nI (nA (alkB d s) (d 3) (t_ + 1)))), (4, .int x), (5, .int (nI (d 3 - 1 - t_) + (-1)))] : List (Nat × Value))) e_3) (congrArg (fun x => ([(0, .ref h), (1, .int (nI s)), (2, .int (nI k)), (3, .int (nI (nA (alkB d s) (d 3) (t_ + 1)))), (4, .int (oI (fA (alkB d s) (d 3) (t_ + 1)))), (5, .int x)] : List (Nat × Value))) e_4))))
                  · have c_71n := Nat.not_le.mpr c_71
                    refine lv_aload_n hx hb dX9_tells_74 rfl (lv_at hl 0 rfl) ?_
                    refine lv_iload hx hb dX9_tells_75 (lv_at hl 5 rfl) ?_
                    refine rd_callV hF (m_X9_clicksOf l D ca h ([.int (nI 0), .int t1, .ref a2, .ref a3, .ref a4, .ref a5, .ref a6, .ref a7, .ref a8, .int (nI ac), .ref a10, .int (nI tpd), .int (nI cu), .int (nI sta), .int (nI tok), .int val, .int (nI fau), .int fat, .int lat, .ref a19, .ref a20, .ref a21, .ref a22, .int (nI trd)]) a5 d (d 3 - 1 - t_) (by first | rfl | assumption) (by assumption) (by first | assumption | omega)) (cs_X9_clicksOf hts q1444 ⟨by decide, by decide⟩) (K1_mv D ca) hK (hP.sub [0, 1] rfl) (va_recv hK hP (ci := 8) (q0 := 0) rfl rfl) rfl hl.1 rfl (Nat.le_of_ble_eq_true rfl) dX9_tells_77 ⟨Nat.zero_le _, Nat.zero_le _⟩ ?_
                    refine lv_aload_n hx hb dX9_tells_80 rfl (lv_at hl 0 rfl) ?_
                    refine lv_iload hx hb dX9_tells_81 (lv_at hl 6 rfl) ?_
                    refine rd_callV hF (m_X9_clicksOf l D ca h ([.int (nI 0), .int t1, .ref a2, .ref a3, .ref a4, .ref a5, .ref a6, .ref a7, .ref a8, .int (nI ac), .ref a10, .int (nI tpd), .int (nI cu), .int (nI sta), .int (nI tok), .int val, .int (nI fau), .int fat, .int lat, .ref a19, .ref a20, .ref a21, .ref a22, .int (nI trd)]) a5 d (d 3 - 1 - m_) (by first | rfl | assumption) (by assumption) (by first | assumption | omega)) (cs_X9_clicksOf hts q1444 ⟨by decide, by decide⟩) (K1_mv D ca) hK (hP.sub [0, 1] rfl) (va_recv hK hP (ci := 8) (q0 := 0) rfl rfl) rfl hl.1 rfl (Nat.le_of_ble_eq_true rfl) dX9_tells_83 ⟨Nat.zero_le _, Nat.zero_le _⟩ ?_
                    refine wn_xor hx hb dX9_tells_86 ?_
                    refine lv_iload_n hx hb dX9_tells_87 rfl (lv_at hl 1 rfl) ?_
                    refine wn_and hx hb dX9_tells_88 ?_
                    refine wn_ifne (tgt := 96) hx hb (by exact Nat.lt_of_le_of_lt Nat.and_le_right (by omega)) dX9_tells_89 (by decide) (fun c_89 => ?_) (fun c_89 => ?_)
                    · refine lv_iconst (v := nI 0) hx hb dX9_tells_96 rfl ?_
                      refine lv_istore (lv' := [(7, .int (nI 0)), (0, .ref h), (1, .int (nI s)), (2, .int (nI k)), (3, .int (nI (nA (alkB d s) (d 3) t_ + nB (alkB d s) (d 3) (d 3 - 1 - t_) m_))), (4, .int (oI (fB (alkB d s) (d 3) (d 3 - 1 - t_) (fA (alkB d s) (d 3) t_) m_))), (5, .int (nI (d 3 - 1 - t_))), (6, .int (nI (d 3 - 1 - m_)))]) hx hb dX9_tells_97 hl (by decide) rfl (fun ls hl => ?_)
                      refine lv_iload_n hx hb dX9_tells_99 rfl (lv_at hl 4 rfl) ?_
                      refine lv_iload hx hb dX9_tells_100 (lv_at hl 0 rfl) ?_
                      refine wn_ifeq (tgt := 109) hx hb (by omega) dX9_tells_102 (by decide) (fun c_102 => ?_) (fun zh => by first | exact absurd zh (by decide) | exact absurd rfl zh | omega)
                      refine lv_iconst (v := nI 1) hx hb dX9_tells_109 rfl ?_
                      refine wn_add hx hb dX9_tells_110 ?_
                      refine lv_istore_n (lv' := [(3, .int (nI ((nA (alkB d s) (d 3) t_ + nB (alkB d s) (d 3) (d 3 - 1 - t_) m_) + 1))), (7, .int (nI 0)), (0, .ref h), (1, .int (nI s)), (2, .int (nI k)), (4, .int (oI (fB (alkB d s) (d 3) (d 3 - 1 - t_) (fA (alkB d s) (d 3) t_) m_))), (5, .int (nI (d 3 - 1 - t_))), (6, .int (nI (d 3 - 1 - m_)))]) hx hb dX9_tells_111 rfl hl (by decide) rfl (fun ls hl => ?_)
                      refine lv_iload hx hb dX9_tells_112 (lv_at hl 1 rfl) ?_
                      refine wn_ifeq (tgt := 128) hx hb (by omega) dX9_tells_114 (by decide) (fun c_114 => ?_) (fun zh => by first | exact absurd zh (by decide) | exact absurd rfl zh | omega)
                      refine lv_iload hx hb dX9_tells_128 (lv_at hl 5 rfl) ?_
                      refine lv_istore (lv' := [(4, .int (oI (fB (alkB d s) (d 3) (d 3 - 1 - t_) (fA (alkB d s) (d 3) t_) m_))), (3, .int (nI ((nA (alkB d s) (d 3) t_ + nB (alkB d s) (d 3) (d 3 - 1 - t_) m_) + 1))), (7, .int (nI 0)), (0, .ref h), (1, .int (nI s)), (2, .int (nI k)), (5, .int (nI (d 3 - 1 - t_))), (6, .int (nI (d 3 - 1 - m_)))]) hx hb dX9_tells_130 hl (by decide) rfl (fun ls hl => ?_)
                      refine lv_iinc (v := nI (d 3 - 1 - (m_ + 1))) (lv' := [(6, .int (nI (d 3 - 1 - (m_ + 1)))), (4, .int (oI (fB (alkB d s) (d 3) (d 3 - 1 - t_) (fA (alkB d s) (d 3) t_) m_))), (3, .int (nI ((nA (alkB d s) (d 3) t_ + nB (alkB d s) (d 3) (d 3 - 1 - t_) m_) + 1))), (7, .int (nI 0)), (0, .ref h), (1, .int (nI s)), (2, .int (nI k)), (5, .int (nI (d 3 - 1 - t_)))]) hx hb dX9_tells_132 hl (k := 7) rfl (by show nI _ + (-1) = _; rw [sb_m1 (by omega)]; congr 1) (by decide) rfl (fun ls hl => ?_)
                      refine lv_goto (tgt := 67) hx hb dX9_tells_135 (by decide) ?_
                      have e_5 : (nA (alkB d s) (d 3) t_ + nB (alkB d s) (d 3) (d 3 - 1 - t_) m_) + 1 = nA (alkB d s) (d 3) t_ + nB (alkB d s) (d 3) (d 3 - 1 - t_) (m_ + 1) := by first | rfl | (first | (have hal : alkB d s (d 3 - 1 - t_) (d 3 - 1 - m_) = true := decide_eq_true (by assumption); simp [nB, fB, hal, oI]; done) | (have hal : alkB d s (d 3 - 1 - t_) (d 3 - 1 - m_) = false := decide_eq_false (by assumption); simp [nB, fB, hal, oI]; done) | (have hal : alkB d s (d 3 - 1 - t_) (d 3 - 1 - m_) = false := decide_eq_false (by assumption); simp [nB, fB, hal, oI]; omega))
                      have e_6 : oI (fB (alkB d s) (d 3) (d 3 - 1 - t_) (fA (alkB d s) (d 3) t_) m_) = oI (fB (alkB d s) (d 3) (d 3 - 1 - t_) (fA (alkB d s) (d 3) t_) (m_ + 1)) := by first | rfl | (first | (have hal : alkB d s (d 3 - 1 - t_) (d 3 - 1 - m_) = true := decide_eq_true (by assumption); simp [nB, fB, hal, oI]; done) | (have hal : alkB d s (d 3 - 1 - t_) (d 3 - 1 - m_) = false := decide_eq_false (by assumption); simp [nB, fB, hal, oI]; done) | (have hal : alkB d s (d 3 - 1 - t_) (d 3 - 1 - m_) = false := decide_eq_false (by assumption); simp [nB, fB, hal, oI]; omega))
                      exact ih_67 (m_ + 1) (by omega) (by omega) H locs (wp_to (hP.sub [0, 1] rfl) rfl) (wd_to (hD.sub [0, 1] (by decide) rfl) rfl) hS ls (lv_to (lv_sub hl [4, 5, 6, 2, 1, 7, 0] rfl) (Eq.trans (congrArg (fun x => ([(0, .ref h), (1, .int (nI s)), (2, .int (nI k)), (3, .int (nI x)), (4, .int (oI (fB (alkB d s) (d 3) (d 3 - 1 - t_) (fA (alkB d s) (d 3) t_) m_))), (5, .int (nI (d 3 - 1 - t_))), (6, .int (nI (d 3 - 1 - (m_ + 1))))] : List (Nat × Value))) e_5) (congrArg (fun x => ([(0, .ref h), (1, .int (nI s)), (2, .int (nI k)), (3, .int (nI (nA (alkB d s) (d 3) t_ + nB (alkB d s) (d 3) (d 3 - 1 - t_) (m_ + 1)))), (4, .int x), (5, .int (nI (d 3 - 1 - t_))), (6, .int (nI (d 3 - 1 - (m_ + 1))))] : List (Nat × Value))) e_6)))
                    · refine lv_iconst (v := nI 1) hx hb dX9_tells_92 rfl ?_
                      refine lv_goto (tgt := 97) hx hb dX9_tells_93 (by decide) ?_
                      refine lv_istore (lv' := [(7, .int (nI 1)), (0, .ref h), (1, .int (nI s)), (2, .int (nI k)), (3, .int (nI (nA (alkB d s) (d 3) t_ + nB (alkB d s) (d 3) (d 3 - 1 - t_) m_))), (4, .int (oI (fB (alkB d s) (d 3) (d 3 - 1 - t_) (fA (alkB d s) (d 3) t_) m_))), (5, .int (nI (d 3 - 1 - t_))), (6, .int (nI (d 3 - 1 - m_)))]) hx hb dX9_tells_97 hl (by decide) rfl (fun ls hl => ?_)
                      refine lv_iload_n hx hb dX9_tells_99 rfl (lv_at hl 4 rfl) ?_
                      refine lv_iload hx hb dX9_tells_100 (lv_at hl 0 rfl) ?_
                      refine wn_ifeq (tgt := 109) hx hb (by omega) dX9_tells_102 (by decide) (fun zh => by first | exact absurd zh (by decide) | exact absurd rfl zh | omega) (fun c_102 => ?_)
                      refine lv_iconst (v := nI 0) hx hb dX9_tells_105 rfl ?_
                      refine lv_goto (tgt := 110) hx hb dX9_tells_106 (by decide) ?_
                      refine wn_add hx hb dX9_tells_110 ?_
                      refine lv_istore_n (lv' := [(3, .int (nI ((nA (alkB d s) (d 3) t_ + nB (alkB d s) (d 3) (d 3 - 1 - t_) m_) + 0))), (7, .int (nI 1)), (0, .ref h), (1, .int (nI s)), (2, .int (nI k)), (4, .int (oI (fB (alkB d s) (d 3) (d 3 - 1 - t_) (fA (alkB d s) (d 3) t_) m_))), (5, .int (nI (d 3 - 1 - t_))), (6, .int (nI (d 3 - 1 - m_)))]) hx hb dX9_tells_111 rfl hl (by decide) rfl (fun ls hl => ?_)
                      refine lv_iload hx hb dX9_tells_112 (lv_at hl 1 rfl) ?_
                      refine wn_ifeq (tgt := 128) hx hb (by omega) dX9_tells_114 (by decide) (fun zh => by first | exact absurd zh (by decide) | exact absurd rfl zh | omega) (fun c_114 => ?_)
                      refine lv_bipush (v := nI 10) hx hb dX9_tells_117 rfl ?_
                      refine lv_iload hx hb dX9_tells_119 (lv_at hl 6 rfl) ?_
                      refine wn_mul hx hb dX9_tells_121 ?_
                      refine lv_iload hx hb dX9_tells_122 (lv_at hl 7 rfl) ?_
                      refine wn_add hx hb dX9_tells_124 ?_
                      refine lv_goto (tgt := 130) hx hb dX9_tells_125 (by decide) ?_
                      refine lv_istore (lv' := [(4, .int (nI ((10 * (d 3 - 1 - t_)) + (d 3 - 1 - m_)))), (3, .int (nI ((nA (alkB d s) (d 3) t_ + nB (alkB d s) (d 3) (d 3 - 1 - t_) m_) + 0))), (7, .int (nI 1)), (0, .ref h), (1, .int (nI s)), (2, .int (nI k)), (5, .int (nI (d 3 - 1 - t_))), (6, .int (nI (d 3 - 1 - m_)))]) hx hb dX9_tells_130 hl (by decide) rfl (fun ls hl => ?_)
                      refine lv_iinc (v := nI (d 3 - 1 - (m_ + 1))) (lv' := [(6, .int (nI (d 3 - 1 - (m_ + 1)))), (4, .int (nI ((10 * (d 3 - 1 - t_)) + (d 3 - 1 - m_)))), (3, .int (nI ((nA (alkB d s) (d 3) t_ + nB (alkB d s) (d 3) (d 3 - 1 - t_) m_) + 0))), (7, .int (nI 1)), (0, .ref h), (1, .int (nI s)), (2, .int (nI k)), (5, .int (nI (d 3 - 1 - t_)))]) hx hb dX9_tells_132 hl (k := 7) rfl (by show nI _ + (-1) = _; rw [sb_m1 (by omega)]; congr 1) (by decide) rfl (fun ls hl => ?_)
                      refine lv_goto (tgt := 67) hx hb dX9_tells_135 (by decide) ?_
                      have e_7 : (nA (alkB d s) (d 3) t_ + nB (alkB d s) (d 3) (d 3 - 1 - t_) m_) + 0 = nA (alkB d s) (d 3) t_ + nB (alkB d s) (d 3) (d 3 - 1 - t_) (m_ + 1) := by first | rfl | (first | (have hal : alkB d s (d 3 - 1 - t_) (d 3 - 1 - m_) = true := decide_eq_true (by assumption); simp [nB, fB, hal, oI]; done) | (have hal : alkB d s (d 3 - 1 - t_) (d 3 - 1 - m_) = false := decide_eq_false (by assumption); simp [nB, fB, hal, oI]; done) | (have hal : alkB d s (d 3 - 1 - t_) (d 3 - 1 - m_) = false := decide_eq_false (by assumption); simp [nB, fB, hal, oI]; omega))
                      have e_8 : nI ((10 * (d 3 - 1 - t_)) + (d 3 - 1 - m_)) = oI (fB (alkB d s) (d 3) (d 3 - 1 - t_) (fA (alkB d s) (d 3) t_) (m_ + 1)) := by first | rfl | (first | (have hal : alkB d s (d 3 - 1 - t_) (d 3 - 1 - m_) = true := decide_eq_true (by assumption); simp [nB, fB, hal, oI]; done) | (have hal : alkB d s (d 3 - 1 - t_) (d 3 - 1 - m_) = false := decide_eq_false (by assumption); simp [nB, fB, hal, oI]; done) | (have hal : alkB d s (d 3 - 1 - t_) (d 3 - 1 - m_) = false := decide_eq_false (by assumption); simp [nB, fB, hal, oI]; omega))
                      exact ih_67 (m_ + 1) (by omega) (by omega) H locs (wp_to (hP.sub [0, 1] rfl) rfl) (wd_to (hD.sub [0, 1] (by decide) rfl) rfl) hS ls (lv_to (lv_sub hl [4, 5, 6, 2, 1, 7, 0] rfl) (Eq.trans (congrArg (fun x => ([(0, .ref h), (1, .int (nI s)), (2, .int (nI k)), (3, .int (nI x)), (4, .int (nI ((10 * (d 3 - 1 - t_)) + (d 3 - 1 - m_)))), (5, .int (nI (d 3 - 1 - t_))), (6, .int (nI (d 3 - 1 - (m_ + 1))))] : List (Nat × Value))) e_7) (congrArg (fun x => ([(0, .ref h), (1, .int (nI s)), (2, .int (nI k)), (3, .int (nI (nA (alkB d s) (d 3) t_ + nB (alkB d s) (d 3) (d 3 - 1 - t_) (m_ + 1)))), (4, .int x), (5, .int (nI (d 3 - 1 - t_))), (6, .int (nI (d 3 - 1 - (m_ + 1))))] : List (Nat × Value))) e_8)))
              have e_9 : nA (alkB d s) (d 3) t_ = nA (alkB d s) (d 3) t_ + nB (alkB d s) (d 3) (d 3 - 1 - t_) 0 := by first | rfl | (rfl)
              have e_10 : oI (fA (alkB d s) (d 3) t_) = oI (fB (alkB d s) (d 3) (d 3 - 1 - t_) (fA (alkB d s) (d 3) t_) 0) := by first | rfl | (rfl)
              have e_11 : (d 3) - 1 = d 3 - 1 - 0 := by first | rfl | (rfl)
              exact lp_67 ((t_ - 0) + 1) 0 (by omega) (by omega) H locs (wp_to (hP.sub [0, 1] rfl) rfl) (wd_to (hD.sub [0, 1] (by decide) rfl) rfl) hS ls (lv_to (lv_sub hl [1, 2, 3, 4, 5, 6, 0] rfl) (Eq.trans (congrArg (fun x => ([(0, .ref h), (1, .int (nI s)), (2, .int (nI k)), (3, .int (nI x)), (4, .int (oI (fA (alkB d s) (d 3) t_))), (5, .int (nI (d 3 - 1 - t_))), (6, .int (nI ((d 3) - 1)))] : List (Nat × Value))) e_9) (Eq.trans (congrArg (fun x => ([(0, .ref h), (1, .int (nI s)), (2, .int (nI k)), (3, .int (nI (nA (alkB d s) (d 3) t_ + nB (alkB d s) (d 3) (d 3 - 1 - t_) 0))), (4, .int x), (5, .int (nI (d 3 - 1 - t_))), (6, .int (nI ((d 3) - 1)))] : List (Nat × Value))) e_10) (congrArg (fun x => ([(0, .ref h), (1, .int (nI s)), (2, .int (nI k)), (3, .int (nI (nA (alkB d s) (d 3) t_ + nB (alkB d s) (d 3) (d 3 - 1 - t_) 0))), (4, .int (oI (fB (alkB d s) (d 3) (d 3 - 1 - t_) (fA (alkB d s) (d 3) t_) 0))), (5, .int (nI (d 3 - 1 - t_))), (6, .int (nI x))] : List (Nat × Value))) e_11))))
        have e_12 : 0 = nA (alkB d s) (d 3) 0 := by first | with_reducible rfl | (rfl)
        have e_13 : (-1000000) = oI (fA (alkB d s) (d 3) 0) := by first | with_reducible rfl | (rfl)
        have e_14 : (nI (d 3)) - (nI 1) = nI (d 3 - 0) - nI 1 := by first | with_reducible rfl | (rfl)
        exact lp_52 ((d 3 - 0) + 1) 0 (by omega) (by omega) H locs (wp_to (hP.sub [0, 1] rfl) rfl) (wd_to (hD.sub [0, 1] (by decide) rfl) rfl) hS ls (lv_to (lv_sub hl [3, 4, 5, 2, 1, 0] rfl) (Eq.trans (congrArg (fun x => ([(0, .ref h), (1, .int (nI s)), (2, .int (nI k)), (3, .int (nI x)), (4, .int ((-1000000))), (5, .int ((nI (d 3)) - (nI 1)))] : List (Nat × Value))) e_12) (Eq.trans (congrArg (fun x => ([(0, .ref h), (1, .int (nI s)), (2, .int (nI k)), (3, .int (nI (nA (alkB d s) (d 3) 0))), (4, .int x), (5, .int ((nI (d 3)) - (nI 1)))] : List (Nat × Value))) e_13) (congrArg (fun x => ([(0, .ref h), (1, .int (nI s)), (2, .int (nI k)), (3, .int (nI (nA (alkB d s) (d 3) 0))), (4, .int (oI (fA (alkB d s) (d 3) 0))), (5, .int x)] : List (Nat × Value))) e_14))))
      · rw [inB_c (n := 2) (by decide)] at c_30
        have ix_w : ixO w 2 = none := ixO_f c_30
        refine lv_ldc (v := (-1000001)) hx hb hown (hts _ q1266) dX9_tells_33 ?_
        exact wr_iret () hx hb hr hlk hQ dX9_tells_35 (wp_to (hP.sub [0, 1] rfl) rfl) (wd_to (hD.sub [0, 1] (by decide) rfl) rfl) hS (Nat.le_refl _) (Nat.le_refl _) (by first | (simp [telI, c_9, c_20, ix_s, c_30, ix_w]; done) | grind [telI])
  · refine lv_ldc (v := (-1000002)) hx hb hown (hts _ q1408) dX9_tells_12 ?_
    exact wr_iret () hx hb hr hlk hQ dX9_tells_14 (wp_to (hP.sub [0, 1] rfl) rfl) (wd_to (hD.sub [0, 1] (by decide) rfl) rfl) hS (Nat.le_refl _) (Nat.le_refl _) (by first | (simp [telI, c_9]; done) | grind [telI])
