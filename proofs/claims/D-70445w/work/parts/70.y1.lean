set_option maxRecDepth 100000
set_option maxHeartbeats 4000000 in
theorem m_X0_common (l : Launch) (D : va_G) (ca : Nat → ClassId) (a : Nat) (b : Nat) (ha : a < 9223372036854775808) (hb_ : b < 9223372036854775808) : Met l yX0_common (ws_ yX0_common cX0_common 10 (some .long)) (rmL 0) (PcR (K1 D ca) D [.long (lN a), .long (lN b)] []) (vp_Sl (fun zr => zr = lN (Nat.gcd a b))) 0 0 (fun _ => False) := by
  refine rd_head (by decide) (Nat.le_of_ble_eq_true rfl) ?_
  intro zp ze zs zm za zb zt zc ls zQ hx hb hml hr hlk hown hts hK hP hl hQ
  have hown : zs.vm.findClass RX0 = some zm.cls := hown
  have hl : lv_has ls 10 [(0, .long (lN a)), (2, .long (lN b))] := hl
  have hF : CallFix zp zm zc cX0_common 10 zs za lw_all RX0 := ⟨hx, hb, hml, hown, hts⟩
  refine lv_lload_n hx hb dX0_common_0 rfl (lv_at hl 0 rfl) ?_
  refine lv_lstore (lv' := [(4, .long (lN a)), (0, .long (lN a)), (2, .long (lN b))]) hx hb dX0_common_1 hl (by decide) rfl (fun ls hl => ?_)
  refine lv_lload_n hx hb dX0_common_3 rfl (lv_at hl 2 rfl) ?_
  refine lv_lstore (lv' := [(6, .long (lN b)), (4, .long (lN a)), (0, .long (lN a)), (2, .long (lN b))]) hx hb dX0_common_4 hl (by decide) rfl (fun ls hl => ?_)
  have lp_6 : ∀ (zn : Nat) (X_ : Nat) (Y_ : Nat), (X_ < 9223372036854775808) → (Y_ < 9223372036854775808) → (Nat.gcd X_ Y_ = Nat.gcd a b) →  Y_ < zn → ∀ (ls : Array Slot), lv_has ls 10 [(4, .long (lN X_)), (6, .long (lN Y_))] → W zp l ze (rmL 0) zs zm za zb zt zc zs.heap [] 0 0 zQ (F0 zm 6 ls []) := by
    intro zn
    induction zn with
    | zero => intro X_ Y_ hX_ hY_ hG hmu_6; exact absurd hmu_6 (Nat.not_lt_zero _)
    | succ zn ih_6 =>
      intro X_ Y_ hX_ hY_ hG hmu_6 ls hl
      refine lv_lload hx hb dX0_common_6 (lv_at hl 1 rfl) ?_
      refine lv_lconst (v := lN 0) hx hb dX0_common_8 rfl ?_
      refine W.lcmp hx hb dX0_common_9 ?_
      refine wl_eq (tgt := 31) hx hb dX0_common_10 (by decide) (fun c_10 => ?_) (fun c_10 => ?_)
      · rw [pk_lEQ (by omega) (by decide)] at c_10
        refine lv_lload hx hb dX0_common_31 (lv_at hl 0 rfl) ?_
        exact rd_lret hx hb hr hlk hQ dX0_common_33 (by refine congrArg lN ?_; rw [← hG, c_10, Nat.gcd_zero_right])
      · rw [pk_lEQ (by omega) (by decide)] at c_10
        have c10 : 0 < Y_ := by omega
        have hml_ := Nat.mod_lt X_ c10
        refine lv_lload hx hb dX0_common_13 (lv_at hl 0 rfl) ?_
        refine lv_lload hx hb dX0_common_15 (lv_at hl 1 rfl) ?_
        refine wm_rem hx hb (by omega) (by omega) (by omega) dX0_common_17 ?_
        refine lv_lstore (lv' := [(8, .long (lN (X_ % Y_))), (4, .long (lN X_)), (6, .long (lN Y_))]) hx hb dX0_common_18 hl (by decide) rfl (fun ls hl => ?_)
        refine lv_lload hx hb dX0_common_20 (lv_at hl 2 rfl) ?_
        refine lv_lstore (lv' := [(4, .long (lN Y_)), (8, .long (lN (X_ % Y_))), (6, .long (lN Y_))]) hx hb dX0_common_22 hl (by decide) rfl (fun ls hl => ?_)
        refine lv_lload hx hb dX0_common_24 (lv_at hl 1 rfl) ?_
        refine lv_lstore (lv' := [(6, .long (lN (X_ % Y_))), (4, .long (lN Y_)), (8, .long (lN (X_ % Y_)))]) hx hb dX0_common_26 hl (by decide) rfl (fun ls hl => ?_)
        refine lv_goto (tgt := 6) hx hb dX0_common_28 (by decide) ?_
        have e_1 : X_ % Y_ = (X_ % Y_) := by first | rfl | (rfl)
        exact ih_6 Y_ (X_ % Y_) (by omega) (by omega) (by first | rfl | (rw [gcd_st c10]; assumption)) (by omega) ls (lv_to (lv_sub hl [1, 0] rfl) (congrArg (fun x => ([(4, .long (lN Y_)), (6, .long (lN x))] : List (Nat × Value))) e_1))
  exact lp_6 (b + 1) a b (by omega) (by omega) (by first | rfl | (rw [gcd_st c10]; assumption)) (by omega) ls (lv_to (lv_sub hl [1, 0] rfl) rfl)
theorem cs_X0_common {R : Room} {s : State} {args : Array Value} {own : String} {index : Nat} (hts : ∀ w ∈ lw_all, w.before args s = true) (hl : Cond.methodLink own index yX0_common ∈ lw_all) {rm : Room} {mc ms : Nat} (hR : rm.frames + 1 ≤ R.frames ∧ 8 + (10 + 11) + rm.locals ≤ R.locals) (hc : rm.cells = mc := by rfl) (hs : rm.slots = ms := by rfl) : CallB R s args own index yX0_common cX0_common 10 (some .long) (ws_ yX0_common cX0_common 10 (some .long)) rm mc ms 2 ∧ (Cond.static yX0_common).before args s = true := va_cwS 2 hts (lw_S hl q1015 q58 q1016) rfl hc hs (by decide +kernel) hR
set_option maxHeartbeats 4000000 in
theorem m_X0_slip (l : Launch) (D : va_G) (ca : Nat → ClassId) (h : Nat) (a0 : Nat) (a1 : Nat) (tg : Nat) (a6 : Nat) (a8 : Nat) (tr : Nat) (a11 : Nat) (tpd : Nat) (ac : Nat) (lat : Int32) (t1 : Int32) (g : Nat) (lsq : Nat) (b3 : Nat) (b4 : Nat) (b5 : Nat) (b6 : Nat) (b8 : Nat) (b9 : Nat) (b10 : Nat) (b11 : Nat) (d : Nat → Nat) (fz : va_W) (x : Int32) (y : Int32) (z : Int32) (w : Int32) (hd : dOK d) (hsq : SqL ca fz lsq d) : Met l yX0_slip (ws_ yX0_slip cX0_slip 14 (some .long)) (rmL 7) (PcR (KK D ca) D [.ref h, .int x, .int y, .int z, .int w] (([(h, .inr (0, [.ref a0, .ref a1, .int (nI tpd), .int lat, .ref g, .ref tg, .ref a6, .int (nI ac), .ref a8, .ref tr, .int t1, .ref a11])), (g, .inr (1, [.int (nI (d 0)), .int (nI (d 1)), .ref lsq, .ref b3, .ref b4, .ref b5, .ref b6, .int (nI (d 3)), .ref b8, .ref b9, .ref b10, .ref b11])), (b3, .inl (ca 0, 8, .inl (dv (shF d)))), (b6, .inl (ca 0, 8, .inl (seF d))), (b8, .inl (ca 0, 5, .inl (dv (caF d)))), (b9, .inl (ca 0, 5, .inl (dv (eaF d))))] : va_W) ++ fz)) (vp_Sl (fun zr => zr = slpI d x y z w)) 0 0 (fun _ => False) := by
  refine rd_head (by decide) (Nat.le_of_ble_eq_true rfl) ?_
  intro zp ze zs zm za zb zt zc ls zQ hx hb hml hr hlk hown hts hK hP hl hQ
  have hown : zs.vm.findClass RX0 = some zm.cls := hown
  have hl : lv_has ls 14 [(0, .ref h), (1, .int x), (2, .int y), (3, .int z), (4, .int w)] := hl
  have hF : CallFix zp zm zc cX0_slip 14 zs za lw_all RX0 := ⟨hx, hb, hml, hown, hts⟩
  have hKK := hK
  have hK : K1 D ca zs := hKK.1
  have hd2 : d 2 ≤ 8 := hd.2.2.1
  have hd3 : d 3 ≤ 5 := hd.2.2.2.1
  have hd0 : d 0 ≤ 9 := hd.1
  have hd1 : d 1 ≤ 8 := hd.2.1
  have hp2 := pow_8 hd2
  have hp3 := pow_8 (show d 3 ≤ 8 by omega)
  refine lv_aload_n hx hb dX0_slip_0 rfl (lv_at hl 0 rfl) ?_
  refine lv_iload_n hx hb dX0_slip_1 rfl (lv_at hl 1 rfl) ?_
  refine rd_callV hF (m_X0_isVisitor l D ca h a0 a1 tg a6 a8 tr a11 tpd ac lat t1 g lsq b3 b4 b5 b6 b8 b9 b10 b11 d fz x (by assumption) (by assumption)) (cs_X0_isVisitor hts q729 ⟨by decide, by decide⟩) (KK_mv D ca) hKK (wp_tail hP [0, 1] rfl) (va_recv hK hP (ci := 0) (q0 := 0) rfl rfl) rfl hl.1 rfl (Nat.le_of_ble_eq_true rfl) dX0_slip_2 ⟨Nat.zero_le _, Nat.zero_le _⟩ ?_
  refine wb_eq (tgt := 36) hx hb dX0_slip_5 (by decide) (fun c_5 => ?_) (fun c_5 => ?_)
  · have ix_x : ixO x (d 3) = none := ixO_f c_5
    refine lv_ldc2 (v := -1000001) hx hb hown (hts _ q1012) dX0_slip_36 ?_
    exact rd_lret hx hb hr hlk hQ dX0_slip_39 (by first | (simp [slpI, c_5, ix_x]; done) | (rw [hST]; unfold slpI; rw [ix_v, ix_s, ix_p, ix_k]; dsimp only; first | rw [if_pos c_230] | rw [if_neg c_230]))
  · obtain ⟨v, hv, hxv⟩ := (ltB_iff (by omega)).mp c_5
    subst hxv
    have ix_v : ixO (nI v) (d 3) = some v := ixO_t hv (by omega)
    have hv_v := hd.2.2.2.2.2.1 v (by omega)
    refine lv_aload_n hx hb dX0_slip_8 rfl (lv_at hl 0 rfl) ?_
    refine lv_iload_n hx hb dX0_slip_9 rfl (lv_at hl 2 rfl) ?_
    refine rd_callV hF (m_X0_areSquares l D ca h a0 a1 tg a6 a8 tr a11 tpd ac lat t1 g lsq b3 b4 b5 b6 b8 b9 b10 b11 d fz y (by assumption) (by assumption)) (cs_X0_areSquares hts q733 ⟨by decide, by decide⟩) (KK_mv D ca) hKK (wp_tail hP [0, 1] rfl) (va_recv hK hP (ci := 0) (q0 := 0) rfl rfl) rfl hl.1 rfl (Nat.le_of_ble_eq_true rfl) dX0_slip_10 ⟨Nat.zero_le _, Nat.zero_le _⟩ ?_
    refine wb_eq (tgt := 36) hx hb dX0_slip_13 (by decide) (fun c_13 => ?_) (fun c_13 => ?_)
    · have ix_y : ixO y (2 ^ d 2) = none := ixO_f c_13
      refine lv_ldc2 (v := -1000001) hx hb hown (hts _ q1012) dX0_slip_36 ?_
      exact rd_lret hx hb hr hlk hQ dX0_slip_39 (by first | (simp [slpI, c_5, ix_v, c_13, ix_y]; done) | (rw [hST]; unfold slpI; rw [ix_v, ix_s, ix_p, ix_k]; dsimp only; first | rw [if_pos c_230] | rw [if_neg c_230]))
    · obtain ⟨s, hs, hxs⟩ := (ltB_iff (by omega)).mp c_13
      subst hxs
      have ix_s : ixO (nI s) (2 ^ d 2) = some s := ixO_t hs (by omega)
      refine lv_iload_n hx hb dX0_slip_16 rfl (lv_at hl 3 rfl) ?_
      refine lv_i2l hx hb dX0_slip_17 rfl ?_
      refine lv_lconst (v := 0) hx hb dX0_slip_18 rfl ?_
      refine lv_ldc2 (v := 10) hx hb hown (hts _ q1011) dX0_slip_19 ?_
      refine rd_callS hF (m_X0_isIn l D ca z.toInt64 0 10 ) (cs_X0_isIn hts q302 ⟨by decide, by decide⟩) (K1_mv D ca) hK (hP.sub [] rfl) rfl hl.1 rfl (Nat.le_of_ble_eq_true rfl) dX0_slip_22 ⟨Nat.zero_le _, Nat.zero_le _⟩ ?_
      refine wb_eq (tgt := 36) hx hb dX0_slip_25 (by decide) (fun c_25 => ?_) (fun c_25 => ?_)
      · rw [inB_c (n := 11) (by decide)] at c_25
        have ix_z : ixO z 11 = none := ixO_f c_25
        refine lv_ldc2 (v := -1000001) hx hb hown (hts _ q1012) dX0_slip_36 ?_
        exact rd_lret hx hb hr hlk hQ dX0_slip_39 (by first | (simp [slpI, c_5, ix_v, c_13, ix_s, c_25, ix_z]; done) | (rw [hST]; unfold slpI; rw [ix_v, ix_s, ix_p, ix_k]; dsimp only; first | rw [if_pos c_230] | rw [if_neg c_230]))
      · rw [inB_c (n := 11) (by decide)] at c_25
        obtain ⟨p, hp, hxp⟩ := (ltB_iff (by omega)).mp c_25
        subst hxp
        have ix_p : ixO (nI p) 11 = some p := ixO_t hp (by omega)
        refine lv_iload hx hb dX0_slip_28 (lv_at hl 4 rfl) ?_
        refine rd_callS hF (m_X0_isHalf l D ca w ) (cs_X0_isHalf hts q906 ⟨by decide, by decide⟩) (K1_mv D ca) hK (hP.sub [] rfl) rfl hl.1 rfl (Nat.le_of_ble_eq_true rfl) dX0_slip_30 ⟨Nat.zero_le _, Nat.zero_le _⟩ ?_
        refine wb_ne (tgt := 40) hx hb dX0_slip_33 (by decide) (fun c_33 => ?_) (fun c_33 => ?_)
        · obtain ⟨k, hk, hxk⟩ := (ltB_iff (by omega)).mp c_33
          subst hxk
          have ix_k : ixO (nI k) 2 = some k := ixO_t hk (by omega)
          refine lv_iload_n hx hb dX0_slip_40 rfl (lv_at hl 2 rfl) ?_
          refine lv_aload_n hx hb dX0_slip_41 rfl (lv_at hl 0 rfl) ?_
          refine va_get (D := D) (ci := 0) (v := .ref g) (C := RX0) (T := TX0) (N := 12) hx hb hts in_X0 hown hK hP 0 rfl rfl 4 (by decide) (hts _ q260) (fun _ h9 => h9) rfl dX0_slip_42 ?_
          refine rd_callV hF (m_X1_counting l D ca g lsq b3 b4 b5 b6 b8 b9 b10 b11 d fz (by assumption) (by assumption)) (cs_X1_counting hts q1013 ⟨by decide, by decide⟩) (KK_mv D ca) hKK (wp_tail hP [1, 3] rfl) (va_recv hK hP (ci := 1) (q0 := 1) rfl rfl) rfl hl.1 rfl (Nat.le_of_ble_eq_true rfl) dX0_slip_45 ⟨Nat.zero_le _, Nat.zero_le _⟩ ?_
          refine wn_and hx hb dX0_slip_48 ?_
          refine lv_istore (lv' := [(5, .int (nI (s &&& (setN (cntD d) (d 2))))), (0, .ref h), (1, .int (nI v)), (2, .int (nI s)), (3, .int (nI p)), (4, .int (nI k))]) hx hb dX0_slip_49 hl (by decide) rfl (fun ls hl => ?_)
          have er_1 : nI (s &&& (setN (cntD d) (d 2))) = nI (soN d s) := by rfl
          have hl := lv_to hl (congrArg (fun zx => ([(5, .int zx), (0, .ref h), (1, .int (nI v)), (2, .int (nI s)), (3, .int (nI p)), (4, .int (nI k))] : List (Nat × Value))) er_1)
          have hl : lv_has ls 14 [(5, .int (nI (soN d s))), (0, .ref h), (1, .int (nI v)), (2, .int (nI s)), (3, .int (nI p)), (4, .int (nI k))] := hl
          have hso : soN d s < 256 := Nat.lt_of_lt_of_le (so_lt d s hd2) (by omega)
          have hcl : clkN d v (d 2) < 256 := clkN_lt hd2
          refine lv_lconst (v := lN 0) hx hb dX0_slip_51 rfl ?_
          refine lv_lstore (lv' := [(6, .long (lN 0)), (5, .int (nI (soN d s))), (0, .ref h), (1, .int (nI v)), (2, .int (nI s)), (3, .int (nI p)), (4, .int (nI k))]) hx hb dX0_slip_52 hl (by decide) rfl (fun ls hl => ?_)
          refine lv_lconst (v := lN 1) hx hb dX0_slip_54 rfl ?_
          refine lv_lstore (lv' := [(8, .long (lN 1)), (6, .long (lN 0)), (5, .int (nI (soN d s))), (0, .ref h), (1, .int (nI v)), (2, .int (nI s)), (3, .int (nI p)), (4, .int (nI k))]) hx hb dX0_slip_55 hl (by decide) rfl (fun ls hl => ?_)
          refine lv_iconst (v := nI 0) hx hb dX0_slip_57 rfl ?_
          refine lv_istore (lv' := [(10, .int (nI 0)), (8, .long (lN 1)), (6, .long (lN 0)), (5, .int (nI (soN d s))), (0, .ref h), (1, .int (nI v)), (2, .int (nI s)), (3, .int (nI p)), (4, .int (nI k))]) hx hb dX0_slip_58 hl (by decide) rfl (fun ls hl => ?_)
          have lp_60 : ∀ (zn : Nat) (i : Nat), (i ≤ d 2) →  (d 2 - i) < zn → ∀ (ls : Array Slot), lv_has ls 14 [(0, .ref h), (1, .int (nI v)), (2, .int (nI s)), (3, .int (nI p)), (4, .int (nI k)), (5, .int (nI (soN d s))), (6, .long (lN 0)), (8, .long (lN (slB d s i))), (10, .int (nI i))] → W zp l ze (rmL 7) zs zm za zb zt zc zs.heap [] 0 0 zQ (F0 zm 60 ls []) := by
            intro zn
            induction zn with
            | zero => intro i hi hmu_60; exact absurd hmu_60 (Nat.not_lt_zero _)
            | succ zn ih_60 =>
              intro i hi hmu_60 ls hl
              refine lv_iload hx hb dX0_slip_60 (lv_at hl 8 rfl) ?_
              refine lv_aload_n hx hb dX0_slip_62 rfl (lv_at hl 0 rfl) ?_
              refine va_get (D := D) (ci := 0) (v := .ref g) (C := RX0) (T := TX0) (N := 12) hx hb hts in_X0 hown hK hP 0 rfl rfl 4 (by decide) (hts _ q260) (fun _ h9 => h9) rfl dX0_slip_63 ?_
              refine rd_callV hF (m_X1_many l D ca g lsq b3 b4 b5 b6 b8 b9 b10 b11 d fz (by assumption) (by assumption)) (cs_X1_many hts q715 ⟨by decide, by decide⟩) (KK_mv D ca) hKK (wp_tail hP [1] rfl) (va_recv hK hP (ci := 1) (q0 := 1) rfl rfl) rfl hl.1 rfl (Nat.le_of_ble_eq_true rfl) dX0_slip_66 ⟨Nat.zero_le _, Nat.zero_le _⟩ ?_
              refine wn_ge (tgt := 100) hx hb (by omega) (by omega) dX0_slip_69 (by decide) (fun c_69 => ?_) (fun c_69 => ?_)
              · have c_69n := Nat.not_lt.mpr c_69
                have hie : i = d 2 := (by omega)
                subst hie
                refine lv_iconst (v := nI 0) hx hb dX0_slip_100 rfl ?_
                refine lv_istore (lv' := [(10, .int (nI 0)), (0, .ref h), (1, .int (nI v)), (2, .int (nI s)), (3, .int (nI p)), (4, .int (nI k)), (5, .int (nI (soN d s))), (6, .long (lN 0)), (8, .long (lN (slB d s (d 2))))]) hx hb dX0_slip_101 hl (by decide) rfl (fun ls hl => ?_)
                have lp_103 : ∀ (zn : Nat) (u_ : Nat), (u_ ≤ soN d s + 1) →  (soN d s + 1 - u_) < zn → ∀ (ls : Array Slot), lv_has ls 14 [(0, .ref h), (1, .int (nI v)), (2, .int (nI s)), (3, .int (nI p)), (4, .int (nI k)), (5, .int (nI (soN d s))), (6, .long (lN (sumN (slp d v s p) u_))), (8, .long (lN (slB d s (d 2)))), (10, .int (nI u_))] → W zp l ze (rmL 7) zs zm za zb zt zc zs.heap [] 0 0 zQ (F0 zm 103 ls []) := by
                  intro zn
                  induction zn with
                  | zero => intro u_ hu_ hmu_103; exact absurd hmu_103 (Nat.not_lt_zero _)
                  | succ zn ih_103 =>
                    intro u_ hu_ hmu_103 ls hl
                    refine lv_iload hx hb dX0_slip_103 (lv_at hl 8 rfl) ?_
                    refine lv_iload hx hb dX0_slip_105 (lv_at hl 5 rfl) ?_
                    refine wn_gt (tgt := 228) hx hb (by omega) (by omega) dX0_slip_107 (by decide) (fun c_107 => ?_) (fun c_107 => ?_)
                    · have c_107n := Nat.not_le.mpr c_107
                      have hue : u_ = soN d s + 1 := (by omega)
                      subst hue
                      have hST := slp_sum (v := v) (s := s) (show p ≤ 10 by omega) hd1 hd2
                      have hTl := slT_le (v := v) (s := s) (show p ≤ 10 by omega) hd1 hd2
                      have hBl := slB_8 d s hd2
                      have hB1 := (slB_le d s (d 2)).1
                      have hg0 := Nat.gcd_pos_of_pos_right (slT d v s p) hB1
                      have hgl := Nat.gcd_le_right (slT d v s p) hB1
                      refine lv_iload hx hb dX0_slip_228 (lv_at hl 4 rfl) ?_
                      refine wn_ifne (tgt := 238) hx hb (by omega) dX0_slip_230 (by decide) (fun c_230 => ?_) (fun c_230 => ?_)
                      · refine lv_lload hx hb dX0_slip_238 (lv_at hl 7 rfl) ?_
                        refine lv_lload hx hb dX0_slip_240 (lv_at hl 6 rfl) ?_
                        refine lv_lload hx hb dX0_slip_242 (lv_at hl 7 rfl) ?_
                        refine rd_callSl hF (m_X0_common l D ca (sumN (slp d v s p) (soN d s + 1)) (slB d s (d 2)) (by rw [hST]; omega) (by omega)) (cs_X0_common hts q1014 ⟨by decide, by decide⟩) (K1_mv D ca) hK (hP.sub [] rfl) rfl hl.1 rfl (Nat.le_of_ble_eq_true rfl) dX0_slip_244 ⟨Nat.zero_le _, Nat.zero_le _⟩ ?_
                        refine wm_div hx hb (by rw [hST]; exact hg0) (by first | omega | (rw [hST]; omega)) (by rw [hST]; omega) dX0_slip_247 ?_
                        exact rd_lret hx hb hr hlk hQ dX0_slip_248 (by first | (simp [slpI, c_5, ix_v, c_13, ix_s, c_25, ix_p, c_33, ix_k, c_69, c_69n, c_107, c_107n, c_230]; done) | (rw [hST]; unfold slpI; rw [ix_v, ix_s, ix_p, ix_k]; dsimp only; first | rw [if_pos c_230] | rw [if_neg c_230]))
                      · refine lv_lload hx hb dX0_slip_233 (lv_at hl 6 rfl) ?_
                        refine lv_goto (tgt := 240) hx hb dX0_slip_235 (by decide) ?_
                        refine lv_lload hx hb dX0_slip_240 (lv_at hl 6 rfl) ?_
                        refine lv_lload hx hb dX0_slip_242 (lv_at hl 7 rfl) ?_
                        refine rd_callSl hF (m_X0_common l D ca (sumN (slp d v s p) (soN d s + 1)) (slB d s (d 2)) (by rw [hST]; omega) (by omega)) (cs_X0_common hts q1014 ⟨by decide, by decide⟩) (K1_mv D ca) hK (hP.sub [] rfl) rfl hl.1 rfl (Nat.le_of_ble_eq_true rfl) dX0_slip_244 ⟨Nat.zero_le _, Nat.zero_le _⟩ ?_
                        refine wm_div hx hb (by rw [hST]; exact hg0) (by first | omega | (rw [hST]; omega)) (by rw [hST]; omega) dX0_slip_247 ?_
                        exact rd_lret hx hb hr hlk hQ dX0_slip_248 (by first | (simp [slpI, c_5, ix_v, c_13, ix_s, c_25, ix_p, c_33, ix_k, c_69, c_69n, c_107, c_107n, c_230]; done) | (rw [hST]; unfold slpI; rw [ix_v, ix_s, ix_p, ix_k]; dsimp only; first | rw [if_pos c_230] | rw [if_neg c_230]))
                    · have c_107n := Nat.not_lt.mpr c_107
                      refine lv_iload hx hb dX0_slip_110 (lv_at hl 8 rfl) ?_
                      refine lv_iload hx hb dX0_slip_112 (lv_at hl 5 rfl) ?_
                      refine lv_iconst (v := (-1)) hx hb dX0_slip_114 rfl ?_
                      refine lv_ixor hx hb dX0_slip_115 ?_
                      refine lv_iand hx hb dX0_slip_116 ?_
                      refine lv_if_ne (tgt := 222) hx hb dX0_slip_117 (by decide) (fun c_117 => ?_) (fun c_117 => ?_)
                      · refine lv_iinc (v := nI (u_ + 1)) (lv' := [(10, .int (nI (u_ + 1))), (0, .ref h), (1, .int (nI v)), (2, .int (nI s)), (3, .int (nI p)), (4, .int (nI k)), (5, .int (nI (soN d s))), (6, .long (lN (sumN (slp d v s p) u_))), (8, .long (lN (slB d s (d 2))))]) hx hb dX0_slip_222 hl (k := 8) rfl (nI_add u_ 1) (by decide) rfl (fun ls hl => ?_)
                        refine lv_goto (tgt := 103) hx hb dX0_slip_225 (by decide) ?_
                        have e_2 : sumN (slp d v s p) u_ = sumN (slp d v s p) (u_ + 1) := by first | with_reducible rfl | (first | exact slp_n1 (by rw [← subN_iff (by omega)]; assumption) | exact slp_n2 (by omega) | exact slp_y (by rw [← subN_iff (by omega)]; assumption) (by omega))
                        have e_3 : u_ + 1 = (u_ + 1) := by first | with_reducible rfl | (first | exact slp_n1 (by rw [← subN_iff (by omega)]; assumption) | exact slp_n2 (by omega) | exact slp_y (by rw [← subN_iff (by omega)]; assumption) (by omega))
                        exact ih_103 (u_ + 1) (by omega) (by omega) ls (lv_to (lv_sub hl [1, 2, 3, 4, 5, 6, 7, 8, 0] rfl) (Eq.trans (congrArg (fun x => ([(0, .ref h), (1, .int (nI v)), (2, .int (nI s)), (3, .int (nI p)), (4, .int (nI k)), (5, .int (nI (soN d s))), (6, .long (lN x)), (8, .long (lN (slB d s (d 2)))), (10, .int (nI (u_ + 1)))] : List (Nat × Value))) e_2) (congrArg (fun x => ([(0, .ref h), (1, .int (nI v)), (2, .int (nI s)), (3, .int (nI p)), (4, .int (nI k)), (5, .int (nI (soN d s))), (6, .long (lN (sumN (slp d v s p) (u_ + 1)))), (8, .long (lN (slB d s (d 2)))), (10, .int (nI x))] : List (Nat × Value))) e_3)))
                      · refine lv_aload_n hx hb dX0_slip_120 rfl (lv_at hl 0 rfl) ?_
                        refine va_get (D := D) (ci := 0) (v := .ref g) (C := RX0) (T := TX0) (N := 12) hx hb hts in_X0 hown hK hP 0 rfl rfl 4 (by decide) (hts _ q260) (fun _ h9 => h9) rfl dX0_slip_121 ?_
                        refine lv_aload_n hx hb dX0_slip_124 rfl (lv_at hl 0 rfl) ?_
                        refine va_get (D := D) (ci := 0) (v := .ref g) (C := RX0) (T := TX0) (N := 12) hx hb hts in_X0 hown hK hP 0 rfl rfl 4 (by decide) (hts _ q260) (fun _ h9 => h9) rfl dX0_slip_125 ?_
                        refine lv_iload_n hx hb dX0_slip_128 rfl (lv_at hl 1 rfl) ?_
                        refine rd_callV hF (m_X1_clicked l D ca g lsq b3 b4 b5 b6 b8 b9 b10 b11 d fz v (by assumption) (by assumption) (by first | assumption | omega)) (cs_X1_clicked hts q884 ⟨by decide, by decide⟩) (KK_mv D ca) hKK (wp_tail hP [1, 2, 4, 5] rfl) (va_recv hK hP (ci := 1) (q0 := 1) rfl rfl) rfl hl.1 rfl (Nat.le_of_ble_eq_true rfl) dX0_slip_129 ⟨Nat.zero_le _, Nat.zero_le _⟩ ?_
                        refine lv_iload hx hb dX0_slip_132 (lv_at hl 8 rfl) ?_
                        refine wn_xor hx hb dX0_slip_134 ?_
                        refine lv_iload_n hx hb dX0_slip_135 rfl (lv_at hl 2 rfl) ?_
                        refine rd_callV hF (m_X1_wrongIn l D ca g lsq b3 b4 b5 b6 b8 b9 b10 b11 d fz ((clkN d v (d 2)) ^^^ u_) s (by assumption) (by assumption) (by exact Nat.xor_lt_two_pow (n := 8) hcl (by omega)) (by first | assumption | omega)) (cs_X1_wrongIn hts q889 ⟨by decide, by decide⟩) (KK_mv D ca) hKK (wp_tail hP [1, 2, 3] rfl) (va_recv hK hP (ci := 1) (q0 := 1) rfl rfl) rfl hl.1 rfl (Nat.le_of_ble_eq_true rfl) dX0_slip_136 ⟨Nat.zero_le _, Nat.zero_le _⟩ ?_
                        refine lv_aload_n hx hb dX0_slip_139 rfl (lv_at hl 0 rfl) ?_
                        refine va_get (D := D) (ci := 0) (v := .ref g) (C := RX0) (T := TX0) (N := 12) hx hb hts in_X0 hown hK hP 0 rfl rfl 4 (by decide) (hts _ q260) (fun _ h9 => h9) rfl dX0_slip_140 ?_
                        refine va_get (D := D) (ci := 1) (v := .int (nI (d 1))) (C := RX1) (T := TX1) (N := 12) hx hb hts in_X1 hown hK hP 1 rfl rfl 1 (by decide) (hts _ q139) (fun _ h9 => h9) rfl dX0_slip_143 ?_
                        refine wn_le (tgt := 152) hx hb (by first | omega | (unfold wrI; have := bitN_le (((clkN d v (d 2) ^^^ u_) ^^^ setN (lmpD d) (d 2)) &&& s &&& setN (cntD d) (d 2)) 8; omega)) (by first | omega | (unfold wrI; have := bitN_le (((clkN d v (d 2) ^^^ u_) ^^^ setN (lmpD d) (d 2)) &&& s &&& setN (cntD d) (d 2)) 8; omega)) dX0_slip_146 (by decide) (fun c_146 => ?_) (fun c_146 => ?_)
                        · have c_146n := Nat.not_lt.mpr c_146
                          refine lv_lconst (v := lN 1) hx hb dX0_slip_152 rfl ?_
                          refine lv_lstore (lv' := [(11, .long (lN 1)), (0, .ref h), (1, .int (nI v)), (2, .int (nI s)), (3, .int (nI p)), (4, .int (nI k)), (5, .int (nI (soN d s))), (6, .long (lN (sumN (slp d v s p) u_))), (8, .long (lN (slB d s (d 2)))), (10, .int (nI u_))]) hx hb dX0_slip_153 hl (by decide) rfl (fun ls hl => ?_)
                          refine lv_iconst (v := nI 0) hx hb dX0_slip_155 rfl ?_
                          refine lv_istore (lv' := [(13, .int (nI 0)), (11, .long (lN 1)), (0, .ref h), (1, .int (nI v)), (2, .int (nI s)), (3, .int (nI p)), (4, .int (nI k)), (5, .int (nI (soN d s))), (6, .long (lN (sumN (slp d v s p) u_))), (8, .long (lN (slB d s (d 2)))), (10, .int (nI u_))]) hx hb dX0_slip_156 hl (by decide) rfl (fun ls hl => ?_)
                          have lp_158 : ∀ (zn : Nat) (j : Nat), (j ≤ d 2) →  (d 2 - j) < zn → ∀ (ls : Array Slot), lv_has ls 14 [(0, .ref h), (1, .int (nI v)), (2, .int (nI s)), (3, .int (nI p)), (4, .int (nI k)), (5, .int (nI (soN d s))), (6, .long (lN (sumN (slp d v s p) u_))), (8, .long (lN (slB d s (d 2)))), (10, .int (nI u_)), (11, .long (lN (wtN d s p u_ j))), (13, .int (nI j))] → W zp l ze (rmL 7) zs zm za zb zt zc zs.heap [] 0 0 zQ (F0 zm 158 ls []) := by
                            intro zn
                            induction zn with
                            | zero => intro j hj hmu_158; exact absurd hmu_158 (Nat.not_lt_zero _)
                            | succ zn ih_158 =>
                              intro j hj hmu_158 ls hl
                              refine lv_iload hx hb dX0_slip_158 (lv_at hl 10 rfl) ?_
                              refine lv_aload_n hx hb dX0_slip_160 rfl (lv_at hl 0 rfl) ?_
                              refine va_get (D := D) (ci := 0) (v := .ref g) (C := RX0) (T := TX0) (N := 12) hx hb hts in_X0 hown hK hP 0 rfl rfl 4 (by decide) (hts _ q260) (fun _ h9 => h9) rfl dX0_slip_161 ?_
                              refine rd_callV hF (m_X1_many l D ca g lsq b3 b4 b5 b6 b8 b9 b10 b11 d fz (by assumption) (by assumption)) (cs_X1_many hts q715 ⟨by decide, by decide⟩) (KK_mv D ca) hKK (wp_tail hP [1] rfl) (va_recv hK hP (ci := 1) (q0 := 1) rfl rfl) rfl hl.1 rfl (Nat.le_of_ble_eq_true rfl) dX0_slip_164 ⟨Nat.zero_le _, Nat.zero_le _⟩ ?_
                              refine wn_ge (tgt := 215) hx hb (by omega) (by omega) dX0_slip_167 (by decide) (fun c_167 => ?_) (fun c_167 => ?_)
                              · have c_167n := Nat.not_lt.mpr c_167
                                have hje : j = d 2 := (by omega)
                                subst hje
                                refine lv_lload hx hb dX0_slip_215 (lv_at hl 6 rfl) ?_
                                refine lv_lload hx hb dX0_slip_217 (lv_at hl 9 rfl) ?_
                                refine wm_add hx hb dX0_slip_219 ?_
                                refine lv_lstore (lv' := [(6, .long (lN ((sumN (slp d v s p) u_) + (wtN d s p u_ (d 2))))), (0, .ref h), (1, .int (nI v)), (2, .int (nI s)), (3, .int (nI p)), (4, .int (nI k)), (5, .int (nI (soN d s))), (8, .long (lN (slB d s (d 2)))), (10, .int (nI u_)), (11, .long (lN (wtN d s p u_ (d 2)))), (13, .int (nI ((d 2))))]) hx hb dX0_slip_220 hl (by decide) rfl (fun ls hl => ?_)
                                refine lv_iinc (v := nI (u_ + 1)) (lv' := [(10, .int (nI (u_ + 1))), (6, .long (lN ((sumN (slp d v s p) u_) + (wtN d s p u_ (d 2))))), (0, .ref h), (1, .int (nI v)), (2, .int (nI s)), (3, .int (nI p)), (4, .int (nI k)), (5, .int (nI (soN d s))), (8, .long (lN (slB d s (d 2)))), (11, .long (lN (wtN d s p u_ (d 2)))), (13, .int (nI ((d 2))))]) hx hb dX0_slip_222 hl (k := 8) rfl (nI_add u_ 1) (by decide) rfl (fun ls hl => ?_)
                                refine lv_goto (tgt := 103) hx hb dX0_slip_225 (by decide) ?_
                                have e_4 : (sumN (slp d v s p) u_) + (wtN d s p u_ (d 2)) = sumN (slp d v s p) (u_ + 1) := by first | with_reducible rfl | (first | exact slp_n1 (by rw [← subN_iff (by omega)]; assumption) | exact slp_n2 (by omega) | exact slp_y (by rw [← subN_iff (by omega)]; assumption) (by omega))
                                have e_5 : u_ + 1 = (u_ + 1) := by first | with_reducible rfl | (first | exact slp_n1 (by rw [← subN_iff (by omega)]; assumption) | exact slp_n2 (by omega) | exact slp_y (by rw [← subN_iff (by omega)]; assumption) (by omega))
                                exact ih_103 (u_ + 1) (by omega) (by omega) ls (lv_to (lv_sub hl [2, 3, 4, 5, 6, 7, 1, 8, 0] rfl) (Eq.trans (congrArg (fun x => ([(0, .ref h), (1, .int (nI v)), (2, .int (nI s)), (3, .int (nI p)), (4, .int (nI k)), (5, .int (nI (soN d s))), (6, .long (lN x)), (8, .long (lN (slB d s (d 2)))), (10, .int (nI (u_ + 1)))] : List (Nat × Value))) e_4) (congrArg (fun x => ([(0, .ref h), (1, .int (nI v)), (2, .int (nI s)), (3, .int (nI p)), (4, .int (nI k)), (5, .int (nI (soN d s))), (6, .long (lN (sumN (slp d v s p) (u_ + 1)))), (8, .long (lN (slB d s (d 2)))), (10, .int (nI x))] : List (Nat × Value))) e_5)))
                              · have c_167n := Nat.not_le.mpr c_167
                                refine lv_lload hx hb dX0_slip_170 (lv_at hl 9 rfl) ?_
                                refine lv_iload hx hb dX0_slip_172 (lv_at hl 5 rfl) ?_
                                refine lv_iload hx hb dX0_slip_174 (lv_at hl 10 rfl) ?_
                                refine rd_callS hF (m_X0_has l D ca (soN d s) j (by first | assumption | omega) (by first | assumption | omega)) (cs_X0_has hts q919 ⟨by decide, by decide⟩) (K1_mv D ca) hK (hP.sub [] rfl) rfl hl.1 rfl (Nat.le_of_ble_eq_true rfl) dX0_slip_176 ⟨Nat.zero_le _, Nat.zero_le _⟩ ?_
                                refine wb_ne (tgt := 186) hx hb dX0_slip_179 (by decide) (fun c_179 => ?_) (fun c_179 => ?_)
                                · refine lv_iload hx hb dX0_slip_186 (lv_at hl 8 rfl) ?_
                                  refine lv_iload hx hb dX0_slip_188 (lv_at hl 10 rfl) ?_
                                  refine rd_callS hF (m_X0_has l D ca u_ j (by first | assumption | omega) (by first | assumption | omega)) (cs_X0_has hts q919 ⟨by decide, by decide⟩) (K1_mv D ca) hK (hP.sub [] rfl) rfl hl.1 rfl (Nat.le_of_ble_eq_true rfl) dX0_slip_190 ⟨Nat.zero_le _, Nat.zero_le _⟩ ?_
                                  refine wb_eq (tgt := 201) hx hb dX0_slip_193 (by decide) (fun c_193 => ?_) (fun c_193 => ?_)
                                  · refine lv_bipush (v := nI 10) hx hb dX0_slip_201 rfl ?_
                                    refine lv_iload_n hx hb dX0_slip_203 rfl (lv_at hl 3 rfl) ?_
                                    refine wn_sub hx hb (by omega) dX0_slip_204 ?_
                                    refine wm_i2l hx hb (by omega) dX0_slip_205 ?_
                                    refine wm_mul hx hb dX0_slip_206 ?_
                                    refine lv_lstore (lv' := [(11, .long (lN ((wtN d s p u_ j) * (10 - p)))), (0, .ref h), (1, .int (nI v)), (2, .int (nI s)), (3, .int (nI p)), (4, .int (nI k)), (5, .int (nI (soN d s))), (6, .long (lN (sumN (slp d v s p) u_))), (8, .long (lN (slB d s (d 2)))), (10, .int (nI u_)), (13, .int (nI j))]) hx hb dX0_slip_207 hl (by decide) rfl (fun ls hl => ?_)
                                    refine lv_iinc (v := nI (j + 1)) (lv' := [(13, .int (nI (j + 1))), (11, .long (lN ((wtN d s p u_ j) * (10 - p)))), (0, .ref h), (1, .int (nI v)), (2, .int (nI s)), (3, .int (nI p)), (4, .int (nI k)), (5, .int (nI (soN d s))), (6, .long (lN (sumN (slp d v s p) u_))), (8, .long (lN (slB d s (d 2)))), (10, .int (nI u_))]) hx hb dX0_slip_209 hl (k := 10) rfl (nI_add j 1) (by decide) rfl (fun ls hl => ?_)
                                    refine lv_goto (tgt := 158) hx hb dX0_slip_212 (by decide) ?_
                                    have e_6 : (wtN d s p u_ j) * (10 - p) = wtN d s p u_ (j + 1) := by first | with_reducible rfl | (first | exact wt_1 (by omega) c_179 | exact wt_p (by omega) c_179 c_193 | exact wt_q (by omega) c_179 c_193)
                                    have e_7 : j + 1 = (j + 1) := by first | with_reducible rfl | (first | exact wt_1 (by omega) c_179 | exact wt_p (by omega) c_179 c_193 | exact wt_q (by omega) c_179 c_193)
                                    exact ih_158 (j + 1) (by omega) (by omega) ls (lv_to (lv_sub hl [2, 3, 4, 5, 6, 7, 8, 9, 10, 1, 0] rfl) (Eq.trans (congrArg (fun x => ([(0, .ref h), (1, .int (nI v)), (2, .int (nI s)), (3, .int (nI p)), (4, .int (nI k)), (5, .int (nI (soN d s))), (6, .long (lN (sumN (slp d v s p) u_))), (8, .long (lN (slB d s (d 2)))), (10, .int (nI u_)), (11, .long (lN x)), (13, .int (nI (j + 1)))] : List (Nat × Value))) e_6) (congrArg (fun x => ([(0, .ref h), (1, .int (nI v)), (2, .int (nI s)), (3, .int (nI p)), (4, .int (nI k)), (5, .int (nI (soN d s))), (6, .long (lN (sumN (slp d v s p) u_))), (8, .long (lN (slB d s (d 2)))), (10, .int (nI u_)), (11, .long (lN (wtN d s p u_ (j + 1)))), (13, .int (nI x))] : List (Nat × Value))) e_7)))
                                  · refine lv_iload_n hx hb dX0_slip_196 rfl (lv_at hl 3 rfl) ?_
                                    refine wm_i2l hx hb (by omega) dX0_slip_197 ?_
                                    refine lv_goto (tgt := 206) hx hb dX0_slip_198 (by decide) ?_
                                    refine wm_mul hx hb dX0_slip_206 ?_
                                    refine lv_lstore (lv' := [(11, .long (lN ((wtN d s p u_ j) * p))), (0, .ref h), (1, .int (nI v)), (2, .int (nI s)), (3, .int (nI p)), (4, .int (nI k)), (5, .int (nI (soN d s))), (6, .long (lN (sumN (slp d v s p) u_))), (8, .long (lN (slB d s (d 2)))), (10, .int (nI u_)), (13, .int (nI j))]) hx hb dX0_slip_207 hl (by decide) rfl (fun ls hl => ?_)
                                    refine lv_iinc (v := nI (j + 1)) (lv' := [(13, .int (nI (j + 1))), (11, .long (lN ((wtN d s p u_ j) * p))), (0, .ref h), (1, .int (nI v)), (2, .int (nI s)), (3, .int (nI p)), (4, .int (nI k)), (5, .int (nI (soN d s))), (6, .long (lN (sumN (slp d v s p) u_))), (8, .long (lN (slB d s (d 2)))), (10, .int (nI u_))]) hx hb dX0_slip_209 hl (k := 10) rfl (nI_add j 1) (by decide) rfl (fun ls hl => ?_)
                                    refine lv_goto (tgt := 158) hx hb dX0_slip_212 (by decide) ?_
                                    have e_8 : (wtN d s p u_ j) * p = wtN d s p u_ (j + 1) := by first | with_reducible rfl | (first | exact wt_1 (by omega) c_179 | exact wt_p (by omega) c_179 c_193 | exact wt_q (by omega) c_179 c_193)
                                    have e_9 : j + 1 = (j + 1) := by first | with_reducible rfl | (first | exact wt_1 (by omega) c_179 | exact wt_p (by omega) c_179 c_193 | exact wt_q (by omega) c_179 c_193)
                                    exact ih_158 (j + 1) (by omega) (by omega) ls (lv_to (lv_sub hl [2, 3, 4, 5, 6, 7, 8, 9, 10, 1, 0] rfl) (Eq.trans (congrArg (fun x => ([(0, .ref h), (1, .int (nI v)), (2, .int (nI s)), (3, .int (nI p)), (4, .int (nI k)), (5, .int (nI (soN d s))), (6, .long (lN (sumN (slp d v s p) u_))), (8, .long (lN (slB d s (d 2)))), (10, .int (nI u_)), (11, .long (lN x)), (13, .int (nI (j + 1)))] : List (Nat × Value))) e_8) (congrArg (fun x => ([(0, .ref h), (1, .int (nI v)), (2, .int (nI s)), (3, .int (nI p)), (4, .int (nI k)), (5, .int (nI (soN d s))), (6, .long (lN (sumN (slp d v s p) u_))), (8, .long (lN (slB d s (d 2)))), (10, .int (nI u_)), (11, .long (lN (wtN d s p u_ (j + 1)))), (13, .int (nI x))] : List (Nat × Value))) e_9)))
                                · refine lv_lconst (v := lN 1) hx hb dX0_slip_182 rfl ?_
                                  refine lv_goto (tgt := 206) hx hb dX0_slip_183 (by decide) ?_
                                  refine wm_mul hx hb dX0_slip_206 ?_
                                  refine lv_lstore (lv' := [(11, .long (lN ((wtN d s p u_ j) * 1))), (0, .ref h), (1, .int (nI v)), (2, .int (nI s)), (3, .int (nI p)), (4, .int (nI k)), (5, .int (nI (soN d s))), (6, .long (lN (sumN (slp d v s p) u_))), (8, .long (lN (slB d s (d 2)))), (10, .int (nI u_)), (13, .int (nI j))]) hx hb dX0_slip_207 hl (by decide) rfl (fun ls hl => ?_)
                                  refine lv_iinc (v := nI (j + 1)) (lv' := [(13, .int (nI (j + 1))), (11, .long (lN ((wtN d s p u_ j) * 1))), (0, .ref h), (1, .int (nI v)), (2, .int (nI s)), (3, .int (nI p)), (4, .int (nI k)), (5, .int (nI (soN d s))), (6, .long (lN (sumN (slp d v s p) u_))), (8, .long (lN (slB d s (d 2)))), (10, .int (nI u_))]) hx hb dX0_slip_209 hl (k := 10) rfl (nI_add j 1) (by decide) rfl (fun ls hl => ?_)
                                  refine lv_goto (tgt := 158) hx hb dX0_slip_212 (by decide) ?_
                                  have e_10 : (wtN d s p u_ j) * 1 = wtN d s p u_ (j + 1) := by first | with_reducible rfl | (first | exact wt_1 (by omega) c_179 | exact wt_p (by omega) c_179 c_193 | exact wt_q (by omega) c_179 c_193)
                                  have e_11 : j + 1 = (j + 1) := by first | with_reducible rfl | (first | exact wt_1 (by omega) c_179 | exact wt_p (by omega) c_179 c_193 | exact wt_q (by omega) c_179 c_193)
                                  exact ih_158 (j + 1) (by omega) (by omega) ls (lv_to (lv_sub hl [2, 3, 4, 5, 6, 7, 8, 9, 10, 1, 0] rfl) (Eq.trans (congrArg (fun x => ([(0, .ref h), (1, .int (nI v)), (2, .int (nI s)), (3, .int (nI p)), (4, .int (nI k)), (5, .int (nI (soN d s))), (6, .long (lN (sumN (slp d v s p) u_))), (8, .long (lN (slB d s (d 2)))), (10, .int (nI u_)), (11, .long (lN x)), (13, .int (nI (j + 1)))] : List (Nat × Value))) e_10) (congrArg (fun x => ([(0, .ref h), (1, .int (nI v)), (2, .int (nI s)), (3, .int (nI p)), (4, .int (nI k)), (5, .int (nI (soN d s))), (6, .long (lN (sumN (slp d v s p) u_))), (8, .long (lN (slB d s (d 2)))), (10, .int (nI u_)), (11, .long (lN (wtN d s p u_ (j + 1)))), (13, .int (nI x))] : List (Nat × Value))) e_11)))
                          have e_12 : 1 = wtN d s p u_ 0 := by first | with_reducible rfl | (rfl)
                          exact lp_158 ((d 2 - 0) + 1) 0 (by omega) (by omega) ls (lv_to (lv_sub hl [2, 3, 4, 5, 6, 7, 8, 9, 10, 1, 0] rfl) (congrArg (fun x => ([(0, .ref h), (1, .int (nI v)), (2, .int (nI s)), (3, .int (nI p)), (4, .int (nI k)), (5, .int (nI (soN d s))), (6, .long (lN (sumN (slp d v s p) u_))), (8, .long (lN (slB d s (d 2)))), (10, .int (nI u_)), (11, .long (lN x)), (13, .int (nI 0))] : List (Nat × Value))) e_12))
                        · have c_146n := Nat.not_le.mpr c_146
                          refine lv_goto (tgt := 222) hx hb dX0_slip_149 (by decide) ?_
                          refine lv_iinc (v := nI (u_ + 1)) (lv' := [(10, .int (nI (u_ + 1))), (0, .ref h), (1, .int (nI v)), (2, .int (nI s)), (3, .int (nI p)), (4, .int (nI k)), (5, .int (nI (soN d s))), (6, .long (lN (sumN (slp d v s p) u_))), (8, .long (lN (slB d s (d 2))))]) hx hb dX0_slip_222 hl (k := 8) rfl (nI_add u_ 1) (by decide) rfl (fun ls hl => ?_)
                          refine lv_goto (tgt := 103) hx hb dX0_slip_225 (by decide) ?_
                          have e_13 : sumN (slp d v s p) u_ = sumN (slp d v s p) (u_ + 1) := by first | with_reducible rfl | (first | exact slp_n1 (by rw [← subN_iff (by omega)]; assumption) | exact slp_n2 (by omega) | exact slp_y (by rw [← subN_iff (by omega)]; assumption) (by omega))
                          have e_14 : u_ + 1 = (u_ + 1) := by first | with_reducible rfl | (first | exact slp_n1 (by rw [← subN_iff (by omega)]; assumption) | exact slp_n2 (by omega) | exact slp_y (by rw [← subN_iff (by omega)]; assumption) (by omega))
                          exact ih_103 (u_ + 1) (by omega) (by omega) ls (lv_to (lv_sub hl [1, 2, 3, 4, 5, 6, 7, 8, 0] rfl) (Eq.trans (congrArg (fun x => ([(0, .ref h), (1, .int (nI v)), (2, .int (nI s)), (3, .int (nI p)), (4, .int (nI k)), (5, .int (nI (soN d s))), (6, .long (lN x)), (8, .long (lN (slB d s (d 2)))), (10, .int (nI (u_ + 1)))] : List (Nat × Value))) e_13) (congrArg (fun x => ([(0, .ref h), (1, .int (nI v)), (2, .int (nI s)), (3, .int (nI p)), (4, .int (nI k)), (5, .int (nI (soN d s))), (6, .long (lN (sumN (slp d v s p) (u_ + 1)))), (8, .long (lN (slB d s (d 2)))), (10, .int (nI x))] : List (Nat × Value))) e_14)))
                have e_15 : 0 = sumN (slp d v s p) 0 := by first | with_reducible rfl | (rfl)
                exact lp_103 ((soN d s + 1 - 0) + 1) 0 (by omega) (by omega) ls (lv_to (lv_sub hl [1, 2, 3, 4, 5, 6, 7, 8, 0] rfl) (congrArg (fun x => ([(0, .ref h), (1, .int (nI v)), (2, .int (nI s)), (3, .int (nI p)), (4, .int (nI k)), (5, .int (nI (soN d s))), (6, .long (lN x)), (8, .long (lN (slB d s (d 2)))), (10, .int (nI 0))] : List (Nat × Value))) e_15))
              · have c_69n := Nat.not_le.mpr c_69
                refine lv_lload hx hb dX0_slip_72 (lv_at hl 7 rfl) ?_
                refine lv_iload hx hb dX0_slip_74 (lv_at hl 5 rfl) ?_
                refine lv_iload hx hb dX0_slip_76 (lv_at hl 8 rfl) ?_
                refine rd_callS hF (m_X0_has l D ca (soN d s) i (by first | assumption | omega) (by first | assumption | omega)) (cs_X0_has hts q919 ⟨by decide, by decide⟩) (K1_mv D ca) hK (hP.sub [] rfl) rfl hl.1 rfl (Nat.le_of_ble_eq_true rfl) dX0_slip_78 ⟨Nat.zero_le _, Nat.zero_le _⟩ ?_
                refine wb_eq (tgt := 90) hx hb dX0_slip_81 (by decide) (fun c_81 => ?_) (fun c_81 => ?_)
                · refine lv_lconst (v := lN 1) hx hb dX0_slip_90 rfl ?_
                  refine wm_mul hx hb dX0_slip_91 ?_
                  refine lv_lstore (lv' := [(8, .long (lN ((slB d s i) * 1))), (0, .ref h), (1, .int (nI v)), (2, .int (nI s)), (3, .int (nI p)), (4, .int (nI k)), (5, .int (nI (soN d s))), (6, .long (lN 0)), (10, .int (nI i))]) hx hb dX0_slip_92 hl (by decide) rfl (fun ls hl => ?_)
                  refine lv_iinc (v := nI (i + 1)) (lv' := [(10, .int (nI (i + 1))), (8, .long (lN ((slB d s i) * 1))), (0, .ref h), (1, .int (nI v)), (2, .int (nI s)), (3, .int (nI p)), (4, .int (nI k)), (5, .int (nI (soN d s))), (6, .long (lN 0))]) hx hb dX0_slip_94 hl (k := 8) rfl (nI_add i 1) (by decide) rfl (fun ls hl => ?_)
                  refine lv_goto (tgt := 60) hx hb dX0_slip_97 (by decide) ?_
                  have e_16 : (slB d s i) * 1 = slB d s (i + 1) := by first | rfl | (first | exact slB_t (by omega) c_81 | exact slB_f (by omega) c_81)
                  have e_17 : i + 1 = (i + 1) := by first | rfl | (first | exact slB_t (by omega) c_81 | exact slB_f (by omega) c_81)
                  exact ih_60 (i + 1) (by omega) (by omega) ls (lv_to (lv_sub hl [2, 3, 4, 5, 6, 7, 8, 1, 0] rfl) (Eq.trans (congrArg (fun x => ([(0, .ref h), (1, .int (nI v)), (2, .int (nI s)), (3, .int (nI p)), (4, .int (nI k)), (5, .int (nI (soN d s))), (6, .long (lN 0)), (8, .long (lN x)), (10, .int (nI (i + 1)))] : List (Nat × Value))) e_16) (congrArg (fun x => ([(0, .ref h), (1, .int (nI v)), (2, .int (nI s)), (3, .int (nI p)), (4, .int (nI k)), (5, .int (nI (soN d s))), (6, .long (lN 0)), (8, .long (lN (slB d s (i + 1)))), (10, .int (nI x))] : List (Nat × Value))) e_17)))
                · refine lv_ldc2 (v := lN 10) hx hb hown (hts _ q1011) dX0_slip_84 ?_
                  refine lv_goto (tgt := 91) hx hb dX0_slip_87 (by decide) ?_
                  refine wm_mul hx hb dX0_slip_91 ?_
                  refine lv_lstore (lv' := [(8, .long (lN ((slB d s i) * 10))), (0, .ref h), (1, .int (nI v)), (2, .int (nI s)), (3, .int (nI p)), (4, .int (nI k)), (5, .int (nI (soN d s))), (6, .long (lN 0)), (10, .int (nI i))]) hx hb dX0_slip_92 hl (by decide) rfl (fun ls hl => ?_)
                  refine lv_iinc (v := nI (i + 1)) (lv' := [(10, .int (nI (i + 1))), (8, .long (lN ((slB d s i) * 10))), (0, .ref h), (1, .int (nI v)), (2, .int (nI s)), (3, .int (nI p)), (4, .int (nI k)), (5, .int (nI (soN d s))), (6, .long (lN 0))]) hx hb dX0_slip_94 hl (k := 8) rfl (nI_add i 1) (by decide) rfl (fun ls hl => ?_)
                  refine lv_goto (tgt := 60) hx hb dX0_slip_97 (by decide) ?_
                  have e_18 : (slB d s i) * 10 = slB d s (i + 1) := by first | rfl | (first | exact slB_t (by omega) c_81 | exact slB_f (by omega) c_81)
                  have e_19 : i + 1 = (i + 1) := by first | rfl | (first | exact slB_t (by omega) c_81 | exact slB_f (by omega) c_81)
                  exact ih_60 (i + 1) (by omega) (by omega) ls (lv_to (lv_sub hl [2, 3, 4, 5, 6, 7, 8, 1, 0] rfl) (Eq.trans (congrArg (fun x => ([(0, .ref h), (1, .int (nI v)), (2, .int (nI s)), (3, .int (nI p)), (4, .int (nI k)), (5, .int (nI (soN d s))), (6, .long (lN 0)), (8, .long (lN x)), (10, .int (nI (i + 1)))] : List (Nat × Value))) e_18) (congrArg (fun x => ([(0, .ref h), (1, .int (nI v)), (2, .int (nI s)), (3, .int (nI p)), (4, .int (nI k)), (5, .int (nI (soN d s))), (6, .long (lN 0)), (8, .long (lN (slB d s (i + 1)))), (10, .int (nI x))] : List (Nat × Value))) e_19)))
          have e_20 : 1 = slB d s 0 := by first | rfl | (rfl)
          exact lp_60 ((d 2 - 0) + 1) 0 (by omega) (by omega) ls (lv_to (lv_sub hl [4, 5, 6, 7, 8, 3, 2, 1, 0] rfl) (congrArg (fun x => ([(0, .ref h), (1, .int (nI v)), (2, .int (nI s)), (3, .int (nI p)), (4, .int (nI k)), (5, .int (nI (soN d s))), (6, .long (lN 0)), (8, .long (lN x)), (10, .int (nI 0))] : List (Nat × Value))) e_20))
        · have ix_w : ixO w 2 = none := ixO_f c_33
          refine lv_ldc2 (v := -1000001) hx hb hown (hts _ q1012) dX0_slip_36 ?_
          exact rd_lret hx hb hr hlk hQ dX0_slip_39 (by first | (simp [slpI, c_5, ix_v, c_13, ix_s, c_25, ix_p, c_33, ix_w]; done) | (rw [hST]; unfold slpI; rw [ix_v, ix_s, ix_p, ix_k]; dsimp only; first | rw [if_pos c_230] | rw [if_neg c_230]))
set_option maxHeartbeats 4000000 in
theorem m_X0_feed (l : Launch) (D : va_G) (ca : Nat → ClassId) (h : Nat) (a0 : Nat) (a1 : Nat) (tg : Nat) (a6 : Nat) (a8 : Nat) (tr : Nat) (a11 : Nat) (tpd : Nat) (ac : Nat) (lat : Int32) (t1 : Int32) (g : Nat) (tp : Nat → Nat) (x : Int32) (sz : Nat) (htp : tpd ≤ 120) : Met l yX0_feed (ws_ yX0_feed cX0_feed 2 (some .int)) (rmL 1) (PcA (KK D ca) D [.ref h, .int x] [(h, .inr (0, [.ref a0, .ref a1, .int (nI tpd), .int lat, .ref g, .ref tg, .ref a6, .int (nI ac), .ref a8, .ref tr, .int t1, .ref a11])), (a1, .inl (ca 1, 120, .inl (btF tp)))] sz) (QiA D (fun zr (_ : Unit) => zr = fedR tpd x) (fun _ => [(h, .inr (0, [.ref a0, .ref a1, .int (nI (fedN tpd x)), .int lat, .ref g, .ref tg, .ref a6, .int (nI ac), .ref a8, .ref tr, .int t1, .ref a11])), (a1, .inl (ca 1, 120, .inl (btF ((fedT tp tpd x)))))]) (va_A [(h, .inr (0, [.ref a0, .ref a1, .int (nI tpd), .int lat, .ref g, .ref tg, .ref a6, .int (nI ac), .ref a8, .ref tr, .int t1, .ref a11])), (a1, .inl (ca 1, 120, .inl (btF tp)))] sz)) 0 0 (va_A [(h, .inr (0, [.ref a0, .ref a1, .int (nI tpd), .int lat, .ref g, .ref tg, .ref a6, .int (nI ac), .ref a8, .ref tr, .int t1, .ref a11])), (a1, .inl (ca 1, 120, .inl (btF tp)))] sz) := by
  refine wr_head (y := yX0_feed) (n := 2) (av := [.ref h, .int x]) (Qc := fun A => (QiA D (fun zr (_ : Unit) => zr = fedR tpd x) (fun _ => [(h, .inr (0, [.ref a0, .ref a1, .int (nI (fedN tpd x)), .int lat, .ref g, .ref tg, .ref a6, .int (nI ac), .ref a8, .ref tr, .int t1, .ref a11])), (a1, .inl (ca 1, 120, .inl (btF ((fedT tp tpd x)))))]) A)) (by decide) (Nat.le_of_ble_eq_true rfl) ?_
  intro zp ze zs zm za zb zt zc ls zQ A H locs hx hb hml hr hlk hown hts hnm hK hP hD hS hA hl hQ
  have hown : zs.vm.findClass RX0 = some zm.cls := hown
  have hl : lv_has ls 2 [(0, .ref h), (1, .int x)] := hl
  have hF : CallFix zp zm zc cX0_feed 2 zs za lw_all RX0 := ⟨hx, hb, hml, hown, hts⟩
  have hKK := hK
  have hK : K1 D ca zs := hKK.1
  refine lv_iload_n hx hb dX0_feed_0 rfl (lv_at hl 1 rfl) ?_
  refine lv_i2l hx hb dX0_feed_1 rfl ?_
  refine lv_lconst (v := 0) hx hb dX0_feed_2 rfl ?_
  refine lv_ldc2 (v := 255) hx hb hown (hts _ q459) dX0_feed_3 ?_
  refine rd_callS hF (m_X0_isIn l D ca x.toInt64 0 255 ) (cs_X0_isIn hts q302 ⟨by decide, by decide⟩) (K1_mv D ca) hK (hP.sub [] rfl) rfl hl.1 rfl (Nat.le_of_ble_eq_true rfl) dX0_feed_6 ⟨Nat.zero_le _, Nat.zero_le _⟩ ?_
  refine wb_ne (tgt := 15) hx hb dX0_feed_9 (by decide) (fun c_9 => ?_) (fun c_9 => ?_)
  · rw [inB_c (n := 256) (by decide)] at c_9
    obtain ⟨k, hk, hxk⟩ := (ltB_iff (by omega)).mp c_9
    subst hxk
    have ix_k : ixO (nI k) 256 = some k := ixO_t hk (by omega)
    refine lv_aload_n hx hb dX0_feed_15 rfl (lv_at hl 0 rfl) ?_
    refine va_get (D := D) (ci := 0) (v := .int (nI tpd)) (C := RX0) (T := TX0) (N := 12) hx hb hts in_X0 hown hK hP 0 rfl rfl 2 (by decide) (hts _ q258) (fun _ h9 => h9) rfl dX0_feed_16 ?_
    refine lv_bipush (v := nI 120) hx hb dX0_feed_19 rfl ?_
    refine wn_ne (tgt := 27) hx hb (by omega) (by omega) dX0_feed_21 (by decide) (fun c_21 => ?_) (fun c_21 => ?_)
    · refine lv_aload_n hx hb dX0_feed_27 rfl (lv_at hl 0 rfl) ?_
      refine va_get (D := D) (ci := 0) (v := .ref a1) (C := RX0) (T := TX0) (N := 12) hx hb hts in_X0 hown hK hP 0 rfl rfl 1 (by decide) (hts _ q257) (fun _ h9 => h9) rfl dX0_feed_28 ?_
      refine lv_aload_n hx hb dX0_feed_31 rfl (lv_at hl 0 rfl) ?_
      refine lv_dup hx hb dX0_feed_32 rfl ?_
      refine va_get (D := D) (ci := 0) (v := .int (nI tpd)) (C := RX0) (T := TX0) (N := 12) hx hb hts in_X0 hown hK hP 0 rfl rfl 2 (by decide) (hts _ q258) (fun _ h9 => h9) rfl dX0_feed_33 ?_
      refine lv_dup_x1 hx hb dX0_feed_36 rfl rfl ?_
      refine lv_iconst (v := nI 1) hx hb dX0_feed_37 rfl ?_
      refine wn_add hx hb dX0_feed_38 ?_
      refine va_put (D := D) (ci := 0) (v := .int (nI (tpd + 1))) (ty := .int) (C := RX0) (T := TX0) (N := 12) hx hb hts in_X0 tyX0 tyX0_ok nmX0 hown hK hP hD hS 0 rfl rfl 2 (by decide) (hts _ q258) (fun _ h9 => h9) rfl (tyX0_ok 2 (by decide)) rfl rfl (Nat.le_of_ble_eq_true rfl) dX0_feed_39 (fun H locs hP hD hS => ?_)
      have hP : va_P D vwCl [(h, .inr (0, [.ref a0, .ref a1, .int (nI (tpd + 1)), .int lat, .ref g, .ref tg, .ref a6, .int (nI ac), .ref a8, .ref tr, .int t1, .ref a11])), (a1, .inl (ca 1, 120, .inl (btF tp)))] H := hP
      have hD : va_D A [(h, .inr (0, [.ref a0, .ref a1, .int (nI (tpd + 1)), .int lat, .ref g, .ref tg, .ref a6, .int (nI ac), .ref a8, .ref tr, .int t1, .ref a11])), (a1, .inl (ca 1, 120, .inl (btF tp)))] := hD
      refine lv_iload_n hx hb dX0_feed_42 rfl (lv_at hl 1 rfl) ?_
      refine lv_i2b hx hb dX0_feed_43 rfl ?_
      refine wn_bast (f' := btF (updN tp tpd k)) hx hb hK hP hD hS 1 1 rfl rfl (by omega) (by decide) (bt_upd (by omega)) dX0_feed_44 (fun H locs hP hD hS => ?_)
      have hP : va_P D vwCl [(h, .inr (0, [.ref a0, .ref a1, .int (nI (tpd + 1)), .int lat, .ref g, .ref tg, .ref a6, .int (nI ac), .ref a8, .ref tr, .int t1, .ref a11])), (a1, .inl (ca 1, 120, .inl (btF (updN tp tpd k))))] H := hP
      have hD : va_D A [(h, .inr (0, [.ref a0, .ref a1, .int (nI (tpd + 1)), .int lat, .ref g, .ref tg, .ref a6, .int (nI ac), .ref a8, .ref tr, .int t1, .ref a11])), (a1, .inl (ca 1, 120, .inl (btF (updN tp tpd k))))] := hD
      refine lv_aload_n hx hb dX0_feed_45 rfl (lv_at hl 0 rfl) ?_
      refine va_get (D := D) (ci := 0) (v := .int (nI (tpd + 1))) (C := RX0) (T := TX0) (N := 12) hx hb hts in_X0 hown hK hP 0 rfl rfl 2 (by decide) (hts _ q258) (fun _ h9 => h9) rfl dX0_feed_46 ?_
      have w_1 : tpd + 1 = fedN tpd (nI k) := by first | rfl | (first | (simp [fedN, c_9, ix_k, c_21]; done) | (simp [fedT, c_9, ix_k, c_21]; done) | grind [fedN, fedT])
      have w_2 : btF (updN tp tpd k) = btF ((fedT tp tpd (nI k))) := by first | rfl | (first | (simp [fedN, c_9, ix_k, c_21]; done) | (simp [fedT, c_9, ix_k, c_21]; done) | grind [fedN, fedT])
      exact wr_iret () hx hb hr hlk hQ dX0_feed_49 (wp_to (hP.sub [0, 1] rfl) (Eq.trans (congrArg (fun zx => ([(h, .inr (0, [.ref a0, .ref a1, .int (nI zx), .int lat, .ref g, .ref tg, .ref a6, .int (nI ac), .ref a8, .ref tr, .int t1, .ref a11])), (a1, .inl (ca 1, 120, .inl (btF (updN tp tpd k))))] : va_W)) w_1) (congrArg (fun zx => ([(h, .inr (0, [.ref a0, .ref a1, .int (nI (fedN tpd (nI k))), .int lat, .ref g, .ref tg, .ref a6, .int (nI ac), .ref a8, .ref tr, .int t1, .ref a11])), (a1, .inl (ca 1, 120, .inl zx))] : va_W)) w_2))) (wd_to (hD.sub [0, 1] (by decide) rfl) (Eq.trans (congrArg (fun zx => ([(h, .inr (0, [.ref a0, .ref a1, .int (nI zx), .int lat, .ref g, .ref tg, .ref a6, .int (nI ac), .ref a8, .ref tr, .int t1, .ref a11])), (a1, .inl (ca 1, 120, .inl (btF (updN tp tpd k))))] : va_W)) w_1) (congrArg (fun zx => ([(h, .inr (0, [.ref a0, .ref a1, .int (nI (fedN tpd (nI k))), .int lat, .ref g, .ref tg, .ref a6, .int (nI ac), .ref a8, .ref tr, .int t1, .ref a11])), (a1, .inl (ca 1, 120, .inl zx))] : va_W)) w_2))) hS (Nat.le_refl _) (Nat.le_refl _) (by grind [fedR])
    · refine lv_ldc (v := (-1000003)) hx hb hown (hts _ q460) dX0_feed_24 ?_
      have w_3 : tpd = fedN tpd (nI k) := by first | rfl | (first | (simp [fedN, c_9, ix_k, c_21]; done) | (simp [fedT, c_9, ix_k, c_21]; done) | grind [fedN, fedT])
      have w_4 : btF tp = btF ((fedT tp tpd (nI k))) := by first | rfl | (first | (simp [fedN, c_9, ix_k, c_21]; done) | (simp [fedT, c_9, ix_k, c_21]; done) | grind [fedN, fedT])
      exact wr_iret () hx hb hr hlk hQ dX0_feed_26 (wp_to (hP.sub [0, 1] rfl) (Eq.trans (congrArg (fun zx => ([(h, .inr (0, [.ref a0, .ref a1, .int (nI zx), .int lat, .ref g, .ref tg, .ref a6, .int (nI ac), .ref a8, .ref tr, .int t1, .ref a11])), (a1, .inl (ca 1, 120, .inl (btF tp)))] : va_W)) w_3) (congrArg (fun zx => ([(h, .inr (0, [.ref a0, .ref a1, .int (nI (fedN tpd (nI k))), .int lat, .ref g, .ref tg, .ref a6, .int (nI ac), .ref a8, .ref tr, .int t1, .ref a11])), (a1, .inl (ca 1, 120, .inl zx))] : va_W)) w_4))) (wd_to (hD.sub [0, 1] (by decide) rfl) (Eq.trans (congrArg (fun zx => ([(h, .inr (0, [.ref a0, .ref a1, .int (nI zx), .int lat, .ref g, .ref tg, .ref a6, .int (nI ac), .ref a8, .ref tr, .int t1, .ref a11])), (a1, .inl (ca 1, 120, .inl (btF tp)))] : va_W)) w_3) (congrArg (fun zx => ([(h, .inr (0, [.ref a0, .ref a1, .int (nI (fedN tpd (nI k))), .int lat, .ref g, .ref tg, .ref a6, .int (nI ac), .ref a8, .ref tr, .int t1, .ref a11])), (a1, .inl (ca 1, 120, .inl zx))] : va_W)) w_4))) hS (Nat.le_refl _) (Nat.le_refl _) (by grind [fedR])
  · rw [inB_c (n := 256) (by decide)] at c_9
    have ix_x : ixO x 256 = none := ixO_f c_9
    refine lv_ldc (v := (-1000001)) hx hb hown (hts _ q306) dX0_feed_12 ?_
    have w_5 : tpd = fedN tpd x := by first | rfl | (first | (simp [fedN, c_9, ix_x]; done) | (simp [fedT, c_9, ix_x]; done) | grind [fedN, fedT])
    have w_6 : btF tp = btF ((fedT tp tpd x)) := by first | rfl | (first | (simp [fedN, c_9, ix_x]; done) | (simp [fedT, c_9, ix_x]; done) | grind [fedN, fedT])
    exact wr_iret () hx hb hr hlk hQ dX0_feed_14 (wp_to (hP.sub [0, 1] rfl) (Eq.trans (congrArg (fun zx => ([(h, .inr (0, [.ref a0, .ref a1, .int (nI zx), .int lat, .ref g, .ref tg, .ref a6, .int (nI ac), .ref a8, .ref tr, .int t1, .ref a11])), (a1, .inl (ca 1, 120, .inl (btF tp)))] : va_W)) w_5) (congrArg (fun zx => ([(h, .inr (0, [.ref a0, .ref a1, .int (nI (fedN tpd x)), .int lat, .ref g, .ref tg, .ref a6, .int (nI ac), .ref a8, .ref tr, .int t1, .ref a11])), (a1, .inl (ca 1, 120, .inl zx))] : va_W)) w_6))) (wd_to (hD.sub [0, 1] (by decide) rfl) (Eq.trans (congrArg (fun zx => ([(h, .inr (0, [.ref a0, .ref a1, .int (nI zx), .int lat, .ref g, .ref tg, .ref a6, .int (nI ac), .ref a8, .ref tr, .int t1, .ref a11])), (a1, .inl (ca 1, 120, .inl (btF tp)))] : va_W)) w_5) (congrArg (fun zx => ([(h, .inr (0, [.ref a0, .ref a1, .int (nI (fedN tpd x)), .int lat, .ref g, .ref tg, .ref a6, .int (nI ac), .ref a8, .ref tr, .int t1, .ref a11])), (a1, .inl (ca 1, 120, .inl zx))] : va_W)) w_6))) hS (Nat.le_refl _) (Nat.le_refl _) (by grind [fedR])
