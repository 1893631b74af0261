set_option maxRecDepth 100000
set_option maxHeartbeats 4000000 in
theorem m_X1_many (l : Launch) (D : va_G) (ca : Nat → ClassId) (g : Nat) (lsq : Nat) (b3 : Nat) (b4 : Nat) (b5 : Nat) (b6 : Nat) (b8 : Nat) (b9 : Nat) (b10 : Nat) (b11 : Nat) (d : Nat → Nat) (fz : va_W) (hd : dOK d) (hsq : SqL ca fz lsq d) : Met l yX1_many (ws_ yX1_many cX1_many 1 (some .int)) (rmL 1) (PcR (KK D ca) D [.ref g] (([(g, .inr (1, [.int (nI (d 0)), .int (nI (d 1)), .ref lsq, .ref b3, .ref b4, .ref b5, .ref b6, .int (nI (d 3)), .ref b8, .ref b9, .ref b10, .ref b11]))] : va_W) ++ fz)) (vp_Si (fun zr => zr = nI (d 2))) 0 0 (fun _ => False) := by
  refine rd_head (by decide) (Nat.le_of_ble_eq_true rfl) ?_
  intro zp ze zs zm za zb zt zc ls zQ hx hb hml hr hlk hown hts hK hP hl hQ
  have hown : zs.vm.findClass RX1 = some zm.cls := hown
  have hl : lv_has ls 1 [(0, .ref g)] := hl
  have hF : CallFix zp zm zc cX1_many 1 zs za lw_all RX1 := ⟨hx, hb, hml, hown, hts⟩
  have hKK := hK
  have hK : K1 D ca zs := hKK.1
  have hd2 : d 2 ≤ 8 := hd.2.2.1
  have hd3 : d 3 ≤ 5 := hd.2.2.2.1
  have hd0 : d 0 ≤ 9 := hd.1
  have hd1 : d 1 ≤ 8 := hd.2.1
  refine lv_aload_n hx hb dX1_many_0 rfl (lv_at hl 0 rfl) ?_
  refine va_get (D := D) (ci := 1) (v := .ref lsq) (C := RX1) (T := TX1) (N := 12) hx hb hts in_X1 hown hK hP 0 rfl rfl 2 (by decide) (hts _ q140) (fun _ h9 => h9) rfl dX1_many_1 ?_
  obtain ⟨mo_4, eo_4, hls_4, -⟩ := id hsq
  refine li_size hF hKK hP (List.mem_append_right _ hls_4) q623 (by decide) hl.1 rfl (Nat.le_of_ble_eq_true rfl) dX1_many_4 ⟨Nat.zero_le _, Nat.zero_le _⟩ ?_
  exact rd_iret hx hb hr hlk hQ dX1_many_9 (by rfl)
set_option maxHeartbeats 4000000 in
theorem m_X1_isLamp (l : Launch) (D : va_G) (ca : Nat → ClassId) (g : Nat) (lsq : Nat) (b3 : Nat) (b4 : Nat) (b5 : Nat) (b6 : Nat) (b8 : Nat) (b9 : Nat) (b10 : Nat) (b11 : Nat) (d : Nat → Nat) (fz : va_W) (q : Nat) (hd : dOK d) (hsq : SqL ca fz lsq d) (hq : q < d 2) : Met l yX1_isLamp (ws_ yX1_isLamp cX1_isLamp 2 (some .boolean)) (rmL 0) (PcR (KK D ca) D [.ref g, .int (nI q)] (([(g, .inr (1, [.int (nI (d 0)), .int (nI (d 1)), .ref lsq, .ref b3, .ref b4, .ref b5, .ref b6, .int (nI (d 3)), .ref b8, .ref b9, .ref b10, .ref b11])), (b3, .inl (ca 0, 8, .inl (dv (shF d)))), (b6, .inl (ca 0, 8, .inl (seF d)))] : va_W) ++ fz)) (vp_Si (fun zr => zr = bI (lmpD d q))) 0 0 (fun _ => False) := by
  refine rd_head (by decide) (Nat.le_of_ble_eq_true rfl) ?_
  intro zp ze zs zm za zb zt zc ls zQ hx hb hml hr hlk hown hts hK hP hl hQ
  have hown : zs.vm.findClass RX1 = some zm.cls := hown
  have hl : lv_has ls 2 [(0, .ref g), (1, .int (nI q))] := hl
  have hF : CallFix zp zm zc cX1_isLamp 2 zs za lw_all RX1 := ⟨hx, hb, hml, hown, hts⟩
  have hKK := hK
  have hK : K1 D ca zs := hKK.1
  have hd2 : d 2 ≤ 8 := hd.2.2.1
  have hd3 : d 3 ≤ 5 := hd.2.2.2.1
  have hd0 : d 0 ≤ 9 := hd.1
  have hd1 : d 1 ≤ 8 := hd.2.1
  have hqq := hd.2.2.2.2.1 q (by omega)
  have hsh : shF d q = d (4 + 5 * q + 1) := rfl
  refine lv_aload_n hx hb dX1_isLamp_0 rfl (lv_at hl 0 rfl) ?_
  refine va_get (D := D) (ci := 1) (v := .ref b6) (C := RX1) (T := TX1) (N := 12) hx hb hts in_X1 hown hK hP 0 rfl rfl 6 (by decide) (hts _ q151) (fun _ h9 => h9) rfl dX1_isLamp_1 ?_
  refine lv_iload_n hx hb dX1_isLamp_4 rfl (lv_at hl 1 rfl) ?_
  refine wn_iald (v := (seF d) q) hx hb hK hP 2 0 rfl rfl (by omega) (by decide) rfl dX1_isLamp_5 ?_
  refine lv_ldc (v := (-1000000)) hx hb hown (hts _ q813) dX1_isLamp_6 ?_
  refine lv_icmp_ne (tgt := 32) hx hb dX1_isLamp_8 (by decide) (fun c_8 => ?_) (fun c_8 => ?_)
  · rw [seF_0 hq (by omega)] at c_8
    refine lv_aload_n hx hb dX1_isLamp_32 rfl (lv_at hl 0 rfl) ?_
    refine va_get (D := D) (ci := 1) (v := .ref b6) (C := RX1) (T := TX1) (N := 12) hx hb hts in_X1 hown hK hP 0 rfl rfl 6 (by decide) (hts _ q151) (fun _ h9 => h9) rfl dX1_isLamp_33 ?_
    refine lv_iload_n hx hb dX1_isLamp_36 rfl (lv_at hl 1 rfl) ?_
    refine wn_iald (v := (seF d) q) hx hb hK hP 2 0 rfl rfl (by omega) (by decide) rfl dX1_isLamp_37 ?_
    refine lv_iconst (v := nI 1) hx hb dX1_isLamp_38 rfl ?_
    refine lv_icmp_ne (tgt := 46) hx hb dX1_isLamp_39 (by decide) (fun c_39 => ?_) (fun c_39 => ?_)
    · rw [seF_1 hq (by omega) c_8, nI_eq (by omega) (by omega)] at c_39
      refine lv_iconst (v := nI 0) hx hb dX1_isLamp_46 rfl ?_
      refine W.eq (g2 := F0 zm 47 ls [.int (bI false)]) rfl ?_
      exact rd_zret hx hb hr hlk hQ dX1_isLamp_47 (by refine congrArg bI ?_; unfold lmpD; first | (rw [if_pos c_8]; simp; omega) | (rw [if_neg c_8]; simp; omega))
    · rw [seF_1 hq (by omega) c_8, nI_eq (by omega) (by omega)] at c_39
      refine lv_iconst (v := nI 1) hx hb dX1_isLamp_42 rfl ?_
      refine lv_goto (tgt := 47) hx hb dX1_isLamp_43 (by decide) ?_
      refine W.eq (g2 := F0 zm 47 ls [.int (bI true)]) rfl ?_
      exact rd_zret hx hb hr hlk hQ dX1_isLamp_47 (by refine congrArg bI ?_; unfold lmpD; first | (rw [if_pos c_8]; simp; omega) | (rw [if_neg c_8]; simp; omega))
  · rw [seF_0 hq (by omega)] at c_8
    refine lv_aload_n hx hb dX1_isLamp_11 rfl (lv_at hl 0 rfl) ?_
    refine va_get (D := D) (ci := 1) (v := .ref b3) (C := RX1) (T := TX1) (N := 12) hx hb hts in_X1 hown hK hP 0 rfl rfl 3 (by decide) (hts _ q143) (fun _ h9 => h9) rfl dX1_isLamp_12 ?_
    refine lv_iload_n hx hb dX1_isLamp_15 rfl (lv_at hl 1 rfl) ?_
    refine wn_iald (v := nI (d (4 + 5 * q + 1))) hx hb hK hP 1 0 rfl rfl (by omega) (by decide) rfl dX1_isLamp_16 ?_
    refine lv_aload_n hx hb dX1_isLamp_17 rfl (lv_at hl 0 rfl) ?_
    refine va_get (D := D) (ci := 1) (v := .int (nI (d 0))) (C := RX1) (T := TX1) (N := 12) hx hb hts in_X1 hown hK hP 0 rfl rfl 0 (by decide) (hts _ q134) (fun _ h9 => h9) rfl dX1_isLamp_18 ?_
    refine wn_lt (tgt := 28) hx hb (by omega) (by omega) dX1_isLamp_21 (by decide) (fun c_21 => ?_) (fun c_21 => ?_)
    · have c_21n := Nat.not_le.mpr c_21
      refine lv_iconst (v := nI 0) hx hb dX1_isLamp_28 rfl ?_
      refine lv_goto (tgt := 47) hx hb dX1_isLamp_29 (by decide) ?_
      refine W.eq (g2 := F0 zm 47 ls [.int (bI false)]) rfl ?_
      exact rd_zret hx hb hr hlk hQ dX1_isLamp_47 (by refine congrArg bI ?_; unfold lmpD; first | (rw [if_pos c_8]; simp; omega) | (rw [if_neg c_8]; simp; omega))
    · have c_21n := Nat.not_lt.mpr c_21
      refine lv_iconst (v := nI 1) hx hb dX1_isLamp_24 rfl ?_
      refine lv_goto (tgt := 47) hx hb dX1_isLamp_25 (by decide) ?_
      refine W.eq (g2 := F0 zm 47 ls [.int (bI true)]) rfl ?_
      exact rd_zret hx hb hr hlk hQ dX1_isLamp_47 (by refine congrArg bI ?_; unfold lmpD; first | (rw [if_pos c_8]; simp; omega) | (rw [if_neg c_8]; simp; omega))
set_option maxHeartbeats 4000000 in
theorem m_X1_counts (l : Launch) (D : va_G) (ca : Nat → ClassId) (g : Nat) (lsq : Nat) (b3 : Nat) (b4 : Nat) (b5 : Nat) (b6 : Nat) (b8 : Nat) (b9 : Nat) (b10 : Nat) (b11 : Nat) (d : Nat → Nat) (fz : va_W) (q : Nat) (hd : dOK d) (hsq : SqL ca fz lsq d) (hq : q < d 2) : Met l yX1_counts (ws_ yX1_counts cX1_counts 2 (some .boolean)) (rmL 3) (PcR (KK D ca) D [.ref g, .int (nI q)] (([(g, .inr (1, [.int (nI (d 0)), .int (nI (d 1)), .ref lsq, .ref b3, .ref b4, .ref b5, .ref b6, .int (nI (d 3)), .ref b8, .ref b9, .ref b10, .ref b11])), (b6, .inl (ca 0, 8, .inl (seF d)))] : va_W) ++ fz)) (vp_Si (fun zr => zr = bI (cntD d q))) 0 0 (fun _ => False) := by
  refine rd_head (by decide) (Nat.le_of_ble_eq_true rfl) ?_
  intro zp ze zs zm za zb zt zc ls zQ hx hb hml hr hlk hown hts hK hP hl hQ
  have hown : zs.vm.findClass RX1 = some zm.cls := hown
  have hl : lv_has ls 2 [(0, .ref g), (1, .int (nI q))] := hl
  have hF : CallFix zp zm zc cX1_counts 2 zs za lw_all RX1 := ⟨hx, hb, hml, hown, hts⟩
  have hKK := hK
  have hK : K1 D ca zs := hKK.1
  have hd2 : d 2 ≤ 8 := hd.2.2.1
  have hd3 : d 3 ≤ 5 := hd.2.2.2.1
  have hd0 : d 0 ≤ 9 := hd.1
  have hd1 : d 1 ≤ 8 := hd.2.1
  have hqq := hd.2.2.2.2.1 q (by omega)
  refine lv_aload_n hx hb dX1_counts_0 rfl (lv_at hl 0 rfl) ?_
  refine va_get (D := D) (ci := 1) (v := .ref lsq) (C := RX1) (T := TX1) (N := 12) hx hb hts in_X1 hown hK hP 0 rfl rfl 2 (by decide) (hts _ q140) (fun _ h9 => h9) rfl dX1_counts_1 ?_
  refine lv_iload_n hx hb dX1_counts_4 rfl (lv_at hl 1 rfl) ?_
  obtain ⟨mo_5, eo_5, na_5, fa_5, sa_5, hls_5, heo_5, hna_5, hnb_5, hfa_5, hsm_5⟩ := hsq.at (q := q) (by omega)
  have hk_5 : 1 ≤ d (4 + 5 * q + 0) ∧ d (4 + 5 * q + 0) ≤ 5 := ⟨hd.2.2.2.2.2.2 _ (by omega), (hd.2.2.2.2.1 _ (by omega)).1⟩
  refine li_get hF hKK hP (List.mem_append_right _ hls_5) (List.mem_append_right _ heo_5) hna_5 hnb_5 hfa_5 q759 (by decide) hl.1 rfl (Nat.le_of_ble_eq_true rfl) dX1_counts_5 ⟨Nat.zero_le _, Nat.zero_le _⟩ ?_
  refine sq_cast (k := (d (4 + 5 * q + 0))) hx hb hown (hts _ q775) hKK hP (List.mem_append_right _ hsm_5) hk_5 dX1_counts_10 ?_
  refine sq_counts (k := (d (4 + 5 * q + 0))) hF hKK hP (List.mem_append_right _ hsm_5) hk_5 q822 (by decide) hl.1 rfl (Nat.le_of_ble_eq_true rfl) dX1_counts_13 ⟨Nat.zero_le _, Nat.zero_le _⟩ ?_
  refine wb_ne (tgt := 30) hx hb dX1_counts_16 (by decide) (fun c_16 => ?_) (fun c_16 => ?_)
  · refine lv_iconst (v := nI 1) hx hb dX1_counts_30 rfl ?_
    refine lv_goto (tgt := 35) hx hb dX1_counts_31 (by decide) ?_
    refine W.eq (g2 := F0 zm 35 ls [.int (bI true)]) rfl ?_
    exact rd_zret hx hb hr hlk hQ dX1_counts_35 (by refine congrArg bI ?_; unfold cntD; simp at c_16; simp; omega)
  · refine lv_aload_n hx hb dX1_counts_19 rfl (lv_at hl 0 rfl) ?_
    refine va_get (D := D) (ci := 1) (v := .ref b6) (C := RX1) (T := TX1) (N := 12) hx hb hts in_X1 hown hK hP 0 rfl rfl 6 (by decide) (hts _ q151) (fun _ h9 => h9) rfl dX1_counts_20 ?_
    refine lv_iload_n hx hb dX1_counts_23 rfl (lv_at hl 1 rfl) ?_
    refine wn_iald (v := (seF d) q) hx hb hK hP 1 0 rfl rfl (by omega) (by decide) rfl dX1_counts_24 ?_
    refine lv_ldc (v := (-1000000)) hx hb hown (hts _ q813) dX1_counts_25 ?_
    refine lv_icmp_eq (tgt := 34) hx hb dX1_counts_27 (by decide) (fun c_27 => ?_) (fun c_27 => ?_)
    · rw [seF_0 hq (by omega)] at c_27
      refine lv_iconst (v := nI 0) hx hb dX1_counts_34 rfl ?_
      refine W.eq (g2 := F0 zm 35 ls [.int (bI false)]) rfl ?_
      exact rd_zret hx hb hr hlk hQ dX1_counts_35 (by refine congrArg bI ?_; unfold cntD; simp at c_16; simp; omega)
    · rw [seF_0 hq (by omega)] at c_27
      refine lv_iconst (v := nI 1) hx hb dX1_counts_30 rfl ?_
      refine lv_goto (tgt := 35) hx hb dX1_counts_31 (by decide) ?_
      refine W.eq (g2 := F0 zm 35 ls [.int (bI true)]) rfl ?_
      exact rd_zret hx hb hr hlk hQ dX1_counts_35 (by refine congrArg bI ?_; unfold cntD; simp at c_16; simp; omega)
set_option maxHeartbeats 4000000 in
theorem m_X1_sees (l : Launch) (D : va_G) (ca : Nat → ClassId) (g : Nat) (lsq : Nat) (b3 : Nat) (b4 : Nat) (b5 : Nat) (b6 : Nat) (b8 : Nat) (b9 : Nat) (b10 : Nat) (b11 : Nat) (d : Nat → Nat) (fz : va_W) (v : Nat) (q : Nat) (hd : dOK d) (hsq : SqL ca fz lsq d) (hv : v < d 3) (hq : q < d 2) : Met l yX1_sees (ws_ yX1_sees cX1_sees 3 (some .int)) (rmL 3) (PcR (KK D ca) D [.ref g, .int (nI v), .int (nI q)] (([(g, .inr (1, [.int (nI (d 0)), .int (nI (d 1)), .ref lsq, .ref b3, .ref b4, .ref b5, .ref b6, .int (nI (d 3)), .ref b8, .ref b9, .ref b10, .ref b11])), (b3, .inl (ca 0, 8, .inl (dv (shF d)))), (b8, .inl (ca 0, 5, .inl (dv (caF d)))), (b9, .inl (ca 0, 5, .inl (dv (eaF d))))] : va_W) ++ fz)) (vp_Si (fun zr => zr = nI (seesN (d (4 + 5 * q + 0)) (d (4 + 5 * q + 1)) (d (44 + 4 * v + 0)) (d (44 + 4 * v + 1))))) 0 0 (fun _ => False) := by
  refine rd_head (by decide) (Nat.le_of_ble_eq_true rfl) ?_
  intro zp ze zs zm za zb zt zc ls zQ hx hb hml hr hlk hown hts hK hP hl hQ
  have hown : zs.vm.findClass RX1 = some zm.cls := hown
  have hl : lv_has ls 3 [(0, .ref g), (1, .int (nI v)), (2, .int (nI q))] := hl
  have hF : CallFix zp zm zc cX1_sees 3 zs za lw_all RX1 := ⟨hx, hb, hml, hown, hts⟩
  have hKK := hK
  have hK : K1 D ca zs := hKK.1
  have hd2 : d 2 ≤ 8 := hd.2.2.1
  have hd3 : d 3 ≤ 5 := hd.2.2.2.1
  have hd0 : d 0 ≤ 9 := hd.1
  have hd1 : d 1 ≤ 8 := hd.2.1
  have hqq := hd.2.2.2.2.1 q (by omega)
  have hvv := hd.2.2.2.2.2.1 v (by omega)
  have hsh : shF d q = d (4 + 5 * q + 1) := rfl
  have hcr : caF d v = d (44 + 4 * v + 0) := rfl
  have hea : eaF d v = d (44 + 4 * v + 1) := rfl
  refine lv_aload_n hx hb dX1_sees_0 rfl (lv_at hl 0 rfl) ?_
  refine va_get (D := D) (ci := 1) (v := .ref lsq) (C := RX1) (T := TX1) (N := 12) hx hb hts in_X1 hown hK hP 0 rfl rfl 2 (by decide) (hts _ q140) (fun _ h9 => h9) rfl dX1_sees_1 ?_
  refine lv_iload_n hx hb dX1_sees_4 rfl (lv_at hl 2 rfl) ?_
  obtain ⟨mo_5, eo_5, na_5, fa_5, sa_5, hls_5, heo_5, hna_5, hnb_5, hfa_5, hsm_5⟩ := hsq.at (q := q) (by omega)
  have hk_5 : 1 ≤ d (4 + 5 * q + 0) ∧ d (4 + 5 * q + 0) ≤ 5 := ⟨hd.2.2.2.2.2.2 _ (by omega), (hd.2.2.2.2.1 _ (by omega)).1⟩
  refine li_get hF hKK hP (List.mem_append_right _ hls_5) (List.mem_append_right _ heo_5) hna_5 hnb_5 hfa_5 q759 (by decide) hl.1 rfl (Nat.le_of_ble_eq_true rfl) dX1_sees_5 ⟨Nat.zero_le _, Nat.zero_le _⟩ ?_
  refine sq_cast (k := (d (4 + 5 * q + 0))) hx hb hown (hts _ q775) hKK hP (List.mem_append_right _ hsm_5) hk_5 dX1_sees_10 ?_
  refine lv_aload_n hx hb dX1_sees_13 rfl (lv_at hl 0 rfl) ?_
  refine va_get (D := D) (ci := 1) (v := .ref b3) (C := RX1) (T := TX1) (N := 12) hx hb hts in_X1 hown hK hP 0 rfl rfl 3 (by decide) (hts _ q143) (fun _ h9 => h9) rfl dX1_sees_14 ?_
  refine lv_iload_n hx hb dX1_sees_17 rfl (lv_at hl 2 rfl) ?_
  refine wn_iald (v := nI (d (4 + 5 * q + 1))) hx hb hK hP 1 0 rfl rfl (by omega) (by decide) rfl dX1_sees_18 ?_
  refine lv_aload_n hx hb dX1_sees_19 rfl (lv_at hl 0 rfl) ?_
  refine va_get (D := D) (ci := 1) (v := .ref b8) (C := RX1) (T := TX1) (N := 12) hx hb hts in_X1 hown hK hP 0 rfl rfl 8 (by decide) (hts _ q157) (fun _ h9 => h9) rfl dX1_sees_20 ?_
  refine lv_iload_n hx hb dX1_sees_23 rfl (lv_at hl 1 rfl) ?_
  refine wn_iald (v := nI (d (44 + 4 * v + 0))) hx hb hK hP 2 0 rfl rfl (by omega) (by decide) rfl dX1_sees_24 ?_
  refine lv_aload_n hx hb dX1_sees_25 rfl (lv_at hl 0 rfl) ?_
  refine va_get (D := D) (ci := 1) (v := .ref b9) (C := RX1) (T := TX1) (N := 12) hx hb hts in_X1 hown hK hP 0 rfl rfl 9 (by decide) (hts _ q160) (fun _ h9 => h9) rfl dX1_sees_26 ?_
  refine lv_iload_n hx hb dX1_sees_29 rfl (lv_at hl 1 rfl) ?_
  refine wn_iald (v := nI (d (44 + 4 * v + 1))) hx hb hK hP 3 0 rfl rfl (by omega) (by decide) rfl dX1_sees_30 ?_
  refine sq_seen (k := (d (4 + 5 * q + 0))) (sh := d (4 + 5 * q + 1)) (cr := d (44 + 4 * v + 0)) (ea := d (44 + 4 * v + 1)) hF hKK hP (List.mem_append_right _ hsm_5) hk_5 (by omega) (by omega) (by omega) q879 (by decide) hl.1 rfl (Nat.le_of_ble_eq_true rfl) dX1_sees_31 ⟨Nat.zero_le _, Nat.zero_le _⟩ ?_
  exact rd_iret hx hb hr hlk hQ dX1_sees_34 (by rfl)
set_option maxHeartbeats 4000000 in
theorem m_X0_clicksBy (l : Launch) (D : va_G) (ca : Nat → ClassId) (sa : Nat) (k : Nat) (v : Int32) (sh : Nat) (cr : Nat) (ea : Nat) (fz : va_W) (hm : (sa, .inr (2 + k, [.int v])) ∈ fz) (hk : 1 ≤ k ∧ k ≤ 5) (h1 : sh ≤ 9) (h2 : cr ≤ 9) (h3 : ea ≤ 9) : Met l yX0_clicksBy (ws_ yX0_clicksBy cX0_clicksBy 4 (some .boolean)) (rmL 2) (PcR (KK D ca) D [.ref sa, .int (nI sh), .int (nI cr), .int (nI ea)] (([] : va_W) ++ fz)) (vp_Si (fun zr => zr = bI (clkB k sh cr ea))) 0 0 (fun _ => False) := by
  refine rd_head (by decide) (Nat.le_of_ble_eq_true rfl) ?_
  intro zp ze zs zm za zb zt zc ls zQ hx hb hml hr hlk hown hts hK hP hl hQ
  have hown : zs.vm.findClass RX0 = some zm.cls := hown
  have hl : lv_has ls 4 [(0, .ref sa), (1, .int (nI sh)), (2, .int (nI cr)), (3, .int (nI ea))] := hl
  have hF : CallFix zp zm zc cX0_clicksBy 4 zs za lw_all RX0 := ⟨hx, hb, hml, hown, hts⟩
  have hKK := hK
  have hK : K1 D ca zs := hKK.1
  have hse := seesN_le (k := k) (ca := cr) (ea := ea) h1
  refine lv_aload_n hx hb dX0_clicksBy_0 rfl (lv_at hl 0 rfl) ?_
  refine lv_iload_n hx hb dX0_clicksBy_1 rfl (lv_at hl 1 rfl) ?_
  refine lv_iload_n hx hb dX0_clicksBy_2 rfl (lv_at hl 2 rfl) ?_
  refine lv_iload_n hx hb dX0_clicksBy_3 rfl (lv_at hl 3 rfl) ?_
  refine sq_seen (k := k) (sh := sh) (cr := cr) (ea := ea) hF hKK hP (List.mem_append_right _ hm) hk (by omega) (by omega) (by omega) q779 (by decide) hl.1 rfl (Nat.le_of_ble_eq_true rfl) dX0_clicksBy_4 ⟨Nat.zero_le _, Nat.zero_le _⟩ ?_
  refine lv_bipush (v := nI 9) hx hb dX0_clicksBy_7 rfl ?_
  refine lv_iload_n hx hb dX0_clicksBy_9 rfl (lv_at hl 2 rfl) ?_
  refine wn_sub hx hb (by omega) dX0_clicksBy_10 ?_
  refine wn_le (tgt := 18) hx hb (by omega) (by omega) dX0_clicksBy_11 (by decide) (fun c_11 => ?_) (fun c_11 => ?_)
  · have c_11n := Nat.not_lt.mpr c_11
    refine lv_iconst (v := nI 0) hx hb dX0_clicksBy_18 rfl ?_
    refine W.eq (g2 := F0 zm 19 ls [.int (bI false)]) rfl ?_
    exact rd_zret hx hb hr hlk hQ dX0_clicksBy_19 (by refine congrArg bI ?_; simp only [clkB]; simp; omega)
  · have c_11n := Nat.not_le.mpr c_11
    refine lv_iconst (v := nI 1) hx hb dX0_clicksBy_14 rfl ?_
    refine lv_goto (tgt := 19) hx hb dX0_clicksBy_15 (by decide) ?_
    refine W.eq (g2 := F0 zm 19 ls [.int (bI true)]) rfl ?_
    exact rd_zret hx hb hr hlk hQ dX0_clicksBy_19 (by refine congrArg bI ?_; simp only [clkB]; simp; omega)
theorem cn_X0_clicksBy {R : Room} {s : State} {args : Array Value} {own : String} {index : Nat} {D : va_G} {ca : Nat → ClassId} (hts : ∀ w ∈ lw_all, w.before args s = true) (hKK : KK D ca s) (hl : Cond.methodLinkNest own index yX0_clicksBy "LampSquares" ∈ lw_tbl) {rm : Room} {mc ms : Nat} (hR : rm.frames + 1 ≤ R.frames ∧ 8 + (4 + 11) + rm.locals ≤ R.locals) (hc : rm.cells = mc := by rfl) (hs : rm.slots = ms := by rfl) : va_CN R s args own index yX0_clicksBy "LampSquares" cX0_clicksBy 4 (some .boolean) (ws_ yX0_clicksBy cX0_clicksBy 4 (some .boolean)) rm mc ms 4 ∧ (Cond.static yX0_clicksBy).before args s = true ∧ True := ⟨va_cnB 4 hts (lw_meth q778) rfl hc hs (hKK.2.1 _ hl rfl) (hts _ q58) (by decide +kernel) hR, hts _ q777, trivial⟩
set_option maxHeartbeats 4000000 in
theorem m_X1_clicks (l : Launch) (D : va_G) (ca : Nat → ClassId) (g : Nat) (lsq : Nat) (b3 : Nat) (b4 : Nat) (b5 : Nat) (b6 : Nat) (b8 : Nat) (b9 : Nat) (b10 : Nat) (b11 : Nat) (d : Nat → Nat) (fz : va_W) (v : Nat) (q : Nat) (hd : dOK d) (hsq : SqL ca fz lsq d) (hv : v < d 3) (hq : q < d 2) : Met l yX1_clicks (ws_ yX1_clicks cX1_clicks 3 (some .boolean)) (rmL 3) (PcR (KK D ca) D [.ref g, .int (nI v), .int (nI q)] (([(g, .inr (1, [.int (nI (d 0)), .int (nI (d 1)), .ref lsq, .ref b3, .ref b4, .ref b5, .ref b6, .int (nI (d 3)), .ref b8, .ref b9, .ref b10, .ref b11])), (b3, .inl (ca 0, 8, .inl (dv (shF d)))), (b8, .inl (ca 0, 5, .inl (dv (caF d)))), (b9, .inl (ca 0, 5, .inl (dv (eaF d))))] : va_W) ++ fz)) (vp_Si (fun zr => zr = bI (clkD d v q))) 0 0 (fun _ => False) := by
  refine rd_head (by decide) (Nat.le_of_ble_eq_true rfl) ?_
  intro zp ze zs zm za zb zt zc ls zQ hx hb hml hr hlk hown hts hK hP hl hQ
  have hown : zs.vm.findClass RX1 = some zm.cls := hown
  have hl : lv_has ls 3 [(0, .ref g), (1, .int (nI v)), (2, .int (nI q))] := hl
  have hF : CallFix zp zm zc cX1_clicks 3 zs za lw_all RX1 := ⟨hx, hb, hml, hown, hts⟩
  have hKK := hK
  have hK : K1 D ca zs := hKK.1
  have hd2 : d 2 ≤ 8 := hd.2.2.1
  have hd3 : d 3 ≤ 5 := hd.2.2.2.1
  have hd0 : d 0 ≤ 9 := hd.1
  have hd1 : d 1 ≤ 8 := hd.2.1
  have hqq := hd.2.2.2.2.1 q (by omega)
  have hvv := hd.2.2.2.2.2.1 v (by omega)
  have hsh : shF d q = d (4 + 5 * q + 1) := rfl
  have hcr : caF d v = d (44 + 4 * v + 0) := rfl
  have hea : eaF d v = d (44 + 4 * v + 1) := rfl
  refine lv_aload_n hx hb dX1_clicks_0 rfl (lv_at hl 0 rfl) ?_
  refine va_get (D := D) (ci := 1) (v := .ref lsq) (C := RX1) (T := TX1) (N := 12) hx hb hts in_X1 hown hK hP 0 rfl rfl 2 (by decide) (hts _ q140) (fun _ h9 => h9) rfl dX1_clicks_1 ?_
  refine lv_iload_n hx hb dX1_clicks_4 rfl (lv_at hl 2 rfl) ?_
  obtain ⟨mo_5, eo_5, na_5, fa_5, sa_5, hls_5, heo_5, hna_5, hnb_5, hfa_5, hsm_5⟩ := hsq.at (q := q) (by omega)
  have hk_5 : 1 ≤ d (4 + 5 * q + 0) ∧ d (4 + 5 * q + 0) ≤ 5 := ⟨hd.2.2.2.2.2.2 _ (by omega), (hd.2.2.2.2.1 _ (by omega)).1⟩
  refine li_get hF hKK hP (List.mem_append_right _ hls_5) (List.mem_append_right _ heo_5) hna_5 hnb_5 hfa_5 q759 (by decide) hl.1 rfl (Nat.le_of_ble_eq_true rfl) dX1_clicks_5 ⟨Nat.zero_le _, Nat.zero_le _⟩ ?_
  refine sq_cast (k := (d (4 + 5 * q + 0))) hx hb hown (hts _ q775) hKK hP (List.mem_append_right _ hsm_5) hk_5 dX1_clicks_10 ?_
  refine lv_aload_n hx hb dX1_clicks_13 rfl (lv_at hl 0 rfl) ?_
  refine va_get (D := D) (ci := 1) (v := .ref b3) (C := RX1) (T := TX1) (N := 12) hx hb hts in_X1 hown hK hP 0 rfl rfl 3 (by decide) (hts _ q143) (fun _ h9 => h9) rfl dX1_clicks_14 ?_
  refine lv_iload_n hx hb dX1_clicks_17 rfl (lv_at hl 2 rfl) ?_
  refine wn_iald (v := nI (d (4 + 5 * q + 1))) hx hb hK hP 1 0 rfl rfl (by omega) (by decide) rfl dX1_clicks_18 ?_
  refine lv_aload_n hx hb dX1_clicks_19 rfl (lv_at hl 0 rfl) ?_
  refine va_get (D := D) (ci := 1) (v := .ref b8) (C := RX1) (T := TX1) (N := 12) hx hb hts in_X1 hown hK hP 0 rfl rfl 8 (by decide) (hts _ q157) (fun _ h9 => h9) rfl dX1_clicks_20 ?_
  refine lv_iload_n hx hb dX1_clicks_23 rfl (lv_at hl 1 rfl) ?_
  refine wn_iald (v := nI (d (44 + 4 * v + 0))) hx hb hK hP 2 0 rfl rfl (by omega) (by decide) rfl dX1_clicks_24 ?_
  refine lv_aload_n hx hb dX1_clicks_25 rfl (lv_at hl 0 rfl) ?_
  refine va_get (D := D) (ci := 1) (v := .ref b9) (C := RX1) (T := TX1) (N := 12) hx hb hts in_X1 hown hK hP 0 rfl rfl 9 (by decide) (hts _ q160) (fun _ h9 => h9) rfl dX1_clicks_26 ?_
  refine lv_iload_n hx hb dX1_clicks_29 rfl (lv_at hl 1 rfl) ?_
  refine wn_iald (v := nI (d (44 + 4 * v + 1))) hx hb hK hP 3 0 rfl rfl (by omega) (by decide) rfl dX1_clicks_30 ?_
  refine rd_callSN hF (m_X0_clicksBy l D ca sa_5 ((d (4 + 5 * q + 0))) (nI q) (d (4 + 5 * q + 1)) (d (44 + 4 * v + 0)) (d (44 + 4 * v + 1)) fz (by exact hsm_5) (by exact hk_5) (by first | assumption | omega) (by first | assumption | omega) (by first | assumption | omega)) (cn_X0_clicksBy hts hKK q776 ⟨by decide, by decide⟩) (KK_mv D ca) hKK (wp_tail hP [] rfl) rfl hl.1 rfl (Nat.le_of_ble_eq_true rfl) dX1_clicks_31 ⟨Nat.zero_le _, Nat.zero_le _⟩ ?_
  exact rd_zret hx hb hr hlk hQ dX1_clicks_34 (by rfl)
theorem cs_X1_many {R : Room} {s : State} {args : Array Value} {own : String} {index : Nat} (hts : ∀ w ∈ lw_all, w.before args s = true) (hl : Cond.methodLink own index yX1_many ∈ lw_all) {rm : Room} {mc ms : Nat} (hR : rm.frames + 1 ≤ R.frames ∧ 8 + (1 + 11) + rm.locals ≤ R.locals) (hc : rm.cells = mc := by rfl) (hs : rm.slots = ms := by rfl) : CallW R s args own RX1 index yX1_many cX1_many 1 (some .int) (ws_ yX1_many cX1_many 1 (some .int)) rm mc ms 0 := cwV 0 hts (lw_V hl q619 q620 q59 q621) rfl hc hs (by decide +kernel) hR
theorem cs_X1_counts {R : Room} {s : State} {args : Array Value} {own : String} {index : Nat} (hts : ∀ w ∈ lw_all, w.before args s = true) (hl : Cond.methodLink own index yX1_counts ∈ lw_all) {rm : Room} {mc ms : Nat} (hR : rm.frames + 1 ≤ R.frames ∧ 8 + (2 + 11) + rm.locals ≤ R.locals) (hc : rm.cells = mc := by rfl) (hs : rm.slots = ms := by rfl) : CallW R s args own RX1 index yX1_counts cX1_counts 2 (some .boolean) (ws_ yX1_counts cX1_counts 2 (some .boolean)) rm mc ms 1 := cwV 1 hts (lw_V hl q819 q820 q59 q821) rfl hc hs (by decide +kernel) hR
set_option maxHeartbeats 4000000 in
theorem m_X1_counting (l : Launch) (D : va_G) (ca : Nat → ClassId) (g : Nat) (lsq : Nat) (b3 : Nat) (b4 : Nat) (b5 : Nat) (b6 : Nat) (b8 : Nat) (b9 : Nat) (b10 : Nat) (b11 : Nat) (d : Nat → Nat) (fz : va_W) (hd : dOK d) (hsq : SqL ca fz lsq d) : Met l yX1_counting (ws_ yX1_counting cX1_counting 3 (some .int)) (rmL 4) (PcR (KK D ca) D [.ref g] (([(g, .inr (1, [.int (nI (d 0)), .int (nI (d 1)), .ref lsq, .ref b3, .ref b4, .ref b5, .ref b6, .int (nI (d 3)), .ref b8, .ref b9, .ref b10, .ref b11])), (b6, .inl (ca 0, 8, .inl (seF d)))] : va_W) ++ fz)) (vp_Si (fun zr => zr = nI (setN (cntD d) (d 2)))) 0 0 (fun _ => False) := by
  refine rd_head (by decide) (Nat.le_of_ble_eq_true rfl) ?_
  intro zp ze zs zm za zb zt zc ls zQ hx hb hml hr hlk hown hts hK hP hl hQ
  have hown : zs.vm.findClass RX1 = some zm.cls := hown
  have hl : lv_has ls 3 [(0, .ref g)] := hl
  have hF : CallFix zp zm zc cX1_counting 3 zs za lw_all RX1 := ⟨hx, hb, hml, hown, hts⟩
  have hKK := hK
  have hK : K1 D ca zs := hKK.1
  have hd2 : d 2 ≤ 8 := hd.2.2.1
  have hd3 : d 3 ≤ 5 := hd.2.2.2.1
  have hd0 : d 0 ≤ 9 := hd.1
  have hd1 : d 1 ≤ 8 := hd.2.1
  refine lv_iconst (v := nI 0) hx hb dX1_counting_0 rfl ?_
  refine lv_istore_n (lv' := [(1, .int (nI 0)), (0, .ref g)]) hx hb dX1_counting_1 rfl hl (by decide) rfl (fun ls hl => ?_)
  refine lv_iconst (v := nI 0) hx hb dX1_counting_2 rfl ?_
  refine lv_istore_n (lv' := [(2, .int (nI 0)), (1, .int (nI 0)), (0, .ref g)]) hx hb dX1_counting_3 rfl hl (by decide) rfl (fun ls hl => ?_)
  have lp_4 : ∀ (zn : Nat) (i : Nat), (i ≤ d 2) →  (d 2 - i) < zn → ∀ (ls : Array Slot), lv_has ls 3 [(0, .ref g), (1, .int (nI (setN (cntD d) i))), (2, .int (nI i))] → W zp l ze (rmL 4) zs zm za zb zt zc zs.heap [] 0 0 zQ (F0 zm 4 ls []) := by
    intro zn
    induction zn with
    | zero => intro i hi hmu_4; exact absurd hmu_4 (Nat.not_lt_zero _)
    | succ zn ih_4 =>
      intro i hi hmu_4 ls hl
      have hp := pow_8 (show i ≤ 8 by omega)
      refine lv_iload_n hx hb dX1_counting_4 rfl (lv_at hl 2 rfl) ?_
      refine lv_aload_n hx hb dX1_counting_5 rfl (lv_at hl 0 rfl) ?_
      refine rd_callV hF (m_X1_many l D ca g lsq b3 b4 b5 b6 b8 b9 b10 b11 d fz (by assumption) (by assumption)) (cs_X1_many hts q753 ⟨by decide, by decide⟩) (KK_mv D ca) hKK (wp_tail hP [0] rfl) (va_recv hK hP (ci := 1) (q0 := 0) rfl rfl) rfl hl.1 rfl (Nat.le_of_ble_eq_true rfl) dX1_counting_6 ⟨Nat.zero_le _, Nat.zero_le _⟩ ?_
      refine wn_ge (tgt := 36) hx hb (by omega) (by omega) dX1_counting_9 (by decide) (fun c_9 => ?_) (fun c_9 => ?_)
      · have c_9n := Nat.not_lt.mpr c_9
        refine lv_iload_n hx hb dX1_counting_36 rfl (lv_at hl 1 rfl) ?_
        exact rd_iret hx hb hr hlk hQ dX1_counting_37 (by have hie : i = d 2 := (by omega); rw [hie])
      · have c_9n := Nat.not_le.mpr c_9
        refine lv_iload_n hx hb dX1_counting_12 rfl (lv_at hl 1 rfl) ?_
        refine lv_aload_n hx hb dX1_counting_13 rfl (lv_at hl 0 rfl) ?_
        refine lv_iload_n hx hb dX1_counting_14 rfl (lv_at hl 2 rfl) ?_
        refine rd_callV hF (m_X1_counts l D ca g lsq b3 b4 b5 b6 b8 b9 b10 b11 d fz i (by assumption) (by assumption) (by first | assumption | omega)) (cs_X1_counts hts q818 ⟨by decide, by decide⟩) (KK_mv D ca) hKK (wp_tail hP [0, 1] rfl) (va_recv hK hP (ci := 1) (q0 := 0) rfl rfl) rfl hl.1 rfl (Nat.le_of_ble_eq_true rfl) dX1_counting_15 ⟨Nat.zero_le _, Nat.zero_le _⟩ ?_
        refine wb_eq (tgt := 27) hx hb dX1_counting_18 (by decide) (fun c_18 => ?_) (fun c_18 => ?_)
        · refine lv_iconst (v := nI 0) hx hb dX1_counting_27 rfl ?_
          refine wn_or hx hb dX1_counting_28 ?_
          refine lv_istore_n (lv' := [(1, .int (nI ((setN (cntD d) i) ||| 0))), (0, .ref g), (2, .int (nI i))]) hx hb dX1_counting_29 rfl hl (by decide) rfl (fun ls hl => ?_)
          refine lv_iinc (v := nI (i + 1)) (lv' := [(2, .int (nI (i + 1))), (1, .int (nI ((setN (cntD d) i) ||| 0))), (0, .ref g)]) hx hb dX1_counting_30 hl (k := 2) rfl (nI_add i 1) (by decide) rfl (fun ls hl => ?_)
          refine lv_goto (tgt := 4) hx hb dX1_counting_33 (by decide) ?_
          have e_1 : (setN (cntD d) i) ||| 0 = setN (cntD d) (i + 1) := by first | rfl | (first | exact (setN_t _ (by assumption)).symm | exact (setN_f _ (by assumption)).symm)
          have e_2 : i + 1 = (i + 1) := by first | rfl | (first | exact (setN_t _ (by assumption)).symm | exact (setN_f _ (by assumption)).symm)
          exact ih_4 (i + 1) (by omega) (by omega) ls (lv_to (lv_sub hl [2, 1, 0] rfl) (Eq.trans (congrArg (fun x => ([(0, .ref g), (1, .int (nI x)), (2, .int (nI (i + 1)))] : List (Nat × Value))) e_1) (congrArg (fun x => ([(0, .ref g), (1, .int (nI (setN (cntD d) (i + 1)))), (2, .int (nI x))] : List (Nat × Value))) e_2)))
        · refine lv_iconst (v := nI 1) hx hb dX1_counting_21 rfl ?_
          refine lv_iload_n hx hb dX1_counting_22 rfl (lv_at hl 2 rfl) ?_
          refine wn_shl hx hb (by omega) (by omega) dX1_counting_23 ?_
          refine lv_goto (tgt := 28) hx hb dX1_counting_24 (by decide) ?_
          refine wn_or hx hb dX1_counting_28 ?_
          refine lv_istore_n (lv' := [(1, .int (nI ((setN (cntD d) i) ||| (1 * 2 ^ i)))), (0, .ref g), (2, .int (nI i))]) hx hb dX1_counting_29 rfl hl (by decide) rfl (fun ls hl => ?_)
          refine lv_iinc (v := nI (i + 1)) (lv' := [(2, .int (nI (i + 1))), (1, .int (nI ((setN (cntD d) i) ||| (1 * 2 ^ i)))), (0, .ref g)]) hx hb dX1_counting_30 hl (k := 2) rfl (nI_add i 1) (by decide) rfl (fun ls hl => ?_)
          refine lv_goto (tgt := 4) hx hb dX1_counting_33 (by decide) ?_
          have e_3 : (setN (cntD d) i) ||| (1 * 2 ^ i) = setN (cntD d) (i + 1) := by first | rfl | (first | exact (setN_t _ (by assumption)).symm | exact (setN_f _ (by assumption)).symm)
          have e_4 : i + 1 = (i + 1) := by first | rfl | (first | exact (setN_t _ (by assumption)).symm | exact (setN_f _ (by assumption)).symm)
          exact ih_4 (i + 1) (by omega) (by omega) ls (lv_to (lv_sub hl [2, 1, 0] rfl) (Eq.trans (congrArg (fun x => ([(0, .ref g), (1, .int (nI x)), (2, .int (nI (i + 1)))] : List (Nat × Value))) e_3) (congrArg (fun x => ([(0, .ref g), (1, .int (nI (setN (cntD d) (i + 1)))), (2, .int (nI x))] : List (Nat × Value))) e_4)))
  have e_5 : 0 = setN (cntD d) 0 := by first | rfl | (rfl)
  exact lp_4 ((d 2 - 0) + 1) 0 (by omega) (by omega) ls (lv_to (lv_sub hl [2, 1, 0] rfl) (congrArg (fun x => ([(0, .ref g), (1, .int (nI x)), (2, .int (nI 0))] : List (Nat × Value))) e_5))
theorem cs_X1_isLamp {R : Room} {s : State} {args : Array Value} {own : String} {index : Nat} (hts : ∀ w ∈ lw_all, w.before args s = true) (hl : Cond.methodLink own index yX1_isLamp ∈ lw_all) {rm : Room} {mc ms : Nat} (hR : rm.frames + 1 ≤ R.frames ∧ 8 + (2 + 11) + rm.locals ≤ R.locals) (hc : rm.cells = mc := by rfl) (hs : rm.slots = ms := by rfl) : CallW R s args own RX1 index yX1_isLamp cX1_isLamp 2 (some .boolean) (ws_ yX1_isLamp cX1_isLamp 2 (some .boolean)) rm mc ms 1 := cwV 1 hts (lw_V hl q810 q811 q59 q812) rfl hc hs (by decide +kernel) hR
set_option maxHeartbeats 4000000 in
theorem m_X1_lamps (l : Launch) (D : va_G) (ca : Nat → ClassId) (g : Nat) (lsq : Nat) (b3 : Nat) (b4 : Nat) (b5 : Nat) (b6 : Nat) (b8 : Nat) (b9 : Nat) (b10 : Nat) (b11 : Nat) (d : Nat → Nat) (fz : va_W) (hd : dOK d) (hsq : SqL ca fz lsq d) : Met l yX1_lamps (ws_ yX1_lamps cX1_lamps 3 (some .int)) (rmL 2) (PcR (KK D ca) D [.ref g] (([(g, .inr (1, [.int (nI (d 0)), .int (nI (d 1)), .ref lsq, .ref b3, .ref b4, .ref b5, .ref b6, .int (nI (d 3)), .ref b8, .ref b9, .ref b10, .ref b11])), (b3, .inl (ca 0, 8, .inl (dv (shF d)))), (b6, .inl (ca 0, 8, .inl (seF d)))] : va_W) ++ fz)) (vp_Si (fun zr => zr = nI (setN (lmpD d) (d 2)))) 0 0 (fun _ => False) := by
  refine rd_head (by decide) (Nat.le_of_ble_eq_true rfl) ?_
  intro zp ze zs zm za zb zt zc ls zQ hx hb hml hr hlk hown hts hK hP hl hQ
  have hown : zs.vm.findClass RX1 = some zm.cls := hown
  have hl : lv_has ls 3 [(0, .ref g)] := hl
  have hF : CallFix zp zm zc cX1_lamps 3 zs za lw_all RX1 := ⟨hx, hb, hml, hown, hts⟩
  have hKK := hK
  have hK : K1 D ca zs := hKK.1
  have hd2 : d 2 ≤ 8 := hd.2.2.1
  have hd3 : d 3 ≤ 5 := hd.2.2.2.1
  have hd0 : d 0 ≤ 9 := hd.1
  have hd1 : d 1 ≤ 8 := hd.2.1
  refine lv_iconst (v := nI 0) hx hb dX1_lamps_0 rfl ?_
  refine lv_istore_n (lv' := [(1, .int (nI 0)), (0, .ref g)]) hx hb dX1_lamps_1 rfl hl (by decide) rfl (fun ls hl => ?_)
  refine lv_iconst (v := nI 0) hx hb dX1_lamps_2 rfl ?_
  refine lv_istore_n (lv' := [(2, .int (nI 0)), (1, .int (nI 0)), (0, .ref g)]) hx hb dX1_lamps_3 rfl hl (by decide) rfl (fun ls hl => ?_)
  have lp_4 : ∀ (zn : Nat) (i : Nat), (i ≤ d 2) →  (d 2 - i) < zn → ∀ (ls : Array Slot), lv_has ls 3 [(0, .ref g), (1, .int (nI (setN (lmpD d) i))), (2, .int (nI i))] → W zp l ze (rmL 2) zs zm za zb zt zc zs.heap [] 0 0 zQ (F0 zm 4 ls []) := by
    intro zn
    induction zn with
    | zero => intro i hi hmu_4; exact absurd hmu_4 (Nat.not_lt_zero _)
    | succ zn ih_4 =>
      intro i hi hmu_4 ls hl
      have hp := pow_8 (show i ≤ 8 by omega)
      refine lv_iload_n hx hb dX1_lamps_4 rfl (lv_at hl 2 rfl) ?_
      refine lv_aload_n hx hb dX1_lamps_5 rfl (lv_at hl 0 rfl) ?_
      refine rd_callV hF (m_X1_many l D ca g lsq b3 b4 b5 b6 b8 b9 b10 b11 d fz (by assumption) (by assumption)) (cs_X1_many hts q753 ⟨by decide, by decide⟩) (KK_mv D ca) hKK (wp_tail hP [0] rfl) (va_recv hK hP (ci := 1) (q0 := 0) rfl rfl) rfl hl.1 rfl (Nat.le_of_ble_eq_true rfl) dX1_lamps_6 ⟨Nat.zero_le _, Nat.zero_le _⟩ ?_
      refine wn_ge (tgt := 36) hx hb (by omega) (by omega) dX1_lamps_9 (by decide) (fun c_9 => ?_) (fun c_9 => ?_)
      · have c_9n := Nat.not_lt.mpr c_9
        refine lv_iload_n hx hb dX1_lamps_36 rfl (lv_at hl 1 rfl) ?_
        exact rd_iret hx hb hr hlk hQ dX1_lamps_37 (by have hie : i = d 2 := (by omega); rw [hie])
      · have c_9n := Nat.not_le.mpr c_9
        refine lv_iload_n hx hb dX1_lamps_12 rfl (lv_at hl 1 rfl) ?_
        refine lv_aload_n hx hb dX1_lamps_13 rfl (lv_at hl 0 rfl) ?_
        refine lv_iload_n hx hb dX1_lamps_14 rfl (lv_at hl 2 rfl) ?_
        refine rd_callV hF (m_X1_isLamp l D ca g lsq b3 b4 b5 b6 b8 b9 b10 b11 d fz i (by assumption) (by assumption) (by first | assumption | omega)) (cs_X1_isLamp hts q809 ⟨by decide, by decide⟩) (KK_mv D ca) hKK (wp_tail hP [0, 1, 2] rfl) (va_recv hK hP (ci := 1) (q0 := 0) rfl rfl) rfl hl.1 rfl (Nat.le_of_ble_eq_true rfl) dX1_lamps_15 ⟨Nat.zero_le _, Nat.zero_le _⟩ ?_
        refine wb_eq (tgt := 27) hx hb dX1_lamps_18 (by decide) (fun c_18 => ?_) (fun c_18 => ?_)
        · refine lv_iconst (v := nI 0) hx hb dX1_lamps_27 rfl ?_
          refine wn_or hx hb dX1_lamps_28 ?_
          refine lv_istore_n (lv' := [(1, .int (nI ((setN (lmpD d) i) ||| 0))), (0, .ref g), (2, .int (nI i))]) hx hb dX1_lamps_29 rfl hl (by decide) rfl (fun ls hl => ?_)
          refine lv_iinc (v := nI (i + 1)) (lv' := [(2, .int (nI (i + 1))), (1, .int (nI ((setN (lmpD d) i) ||| 0))), (0, .ref g)]) hx hb dX1_lamps_30 hl (k := 2) rfl (nI_add i 1) (by decide) rfl (fun ls hl => ?_)
          refine lv_goto (tgt := 4) hx hb dX1_lamps_33 (by decide) ?_
          have e_1 : (setN (lmpD d) i) ||| 0 = setN (lmpD d) (i + 1) := by first | rfl | (first | exact (setN_t _ (by assumption)).symm | exact (setN_f _ (by assumption)).symm)
          have e_2 : i + 1 = (i + 1) := by first | rfl | (first | exact (setN_t _ (by assumption)).symm | exact (setN_f _ (by assumption)).symm)
          exact ih_4 (i + 1) (by omega) (by omega) ls (lv_to (lv_sub hl [2, 1, 0] rfl) (Eq.trans (congrArg (fun x => ([(0, .ref g), (1, .int (nI x)), (2, .int (nI (i + 1)))] : List (Nat × Value))) e_1) (congrArg (fun x => ([(0, .ref g), (1, .int (nI (setN (lmpD d) (i + 1)))), (2, .int (nI x))] : List (Nat × Value))) e_2)))
        · refine lv_iconst (v := nI 1) hx hb dX1_lamps_21 rfl ?_
          refine lv_iload_n hx hb dX1_lamps_22 rfl (lv_at hl 2 rfl) ?_
          refine wn_shl hx hb (by omega) (by omega) dX1_lamps_23 ?_
          refine lv_goto (tgt := 28) hx hb dX1_lamps_24 (by decide) ?_
          refine wn_or hx hb dX1_lamps_28 ?_
          refine lv_istore_n (lv' := [(1, .int (nI ((setN (lmpD d) i) ||| (1 * 2 ^ i)))), (0, .ref g), (2, .int (nI i))]) hx hb dX1_lamps_29 rfl hl (by decide) rfl (fun ls hl => ?_)
          refine lv_iinc (v := nI (i + 1)) (lv' := [(2, .int (nI (i + 1))), (1, .int (nI ((setN (lmpD d) i) ||| (1 * 2 ^ i)))), (0, .ref g)]) hx hb dX1_lamps_30 hl (k := 2) rfl (nI_add i 1) (by decide) rfl (fun ls hl => ?_)
          refine lv_goto (tgt := 4) hx hb dX1_lamps_33 (by decide) ?_
          have e_3 : (setN (lmpD d) i) ||| (1 * 2 ^ i) = setN (lmpD d) (i + 1) := by first | rfl | (first | exact (setN_t _ (by assumption)).symm | exact (setN_f _ (by assumption)).symm)
          have e_4 : i + 1 = (i + 1) := by first | rfl | (first | exact (setN_t _ (by assumption)).symm | exact (setN_f _ (by assumption)).symm)
          exact ih_4 (i + 1) (by omega) (by omega) ls (lv_to (lv_sub hl [2, 1, 0] rfl) (Eq.trans (congrArg (fun x => ([(0, .ref g), (1, .int (nI x)), (2, .int (nI (i + 1)))] : List (Nat × Value))) e_3) (congrArg (fun x => ([(0, .ref g), (1, .int (nI (setN (lmpD d) (i + 1)))), (2, .int (nI x))] : List (Nat × Value))) e_4)))
  have e_5 : 0 = setN (lmpD d) 0 := by first | rfl | (rfl)
  exact lp_4 ((d 2 - 0) + 1) 0 (by omega) (by omega) ls (lv_to (lv_sub hl [2, 1, 0] rfl) (congrArg (fun x => ([(0, .ref g), (1, .int (nI x)), (2, .int (nI 0))] : List (Nat × Value))) e_5))
theorem cs_X1_clicks {R : Room} {s : State} {args : Array Value} {own : String} {index : Nat} (hts : ∀ w ∈ lw_all, w.before args s = true) (hl : Cond.methodLink own index yX1_clicks ∈ lw_all) {rm : Room} {mc ms : Nat} (hR : rm.frames + 1 ≤ R.frames ∧ 8 + (3 + 11) + rm.locals ≤ R.locals) (hc : rm.cells = mc := by rfl) (hs : rm.slots = ms := by rfl) : CallW R s args own RX1 index yX1_clicks cX1_clicks 3 (some .boolean) (ws_ yX1_clicks cX1_clicks 3 (some .boolean)) rm mc ms 2 := cwV 2 hts (lw_V hl q755 q756 q59 q757) rfl hc hs (by decide +kernel) hR
set_option maxHeartbeats 4000000 in
theorem m_X1_clickers (l : Launch) (D : va_G) (ca : Nat → ClassId) (g : Nat) (lsq : Nat) (b3 : Nat) (b4 : Nat) (b5 : Nat) (b6 : Nat) (b8 : Nat) (b9 : Nat) (b10 : Nat) (b11 : Nat) (d : Nat → Nat) (fz : va_W) (q : Nat) (hd : dOK d) (hsq : SqL ca fz lsq d) (hq : q < d 2) : Met l yX1_clickers (ws_ yX1_clickers cX1_clickers 4 (some .int)) (rmL 4) (PcR (KK D ca) D [.ref g, .int (nI q)] (([(g, .inr (1, [.int (nI (d 0)), .int (nI (d 1)), .ref lsq, .ref b3, .ref b4, .ref b5, .ref b6, .int (nI (d 3)), .ref b8, .ref b9, .ref b10, .ref b11])), (b3, .inl (ca 0, 8, .inl (dv (shF d)))), (b8, .inl (ca 0, 5, .inl (dv (caF d)))), (b9, .inl (ca 0, 5, .inl (dv (eaF d))))] : va_W) ++ fz)) (vp_Si (fun zr => zr = nI (setN (fun z => clkD d z q) (d 3)))) 0 0 (fun _ => False) := by
  refine rd_head (by decide) (Nat.le_of_ble_eq_true rfl) ?_
  intro zp ze zs zm za zb zt zc ls zQ hx hb hml hr hlk hown hts hK hP hl hQ
  have hown : zs.vm.findClass RX1 = some zm.cls := hown
  have hl : lv_has ls 4 [(0, .ref g), (1, .int (nI q))] := hl
  have hF : CallFix zp zm zc cX1_clickers 4 zs za lw_all RX1 := ⟨hx, hb, hml, hown, hts⟩
  have hKK := hK
  have hK : K1 D ca zs := hKK.1
  have hd2 : d 2 ≤ 8 := hd.2.2.1
  have hd3 : d 3 ≤ 5 := hd.2.2.2.1
  have hd0 : d 0 ≤ 9 := hd.1
  have hd1 : d 1 ≤ 8 := hd.2.1
  refine lv_iconst (v := nI 0) hx hb dX1_clickers_0 rfl ?_
  refine lv_istore_n (lv' := [(2, .int (nI 0)), (0, .ref g), (1, .int (nI q))]) hx hb dX1_clickers_1 rfl hl (by decide) rfl (fun ls hl => ?_)
  refine lv_iconst (v := nI 0) hx hb dX1_clickers_2 rfl ?_
  refine lv_istore_n (lv' := [(3, .int (nI 0)), (2, .int (nI 0)), (0, .ref g), (1, .int (nI q))]) hx hb dX1_clickers_3 rfl hl (by decide) rfl (fun ls hl => ?_)
  have lp_4 : ∀ (zn : Nat) (i : Nat), (i ≤ d 3) →  (d 3 - i) < zn → ∀ (ls : Array Slot), lv_has ls 4 [(0, .ref g), (1, .int (nI q)), (2, .int (nI (setN (fun z => clkD d z q) i))), (3, .int (nI i))] → W zp l ze (rmL 4) zs zm za zb zt zc zs.heap [] 0 0 zQ (F0 zm 4 ls []) := by
    intro zn
    induction zn with
    | zero => intro i hi hmu_4; exact absurd hmu_4 (Nat.not_lt_zero _)
    | succ zn ih_4 =>
      intro i hi hmu_4 ls hl
      have hp := pow_8 (show i ≤ 8 by omega)
      refine lv_iload_n hx hb dX1_clickers_4 rfl (lv_at hl 3 rfl) ?_
      refine lv_aload_n hx hb dX1_clickers_5 rfl (lv_at hl 0 rfl) ?_
      refine va_get (D := D) (ci := 1) (v := .int (nI (d 3))) (C := RX1) (T := TX1) (N := 12) hx hb hts in_X1 hown hK hP 0 rfl rfl 7 (by decide) (hts _ q154) (fun _ h9 => h9) rfl dX1_clickers_6 ?_
      refine wn_ge (tgt := 37) hx hb (by omega) (by omega) dX1_clickers_9 (by decide) (fun c_9 => ?_) (fun c_9 => ?_)
      · have c_9n := Nat.not_lt.mpr c_9
        refine lv_iload_n hx hb dX1_clickers_37 rfl (lv_at hl 2 rfl) ?_
        exact rd_iret hx hb hr hlk hQ dX1_clickers_38 (by have hie : i = d 3 := (by omega); rw [hie])
      · have c_9n := Nat.not_le.mpr c_9
        refine lv_iload_n hx hb dX1_clickers_12 rfl (lv_at hl 2 rfl) ?_
        refine lv_aload_n hx hb dX1_clickers_13 rfl (lv_at hl 0 rfl) ?_
        refine lv_iload_n hx hb dX1_clickers_14 rfl (lv_at hl 3 rfl) ?_
        refine lv_iload_n hx hb dX1_clickers_15 rfl (lv_at hl 1 rfl) ?_
        refine rd_callV hF (m_X1_clicks l D ca g lsq b3 b4 b5 b6 b8 b9 b10 b11 d fz i q (by assumption) (by assumption) (by first | assumption | omega) (by first | assumption | omega)) (cs_X1_clicks hts q754 ⟨by decide, by decide⟩) (KK_mv D ca) hKK (wp_tail hP [0, 1, 2, 3] rfl) (va_recv hK hP (ci := 1) (q0 := 0) rfl rfl) rfl hl.1 rfl (Nat.le_of_ble_eq_true rfl) dX1_clickers_16 ⟨Nat.zero_le _, Nat.zero_le _⟩ ?_
        refine wb_eq (tgt := 28) hx hb dX1_clickers_19 (by decide) (fun c_19 => ?_) (fun c_19 => ?_)
        · refine lv_iconst (v := nI 0) hx hb dX1_clickers_28 rfl ?_
          refine wn_or hx hb dX1_clickers_29 ?_
          refine lv_istore_n (lv' := [(2, .int (nI ((setN (fun z => clkD d z q) i) ||| 0))), (0, .ref g), (1, .int (nI q)), (3, .int (nI i))]) hx hb dX1_clickers_30 rfl hl (by decide) rfl (fun ls hl => ?_)
          refine lv_iinc (v := nI (i + 1)) (lv' := [(3, .int (nI (i + 1))), (2, .int (nI ((setN (fun z => clkD d z q) i) ||| 0))), (0, .ref g), (1, .int (nI q))]) hx hb dX1_clickers_31 hl (k := 3) rfl (nI_add i 1) (by decide) rfl (fun ls hl => ?_)
          refine lv_goto (tgt := 4) hx hb dX1_clickers_34 (by decide) ?_
          have e_1 : (setN (fun z => clkD d z q) i) ||| 0 = setN (fun z => clkD d z q) (i + 1) := by first | rfl | (first | exact (setN_t _ (by assumption)).symm | exact (setN_f _ (by assumption)).symm)
          have e_2 : i + 1 = (i + 1) := by first | rfl | (first | exact (setN_t _ (by assumption)).symm | exact (setN_f _ (by assumption)).symm)
          exact ih_4 (i + 1) (by omega) (by omega) ls (lv_to (lv_sub hl [2, 3, 1, 0] rfl) (Eq.trans (congrArg (fun x => ([(0, .ref g), (1, .int (nI q)), (2, .int (nI x)), (3, .int (nI (i + 1)))] : List (Nat × Value))) e_1) (congrArg (fun x => ([(0, .ref g), (1, .int (nI q)), (2, .int (nI (setN (fun z => clkD d z q) (i + 1)))), (3, .int (nI x))] : List (Nat × Value))) e_2)))
        · refine lv_iconst (v := nI 1) hx hb dX1_clickers_22 rfl ?_
          refine lv_iload_n hx hb dX1_clickers_23 rfl (lv_at hl 3 rfl) ?_
          refine wn_shl hx hb (by omega) (by omega) dX1_clickers_24 ?_
          refine lv_goto (tgt := 29) hx hb dX1_clickers_25 (by decide) ?_
          refine wn_or hx hb dX1_clickers_29 ?_
          refine lv_istore_n (lv' := [(2, .int (nI ((setN (fun z => clkD d z q) i) ||| (1 * 2 ^ i)))), (0, .ref g), (1, .int (nI q)), (3, .int (nI i))]) hx hb dX1_clickers_30 rfl hl (by decide) rfl (fun ls hl => ?_)
          refine lv_iinc (v := nI (i + 1)) (lv' := [(3, .int (nI (i + 1))), (2, .int (nI ((setN (fun z => clkD d z q) i) ||| (1 * 2 ^ i)))), (0, .ref g), (1, .int (nI q))]) hx hb dX1_clickers_31 hl (k := 3) rfl (nI_add i 1) (by decide) rfl (fun ls hl => ?_)
          refine lv_goto (tgt := 4) hx hb dX1_clickers_34 (by decide) ?_
          have e_3 : (setN (fun z => clkD d z q) i) ||| (1 * 2 ^ i) = setN (fun z => clkD d z q) (i + 1) := by first | rfl | (first | exact (setN_t _ (by assumption)).symm | exact (setN_f _ (by assumption)).symm)
          have e_4 : i + 1 = (i + 1) := by first | rfl | (first | exact (setN_t _ (by assumption)).symm | exact (setN_f _ (by assumption)).symm)
          exact ih_4 (i + 1) (by omega) (by omega) ls (lv_to (lv_sub hl [2, 3, 1, 0] rfl) (Eq.trans (congrArg (fun x => ([(0, .ref g), (1, .int (nI q)), (2, .int (nI x)), (3, .int (nI (i + 1)))] : List (Nat × Value))) e_3) (congrArg (fun x => ([(0, .ref g), (1, .int (nI q)), (2, .int (nI (setN (fun z => clkD d z q) (i + 1)))), (3, .int (nI x))] : List (Nat × Value))) e_4)))
  have e_5 : 0 = setN (fun z => clkD d z q) 0 := by first | rfl | (rfl)
  exact lp_4 ((d 3 - 0) + 1) 0 (by omega) (by omega) ls (lv_to (lv_sub hl [2, 3, 1, 0] rfl) (congrArg (fun x => ([(0, .ref g), (1, .int (nI q)), (2, .int (nI x)), (3, .int (nI 0))] : List (Nat × Value))) e_5))
set_option maxHeartbeats 4000000 in
theorem m_X1_clicked (l : Launch) (D : va_G) (ca : Nat → ClassId) (g : Nat) (lsq : Nat) (b3 : Nat) (b4 : Nat) (b5 : Nat) (b6 : Nat) (b8 : Nat) (b9 : Nat) (b10 : Nat) (b11 : Nat) (d : Nat → Nat) (fz : va_W) (v : Nat) (hd : dOK d) (hsq : SqL ca fz lsq d) (hv : v < d 3) : Met l yX1_clicked (ws_ yX1_clicked cX1_clicked 4 (some .int)) (rmL 4) (PcR (KK D ca) D [.ref g, .int (nI v)] (([(g, .inr (1, [.int (nI (d 0)), .int (nI (d 1)), .ref lsq, .ref b3, .ref b4, .ref b5, .ref b6, .int (nI (d 3)), .ref b8, .ref b9, .ref b10, .ref b11])), (b3, .inl (ca 0, 8, .inl (dv (shF d)))), (b8, .inl (ca 0, 5, .inl (dv (caF d)))), (b9, .inl (ca 0, 5, .inl (dv (eaF d))))] : va_W) ++ fz)) (vp_Si (fun zr => zr = nI (clkN d v (d 2)))) 0 0 (fun _ => False) := by
  refine rd_head (by decide) (Nat.le_of_ble_eq_true rfl) ?_
  intro zp ze zs zm za zb zt zc ls zQ hx hb hml hr hlk hown hts hK hP hl hQ
  have hown : zs.vm.findClass RX1 = some zm.cls := hown
  have hl : lv_has ls 4 [(0, .ref g), (1, .int (nI v))] := hl
  have hF : CallFix zp zm zc cX1_clicked 4 zs za lw_all RX1 := ⟨hx, hb, hml, hown, hts⟩
  have hKK := hK
  have hK : K1 D ca zs := hKK.1
  have hd2 : d 2 ≤ 8 := hd.2.2.1
  have hd3 : d 3 ≤ 5 := hd.2.2.2.1
  have hd0 : d 0 ≤ 9 := hd.1
  have hd1 : d 1 ≤ 8 := hd.2.1
  refine lv_iconst (v := nI 0) hx hb dX1_clicked_0 rfl ?_
  refine lv_istore_n (lv' := [(2, .int (nI 0)), (0, .ref g), (1, .int (nI v))]) hx hb dX1_clicked_1 rfl hl (by decide) rfl (fun ls hl => ?_)
  refine lv_iconst (v := nI 0) hx hb dX1_clicked_2 rfl ?_
  refine lv_istore_n (lv' := [(3, .int (nI 0)), (2, .int (nI 0)), (0, .ref g), (1, .int (nI v))]) hx hb dX1_clicked_3 rfl hl (by decide) rfl (fun ls hl => ?_)
  have lp_4 : ∀ (zn : Nat) (i : Nat), (i ≤ d 2) →  (d 2 - i) < zn → ∀ (ls : Array Slot), lv_has ls 4 [(0, .ref g), (1, .int (nI v)), (2, .int (nI (setN (fun z => clkD d v z) i))), (3, .int (nI i))] → W zp l ze (rmL 4) zs zm za zb zt zc zs.heap [] 0 0 zQ (F0 zm 4 ls []) := by
    intro zn
    induction zn with
    | zero => intro i hi hmu_4; exact absurd hmu_4 (Nat.not_lt_zero _)
    | succ zn ih_4 =>
      intro i hi hmu_4 ls hl
      have hp := pow_8 (show i ≤ 8 by omega)
      refine lv_iload_n hx hb dX1_clicked_4 rfl (lv_at hl 3 rfl) ?_
      refine lv_aload_n hx hb dX1_clicked_5 rfl (lv_at hl 0 rfl) ?_
      refine rd_callV hF (m_X1_many l D ca g lsq b3 b4 b5 b6 b8 b9 b10 b11 d fz (by assumption) (by assumption)) (cs_X1_many hts q753 ⟨by decide, by decide⟩) (KK_mv D ca) hKK (wp_tail hP [0] rfl) (va_recv hK hP (ci := 1) (q0 := 0) rfl rfl) rfl hl.1 rfl (Nat.le_of_ble_eq_true rfl) dX1_clicked_6 ⟨Nat.zero_le _, Nat.zero_le _⟩ ?_
      refine wn_ge (tgt := 37) hx hb (by omega) (by omega) dX1_clicked_9 (by decide) (fun c_9 => ?_) (fun c_9 => ?_)
      · have c_9n := Nat.not_lt.mpr c_9
        refine lv_iload_n hx hb dX1_clicked_37 rfl (lv_at hl 2 rfl) ?_
        exact rd_iret hx hb hr hlk hQ dX1_clicked_38 (by have hie : i = d 2 := (by omega); rw [hie]; rfl)
      · have c_9n := Nat.not_le.mpr c_9
        refine lv_iload_n hx hb dX1_clicked_12 rfl (lv_at hl 2 rfl) ?_
        refine lv_aload_n hx hb dX1_clicked_13 rfl (lv_at hl 0 rfl) ?_
        refine lv_iload_n hx hb dX1_clicked_14 rfl (lv_at hl 1 rfl) ?_
        refine lv_iload_n hx hb dX1_clicked_15 rfl (lv_at hl 3 rfl) ?_
        refine rd_callV hF (m_X1_clicks l D ca g lsq b3 b4 b5 b6 b8 b9 b10 b11 d fz v i (by assumption) (by assumption) (by first | assumption | omega) (by first | assumption | omega)) (cs_X1_clicks hts q754 ⟨by decide, by decide⟩) (KK_mv D ca) hKK (wp_tail hP [0, 1, 2, 3] rfl) (va_recv hK hP (ci := 1) (q0 := 0) rfl rfl) rfl hl.1 rfl (Nat.le_of_ble_eq_true rfl) dX1_clicked_16 ⟨Nat.zero_le _, Nat.zero_le _⟩ ?_
        refine wb_eq (tgt := 28) hx hb dX1_clicked_19 (by decide) (fun c_19 => ?_) (fun c_19 => ?_)
        · refine lv_iconst (v := nI 0) hx hb dX1_clicked_28 rfl ?_
          refine wn_or hx hb dX1_clicked_29 ?_
          refine lv_istore_n (lv' := [(2, .int (nI ((setN (fun z => clkD d v z) i) ||| 0))), (0, .ref g), (1, .int (nI v)), (3, .int (nI i))]) hx hb dX1_clicked_30 rfl hl (by decide) rfl (fun ls hl => ?_)
          refine lv_iinc (v := nI (i + 1)) (lv' := [(3, .int (nI (i + 1))), (2, .int (nI ((setN (fun z => clkD d v z) i) ||| 0))), (0, .ref g), (1, .int (nI v))]) hx hb dX1_clicked_31 hl (k := 3) rfl (nI_add i 1) (by decide) rfl (fun ls hl => ?_)
          refine lv_goto (tgt := 4) hx hb dX1_clicked_34 (by decide) ?_
          have e_1 : (setN (fun z => clkD d v z) i) ||| 0 = setN (fun z => clkD d v z) (i + 1) := by first | rfl | (first | exact (setN_t _ (by assumption)).symm | exact (setN_f _ (by assumption)).symm)
          have e_2 : i + 1 = (i + 1) := by first | rfl | (first | exact (setN_t _ (by assumption)).symm | exact (setN_f _ (by assumption)).symm)
          exact ih_4 (i + 1) (by omega) (by omega) ls (lv_to (lv_sub hl [2, 3, 1, 0] rfl) (Eq.trans (congrArg (fun x => ([(0, .ref g), (1, .int (nI v)), (2, .int (nI x)), (3, .int (nI (i + 1)))] : List (Nat × Value))) e_1) (congrArg (fun x => ([(0, .ref g), (1, .int (nI v)), (2, .int (nI (setN (fun z => clkD d v z) (i + 1)))), (3, .int (nI x))] : List (Nat × Value))) e_2)))
        · refine lv_iconst (v := nI 1) hx hb dX1_clicked_22 rfl ?_
          refine lv_iload_n hx hb dX1_clicked_23 rfl (lv_at hl 3 rfl) ?_
          refine wn_shl hx hb (by omega) (by omega) dX1_clicked_24 ?_
          refine lv_goto (tgt := 29) hx hb dX1_clicked_25 (by decide) ?_
          refine wn_or hx hb dX1_clicked_29 ?_
          refine lv_istore_n (lv' := [(2, .int (nI ((setN (fun z => clkD d v z) i) ||| (1 * 2 ^ i)))), (0, .ref g), (1, .int (nI v)), (3, .int (nI i))]) hx hb dX1_clicked_30 rfl hl (by decide) rfl (fun ls hl => ?_)
          refine lv_iinc (v := nI (i + 1)) (lv' := [(3, .int (nI (i + 1))), (2, .int (nI ((setN (fun z => clkD d v z) i) ||| (1 * 2 ^ i)))), (0, .ref g), (1, .int (nI v))]) hx hb dX1_clicked_31 hl (k := 3) rfl (nI_add i 1) (by decide) rfl (fun ls hl => ?_)
          refine lv_goto (tgt := 4) hx hb dX1_clicked_34 (by decide) ?_
          have e_3 : (setN (fun z => clkD d v z) i) ||| (1 * 2 ^ i) = setN (fun z => clkD d v z) (i + 1) := by first | rfl | (first | exact (setN_t _ (by assumption)).symm | exact (setN_f _ (by assumption)).symm)
          have e_4 : i + 1 = (i + 1) := by first | rfl | (first | exact (setN_t _ (by assumption)).symm | exact (setN_f _ (by assumption)).symm)
          exact ih_4 (i + 1) (by omega) (by omega) ls (lv_to (lv_sub hl [2, 3, 1, 0] rfl) (Eq.trans (congrArg (fun x => ([(0, .ref g), (1, .int (nI v)), (2, .int (nI x)), (3, .int (nI (i + 1)))] : List (Nat × Value))) e_3) (congrArg (fun x => ([(0, .ref g), (1, .int (nI v)), (2, .int (nI (setN (fun z => clkD d v z) (i + 1)))), (3, .int (nI x))] : List (Nat × Value))) e_4)))
  have e_5 : 0 = setN (fun z => clkD d v z) 0 := by first | rfl | (rfl)
  exact lp_4 ((d 2 - 0) + 1) 0 (by omega) (by omega) ls (lv_to (lv_sub hl [2, 3, 1, 0] rfl) (congrArg (fun x => ([(0, .ref g), (1, .int (nI v)), (2, .int (nI x)), (3, .int (nI 0))] : List (Nat × Value))) e_5))
set_option maxHeartbeats 4000000 in
theorem m_X1_allVotes (l : Launch) (D : va_G) (ca : Nat → ClassId) (g : Nat) (lsq : Nat) (b3 : Nat) (b4 : Nat) (b5 : Nat) (b6 : Nat) (b8 : Nat) (b9 : Nat) (b10 : Nat) (b11 : Nat) (d : Nat → Nat) (fz : va_W) (hd : dOK d) (hsq : SqL ca fz lsq d) : Met l yX1_allVotes (ws_ yX1_allVotes cX1_allVotes 3 (some .int)) (rmL 2) (PcR (KK D ca) D [.ref g] (([(g, .inr (1, [.int (nI (d 0)), .int (nI (d 1)), .ref lsq, .ref b3, .ref b4, .ref b5, .ref b6, .int (nI (d 3)), .ref b8, .ref b9, .ref b10, .ref b11])), (b4, .inl (ca 0, 8, .inl (dv (yeF d)))), (b5, .inl (ca 0, 8, .inl (dv (noF d))))] : va_W) ++ fz)) (vp_Si (fun zr => zr = nI (vtN d (d 2)))) 0 0 (fun _ => False) := by
  refine rd_head (by decide) (Nat.le_of_ble_eq_true rfl) ?_
  intro zp ze zs zm za zb zt zc ls zQ hx hb hml hr hlk hown hts hK hP hl hQ
  have hown : zs.vm.findClass RX1 = some zm.cls := hown
  have hl : lv_has ls 3 [(0, .ref g)] := hl
  have hF : CallFix zp zm zc cX1_allVotes 3 zs za lw_all RX1 := ⟨hx, hb, hml, hown, hts⟩
  have hKK := hK
  have hK : K1 D ca zs := hKK.1
  have hd2 : d 2 ≤ 8 := hd.2.2.1
  have hd3 : d 3 ≤ 5 := hd.2.2.2.1
  have hd0 : d 0 ≤ 9 := hd.1
  have hd1 : d 1 ≤ 8 := hd.2.1
  refine lv_iconst (v := nI 0) hx hb dX1_allVotes_0 rfl ?_
  refine lv_istore_n (lv' := [(1, .int (nI 0)), (0, .ref g)]) hx hb dX1_allVotes_1 rfl hl (by decide) rfl (fun ls hl => ?_)
  refine lv_iconst (v := nI 0) hx hb dX1_allVotes_2 rfl ?_
  refine lv_istore_n (lv' := [(2, .int (nI 0)), (1, .int (nI 0)), (0, .ref g)]) hx hb dX1_allVotes_3 rfl hl (by decide) rfl (fun ls hl => ?_)
  have lp_4 : ∀ (zn : Nat) (i : Nat), (i ≤ d 2) →  (d 2 - i) < zn → ∀ (ls : Array Slot), lv_has ls 3 [(0, .ref g), (1, .int (nI (vtN d i))), (2, .int (nI i))] → W zp l ze (rmL 2) zs zm za zb zt zc zs.heap [] 0 0 zQ (F0 zm 4 ls []) := by
    intro zn
    induction zn with
    | zero => intro i hi hmu_4; exact absurd hmu_4 (Nat.not_lt_zero _)
    | succ zn ih_4 =>
      intro i hi hmu_4 ls hl
      refine lv_iload_n hx hb dX1_allVotes_4 rfl (lv_at hl 2 rfl) ?_
      refine lv_aload_n hx hb dX1_allVotes_5 rfl (lv_at hl 0 rfl) ?_
      refine rd_callV hF (m_X1_many l D ca g lsq b3 b4 b5 b6 b8 b9 b10 b11 d fz (by assumption) (by assumption)) (cs_X1_many hts q753 ⟨by decide, by decide⟩) (KK_mv D ca) hKK (wp_tail hP [0] rfl) (va_recv hK hP (ci := 1) (q0 := 0) rfl rfl) rfl hl.1 rfl (Nat.le_of_ble_eq_true rfl) dX1_allVotes_6 ⟨Nat.zero_le _, Nat.zero_le _⟩ ?_
      refine wn_ge (tgt := 34) hx hb (by omega) (by omega) dX1_allVotes_9 (by decide) (fun c_9 => ?_) (fun c_9 => ?_)
      · have c_9n := Nat.not_lt.mpr c_9
        refine lv_iload_n hx hb dX1_allVotes_34 rfl (lv_at hl 1 rfl) ?_
        exact rd_iret hx hb hr hlk hQ dX1_allVotes_35 (by have hie : i = d 2 := (by omega); rw [hie])
      · have c_9n := Nat.not_le.mpr c_9
        refine lv_iload_n hx hb dX1_allVotes_12 rfl (lv_at hl 1 rfl) ?_
        refine lv_aload_n hx hb dX1_allVotes_13 rfl (lv_at hl 0 rfl) ?_
        refine va_get (D := D) (ci := 1) (v := .ref b4) (C := RX1) (T := TX1) (N := 12) hx hb hts in_X1 hown hK hP 0 rfl rfl 4 (by decide) (hts _ q147) (fun _ h9 => h9) rfl dX1_allVotes_14 ?_
        refine lv_iload_n hx hb dX1_allVotes_17 rfl (lv_at hl 2 rfl) ?_
        refine wn_iald (v := nI (d (4 + 5 * i + 2))) hx hb hK hP 1 0 rfl rfl (by omega) (by decide) rfl dX1_allVotes_18 ?_
        refine lv_aload_n hx hb dX1_allVotes_19 rfl (lv_at hl 0 rfl) ?_
        refine va_get (D := D) (ci := 1) (v := .ref b5) (C := RX1) (T := TX1) (N := 12) hx hb hts in_X1 hown hK hP 0 rfl rfl 5 (by decide) (hts _ q149) (fun _ h9 => h9) rfl dX1_allVotes_20 ?_
        refine lv_iload_n hx hb dX1_allVotes_23 rfl (lv_at hl 2 rfl) ?_
        refine wn_iald (v := nI (d (4 + 5 * i + 3))) hx hb hK hP 2 0 rfl rfl (by omega) (by decide) rfl dX1_allVotes_24 ?_
        refine wn_add hx hb dX1_allVotes_25 ?_
        refine wn_add hx hb dX1_allVotes_26 ?_
        refine lv_istore_n (lv' := [(1, .int (nI ((vtN d i) + ((d (4 + 5 * i + 2)) + (d (4 + 5 * i + 3)))))), (0, .ref g), (2, .int (nI i))]) hx hb dX1_allVotes_27 rfl hl (by decide) rfl (fun ls hl => ?_)
        refine lv_iinc (v := nI (i + 1)) (lv' := [(2, .int (nI (i + 1))), (1, .int (nI ((vtN d i) + ((d (4 + 5 * i + 2)) + (d (4 + 5 * i + 3)))))), (0, .ref g)]) hx hb dX1_allVotes_28 hl (k := 2) rfl (nI_add i 1) (by decide) rfl (fun ls hl => ?_)
        refine lv_goto (tgt := 4) hx hb dX1_allVotes_31 (by decide) ?_
        have e_1 : (vtN d i) + ((d (4 + 5 * i + 2)) + (d (4 + 5 * i + 3))) = vtN d (i + 1) := by first | rfl | (rfl)
        have e_2 : i + 1 = (i + 1) := by first | rfl | (rfl)
        exact ih_4 (i + 1) (by omega) (by omega) ls (lv_to (lv_sub hl [2, 1, 0] rfl) (Eq.trans (congrArg (fun x => ([(0, .ref g), (1, .int (nI x)), (2, .int (nI (i + 1)))] : List (Nat × Value))) e_1) (congrArg (fun x => ([(0, .ref g), (1, .int (nI (vtN d (i + 1)))), (2, .int (nI x))] : List (Nat × Value))) e_2)))
  have e_3 : 0 = vtN d 0 := by first | rfl | (rfl)
  exact lp_4 ((d 2 - 0) + 1) 0 (by omega) (by omega) ls (lv_to (lv_sub hl [2, 1, 0] rfl) (congrArg (fun x => ([(0, .ref g), (1, .int (nI x)), (2, .int (nI 0))] : List (Nat × Value))) e_3))
