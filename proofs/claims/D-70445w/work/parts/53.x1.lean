set_option maxRecDepth 100000
set_option maxHeartbeats 4000000 in
theorem m_X0_isIn (l : Launch) (D : va_G) (ca : Nat → ClassId) (v : Int64) (lo : Int64) (hi : Int64)  : Met l yX0_isIn (ws_ yX0_isIn cX0_isIn 6 (some .boolean)) (rmL 0) (PcR (K1 D ca) D [.long v, .long lo, .long hi] []) (vp_Si (fun zr => zr = bI (inB v lo hi))) 0 0 (fun _ => False) := by
  refine rd_head (by decide) (Nat.le_of_ble_eq_true rfl) ?_
  intro zp ze zs zm za zb zt zc ls zQ hx hb hml hr hlk hown hts hK hP hl hQ
  have hown : zs.vm.findClass RX0 = some zm.cls := hown
  have hl : lv_has ls 6 [(0, .long v), (2, .long lo), (4, .long hi)] := hl
  have hF : CallFix zp zm zc cX0_isIn 6 zs za lw_all RX0 := ⟨hx, hb, hml, hown, hts⟩
  refine lv_lload_n hx hb dX0_isIn_0 rfl (lv_at hl 0 rfl) ?_
  refine lv_lload_n hx hb dX0_isIn_1 rfl (lv_at hl 1 rfl) ?_
  refine W.lcmp hx hb dX0_isIn_2 ?_
  refine wl_lt (tgt := 17) hx hb dX0_isIn_3 (by decide) (fun c_3 => ?_) (fun c_3 => ?_)
  · refine lv_iconst (v := nI 0) hx hb dX0_isIn_17 rfl ?_
    refine W.eq (g2 := F0 zm 18 ls [.int (bI false)]) rfl ?_
    exact rd_zret hx hb hr hlk hQ dX0_isIn_18 (by refine congrArg bI ?_; simp [inB, c_3])
  · refine lv_lload_n hx hb dX0_isIn_6 rfl (lv_at hl 0 rfl) ?_
    refine lv_lload hx hb dX0_isIn_7 (lv_at hl 2 rfl) ?_
    refine W.lcmp hx hb dX0_isIn_9 ?_
    refine wl_gt (tgt := 17) hx hb dX0_isIn_10 (by decide) (fun c_10 => ?_) (fun c_10 => ?_)
    · refine lv_iconst (v := nI 0) hx hb dX0_isIn_17 rfl ?_
      refine W.eq (g2 := F0 zm 18 ls [.int (bI false)]) rfl ?_
      exact rd_zret hx hb hr hlk hQ dX0_isIn_18 (by refine congrArg bI ?_; simp [inB, c_3, c_10])
    · refine lv_iconst (v := nI 1) hx hb dX0_isIn_13 rfl ?_
      refine lv_goto (tgt := 18) hx hb dX0_isIn_14 (by decide) ?_
      refine W.eq (g2 := F0 zm 18 ls [.int (bI true)]) rfl ?_
      exact rd_zret hx hb hr hlk hQ dX0_isIn_18 (by refine congrArg bI ?_; simp [inB, c_3, c_10])
theorem cs_X0_isIn {R : Room} {s : State} {args : Array Value} {own : String} {index : Nat} (hts : ∀ w ∈ lw_all, w.before args s = true) (hl : Cond.methodLink own index yX0_isIn ∈ lw_all) {rm : Room} {mc ms : Nat} (hR : rm.frames + 1 ≤ R.frames ∧ 8 + (6 + 11) + rm.locals ≤ R.locals) (hc : rm.cells = mc := by rfl) (hs : rm.slots = ms := by rfl) : CallB R s args own index yX0_isIn cX0_isIn 6 (some .boolean) (ws_ yX0_isIn cX0_isIn 6 (some .boolean)) rm mc ms 3 ∧ (Cond.static yX0_isIn).before args s = true := va_cwS 3 hts (lw_S hl q303 q58 q304) rfl hc hs (by decide +kernel) hR
set_option maxHeartbeats 4000000 in
theorem m_X0_isRow (l : Launch) (D : va_G) (ca : Nat → ClassId) (r : Int32)  : Met l yX0_isRow (ws_ yX0_isRow cX0_isRow 1 (some .boolean)) (rmL 1) (PcR (K1 D ca) D [.int r] []) (vp_Si (fun zr => zr = bI (ltB r 8))) 0 0 (fun _ => False) := by
  refine rd_head (by decide) (Nat.le_of_ble_eq_true rfl) ?_
  intro zp ze zs zm za zb zt zc ls zQ hx hb hml hr hlk hown hts hK hP hl hQ
  have hown : zs.vm.findClass RX0 = some zm.cls := hown
  have hl : lv_has ls 1 [(0, .int r)] := hl
  have hF : CallFix zp zm zc cX0_isRow 1 zs za lw_all RX0 := ⟨hx, hb, hml, hown, hts⟩
  refine lv_iload_n hx hb dX0_isRow_0 rfl (lv_at hl 0 rfl) ?_
  refine lv_i2l hx hb dX0_isRow_1 rfl ?_
  refine lv_lconst (v := 0) hx hb dX0_isRow_2 rfl ?_
  refine lv_ldc2 (v := 7) hx hb hown (hts _ q301) dX0_isRow_3 ?_
  refine rd_callS hF (m_X0_isIn l D ca r.toInt64 0 7 ) (cs_X0_isIn hts q302 ⟨by decide, by decide⟩) (K1_mv D ca) hK (hP.sub [] rfl) rfl hl.1 rfl (Nat.le_of_ble_eq_true rfl) dX0_isRow_6 ⟨Nat.zero_le _, Nat.zero_le _⟩ ?_
  exact rd_zret hx hb hr hlk hQ dX0_isRow_9 (by rw [inB_c (n := 8) (by decide)])
set_option maxHeartbeats 4000000 in
theorem m_X0_isHalf (l : Launch) (D : va_G) (ca : Nat → ClassId) (x : Int32)  : Met l yX0_isHalf (ws_ yX0_isHalf cX0_isHalf 1 (some .boolean)) (rmL 1) (PcR (K1 D ca) D [.int x] []) (vp_Si (fun zr => zr = bI (ltB x 2))) 0 0 (fun _ => False) := by
  refine rd_head (by decide) (Nat.le_of_ble_eq_true rfl) ?_
  intro zp ze zs zm za zb zt zc ls zQ hx hb hml hr hlk hown hts hK hP hl hQ
  have hown : zs.vm.findClass RX0 = some zm.cls := hown
  have hl : lv_has ls 1 [(0, .int x)] := hl
  have hF : CallFix zp zm zc cX0_isHalf 1 zs za lw_all RX0 := ⟨hx, hb, hml, hown, hts⟩
  refine lv_iload_n hx hb dX0_isHalf_0 rfl (lv_at hl 0 rfl) ?_
  refine lv_i2l hx hb dX0_isHalf_1 rfl ?_
  refine lv_lconst (v := 0) hx hb dX0_isHalf_2 rfl ?_
  refine lv_lconst (v := 1) hx hb dX0_isHalf_3 rfl ?_
  refine rd_callS hF (m_X0_isIn l D ca x.toInt64 0 1 ) (cs_X0_isIn hts q302 ⟨by decide, by decide⟩) (K1_mv D ca) hK (hP.sub [] rfl) rfl hl.1 rfl (Nat.le_of_ble_eq_true rfl) dX0_isHalf_4 ⟨Nat.zero_le _, Nat.zero_le _⟩ ?_
  exact rd_zret hx hb hr hlk hQ dX0_isHalf_7 (by rw [inB_c (n := 2) (by decide)])
set_option maxHeartbeats 4000000 in
theorem m_X0_has (l : Launch) (D : va_G) (ca : Nat → ClassId) (set : Nat) (k : Nat) (h1 : set < 256) (h2 : k < 32) : Met l yX0_has (ws_ yX0_has cX0_has 2 (some .boolean)) (rmL 0) (PcR (K1 D ca) D [.int (nI set), .int (nI k)] []) (vp_Si (fun zr => zr = bI (hasN set k))) 0 0 (fun _ => False) := by
  refine rd_head (by decide) (Nat.le_of_ble_eq_true rfl) ?_
  intro zp ze zs zm za zb zt zc ls zQ hx hb hml hr hlk hown hts hK hP hl hQ
  have hown : zs.vm.findClass RX0 = some zm.cls := hown
  have hl : lv_has ls 2 [(0, .int (nI set)), (1, .int (nI k))] := hl
  have hF : CallFix zp zm zc cX0_has 2 zs za lw_all RX0 := ⟨hx, hb, hml, hown, hts⟩
  refine lv_iload_n hx hb dX0_has_0 rfl (lv_at hl 0 rfl) ?_
  refine lv_iload_n hx hb dX0_has_1 rfl (lv_at hl 1 rfl) ?_
  refine wn_shr hx hb (by omega) (by omega) dX0_has_2 ?_
  refine lv_iconst (v := nI 1) hx hb dX0_has_3 rfl ?_
  refine wn_and hx hb dX0_has_4 ?_
  refine lv_iconst (v := nI 1) hx hb dX0_has_5 rfl ?_
  refine wn_ne (tgt := 13) hx hb (by first | omega | (rw [and1]; omega)) (by first | omega | (rw [and1]; omega)) dX0_has_6 (by decide) (fun c_6 => ?_) (fun c_6 => ?_)
  · refine lv_iconst (v := nI 0) hx hb dX0_has_13 rfl ?_
    refine W.eq (g2 := F0 zm 14 ls [.int (bI false)]) rfl ?_
    exact rd_zret hx hb hr hlk hQ dX0_has_14 (by simp only [and1] at *; refine congrArg bI ?_; simp [hasN, c_6])
  · refine lv_iconst (v := nI 1) hx hb dX0_has_9 rfl ?_
    refine lv_goto (tgt := 14) hx hb dX0_has_10 (by decide) ?_
    refine W.eq (g2 := F0 zm 14 ls [.int (bI true)]) rfl ?_
    exact rd_zret hx hb hr hlk hQ dX0_has_14 (by simp only [and1] at *; refine congrArg bI ?_; simp [hasN, c_6])
set_option maxHeartbeats 4000000 in
theorem m_X0_isDoor (l : Launch) (D : va_G) (ca : Nat → ClassId) (h : Nat) (a0 : Nat) (a1 : Nat) (tg : Nat) (a6 : Nat) (a8 : Nat) (tr : Nat) (a11 : Nat) (tpd : Nat) (ac : Nat) (lat : Int32) (t1 : Int32) (g : Nat) (lsq : Nat) (b3 : Nat) (b4 : Nat) (b5 : Nat) (b6 : Nat) (b8 : Nat) (b9 : Nat) (b10 : Nat) (b11 : Nat) (d : Nat → Nat) (fz : va_W) (hd : dOK d) (hsq : SqL ca fz lsq d) : Met l yX0_isDoor (ws_ yX0_isDoor cX0_isDoor 1 (some .boolean)) (rmL 0) (PcR (KK D ca) D [.ref h] (([(h, .inr (0, [.ref a0, .ref a1, .int (nI tpd), .int lat, .ref g, .ref tg, .ref a6, .int (nI ac), .ref a8, .ref tr, .int t1, .ref a11])), (g, .inr (1, [.int (nI (d 0)), .int (nI (d 1)), .ref lsq, .ref b3, .ref b4, .ref b5, .ref b6, .int (nI (d 3)), .ref b8, .ref b9, .ref b10, .ref b11]))] : va_W) ++ fz)) (vp_Si (fun zr => zr = bI (decide (0 < d 0)))) 0 0 (fun _ => False) := by
  refine rd_head (by decide) (Nat.le_of_ble_eq_true rfl) ?_
  intro zp ze zs zm za zb zt zc ls zQ hx hb hml hr hlk hown hts hK hP hl hQ
  have hown : zs.vm.findClass RX0 = some zm.cls := hown
  have hl : lv_has ls 1 [(0, .ref h)] := hl
  have hF : CallFix zp zm zc cX0_isDoor 1 zs za lw_all RX0 := ⟨hx, hb, hml, hown, hts⟩
  have hKK := hK
  have hK : K1 D ca zs := hKK.1
  have hd2 : d 2 ≤ 8 := hd.2.2.1
  have hd3 : d 3 ≤ 5 := hd.2.2.2.1
  have hd0 : d 0 ≤ 9 := hd.1
  have hd1 : d 1 ≤ 8 := hd.2.1
  have hp2 := pow_8 hd2
  have hp3 := pow_8 (show d 3 ≤ 8 by omega)
  refine lv_aload_n hx hb dX0_isDoor_0 rfl (lv_at hl 0 rfl) ?_
  refine va_get (D := D) (ci := 0) (v := .ref g) (C := RX0) (T := TX0) (N := 12) hx hb hts in_X0 hown hK hP 0 rfl rfl 4 (by decide) (hts _ q260) (fun _ h9 => h9) rfl dX0_isDoor_1 ?_
  refine va_get (D := D) (ci := 1) (v := .int (nI (d 0))) (C := RX1) (T := TX1) (N := 12) hx hb hts in_X1 hown hK hP 1 rfl rfl 0 (by decide) (hts _ q136) (fun _ h9 => h9) rfl dX0_isDoor_4 ?_
  refine wn_ifle (tgt := 14) hx hb (by omega) dX0_isDoor_7 (by decide) (fun c_7 => ?_) (fun c_7 => ?_)
  · refine lv_iconst (v := nI 0) hx hb dX0_isDoor_14 rfl ?_
    refine W.eq (g2 := F0 zm 15 ls [.int (bI false)]) rfl ?_
    exact rd_zret hx hb hr hlk hQ dX0_isDoor_15 (by refine congrArg bI ?_; simp; omega)
  · refine lv_iconst (v := nI 1) hx hb dX0_isDoor_10 rfl ?_
    refine lv_goto (tgt := 15) hx hb dX0_isDoor_11 (by decide) ?_
    refine W.eq (g2 := F0 zm 15 ls [.int (bI true)]) rfl ?_
    exact rd_zret hx hb hr hlk hQ dX0_isDoor_15 (by refine congrArg bI ?_; simp; omega)
set_option maxHeartbeats 4000000 in
theorem m_X0_isSquare (l : Launch) (D : va_G) (ca : Nat → ClassId) (h : Nat) (a0 : Nat) (a1 : Nat) (tg : Nat) (a6 : Nat) (a8 : Nat) (tr : Nat) (a11 : Nat) (tpd : Nat) (ac : Nat) (lat : Int32) (t1 : Int32) (g : Nat) (lsq : Nat) (b3 : Nat) (b4 : Nat) (b5 : Nat) (b6 : Nat) (b8 : Nat) (b9 : Nat) (b10 : Nat) (b11 : Nat) (d : Nat → Nat) (fz : va_W) (x : Int32) (hd : dOK d) (hsq : SqL ca fz lsq d) : Met l yX0_isSquare (ws_ yX0_isSquare cX0_isSquare 2 (some .boolean)) (rmL 2) (PcR (KK D ca) D [.ref h, .int x] (([(h, .inr (0, [.ref a0, .ref a1, .int (nI tpd), .int lat, .ref g, .ref tg, .ref a6, .int (nI ac), .ref a8, .ref tr, .int t1, .ref a11])), (g, .inr (1, [.int (nI (d 0)), .int (nI (d 1)), .ref lsq, .ref b3, .ref b4, .ref b5, .ref b6, .int (nI (d 3)), .ref b8, .ref b9, .ref b10, .ref b11]))] : va_W) ++ fz)) (vp_Si (fun zr => zr = bI (ltB x (d 2)))) 0 0 (fun _ => False) := by
  refine rd_head (by decide) (Nat.le_of_ble_eq_true rfl) ?_
  intro zp ze zs zm za zb zt zc ls zQ hx hb hml hr hlk hown hts hK hP hl hQ
  have hown : zs.vm.findClass RX0 = some zm.cls := hown
  have hl : lv_has ls 2 [(0, .ref h), (1, .int x)] := hl
  have hF : CallFix zp zm zc cX0_isSquare 2 zs za lw_all RX0 := ⟨hx, hb, hml, hown, hts⟩
  have hKK := hK
  have hK : K1 D ca zs := hKK.1
  have hd2 : d 2 ≤ 8 := hd.2.2.1
  have hd3 : d 3 ≤ 5 := hd.2.2.2.1
  have hd0 : d 0 ≤ 9 := hd.1
  have hd1 : d 1 ≤ 8 := hd.2.1
  have hp2 := pow_8 hd2
  have hp3 := pow_8 (show d 3 ≤ 8 by omega)
  refine lv_iload_n hx hb dX0_isSquare_0 rfl (lv_at hl 1 rfl) ?_
  refine lv_i2l hx hb dX0_isSquare_1 rfl ?_
  refine lv_lconst (v := 0) hx hb dX0_isSquare_2 rfl ?_
  refine lv_aload_n hx hb dX0_isSquare_3 rfl (lv_at hl 0 rfl) ?_
  refine va_get (D := D) (ci := 0) (v := .ref g) (C := RX0) (T := TX0) (N := 12) hx hb hts in_X0 hown hK hP 0 rfl rfl 4 (by decide) (hts _ q260) (fun _ h9 => h9) rfl dX0_isSquare_4 ?_
  refine rd_callV hF (m_X1_many l D ca g lsq b3 b4 b5 b6 b8 b9 b10 b11 d fz (by assumption) (by assumption)) (cs_X1_many hts q715 ⟨by decide, by decide⟩) (KK_mv D ca) hKK (wp_tail hP [1] rfl) (va_recv hK hP (ci := 1) (q0 := 1) rfl rfl) rfl hl.1 rfl (Nat.le_of_ble_eq_true rfl) dX0_isSquare_7 ⟨Nat.zero_le _, Nat.zero_le _⟩ ?_
  refine lv_iconst (v := nI 1) hx hb dX0_isSquare_10 rfl ?_
  refine lv_isub hx hb dX0_isSquare_11 ?_
  refine lv_i2l hx hb dX0_isSquare_12 rfl ?_
  refine rd_callS hF (m_X0_isIn l D ca x.toInt64 0 (((nI (d 2)) - (nI 1)).toInt64) ) (cs_X0_isIn hts q302 ⟨by decide, by decide⟩) (K1_mv D ca) hK (hP.sub [] rfl) rfl hl.1 rfl (Nat.le_of_ble_eq_true rfl) dX0_isSquare_13 ⟨Nat.zero_le _, Nat.zero_le _⟩ ?_
  exact rd_zret hx hb hr hlk hQ dX0_isSquare_16 (by rw [inB_lt (by omega)])
set_option maxHeartbeats 4000000 in
theorem m_X0_isVisitor (l : Launch) (D : va_G) (ca : Nat → ClassId) (h : Nat) (a0 : Nat) (a1 : Nat) (tg : Nat) (a6 : Nat) (a8 : Nat) (tr : Nat) (a11 : Nat) (tpd : Nat) (ac : Nat) (lat : Int32) (t1 : Int32) (g : Nat) (lsq : Nat) (b3 : Nat) (b4 : Nat) (b5 : Nat) (b6 : Nat) (b8 : Nat) (b9 : Nat) (b10 : Nat) (b11 : Nat) (d : Nat → Nat) (fz : va_W) (x : Int32) (hd : dOK d) (hsq : SqL ca fz lsq d) : Met l yX0_isVisitor (ws_ yX0_isVisitor cX0_isVisitor 2 (some .boolean)) (rmL 1) (PcR (KK D ca) D [.ref h, .int x] (([(h, .inr (0, [.ref a0, .ref a1, .int (nI tpd), .int lat, .ref g, .ref tg, .ref a6, .int (nI ac), .ref a8, .ref tr, .int t1, .ref a11])), (g, .inr (1, [.int (nI (d 0)), .int (nI (d 1)), .ref lsq, .ref b3, .ref b4, .ref b5, .ref b6, .int (nI (d 3)), .ref b8, .ref b9, .ref b10, .ref b11]))] : va_W) ++ fz)) (vp_Si (fun zr => zr = bI (ltB x (d 3)))) 0 0 (fun _ => False) := by
  refine rd_head (by decide) (Nat.le_of_ble_eq_true rfl) ?_
  intro zp ze zs zm za zb zt zc ls zQ hx hb hml hr hlk hown hts hK hP hl hQ
  have hown : zs.vm.findClass RX0 = some zm.cls := hown
  have hl : lv_has ls 2 [(0, .ref h), (1, .int x)] := hl
  have hF : CallFix zp zm zc cX0_isVisitor 2 zs za lw_all RX0 := ⟨hx, hb, hml, hown, hts⟩
  have hKK := hK
  have hK : K1 D ca zs := hKK.1
  have hd2 : d 2 ≤ 8 := hd.2.2.1
  have hd3 : d 3 ≤ 5 := hd.2.2.2.1
  have hd0 : d 0 ≤ 9 := hd.1
  have hd1 : d 1 ≤ 8 := hd.2.1
  have hp2 := pow_8 hd2
  have hp3 := pow_8 (show d 3 ≤ 8 by omega)
  refine lv_iload_n hx hb dX0_isVisitor_0 rfl (lv_at hl 1 rfl) ?_
  refine lv_i2l hx hb dX0_isVisitor_1 rfl ?_
  refine lv_lconst (v := 0) hx hb dX0_isVisitor_2 rfl ?_
  refine lv_aload_n hx hb dX0_isVisitor_3 rfl (lv_at hl 0 rfl) ?_
  refine va_get (D := D) (ci := 0) (v := .ref g) (C := RX0) (T := TX0) (N := 12) hx hb hts in_X0 hown hK hP 0 rfl rfl 4 (by decide) (hts _ q260) (fun _ h9 => h9) rfl dX0_isVisitor_4 ?_
  refine va_get (D := D) (ci := 1) (v := .int (nI (d 3))) (C := RX1) (T := TX1) (N := 12) hx hb hts in_X1 hown hK hP 1 rfl rfl 7 (by decide) (hts _ q156) (fun _ h9 => h9) rfl dX0_isVisitor_7 ?_
  refine lv_iconst (v := nI 1) hx hb dX0_isVisitor_10 rfl ?_
  refine lv_isub hx hb dX0_isVisitor_11 ?_
  refine lv_i2l hx hb dX0_isVisitor_12 rfl ?_
  refine rd_callS hF (m_X0_isIn l D ca x.toInt64 0 (((nI (d 3)) - (nI 1)).toInt64) ) (cs_X0_isIn hts q302 ⟨by decide, by decide⟩) (K1_mv D ca) hK (hP.sub [] rfl) rfl hl.1 rfl (Nat.le_of_ble_eq_true rfl) dX0_isVisitor_13 ⟨Nat.zero_le _, Nat.zero_le _⟩ ?_
  exact rd_zret hx hb hr hlk hQ dX0_isVisitor_16 (by rw [inB_lt (by omega)])
set_option maxHeartbeats 4000000 in
theorem m_X0_areSquares (l : Launch) (D : va_G) (ca : Nat → ClassId) (h : Nat) (a0 : Nat) (a1 : Nat) (tg : Nat) (a6 : Nat) (a8 : Nat) (tr : Nat) (a11 : Nat) (tpd : Nat) (ac : Nat) (lat : Int32) (t1 : Int32) (g : Nat) (lsq : Nat) (b3 : Nat) (b4 : Nat) (b5 : Nat) (b6 : Nat) (b8 : Nat) (b9 : Nat) (b10 : Nat) (b11 : Nat) (d : Nat → Nat) (fz : va_W) (x : Int32) (hd : dOK d) (hsq : SqL ca fz lsq d) : Met l yX0_areSquares (ws_ yX0_areSquares cX0_areSquares 2 (some .boolean)) (rmL 2) (PcR (KK D ca) D [.ref h, .int x] (([(h, .inr (0, [.ref a0, .ref a1, .int (nI tpd), .int lat, .ref g, .ref tg, .ref a6, .int (nI ac), .ref a8, .ref tr, .int t1, .ref a11])), (g, .inr (1, [.int (nI (d 0)), .int (nI (d 1)), .ref lsq, .ref b3, .ref b4, .ref b5, .ref b6, .int (nI (d 3)), .ref b8, .ref b9, .ref b10, .ref b11]))] : va_W) ++ fz)) (vp_Si (fun zr => zr = bI (ltB x (2 ^ d 2)))) 0 0 (fun _ => False) := by
  refine rd_head (by decide) (Nat.le_of_ble_eq_true rfl) ?_
  intro zp ze zs zm za zb zt zc ls zQ hx hb hml hr hlk hown hts hK hP hl hQ
  have hown : zs.vm.findClass RX0 = some zm.cls := hown
  have hl : lv_has ls 2 [(0, .ref h), (1, .int x)] := hl
  have hF : CallFix zp zm zc cX0_areSquares 2 zs za lw_all RX0 := ⟨hx, hb, hml, hown, hts⟩
  have hKK := hK
  have hK : K1 D ca zs := hKK.1
  have hd2 : d 2 ≤ 8 := hd.2.2.1
  have hd3 : d 3 ≤ 5 := hd.2.2.2.1
  have hd0 : d 0 ≤ 9 := hd.1
  have hd1 : d 1 ≤ 8 := hd.2.1
  have hp2 := pow_8 hd2
  have hp3 := pow_8 (show d 3 ≤ 8 by omega)
  refine lv_iload_n hx hb dX0_areSquares_0 rfl (lv_at hl 1 rfl) ?_
  refine lv_i2l hx hb dX0_areSquares_1 rfl ?_
  refine lv_lconst (v := 0) hx hb dX0_areSquares_2 rfl ?_
  refine lv_iconst (v := nI 1) hx hb dX0_areSquares_3 rfl ?_
  refine lv_aload_n hx hb dX0_areSquares_4 rfl (lv_at hl 0 rfl) ?_
  refine va_get (D := D) (ci := 0) (v := .ref g) (C := RX0) (T := TX0) (N := 12) hx hb hts in_X0 hown hK hP 0 rfl rfl 4 (by decide) (hts _ q260) (fun _ h9 => h9) rfl dX0_areSquares_5 ?_
  refine rd_callV hF (m_X1_many l D ca g lsq b3 b4 b5 b6 b8 b9 b10 b11 d fz (by assumption) (by assumption)) (cs_X1_many hts q715 ⟨by decide, by decide⟩) (KK_mv D ca) hKK (wp_tail hP [1] rfl) (va_recv hK hP (ci := 1) (q0 := 1) rfl rfl) rfl hl.1 rfl (Nat.le_of_ble_eq_true rfl) dX0_areSquares_8 ⟨Nat.zero_le _, Nat.zero_le _⟩ ?_
  refine wn_shl hx hb (by omega) (by omega) dX0_areSquares_11 ?_
  refine lv_iconst (v := nI 1) hx hb dX0_areSquares_12 rfl ?_
  refine wn_sub hx hb (by omega) dX0_areSquares_13 ?_
  refine lv_i2l hx hb dX0_areSquares_14 rfl ?_
  refine rd_callS hF (m_X0_isIn l D ca x.toInt64 0 ((nI ((1 * 2 ^ (d 2)) - 1)).toInt64) ) (cs_X0_isIn hts q302 ⟨by decide, by decide⟩) (K1_mv D ca) hK (hP.sub [] rfl) rfl hl.1 rfl (Nat.le_of_ble_eq_true rfl) dX0_areSquares_15 ⟨Nat.zero_le _, Nat.zero_le _⟩ ?_
  exact rd_zret hx hb hr hlk hQ dX0_areSquares_18 (by rw [inB_le (n := 2 ^ d 2) (by omega) (by omega)])
set_option maxHeartbeats 4000000 in
theorem m_X0_areVisitors (l : Launch) (D : va_G) (ca : Nat → ClassId) (h : Nat) (a0 : Nat) (a1 : Nat) (tg : Nat) (a6 : Nat) (a8 : Nat) (tr : Nat) (a11 : Nat) (tpd : Nat) (ac : Nat) (lat : Int32) (t1 : Int32) (g : Nat) (lsq : Nat) (b3 : Nat) (b4 : Nat) (b5 : Nat) (b6 : Nat) (b8 : Nat) (b9 : Nat) (b10 : Nat) (b11 : Nat) (d : Nat → Nat) (fz : va_W) (x : Int32) (hd : dOK d) (hsq : SqL ca fz lsq d) : Met l yX0_areVisitors (ws_ yX0_areVisitors cX0_areVisitors 2 (some .boolean)) (rmL 1) (PcR (KK D ca) D [.ref h, .int x] (([(h, .inr (0, [.ref a0, .ref a1, .int (nI tpd), .int lat, .ref g, .ref tg, .ref a6, .int (nI ac), .ref a8, .ref tr, .int t1, .ref a11])), (g, .inr (1, [.int (nI (d 0)), .int (nI (d 1)), .ref lsq, .ref b3, .ref b4, .ref b5, .ref b6, .int (nI (d 3)), .ref b8, .ref b9, .ref b10, .ref b11]))] : va_W) ++ fz)) (vp_Si (fun zr => zr = bI (ltB x (2 ^ d 3)))) 0 0 (fun _ => False) := by
  refine rd_head (by decide) (Nat.le_of_ble_eq_true rfl) ?_
  intro zp ze zs zm za zb zt zc ls zQ hx hb hml hr hlk hown hts hK hP hl hQ
  have hown : zs.vm.findClass RX0 = some zm.cls := hown
  have hl : lv_has ls 2 [(0, .ref h), (1, .int x)] := hl
  have hF : CallFix zp zm zc cX0_areVisitors 2 zs za lw_all RX0 := ⟨hx, hb, hml, hown, hts⟩
  have hKK := hK
  have hK : K1 D ca zs := hKK.1
  have hd2 : d 2 ≤ 8 := hd.2.2.1
  have hd3 : d 3 ≤ 5 := hd.2.2.2.1
  have hd0 : d 0 ≤ 9 := hd.1
  have hd1 : d 1 ≤ 8 := hd.2.1
  have hp2 := pow_8 hd2
  have hp3 := pow_8 (show d 3 ≤ 8 by omega)
  refine lv_iload_n hx hb dX0_areVisitors_0 rfl (lv_at hl 1 rfl) ?_
  refine lv_i2l hx hb dX0_areVisitors_1 rfl ?_
  refine lv_lconst (v := 0) hx hb dX0_areVisitors_2 rfl ?_
  refine lv_iconst (v := nI 1) hx hb dX0_areVisitors_3 rfl ?_
  refine lv_aload_n hx hb dX0_areVisitors_4 rfl (lv_at hl 0 rfl) ?_
  refine va_get (D := D) (ci := 0) (v := .ref g) (C := RX0) (T := TX0) (N := 12) hx hb hts in_X0 hown hK hP 0 rfl rfl 4 (by decide) (hts _ q260) (fun _ h9 => h9) rfl dX0_areVisitors_5 ?_
  refine va_get (D := D) (ci := 1) (v := .int (nI (d 3))) (C := RX1) (T := TX1) (N := 12) hx hb hts in_X1 hown hK hP 1 rfl rfl 7 (by decide) (hts _ q156) (fun _ h9 => h9) rfl dX0_areVisitors_8 ?_
  refine wn_shl hx hb (by omega) (by omega) dX0_areVisitors_11 ?_
  refine lv_iconst (v := nI 1) hx hb dX0_areVisitors_12 rfl ?_
  refine wn_sub hx hb (by omega) dX0_areVisitors_13 ?_
  refine lv_i2l hx hb dX0_areVisitors_14 rfl ?_
  refine rd_callS hF (m_X0_isIn l D ca x.toInt64 0 ((nI ((1 * 2 ^ (d 3)) - 1)).toInt64) ) (cs_X0_isIn hts q302 ⟨by decide, by decide⟩) (K1_mv D ca) hK (hP.sub [] rfl) rfl hl.1 rfl (Nat.le_of_ble_eq_true rfl) dX0_areVisitors_15 ⟨Nat.zero_le _, Nat.zero_le _⟩ ?_
  exact rd_zret hx hb hr hlk hQ dX0_areVisitors_18 (by rw [inB_le (n := 2 ^ d 3) (by omega) (by omega)])
theorem cs_X0_isSquare {R : Room} {s : State} {args : Array Value} {own : String} {index : Nat} (hts : ∀ w ∈ lw_all, w.before args s = true) (hl : Cond.methodLink own index yX0_isSquare ∈ lw_all) {rm : Room} {mc ms : Nat} (hR : rm.frames + 1 ≤ R.frames ∧ 8 + (2 + 11) + rm.locals ≤ R.locals) (hc : rm.cells = mc := by rfl) (hs : rm.slots = ms := by rfl) : CallW R s args own RX0 index yX0_isSquare cX0_isSquare 2 (some .boolean) (ws_ yX0_isSquare cX0_isSquare 2 (some .boolean)) rm mc ms 1 := cwV 1 hts (lw_V hl q855 qs22 q58 q856) rfl hc hs (by decide +kernel) hR
set_option maxHeartbeats 4000000 in
theorem m_X0_square (l : Launch) (D : va_G) (ca : Nat → ClassId) (h : Nat) (a0 : Nat) (a1 : Nat) (tg : Nat) (a6 : Nat) (a8 : Nat) (tr : Nat) (a11 : Nat) (tpd : Nat) (ac : Nat) (lat : Int32) (t1 : Int32) (g : Nat) (lsq : Nat) (b3 : Nat) (b4 : Nat) (b5 : Nat) (b6 : Nat) (b8 : Nat) (b9 : Nat) (b10 : Nat) (b11 : Nat) (d : Nat → Nat) (fz : va_W) (x : Int32) (w : Int32) (hd : dOK d) (hsq : SqL ca fz lsq d) : Met l yX0_square (ws_ yX0_square cX0_square 3 (some .int)) (rmL 4) (PcR (KK D ca) D [.ref h, .int x, .int w] (([(h, .inr (0, [.ref a0, .ref a1, .int (nI tpd), .int lat, .ref g, .ref tg, .ref a6, .int (nI ac), .ref a8, .ref tr, .int t1, .ref a11])), (g, .inr (1, [.int (nI (d 0)), .int (nI (d 1)), .ref lsq, .ref b3, .ref b4, .ref b5, .ref b6, .int (nI (d 3)), .ref b8, .ref b9, .ref b10, .ref b11])), (b3, .inl (ca 0, 8, .inl (dv (shF d)))), (b4, .inl (ca 0, 8, .inl (dv (yeF d)))), (b5, .inl (ca 0, 8, .inl (dv (noF d)))), (b6, .inl (ca 0, 8, .inl (seF d)))] : va_W) ++ fz)) (vp_Si (fun zr => zr = sqI d x w)) 0 0 (fun _ => False) := by
  refine rd_head (by decide) (Nat.le_of_ble_eq_true rfl) ?_
  intro zp ze zs zm za zb zt zc ls zQ hx hb hml hr hlk hown hts hK hP hl hQ
  have hown : zs.vm.findClass RX0 = some zm.cls := hown
  have hl : lv_has ls 3 [(0, .ref h), (1, .int x), (2, .int w)] := hl
  have hF : CallFix zp zm zc cX0_square 3 zs za lw_all RX0 := ⟨hx, hb, hml, hown, hts⟩
  have hKK := hK
  have hK : K1 D ca zs := hKK.1
  have hd2 : d 2 ≤ 8 := hd.2.2.1
  have hd3 : d 3 ≤ 5 := hd.2.2.2.1
  have hd0 : d 0 ≤ 9 := hd.1
  have hd1 : d 1 ≤ 8 := hd.2.1
  have hp2 := pow_8 hd2
  have hp3 := pow_8 (show d 3 ≤ 8 by omega)
  refine lv_aload_n hx hb dX0_square_0 rfl (lv_at hl 0 rfl) ?_
  refine lv_iload_n hx hb dX0_square_1 rfl (lv_at hl 1 rfl) ?_
  refine rd_callV hF (m_X0_isSquare l D ca h a0 a1 tg a6 a8 tr a11 tpd ac lat t1 g lsq b3 b4 b5 b6 b8 b9 b10 b11 d fz x (by assumption) (by assumption)) (cs_X0_isSquare hts q853 ⟨by decide, by decide⟩) (KK_mv D ca) hKK (wp_tail hP [0, 1] rfl) (va_recv hK hP (ci := 0) (q0 := 0) rfl rfl) rfl hl.1 rfl (Nat.le_of_ble_eq_true rfl) dX0_square_2 ⟨Nat.zero_le _, Nat.zero_le _⟩ ?_
  refine wb_ne (tgt := 11) hx hb dX0_square_5 (by decide) (fun c_5 => ?_) (fun c_5 => ?_)
  · obtain ⟨s, hs, hxs⟩ := (ltB_iff (by omega)).mp c_5
    subst hxs
    have ix_s : ixO (nI s) (d 2) = some s := ixO_t hs (by omega)
    have hq_s := hd.2.2.2.2.1 s (by omega)
    refine lv_iload_n hx hb dX0_square_11 rfl (lv_at hl 2 rfl) ?_
    rcases sw_split w 5 (by decide) with c_12 | ⟨j_12, hj_12, c_12⟩
    · have iw_12 : ixO w 6 = none := ixO_out c_12
      refine lv_tableOut (tgt := 134) hx hb dX0_square_12 c_12 (by decide) ?_
      refine lv_ldc (v := (-1000001)) hx hb hown (hts _ q306) dX0_square_134 ?_
      exact rd_iret hx hb hr hlk hQ dX0_square_136 (by first | (rw [seF_in (by omega)]; simp only [sqI, ix_s, iw_12]; unfold seO; split <;> rfl) | first | (simp [sqI, bI, nI1_1, nI_0, c_5, ix_s, c_12, iw_12]; done) | (simp [sqI, bI, nI1_1, nI_0, c_5, ix_s, c_12, iw_12]; omega) | grind [sqI, bI, nI1_1, nI_0])
    · rcases (show j_12 = 0 ∨ j_12 = 1 ∨ j_12 = 2 ∨ j_12 = 3 ∨ j_12 = 4 ∨ j_12 = 5 by omega) with rfl | rfl | rfl | rfl | rfl | rfl
      · have iw_12 : ixO w 6 = some 0 := by rw [c_12]; exact ixO_t (by decide) (by decide)
        refine lv_tableIn (off := 40) (tgt := 52) hx hb dX0_square_12 (by rw [c_12]; decide) (by rw [c_12]; decide) (by rw [c_12]; rfl) (by decide) ?_
        refine lv_aload_n hx hb dX0_square_52 rfl (lv_at hl 0 rfl) ?_
        refine va_get (D := D) (ci := 0) (v := .ref g) (C := RX0) (T := TX0) (N := 12) hx hb hts in_X0 hown hK hP 0 rfl rfl 4 (by decide) (hts _ q260) (fun _ h9 => h9) rfl dX0_square_53 ?_
        refine va_get (D := D) (ci := 1) (v := .ref b3) (C := RX1) (T := TX1) (N := 12) hx hb hts in_X1 hown hK hP 1 rfl rfl 3 (by decide) (hts _ q146) (fun _ h9 => h9) rfl dX0_square_56 ?_
        refine lv_iload_n hx hb dX0_square_59 rfl (lv_at hl 1 rfl) ?_
        refine wn_iald (v := nI (d (4 + 5 * s + 1))) hx hb hK hP 2 0 rfl rfl (by omega) (by decide) rfl dX0_square_60 ?_
        exact rd_iret hx hb hr hlk hQ dX0_square_61 (by first | (rw [seF_in (by omega)]; simp only [sqI, ix_s, iw_12]; unfold seO; split <;> rfl) | first | (simp [sqI, bI, nI1_1, nI_0, c_5, ix_s, iw_12]; done) | (simp [sqI, bI, nI1_1, nI_0, c_5, ix_s, iw_12]; omega) | grind [sqI, bI, nI1_1, nI_0])
      · have iw_12 : ixO w 6 = some 1 := by rw [c_12]; exact ixO_t (by decide) (by decide)
        refine lv_tableIn (off := 50) (tgt := 62) hx hb dX0_square_12 (by rw [c_12]; decide) (by rw [c_12]; decide) (by rw [c_12]; rfl) (by decide) ?_
        refine lv_aload_n hx hb dX0_square_62 rfl (lv_at hl 0 rfl) ?_
        refine va_get (D := D) (ci := 0) (v := .ref g) (C := RX0) (T := TX0) (N := 12) hx hb hts in_X0 hown hK hP 0 rfl rfl 4 (by decide) (hts _ q260) (fun _ h9 => h9) rfl dX0_square_63 ?_
        refine va_get (D := D) (ci := 1) (v := .ref b3) (C := RX1) (T := TX1) (N := 12) hx hb hts in_X1 hown hK hP 1 rfl rfl 3 (by decide) (hts _ q146) (fun _ h9 => h9) rfl dX0_square_66 ?_
        refine lv_iload_n hx hb dX0_square_69 rfl (lv_at hl 1 rfl) ?_
        refine wn_iald (v := nI (d (4 + 5 * s + 1))) hx hb hK hP 2 0 rfl rfl (by omega) (by decide) rfl dX0_square_70 ?_
        refine lv_aload_n hx hb dX0_square_71 rfl (lv_at hl 0 rfl) ?_
        refine va_get (D := D) (ci := 0) (v := .ref g) (C := RX0) (T := TX0) (N := 12) hx hb hts in_X0 hown hK hP 0 rfl rfl 4 (by decide) (hts _ q260) (fun _ h9 => h9) rfl dX0_square_72 ?_
        refine va_get (D := D) (ci := 1) (v := .int (nI (d 0))) (C := RX1) (T := TX1) (N := 12) hx hb hts in_X1 hown hK hP 1 rfl rfl 0 (by decide) (hts _ q136) (fun _ h9 => h9) rfl dX0_square_75 ?_
        refine wn_lt (tgt := 85) hx hb (by omega) (by omega) dX0_square_78 (by decide) (fun c_78 => ?_) (fun c_78 => ?_)
        · have c_78n := Nat.not_le.mpr c_78
          refine lv_iconst (v := nI 0) hx hb dX0_square_85 rfl ?_
          exact rd_iret hx hb hr hlk hQ dX0_square_86 (by first | (rw [seF_in (by omega)]; simp only [sqI, ix_s, iw_12]; unfold seO; split <;> rfl) | first | (simp [sqI, bI, nI1_1, nI_0, c_5, ix_s, iw_12, c_78, c_78n]; done) | (simp [sqI, bI, nI1_1, nI_0, c_5, ix_s, iw_12, c_78, c_78n]; omega) | grind [sqI, bI, nI1_1, nI_0])
        · have c_78n := Nat.not_lt.mpr c_78
          refine lv_iconst (v := nI 1) hx hb dX0_square_81 rfl ?_
          refine lv_goto (tgt := 86) hx hb dX0_square_82 (by decide) ?_
          exact rd_iret hx hb hr hlk hQ dX0_square_86 (by first | (rw [seF_in (by omega)]; simp only [sqI, ix_s, iw_12]; unfold seO; split <;> rfl) | first | (simp [sqI, bI, nI1_1, nI_0, c_5, ix_s, iw_12, c_78, c_78n]; done) | (simp [sqI, bI, nI1_1, nI_0, c_5, ix_s, iw_12, c_78, c_78n]; omega) | grind [sqI, bI, nI1_1, nI_0])
      · have iw_12 : ixO w 6 = some 2 := by rw [c_12]; exact ixO_t (by decide) (by decide)
        refine lv_tableIn (off := 75) (tgt := 87) hx hb dX0_square_12 (by rw [c_12]; decide) (by rw [c_12]; decide) (by rw [c_12]; rfl) (by decide) ?_
        refine lv_aload_n hx hb dX0_square_87 rfl (lv_at hl 0 rfl) ?_
        refine va_get (D := D) (ci := 0) (v := .ref g) (C := RX0) (T := TX0) (N := 12) hx hb hts in_X0 hown hK hP 0 rfl rfl 4 (by decide) (hts _ q260) (fun _ h9 => h9) rfl dX0_square_88 ?_
        refine lv_iload_n hx hb dX0_square_91 rfl (lv_at hl 1 rfl) ?_
        refine rd_callV hF (m_X1_counts l D ca g lsq b3 b4 b5 b6 b8 b9 b10 b11 d fz s (by assumption) (by assumption) (by first | assumption | omega)) (cs_X1_counts hts q862 ⟨by decide, by decide⟩) (KK_mv D ca) hKK (wp_tail hP [1, 5] rfl) (va_recv hK hP (ci := 1) (q0 := 1) rfl rfl) rfl hl.1 rfl (Nat.le_of_ble_eq_true rfl) dX0_square_92 ⟨Nat.zero_le _, Nat.zero_le _⟩ ?_
        refine wb_eq (tgt := 102) hx hb dX0_square_95 (by decide) (fun c_95 => ?_) (fun c_95 => ?_)
        · refine lv_iconst (v := nI 0) hx hb dX0_square_102 rfl ?_
          exact rd_iret hx hb hr hlk hQ dX0_square_103 (by first | (rw [seF_in (by omega)]; simp only [sqI, ix_s, iw_12]; unfold seO; split <;> rfl) | first | (simp [sqI, bI, nI1_1, nI_0, c_5, ix_s, iw_12, c_95]; done) | (simp [sqI, bI, nI1_1, nI_0, c_5, ix_s, iw_12, c_95]; omega) | grind [sqI, bI, nI1_1, nI_0])
        · refine lv_iconst (v := nI 1) hx hb dX0_square_98 rfl ?_
          refine lv_goto (tgt := 103) hx hb dX0_square_99 (by decide) ?_
          exact rd_iret hx hb hr hlk hQ dX0_square_103 (by first | (rw [seF_in (by omega)]; simp only [sqI, ix_s, iw_12]; unfold seO; split <;> rfl) | first | (simp [sqI, bI, nI1_1, nI_0, c_5, ix_s, iw_12, c_95]; done) | (simp [sqI, bI, nI1_1, nI_0, c_5, ix_s, iw_12, c_95]; omega) | grind [sqI, bI, nI1_1, nI_0])
      · have iw_12 : ixO w 6 = some 3 := by rw [c_12]; exact ixO_t (by decide) (by decide)
        refine lv_tableIn (off := 92) (tgt := 104) hx hb dX0_square_12 (by rw [c_12]; decide) (by rw [c_12]; decide) (by rw [c_12]; rfl) (by decide) ?_
        refine lv_aload_n hx hb dX0_square_104 rfl (lv_at hl 0 rfl) ?_
        refine va_get (D := D) (ci := 0) (v := .ref g) (C := RX0) (T := TX0) (N := 12) hx hb hts in_X0 hown hK hP 0 rfl rfl 4 (by decide) (hts _ q260) (fun _ h9 => h9) rfl dX0_square_105 ?_
        refine va_get (D := D) (ci := 1) (v := .ref b4) (C := RX1) (T := TX1) (N := 12) hx hb hts in_X1 hown hK hP 1 rfl rfl 4 (by decide) (hts _ q148) (fun _ h9 => h9) rfl dX0_square_108 ?_
        refine lv_iload_n hx hb dX0_square_111 rfl (lv_at hl 1 rfl) ?_
        refine wn_iald (v := nI (d (4 + 5 * s + 2))) hx hb hK hP 3 0 rfl rfl (by omega) (by decide) rfl dX0_square_112 ?_
        exact rd_iret hx hb hr hlk hQ dX0_square_113 (by first | (rw [seF_in (by omega)]; simp only [sqI, ix_s, iw_12]; unfold seO; split <;> rfl) | first | (simp [sqI, bI, nI1_1, nI_0, c_5, ix_s, iw_12]; done) | (simp [sqI, bI, nI1_1, nI_0, c_5, ix_s, iw_12]; omega) | grind [sqI, bI, nI1_1, nI_0])
      · have iw_12 : ixO w 6 = some 4 := by rw [c_12]; exact ixO_t (by decide) (by decide)
        refine lv_tableIn (off := 102) (tgt := 114) hx hb dX0_square_12 (by rw [c_12]; decide) (by rw [c_12]; decide) (by rw [c_12]; rfl) (by decide) ?_
        refine lv_aload_n hx hb dX0_square_114 rfl (lv_at hl 0 rfl) ?_
        refine va_get (D := D) (ci := 0) (v := .ref g) (C := RX0) (T := TX0) (N := 12) hx hb hts in_X0 hown hK hP 0 rfl rfl 4 (by decide) (hts _ q260) (fun _ h9 => h9) rfl dX0_square_115 ?_
        refine va_get (D := D) (ci := 1) (v := .ref b5) (C := RX1) (T := TX1) (N := 12) hx hb hts in_X1 hown hK hP 1 rfl rfl 5 (by decide) (hts _ q150) (fun _ h9 => h9) rfl dX0_square_118 ?_
        refine lv_iload_n hx hb dX0_square_121 rfl (lv_at hl 1 rfl) ?_
        refine wn_iald (v := nI (d (4 + 5 * s + 3))) hx hb hK hP 4 0 rfl rfl (by omega) (by decide) rfl dX0_square_122 ?_
        exact rd_iret hx hb hr hlk hQ dX0_square_123 (by first | (rw [seF_in (by omega)]; simp only [sqI, ix_s, iw_12]; unfold seO; split <;> rfl) | first | (simp [sqI, bI, nI1_1, nI_0, c_5, ix_s, iw_12]; done) | (simp [sqI, bI, nI1_1, nI_0, c_5, ix_s, iw_12]; omega) | grind [sqI, bI, nI1_1, nI_0])
      · have iw_12 : ixO w 6 = some 5 := by rw [c_12]; exact ixO_t (by decide) (by decide)
        refine lv_tableIn (off := 112) (tgt := 124) hx hb dX0_square_12 (by rw [c_12]; decide) (by rw [c_12]; decide) (by rw [c_12]; rfl) (by decide) ?_
        refine lv_aload_n hx hb dX0_square_124 rfl (lv_at hl 0 rfl) ?_
        refine va_get (D := D) (ci := 0) (v := .ref g) (C := RX0) (T := TX0) (N := 12) hx hb hts in_X0 hown hK hP 0 rfl rfl 4 (by decide) (hts _ q260) (fun _ h9 => h9) rfl dX0_square_125 ?_
        refine va_get (D := D) (ci := 1) (v := .ref b6) (C := RX1) (T := TX1) (N := 12) hx hb hts in_X1 hown hK hP 1 rfl rfl 6 (by decide) (hts _ q153) (fun _ h9 => h9) rfl dX0_square_128 ?_
        refine lv_iload_n hx hb dX0_square_131 rfl (lv_at hl 1 rfl) ?_
        refine wn_iald (v := (seF d) s) hx hb hK hP 5 0 rfl rfl (by omega) (by decide) rfl dX0_square_132 ?_
        exact rd_iret hx hb hr hlk hQ dX0_square_133 (by first | (rw [seF_in (by omega)]; simp only [sqI, ix_s, iw_12]; unfold seO; split <;> rfl) | first | (simp [sqI, bI, nI1_1, nI_0, c_5, ix_s, iw_12]; done) | (simp [sqI, bI, nI1_1, nI_0, c_5, ix_s, iw_12]; omega) | grind [sqI, bI, nI1_1, nI_0])
  · have ix_x : ixO x (d 2) = none := ixO_f c_5
    refine lv_ldc (v := (-1000001)) hx hb hown (hts _ q306) dX0_square_8 ?_
    exact rd_iret hx hb hr hlk hQ dX0_square_10 (by first | (rw [seF_in (by omega)]; simp only [sqI, ix_s, iw_12]; unfold seO; split <;> rfl) | first | (simp [sqI, bI, nI1_1, nI_0, c_5, ix_x]; done) | (simp [sqI, bI, nI1_1, nI_0, c_5, ix_x]; omega) | grind [sqI, bI, nI1_1, nI_0])
theorem cs_X0_isVisitor {R : Room} {s : State} {args : Array Value} {own : String} {index : Nat} (hts : ∀ w ∈ lw_all, w.before args s = true) (hl : Cond.methodLink own index yX0_isVisitor ∈ lw_all) {rm : Room} {mc ms : Nat} (hR : rm.frames + 1 ≤ R.frames ∧ 8 + (2 + 11) + rm.locals ≤ R.locals) (hc : rm.cells = mc := by rfl) (hs : rm.slots = ms := by rfl) : CallW R s args own RX0 index yX0_isVisitor cX0_isVisitor 2 (some .boolean) (ws_ yX0_isVisitor cX0_isVisitor 2 (some .boolean)) rm mc ms 1 := cwV 1 hts (lw_V hl q731 qs18 q58 q732) rfl hc hs (by decide +kernel) hR
set_option maxHeartbeats 4000000 in
theorem m_X0_visitor (l : Launch) (D : va_G) (ca : Nat → ClassId) (h : Nat) (a0 : Nat) (a1 : Nat) (tg : Nat) (a6 : Nat) (a8 : Nat) (tr : Nat) (a11 : Nat) (tpd : Nat) (ac : Nat) (lat : Int32) (t1 : Int32) (g : Nat) (lsq : Nat) (b3 : Nat) (b4 : Nat) (b5 : Nat) (b6 : Nat) (b8 : Nat) (b9 : Nat) (b10 : Nat) (b11 : Nat) (d : Nat → Nat) (fz : va_W) (x : Int32) (w : Int32) (hd : dOK d) (hsq : SqL ca fz lsq d) : Met l yX0_visitor (ws_ yX0_visitor cX0_visitor 3 (some .int)) (rmL 3) (PcR (KK D ca) D [.ref h, .int x, .int w] (([(h, .inr (0, [.ref a0, .ref a1, .int (nI tpd), .int lat, .ref g, .ref tg, .ref a6, .int (nI ac), .ref a8, .ref tr, .int t1, .ref a11])), (g, .inr (1, [.int (nI (d 0)), .int (nI (d 1)), .ref lsq, .ref b3, .ref b4, .ref b5, .ref b6, .int (nI (d 3)), .ref b8, .ref b9, .ref b10, .ref b11])), (b8, .inl (ca 0, 5, .inl (dv (caF d)))), (b9, .inl (ca 0, 5, .inl (dv (eaF d)))), (b10, .inl (ca 0, 5, .inl (dv (poF d)))), (b11, .inl (ca 0, 5, .inl (dv (leF d))))] : va_W) ++ fz)) (vp_Si (fun zr => zr = visI d x w)) 0 0 (fun _ => False) := by
  refine rd_head (by decide) (Nat.le_of_ble_eq_true rfl) ?_
  intro zp ze zs zm za zb zt zc ls zQ hx hb hml hr hlk hown hts hK hP hl hQ
  have hown : zs.vm.findClass RX0 = some zm.cls := hown
  have hl : lv_has ls 3 [(0, .ref h), (1, .int x), (2, .int w)] := hl
  have hF : CallFix zp zm zc cX0_visitor 3 zs za lw_all RX0 := ⟨hx, hb, hml, hown, hts⟩
  have hKK := hK
  have hK : K1 D ca zs := hKK.1
  have hd2 : d 2 ≤ 8 := hd.2.2.1
  have hd3 : d 3 ≤ 5 := hd.2.2.2.1
  have hd0 : d 0 ≤ 9 := hd.1
  have hd1 : d 1 ≤ 8 := hd.2.1
  have hp2 := pow_8 hd2
  have hp3 := pow_8 (show d 3 ≤ 8 by omega)
  refine lv_aload_n hx hb dX0_visitor_0 rfl (lv_at hl 0 rfl) ?_
  refine lv_iload_n hx hb dX0_visitor_1 rfl (lv_at hl 1 rfl) ?_
  refine rd_callV hF (m_X0_isVisitor l D ca h a0 a1 tg a6 a8 tr a11 tpd ac lat t1 g lsq b3 b4 b5 b6 b8 b9 b10 b11 d fz x (by assumption) (by assumption)) (cs_X0_isVisitor hts q729 ⟨by decide, by decide⟩) (KK_mv D ca) hKK (wp_tail hP [0, 1] rfl) (va_recv hK hP (ci := 0) (q0 := 0) rfl rfl) rfl hl.1 rfl (Nat.le_of_ble_eq_true rfl) dX0_visitor_2 ⟨Nat.zero_le _, Nat.zero_le _⟩ ?_
  refine wb_ne (tgt := 11) hx hb dX0_visitor_5 (by decide) (fun c_5 => ?_) (fun c_5 => ?_)
  · obtain ⟨v, hv, hxv⟩ := (ltB_iff (by omega)).mp c_5
    subst hxv
    have ix_v : ixO (nI v) (d 3) = some v := ixO_t hv (by omega)
    have hv_v := hd.2.2.2.2.2.1 v (by omega)
    refine lv_iload_n hx hb dX0_visitor_11 rfl (lv_at hl 2 rfl) ?_
    rcases sw_split w 3 (by decide) with c_12 | ⟨j_12, hj_12, c_12⟩
    · have iw_12 : ixO w 4 = none := ixO_out c_12
      refine lv_tableOut (tgt := 84) hx hb dX0_visitor_12 c_12 (by decide) ?_
      refine lv_ldc (v := (-1000001)) hx hb hown (hts _ q306) dX0_visitor_84 ?_
      exact rd_iret hx hb hr hlk hQ dX0_visitor_86 (by first | (simp [visI, bI, nI1_1, nI_0, c_5, ix_v, c_12, iw_12]; done) | (simp [visI, bI, nI1_1, nI_0, c_5, ix_v, c_12, iw_12]; omega) | grind [visI, bI, nI1_1, nI_0])
    · rcases (show j_12 = 0 ∨ j_12 = 1 ∨ j_12 = 2 ∨ j_12 = 3 by omega) with rfl | rfl | rfl | rfl
      · have iw_12 : ixO w 4 = some 0 := by rw [c_12]; exact ixO_t (by decide) (by decide)
        refine lv_tableIn (off := 32) (tgt := 44) hx hb dX0_visitor_12 (by rw [c_12]; decide) (by rw [c_12]; decide) (by rw [c_12]; rfl) (by decide) ?_
        refine lv_aload_n hx hb dX0_visitor_44 rfl (lv_at hl 0 rfl) ?_
        refine va_get (D := D) (ci := 0) (v := .ref g) (C := RX0) (T := TX0) (N := 12) hx hb hts in_X0 hown hK hP 0 rfl rfl 4 (by decide) (hts _ q260) (fun _ h9 => h9) rfl dX0_visitor_45 ?_
        refine va_get (D := D) (ci := 1) (v := .ref b8) (C := RX1) (T := TX1) (N := 12) hx hb hts in_X1 hown hK hP 1 rfl rfl 8 (by decide) (hts _ q159) (fun _ h9 => h9) rfl dX0_visitor_48 ?_
        refine lv_iload_n hx hb dX0_visitor_51 rfl (lv_at hl 1 rfl) ?_
        refine wn_iald (v := nI (d (44 + 4 * v + 0))) hx hb hK hP 2 0 rfl rfl (by omega) (by decide) rfl dX0_visitor_52 ?_
        exact rd_iret hx hb hr hlk hQ dX0_visitor_53 (by first | (simp [visI, bI, nI1_1, nI_0, c_5, ix_v, iw_12]; done) | (simp [visI, bI, nI1_1, nI_0, c_5, ix_v, iw_12]; omega) | grind [visI, bI, nI1_1, nI_0])
      · have iw_12 : ixO w 4 = some 1 := by rw [c_12]; exact ixO_t (by decide) (by decide)
        refine lv_tableIn (off := 42) (tgt := 54) hx hb dX0_visitor_12 (by rw [c_12]; decide) (by rw [c_12]; decide) (by rw [c_12]; rfl) (by decide) ?_
        refine lv_aload_n hx hb dX0_visitor_54 rfl (lv_at hl 0 rfl) ?_
        refine va_get (D := D) (ci := 0) (v := .ref g) (C := RX0) (T := TX0) (N := 12) hx hb hts in_X0 hown hK hP 0 rfl rfl 4 (by decide) (hts _ q260) (fun _ h9 => h9) rfl dX0_visitor_55 ?_
        refine va_get (D := D) (ci := 1) (v := .ref b9) (C := RX1) (T := TX1) (N := 12) hx hb hts in_X1 hown hK hP 1 rfl rfl 9 (by decide) (hts _ q162) (fun _ h9 => h9) rfl dX0_visitor_58 ?_
        refine lv_iload_n hx hb dX0_visitor_61 rfl (lv_at hl 1 rfl) ?_
        refine wn_iald (v := nI (d (44 + 4 * v + 1))) hx hb hK hP 3 0 rfl rfl (by omega) (by decide) rfl dX0_visitor_62 ?_
        exact rd_iret hx hb hr hlk hQ dX0_visitor_63 (by first | (simp [visI, bI, nI1_1, nI_0, c_5, ix_v, iw_12]; done) | (simp [visI, bI, nI1_1, nI_0, c_5, ix_v, iw_12]; omega) | grind [visI, bI, nI1_1, nI_0])
      · have iw_12 : ixO w 4 = some 2 := by rw [c_12]; exact ixO_t (by decide) (by decide)
        refine lv_tableIn (off := 52) (tgt := 64) hx hb dX0_visitor_12 (by rw [c_12]; decide) (by rw [c_12]; decide) (by rw [c_12]; rfl) (by decide) ?_
        refine lv_aload_n hx hb dX0_visitor_64 rfl (lv_at hl 0 rfl) ?_
        refine va_get (D := D) (ci := 0) (v := .ref g) (C := RX0) (T := TX0) (N := 12) hx hb hts in_X0 hown hK hP 0 rfl rfl 4 (by decide) (hts _ q260) (fun _ h9 => h9) rfl dX0_visitor_65 ?_
        refine va_get (D := D) (ci := 1) (v := .ref b10) (C := RX1) (T := TX1) (N := 12) hx hb hts in_X1 hown hK hP 1 rfl rfl 10 (by decide) (hts _ q164) (fun _ h9 => h9) rfl dX0_visitor_68 ?_
        refine lv_iload_n hx hb dX0_visitor_71 rfl (lv_at hl 1 rfl) ?_
        refine wn_iald (v := nI (d (44 + 4 * v + 2))) hx hb hK hP 4 0 rfl rfl (by omega) (by decide) rfl dX0_visitor_72 ?_
        exact rd_iret hx hb hr hlk hQ dX0_visitor_73 (by first | (simp [visI, bI, nI1_1, nI_0, c_5, ix_v, iw_12]; done) | (simp [visI, bI, nI1_1, nI_0, c_5, ix_v, iw_12]; omega) | grind [visI, bI, nI1_1, nI_0])
      · have iw_12 : ixO w 4 = some 3 := by rw [c_12]; exact ixO_t (by decide) (by decide)
        refine lv_tableIn (off := 62) (tgt := 74) hx hb dX0_visitor_12 (by rw [c_12]; decide) (by rw [c_12]; decide) (by rw [c_12]; rfl) (by decide) ?_
        refine lv_aload_n hx hb dX0_visitor_74 rfl (lv_at hl 0 rfl) ?_
        refine va_get (D := D) (ci := 0) (v := .ref g) (C := RX0) (T := TX0) (N := 12) hx hb hts in_X0 hown hK hP 0 rfl rfl 4 (by decide) (hts _ q260) (fun _ h9 => h9) rfl dX0_visitor_75 ?_
        refine va_get (D := D) (ci := 1) (v := .ref b11) (C := RX1) (T := TX1) (N := 12) hx hb hts in_X1 hown hK hP 1 rfl rfl 11 (by decide) (hts _ q166) (fun _ h9 => h9) rfl dX0_visitor_78 ?_
        refine lv_iload_n hx hb dX0_visitor_81 rfl (lv_at hl 1 rfl) ?_
        refine wn_iald (v := nI (d (44 + 4 * v + 3))) hx hb hK hP 5 0 rfl rfl (by omega) (by decide) rfl dX0_visitor_82 ?_
        exact rd_iret hx hb hr hlk hQ dX0_visitor_83 (by first | (simp [visI, bI, nI1_1, nI_0, c_5, ix_v, iw_12]; done) | (simp [visI, bI, nI1_1, nI_0, c_5, ix_v, iw_12]; omega) | grind [visI, bI, nI1_1, nI_0])
  · have ix_x : ixO x (d 3) = none := ixO_f c_5
    refine lv_ldc (v := (-1000001)) hx hb hown (hts _ q306) dX0_visitor_8 ?_
    exact rd_iret hx hb hr hlk hQ dX0_visitor_10 (by first | (simp [visI, bI, nI1_1, nI_0, c_5, ix_x]; done) | (simp [visI, bI, nI1_1, nI_0, c_5, ix_x]; omega) | grind [visI, bI, nI1_1, nI_0])
theorem cs_X1_sees {R : Room} {s : State} {args : Array Value} {own : String} {index : Nat} (hts : ∀ w ∈ lw_all, w.before args s = true) (hl : Cond.methodLink own index yX1_sees ∈ lw_all) {rm : Room} {mc ms : Nat} (hR : rm.frames + 1 ≤ R.frames ∧ 8 + (3 + 11) + rm.locals ≤ R.locals) (hc : rm.cells = mc := by rfl) (hs : rm.slots = ms := by rfl) : CallW R s args own RX1 index yX1_sees cX1_sees 3 (some .int) (ws_ yX1_sees cX1_sees 3 (some .int)) rm mc ms 2 := cwV 2 hts (lw_V hl q876 q877 q59 q878) rfl hc hs (by decide +kernel) hR
set_option maxHeartbeats 4000000 in
theorem m_X0_sees (l : Launch) (D : va_G) (ca : Nat → ClassId) (h : Nat) (a0 : Nat) (a1 : Nat) (tg : Nat) (a6 : Nat) (a8 : Nat) (tr : Nat) (a11 : Nat) (tpd : Nat) (ac : Nat) (lat : Int32) (t1 : Int32) (g : Nat) (lsq : Nat) (b3 : Nat) (b4 : Nat) (b5 : Nat) (b6 : Nat) (b8 : Nat) (b9 : Nat) (b10 : Nat) (b11 : Nat) (d : Nat → Nat) (fz : va_W) (x : Int32) (y : Int32) (hd : dOK d) (hsq : SqL ca fz lsq d) : Met l yX0_sees (ws_ yX0_sees cX0_sees 3 (some .int)) (rmL 4) (PcR (KK D ca) D [.ref h, .int x, .int y] (([(h, .inr (0, [.ref a0, .ref a1, .int (nI tpd), .int lat, .ref g, .ref tg, .ref a6, .int (nI ac), .ref a8, .ref tr, .int t1, .ref a11])), (g, .inr (1, [.int (nI (d 0)), .int (nI (d 1)), .ref lsq, .ref b3, .ref b4, .ref b5, .ref b6, .int (nI (d 3)), .ref b8, .ref b9, .ref b10, .ref b11])), (b3, .inl (ca 0, 8, .inl (dv (shF d)))), (b8, .inl (ca 0, 5, .inl (dv (caF d)))), (b9, .inl (ca 0, 5, .inl (dv (eaF d))))] : va_W) ++ fz)) (vp_Si (fun zr => zr = seeI d x y)) 0 0 (fun _ => False) := by
  refine rd_head (by decide) (Nat.le_of_ble_eq_true rfl) ?_
  intro zp ze zs zm za zb zt zc ls zQ hx hb hml hr hlk hown hts hK hP hl hQ
  have hown : zs.vm.findClass RX0 = some zm.cls := hown
  have hl : lv_has ls 3 [(0, .ref h), (1, .int x), (2, .int y)] := hl
  have hF : CallFix zp zm zc cX0_sees 3 zs za lw_all RX0 := ⟨hx, hb, hml, hown, hts⟩
  have hKK := hK
  have hK : K1 D ca zs := hKK.1
  have hd2 : d 2 ≤ 8 := hd.2.2.1
  have hd3 : d 3 ≤ 5 := hd.2.2.2.1
  have hd0 : d 0 ≤ 9 := hd.1
  have hd1 : d 1 ≤ 8 := hd.2.1
  have hp2 := pow_8 hd2
  have hp3 := pow_8 (show d 3 ≤ 8 by omega)
  refine lv_aload_n hx hb dX0_sees_0 rfl (lv_at hl 0 rfl) ?_
  refine lv_iload_n hx hb dX0_sees_1 rfl (lv_at hl 1 rfl) ?_
  refine rd_callV hF (m_X0_isVisitor l D ca h a0 a1 tg a6 a8 tr a11 tpd ac lat t1 g lsq b3 b4 b5 b6 b8 b9 b10 b11 d fz x (by assumption) (by assumption)) (cs_X0_isVisitor hts q729 ⟨by decide, by decide⟩) (KK_mv D ca) hKK (wp_tail hP [0, 1] rfl) (va_recv hK hP (ci := 0) (q0 := 0) rfl rfl) rfl hl.1 rfl (Nat.le_of_ble_eq_true rfl) dX0_sees_2 ⟨Nat.zero_le _, Nat.zero_le _⟩ ?_
  refine wb_eq (tgt := 28) hx hb dX0_sees_5 (by decide) (fun c_5 => ?_) (fun c_5 => ?_)
  · have ix_x : ixO x (d 3) = none := ixO_f c_5
    refine lv_ldc (v := (-1000001)) hx hb hown (hts _ q306) dX0_sees_28 ?_
    exact rd_iret hx hb hr hlk hQ dX0_sees_30 (by first | (simp [seeI, bI, nI1_1, nI_0, c_5, ix_x]; done) | (simp [seeI, bI, nI1_1, nI_0, c_5, ix_x]; omega) | grind [seeI, bI, nI1_1, nI_0])
  · obtain ⟨v, hv, hxv⟩ := (ltB_iff (by omega)).mp c_5
    subst hxv
    have ix_v : ixO (nI v) (d 3) = some v := ixO_t hv (by omega)
    have hv_v := hd.2.2.2.2.2.1 v (by omega)
    refine lv_aload_n hx hb dX0_sees_8 rfl (lv_at hl 0 rfl) ?_
    refine lv_iload_n hx hb dX0_sees_9 rfl (lv_at hl 2 rfl) ?_
    refine rd_callV hF (m_X0_isSquare l D ca h a0 a1 tg a6 a8 tr a11 tpd ac lat t1 g lsq b3 b4 b5 b6 b8 b9 b10 b11 d fz y (by assumption) (by assumption)) (cs_X0_isSquare hts q853 ⟨by decide, by decide⟩) (KK_mv D ca) hKK (wp_tail hP [0, 1] rfl) (va_recv hK hP (ci := 0) (q0 := 0) rfl rfl) rfl hl.1 rfl (Nat.le_of_ble_eq_true rfl) dX0_sees_10 ⟨Nat.zero_le _, Nat.zero_le _⟩ ?_
    refine wb_eq (tgt := 28) hx hb dX0_sees_13 (by decide) (fun c_13 => ?_) (fun c_13 => ?_)
    · have ix_y : ixO y (d 2) = none := ixO_f c_13
      refine lv_ldc (v := (-1000001)) hx hb hown (hts _ q306) dX0_sees_28 ?_
      exact rd_iret hx hb hr hlk hQ dX0_sees_30 (by first | (simp [seeI, bI, nI1_1, nI_0, c_5, ix_v, c_13, ix_y]; done) | (simp [seeI, bI, nI1_1, nI_0, c_5, ix_v, c_13, ix_y]; omega) | grind [seeI, bI, nI1_1, nI_0])
    · obtain ⟨s, hs, hxs⟩ := (ltB_iff (by omega)).mp c_13
      subst hxs
      have ix_s : ixO (nI s) (d 2) = some s := ixO_t hs (by omega)
      have hq_s := hd.2.2.2.2.1 s (by omega)
      refine lv_aload_n hx hb dX0_sees_16 rfl (lv_at hl 0 rfl) ?_
      refine va_get (D := D) (ci := 0) (v := .ref g) (C := RX0) (T := TX0) (N := 12) hx hb hts in_X0 hown hK hP 0 rfl rfl 4 (by decide) (hts _ q260) (fun _ h9 => h9) rfl dX0_sees_17 ?_
      refine lv_iload_n hx hb dX0_sees_20 rfl (lv_at hl 1 rfl) ?_
      refine lv_iload_n hx hb dX0_sees_21 rfl (lv_at hl 2 rfl) ?_
      refine rd_callV hF (m_X1_sees l D ca g lsq b3 b4 b5 b6 b8 b9 b10 b11 d fz v s (by assumption) (by assumption) (by first | assumption | omega) (by first | assumption | omega)) (cs_X1_sees hts q875 ⟨by decide, by decide⟩) (KK_mv D ca) hKK (wp_tail hP [1, 2, 3, 4] rfl) (va_recv hK hP (ci := 1) (q0 := 1) rfl rfl) rfl hl.1 rfl (Nat.le_of_ble_eq_true rfl) dX0_sees_22 ⟨Nat.zero_le _, Nat.zero_le _⟩ ?_
      refine lv_goto (tgt := 30) hx hb dX0_sees_25 (by decide) ?_
      exact rd_iret hx hb hr hlk hQ dX0_sees_30 (by first | (simp [seeI, bI, nI1_1, nI_0, c_5, ix_v, c_13, ix_s]; done) | (simp [seeI, bI, nI1_1, nI_0, c_5, ix_v, c_13, ix_s]; omega) | grind [seeI, bI, nI1_1, nI_0])
set_option maxHeartbeats 4000000 in
theorem m_X0_clicks (l : Launch) (D : va_G) (ca : Nat → ClassId) (h : Nat) (a0 : Nat) (a1 : Nat) (tg : Nat) (a6 : Nat) (a8 : Nat) (tr : Nat) (a11 : Nat) (tpd : Nat) (ac : Nat) (lat : Int32) (t1 : Int32) (g : Nat) (lsq : Nat) (b3 : Nat) (b4 : Nat) (b5 : Nat) (b6 : Nat) (b8 : Nat) (b9 : Nat) (b10 : Nat) (b11 : Nat) (d : Nat → Nat) (fz : va_W) (x : Int32) (hd : dOK d) (hsq : SqL ca fz lsq d) : Met l yX0_clicks (ws_ yX0_clicks cX0_clicks 2 (some .int)) (rmL 5) (PcR (KK D ca) D [.ref h, .int x] (([(h, .inr (0, [.ref a0, .ref a1, .int (nI tpd), .int lat, .ref g, .ref tg, .ref a6, .int (nI ac), .ref a8, .ref tr, .int t1, .ref a11])), (g, .inr (1, [.int (nI (d 0)), .int (nI (d 1)), .ref lsq, .ref b3, .ref b4, .ref b5, .ref b6, .int (nI (d 3)), .ref b8, .ref b9, .ref b10, .ref b11])), (b3, .inl (ca 0, 8, .inl (dv (shF d)))), (b8, .inl (ca 0, 5, .inl (dv (caF d)))), (b9, .inl (ca 0, 5, .inl (dv (eaF d))))] : va_W) ++ fz)) (vp_Si (fun zr => zr = clkI d x)) 0 0 (fun _ => False) := by
  refine rd_head (by decide) (Nat.le_of_ble_eq_true rfl) ?_
  intro zp ze zs zm za zb zt zc ls zQ hx hb hml hr hlk hown hts hK hP hl hQ
  have hown : zs.vm.findClass RX0 = some zm.cls := hown
  have hl : lv_has ls 2 [(0, .ref h), (1, .int x)] := hl
  have hF : CallFix zp zm zc cX0_clicks 2 zs za lw_all RX0 := ⟨hx, hb, hml, hown, hts⟩
  have hKK := hK
  have hK : K1 D ca zs := hKK.1
  have hd2 : d 2 ≤ 8 := hd.2.2.1
  have hd3 : d 3 ≤ 5 := hd.2.2.2.1
  have hd0 : d 0 ≤ 9 := hd.1
  have hd1 : d 1 ≤ 8 := hd.2.1
  have hp2 := pow_8 hd2
  have hp3 := pow_8 (show d 3 ≤ 8 by omega)
  refine lv_aload_n hx hb dX0_clicks_0 rfl (lv_at hl 0 rfl) ?_
  refine lv_iload_n hx hb dX0_clicks_1 rfl (lv_at hl 1 rfl) ?_
  refine rd_callV hF (m_X0_isVisitor l D ca h a0 a1 tg a6 a8 tr a11 tpd ac lat t1 g lsq b3 b4 b5 b6 b8 b9 b10 b11 d fz x (by assumption) (by assumption)) (cs_X0_isVisitor hts q729 ⟨by decide, by decide⟩) (KK_mv D ca) hKK (wp_tail hP [0, 1] rfl) (va_recv hK hP (ci := 0) (q0 := 0) rfl rfl) rfl hl.1 rfl (Nat.le_of_ble_eq_true rfl) dX0_clicks_2 ⟨Nat.zero_le _, Nat.zero_le _⟩ ?_
  refine wb_eq (tgt := 19) hx hb dX0_clicks_5 (by decide) (fun c_5 => ?_) (fun c_5 => ?_)
  · have ix_x : ixO x (d 3) = none := ixO_f c_5
    refine lv_ldc (v := (-1000001)) hx hb hown (hts _ q306) dX0_clicks_19 ?_
    exact rd_iret hx hb hr hlk hQ dX0_clicks_21 (by first | (simp [clkI, bI, nI1_1, nI_0, c_5, ix_x]; done) | (simp [clkI, bI, nI1_1, nI_0, c_5, ix_x]; omega) | grind [clkI, bI, nI1_1, nI_0])
  · obtain ⟨v, hv, hxv⟩ := (ltB_iff (by omega)).mp c_5
    subst hxv
    have ix_v : ixO (nI v) (d 3) = some v := ixO_t hv (by omega)
    have hv_v := hd.2.2.2.2.2.1 v (by omega)
    refine lv_aload_n hx hb dX0_clicks_8 rfl (lv_at hl 0 rfl) ?_
    refine va_get (D := D) (ci := 0) (v := .ref g) (C := RX0) (T := TX0) (N := 12) hx hb hts in_X0 hown hK hP 0 rfl rfl 4 (by decide) (hts _ q260) (fun _ h9 => h9) rfl dX0_clicks_9 ?_
    refine lv_iload_n hx hb dX0_clicks_12 rfl (lv_at hl 1 rfl) ?_
    refine rd_callV hF (m_X1_clicked l D ca g lsq b3 b4 b5 b6 b8 b9 b10 b11 d fz v (by assumption) (by assumption) (by first | assumption | omega)) (cs_X1_clicked hts q884 ⟨by decide, by decide⟩) (KK_mv D ca) hKK (wp_tail hP [1, 2, 3, 4] rfl) (va_recv hK hP (ci := 1) (q0 := 1) rfl rfl) rfl hl.1 rfl (Nat.le_of_ble_eq_true rfl) dX0_clicks_13 ⟨Nat.zero_le _, Nat.zero_le _⟩ ?_
    refine lv_goto (tgt := 21) hx hb dX0_clicks_16 (by decide) ?_
    exact rd_iret hx hb hr hlk hQ dX0_clicks_21 (by first | (simp [clkI, bI, nI1_1, nI_0, c_5, ix_v]; done) | (simp [clkI, bI, nI1_1, nI_0, c_5, ix_v]; omega) | grind [clkI, bI, nI1_1, nI_0])
theorem cs_X0_areSquares {R : Room} {s : State} {args : Array Value} {own : String} {index : Nat} (hts : ∀ w ∈ lw_all, w.before args s = true) (hl : Cond.methodLink own index yX0_areSquares ∈ lw_all) {rm : Room} {mc ms : Nat} (hR : rm.frames + 1 ≤ R.frames ∧ 8 + (2 + 11) + rm.locals ≤ R.locals) (hc : rm.cells = mc := by rfl) (hs : rm.slots = ms := by rfl) : CallW R s args own RX0 index yX0_areSquares cX0_areSquares 2 (some .boolean) (ws_ yX0_areSquares cX0_areSquares 2 (some .boolean)) rm mc ms 1 := cwV 1 hts (lw_V hl q735 qs19 q58 q736) rfl hc hs (by decide +kernel) hR
set_option maxHeartbeats 4000000 in
theorem m_X0_wrong (l : Launch) (D : va_G) (ca : Nat → ClassId) (h : Nat) (a0 : Nat) (a1 : Nat) (tg : Nat) (a6 : Nat) (a8 : Nat) (tr : Nat) (a11 : Nat) (tpd : Nat) (ac : Nat) (lat : Int32) (t1 : Int32) (g : Nat) (lsq : Nat) (b3 : Nat) (b4 : Nat) (b5 : Nat) (b6 : Nat) (b8 : Nat) (b9 : Nat) (b10 : Nat) (b11 : Nat) (d : Nat → Nat) (fz : va_W) (x : Int32) (y : Int32) (hd : dOK d) (hsq : SqL ca fz lsq d) : Met l yX0_wrong (ws_ yX0_wrong cX0_wrong 3 (some .int)) (rmL 6) (PcR (KK D ca) D [.ref h, .int x, .int y] (([(h, .inr (0, [.ref a0, .ref a1, .int (nI tpd), .int lat, .ref g, .ref tg, .ref a6, .int (nI ac), .ref a8, .ref tr, .int t1, .ref a11])), (g, .inr (1, [.int (nI (d 0)), .int (nI (d 1)), .ref lsq, .ref b3, .ref b4, .ref b5, .ref b6, .int (nI (d 3)), .ref b8, .ref b9, .ref b10, .ref b11])), (b3, .inl (ca 0, 8, .inl (dv (shF d)))), (b6, .inl (ca 0, 8, .inl (seF d))), (b8, .inl (ca 0, 5, .inl (dv (caF d)))), (b9, .inl (ca 0, 5, .inl (dv (eaF d))))] : va_W) ++ fz)) (vp_Si (fun zr => zr = wroI d x y)) 0 0 (fun _ => False) := by
  refine rd_head (by decide) (Nat.le_of_ble_eq_true rfl) ?_
  intro zp ze zs zm za zb zt zc ls zQ hx hb hml hr hlk hown hts hK hP hl hQ
  have hown : zs.vm.findClass RX0 = some zm.cls := hown
  have hl : lv_has ls 3 [(0, .ref h), (1, .int x), (2, .int y)] := hl
  have hF : CallFix zp zm zc cX0_wrong 3 zs za lw_all RX0 := ⟨hx, hb, hml, hown, hts⟩
  have hKK := hK
  have hK : K1 D ca zs := hKK.1
  have hd2 : d 2 ≤ 8 := hd.2.2.1
  have hd3 : d 3 ≤ 5 := hd.2.2.2.1
  have hd0 : d 0 ≤ 9 := hd.1
  have hd1 : d 1 ≤ 8 := hd.2.1
  have hp2 := pow_8 hd2
  have hp3 := pow_8 (show d 3 ≤ 8 by omega)
  refine lv_aload_n hx hb dX0_wrong_0 rfl (lv_at hl 0 rfl) ?_
  refine lv_iload_n hx hb dX0_wrong_1 rfl (lv_at hl 1 rfl) ?_
  refine rd_callV hF (m_X0_isVisitor l D ca h a0 a1 tg a6 a8 tr a11 tpd ac lat t1 g lsq b3 b4 b5 b6 b8 b9 b10 b11 d fz x (by assumption) (by assumption)) (cs_X0_isVisitor hts q729 ⟨by decide, by decide⟩) (KK_mv D ca) hKK (wp_tail hP [0, 1] rfl) (va_recv hK hP (ci := 0) (q0 := 0) rfl rfl) rfl hl.1 rfl (Nat.le_of_ble_eq_true rfl) dX0_wrong_2 ⟨Nat.zero_le _, Nat.zero_le _⟩ ?_
  refine wb_eq (tgt := 35) hx hb dX0_wrong_5 (by decide) (fun c_5 => ?_) (fun c_5 => ?_)
  · have ix_x : ixO x (d 3) = none := ixO_f c_5
    refine lv_ldc (v := (-1000001)) hx hb hown (hts _ q306) dX0_wrong_35 ?_
    exact rd_iret hx hb hr hlk hQ dX0_wrong_37 (by first | (simp [wroI, bI, nI1_1, nI_0, c_5, ix_x]; done) | (simp [wroI, bI, nI1_1, nI_0, c_5, ix_x]; omega) | grind [wroI, bI, nI1_1, nI_0])
  · obtain ⟨v, hv, hxv⟩ := (ltB_iff (by omega)).mp c_5
    subst hxv
    have ix_v : ixO (nI v) (d 3) = some v := ixO_t hv (by omega)
    have hv_v := hd.2.2.2.2.2.1 v (by omega)
    refine lv_aload_n hx hb dX0_wrong_8 rfl (lv_at hl 0 rfl) ?_
    refine lv_iload_n hx hb dX0_wrong_9 rfl (lv_at hl 2 rfl) ?_
    refine rd_callV hF (m_X0_areSquares l D ca h a0 a1 tg a6 a8 tr a11 tpd ac lat t1 g lsq b3 b4 b5 b6 b8 b9 b10 b11 d fz y (by assumption) (by assumption)) (cs_X0_areSquares hts q733 ⟨by decide, by decide⟩) (KK_mv D ca) hKK (wp_tail hP [0, 1] rfl) (va_recv hK hP (ci := 0) (q0 := 0) rfl rfl) rfl hl.1 rfl (Nat.le_of_ble_eq_true rfl) dX0_wrong_10 ⟨Nat.zero_le _, Nat.zero_le _⟩ ?_
    refine wb_eq (tgt := 35) hx hb dX0_wrong_13 (by decide) (fun c_13 => ?_) (fun c_13 => ?_)
    · have ix_y : ixO y (2 ^ d 2) = none := ixO_f c_13
      refine lv_ldc (v := (-1000001)) hx hb hown (hts _ q306) dX0_wrong_35 ?_
      exact rd_iret hx hb hr hlk hQ dX0_wrong_37 (by first | (simp [wroI, bI, nI1_1, nI_0, c_5, ix_v, c_13, ix_y]; done) | (simp [wroI, bI, nI1_1, nI_0, c_5, ix_v, c_13, ix_y]; omega) | grind [wroI, bI, nI1_1, nI_0])
    · obtain ⟨s, hs, hxs⟩ := (ltB_iff (by omega)).mp c_13
      subst hxs
      have ix_s : ixO (nI s) (2 ^ d 2) = some s := ixO_t hs (by omega)
      refine lv_aload_n hx hb dX0_wrong_16 rfl (lv_at hl 0 rfl) ?_
      refine va_get (D := D) (ci := 0) (v := .ref g) (C := RX0) (T := TX0) (N := 12) hx hb hts in_X0 hown hK hP 0 rfl rfl 4 (by decide) (hts _ q260) (fun _ h9 => h9) rfl dX0_wrong_17 ?_
      refine lv_aload_n hx hb dX0_wrong_20 rfl (lv_at hl 0 rfl) ?_
      refine va_get (D := D) (ci := 0) (v := .ref g) (C := RX0) (T := TX0) (N := 12) hx hb hts in_X0 hown hK hP 0 rfl rfl 4 (by decide) (hts _ q260) (fun _ h9 => h9) rfl dX0_wrong_21 ?_
      refine lv_iload_n hx hb dX0_wrong_24 rfl (lv_at hl 1 rfl) ?_
      refine rd_callV hF (m_X1_clicked l D ca g lsq b3 b4 b5 b6 b8 b9 b10 b11 d fz v (by assumption) (by assumption) (by first | assumption | omega)) (cs_X1_clicked hts q884 ⟨by decide, by decide⟩) (KK_mv D ca) hKK (wp_tail hP [1, 2, 4, 5] rfl) (va_recv hK hP (ci := 1) (q0 := 1) rfl rfl) rfl hl.1 rfl (Nat.le_of_ble_eq_true rfl) dX0_wrong_25 ⟨Nat.zero_le _, Nat.zero_le _⟩ ?_
      refine lv_iload_n hx hb dX0_wrong_28 rfl (lv_at hl 2 rfl) ?_
      refine rd_callV hF (m_X1_wrongIn l D ca g lsq b3 b4 b5 b6 b8 b9 b10 b11 d fz (clkN d v (d 2)) s (by assumption) (by assumption) (by exact clkN_lt hd2) (by first | assumption | omega)) (cs_X1_wrongIn hts q889 ⟨by decide, by decide⟩) (KK_mv D ca) hKK (wp_tail hP [1, 2, 3] rfl) (va_recv hK hP (ci := 1) (q0 := 1) rfl rfl) rfl hl.1 rfl (Nat.le_of_ble_eq_true rfl) dX0_wrong_29 ⟨Nat.zero_le _, Nat.zero_le _⟩ ?_
      refine top_to (y := nI (wroN d v s (d 2))) (by rw [wrI_clk hd2]) ?_
      refine lv_goto (tgt := 37) hx hb dX0_wrong_32 (by decide) ?_
      exact rd_iret hx hb hr hlk hQ dX0_wrong_37 (by first | (simp [wroI, bI, nI1_1, nI_0, c_5, ix_v, c_13, ix_s]; done) | (simp [wroI, bI, nI1_1, nI_0, c_5, ix_v, c_13, ix_s]; omega) | grind [wroI, bI, nI1_1, nI_0])
theorem cs_X0_isDoor {R : Room} {s : State} {args : Array Value} {own : String} {index : Nat} (hts : ∀ w ∈ lw_all, w.before args s = true) (hl : Cond.methodLink own index yX0_isDoor ∈ lw_all) {rm : Room} {mc ms : Nat} (hR : rm.frames + 1 ≤ R.frames ∧ 8 + (1 + 11) + rm.locals ≤ R.locals) (hc : rm.cells = mc := by rfl) (hs : rm.slots = ms := by rfl) : CallW R s args own RX0 index yX0_isDoor cX0_isDoor 1 (some .boolean) (ws_ yX0_isDoor cX0_isDoor 1 (some .boolean)) rm mc ms 0 := cwV 0 hts (lw_V hl q846 qs21 q58 q847) rfl hc hs (by decide +kernel) hR
theorem cs_X1_guests {R : Room} {s : State} {args : Array Value} {own : String} {index : Nat} (hts : ∀ w ∈ lw_all, w.before args s = true) (hl : Cond.methodLink own index yX1_guests ∈ lw_all) {rm : Room} {mc ms : Nat} (hR : rm.frames + 1 ≤ R.frames ∧ 8 + (4 + 11) + rm.locals ≤ R.locals) (hc : rm.cells = mc := by rfl) (hs : rm.slots = ms := by rfl) : CallW R s args own RX1 index yX1_guests cX1_guests 4 (some .int) (ws_ yX1_guests cX1_guests 4 (some .int)) rm mc ms 1 := cwV 1 hts (lw_V hl q895 q896 q59 q897) rfl hc hs (by decide +kernel) hR
set_option maxHeartbeats 4000000 in
theorem m_X0_guests (l : Launch) (D : va_G) (ca : Nat → ClassId) (h : Nat) (a0 : Nat) (a1 : Nat) (tg : Nat) (a6 : Nat) (a8 : Nat) (tr : Nat) (a11 : Nat) (tpd : Nat) (ac : Nat) (lat : Int32) (t1 : Int32) (g : Nat) (lsq : Nat) (b3 : Nat) (b4 : Nat) (b5 : Nat) (b6 : Nat) (b8 : Nat) (b9 : Nat) (b10 : Nat) (b11 : Nat) (d : Nat → Nat) (fz : va_W) (x : Int32) (hd : dOK d) (hsq : SqL ca fz lsq d) : Met l yX0_guests (ws_ yX0_guests cX0_guests 2 (some .int)) (rmL 8) (PcR (KK D ca) D [.ref h, .int x] (([(h, .inr (0, [.ref a0, .ref a1, .int (nI tpd), .int lat, .ref g, .ref tg, .ref a6, .int (nI ac), .ref a8, .ref tr, .int t1, .ref a11])), (g, .inr (1, [.int (nI (d 0)), .int (nI (d 1)), .ref lsq, .ref b3, .ref b4, .ref b5, .ref b6, .int (nI (d 3)), .ref b8, .ref b9, .ref b10, .ref b11])), (b3, .inl (ca 0, 8, .inl (dv (shF d)))), (b6, .inl (ca 0, 8, .inl (seF d))), (b8, .inl (ca 0, 5, .inl (dv (caF d)))), (b9, .inl (ca 0, 5, .inl (dv (eaF d))))] : va_W) ++ fz)) (vp_Si (fun zr => zr = gstI d x)) 0 0 (fun _ => False) := by
  refine rd_head (by decide) (Nat.le_of_ble_eq_true rfl) ?_
  intro zp ze zs zm za zb zt zc ls zQ hx hb hml hr hlk hown hts hK hP hl hQ
  have hown : zs.vm.findClass RX0 = some zm.cls := hown
  have hl : lv_has ls 2 [(0, .ref h), (1, .int x)] := hl
  have hF : CallFix zp zm zc cX0_guests 2 zs za lw_all RX0 := ⟨hx, hb, hml, hown, hts⟩
  have hKK := hK
  have hK : K1 D ca zs := hKK.1
  have hd2 : d 2 ≤ 8 := hd.2.2.1
  have hd3 : d 3 ≤ 5 := hd.2.2.2.1
  have hd0 : d 0 ≤ 9 := hd.1
  have hd1 : d 1 ≤ 8 := hd.2.1
  have hp2 := pow_8 hd2
  have hp3 := pow_8 (show d 3 ≤ 8 by omega)
  refine lv_aload_n hx hb dX0_guests_0 rfl (lv_at hl 0 rfl) ?_
  refine rd_callV hF (m_X0_isDoor l D ca h a0 a1 tg a6 a8 tr a11 tpd ac lat t1 g lsq b3 b4 b5 b6 b8 b9 b10 b11 d fz (by assumption) (by assumption)) (cs_X0_isDoor hts q844 ⟨by decide, by decide⟩) (KK_mv D ca) hKK (wp_tail hP [0, 1] rfl) (va_recv hK hP (ci := 0) (q0 := 0) rfl rfl) rfl hl.1 rfl (Nat.le_of_ble_eq_true rfl) dX0_guests_1 ⟨Nat.zero_le _, Nat.zero_le _⟩ ?_
  refine wb_ne (tgt := 10) hx hb dX0_guests_4 (by decide) (fun c_4 => ?_) (fun c_4 => ?_)
  · refine lv_aload_n hx hb dX0_guests_10 rfl (lv_at hl 0 rfl) ?_
    refine lv_iload_n hx hb dX0_guests_11 rfl (lv_at hl 1 rfl) ?_
    refine rd_callV hF (m_X0_areSquares l D ca h a0 a1 tg a6 a8 tr a11 tpd ac lat t1 g lsq b3 b4 b5 b6 b8 b9 b10 b11 d fz x (by assumption) (by assumption)) (cs_X0_areSquares hts q733 ⟨by decide, by decide⟩) (KK_mv D ca) hKK (wp_tail hP [0, 1] rfl) (va_recv hK hP (ci := 0) (q0 := 0) rfl rfl) rfl hl.1 rfl (Nat.le_of_ble_eq_true rfl) dX0_guests_12 ⟨Nat.zero_le _, Nat.zero_le _⟩ ?_
    refine wb_eq (tgt := 29) hx hb dX0_guests_15 (by decide) (fun c_15 => ?_) (fun c_15 => ?_)
    · have ix_x : ixO x (2 ^ d 2) = none := ixO_f c_15
      refine lv_ldc (v := (-1000001)) hx hb hown (hts _ q306) dX0_guests_29 ?_
      exact rd_iret hx hb hr hlk hQ dX0_guests_31 (by first | (simp [gstI, bI, nI1_1, nI_0, c_4, c_15, ix_x]; done) | (simp [gstI, bI, nI1_1, nI_0, c_4, c_15, ix_x]; omega) | grind [gstI, bI, nI1_1, nI_0])
    · obtain ⟨s, hs, hxs⟩ := (ltB_iff (by omega)).mp c_15
      subst hxs
      have ix_s : ixO (nI s) (2 ^ d 2) = some s := ixO_t hs (by omega)
      refine lv_aload_n hx hb dX0_guests_18 rfl (lv_at hl 0 rfl) ?_
      refine va_get (D := D) (ci := 0) (v := .ref g) (C := RX0) (T := TX0) (N := 12) hx hb hts in_X0 hown hK hP 0 rfl rfl 4 (by decide) (hts _ q260) (fun _ h9 => h9) rfl dX0_guests_19 ?_
      refine lv_iload_n hx hb dX0_guests_22 rfl (lv_at hl 1 rfl) ?_
      refine rd_callV hF (m_X1_guests l D ca g lsq b3 b4 b5 b6 b8 b9 b10 b11 d fz s (by assumption) (by assumption) (by first | assumption | omega)) (cs_X1_guests hts q894 ⟨by decide, by decide⟩) (KK_mv D ca) hKK (wp_tail hP [1, 2, 3, 4, 5] rfl) (va_recv hK hP (ci := 1) (q0 := 1) rfl rfl) rfl hl.1 rfl (Nat.le_of_ble_eq_true rfl) dX0_guests_23 ⟨Nat.zero_le _, Nat.zero_le _⟩ ?_
      refine lv_goto (tgt := 31) hx hb dX0_guests_26 (by decide) ?_
      exact rd_iret hx hb hr hlk hQ dX0_guests_31 (by first | (simp [gstI, bI, nI1_1, nI_0, c_4, c_15, ix_s]; done) | (simp [gstI, bI, nI1_1, nI_0, c_4, c_15, ix_s]; omega) | grind [gstI, bI, nI1_1, nI_0])
  · refine lv_ldc (v := (-1000002)) hx hb hown (hts _ q724) dX0_guests_7 ?_
    exact rd_iret hx hb hr hlk hQ dX0_guests_9 (by first | (simp [gstI, bI, nI1_1, nI_0, c_4]; done) | (simp [gstI, bI, nI1_1, nI_0, c_4]; omega) | grind [gstI, bI, nI1_1, nI_0])
