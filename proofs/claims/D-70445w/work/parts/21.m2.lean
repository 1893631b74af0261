set_option maxRecDepth 100000
set_option maxHeartbeats 4000000 in
theorem m_X9_isThere (l : Launch) (D : va_G) (ca : Nat → ClassId) (h : Nat) (fs : List Value) (a : Nat) (d : Nat → Nat) (hfs_5 : fs[5]? = some (.ref a)) (hd : dOK d) : Met l yX9_isThere (ws_ yX9_isThere cX9_isThere 1 (some .boolean)) (rmL 0) (PcR (K1 D ca) D [.ref h] [(h, .inr (8, fs)), (a, .inl (ca 0, 64, .inl (dv d)))]) (vp_Si (fun zr => zr = bI (decide (0 < d 0)))) 0 0 (fun _ => False) := by
  refine rd_head (by decide) (Nat.le_of_ble_eq_true rfl) ?_
  intro zp ze zs zm za zb zt zc ls zQ hx hb hml hr hlk hown hts hK hP hl hQ
  have hown : zs.vm.findClass RX9 = some zm.cls := hown
  have hl : lv_has ls 1 [(0, .ref h)] := hl
  have hF : CallFix zp zm zc cX9_isThere 1 zs za lw_all RX9 := ⟨hx, hb, hml, hown, hts⟩
  have hd2 : d 2 ≤ 8 := hd.2.2.1
  have hd3 : d 3 ≤ 5 := hd.2.2.2.1
  have hd0 : d 0 ≤ 9 := hd.1
  have hd1 : d 1 ≤ 8 := hd.2.1
  refine lv_aload_n hx hb dX9_isThere_0 rfl (lv_at hl 0 rfl) ?_
  refine va_get (D := D) (ci := 8) (v := .ref a) (C := RX9) (T := TX9) (N := 24) hx hb hts in_X9 hown hK hP 0 rfl rfl 5 (by decide) (hts _ q1184) (fun _ h9 => h9) hfs_5 dX9_isThere_1 ?_
  refine lv_iconst (v := nI 0) hx hb dX9_isThere_4 rfl ?_
  refine wn_iald (v := nI (d 0)) hx hb hK hP 1 0 rfl rfl (by omega) (by decide) rfl dX9_isThere_5 ?_
  refine wn_ifle (tgt := 13) hx hb (by omega) dX9_isThere_6 (by decide) (fun c_6 => ?_) (fun c_6 => ?_)
  · refine lv_iconst (v := nI 0) hx hb dX9_isThere_13 rfl ?_
    refine W.eq (g2 := F0 zm 14 ls [.int (bI false)]) rfl ?_
    exact rd_zret hx hb hr hlk hQ dX9_isThere_14 (by refine congrArg bI ?_; simp; omega)
  · refine lv_iconst (v := nI 1) hx hb dX9_isThere_9 rfl ?_
    refine lv_goto (tgt := 14) hx hb dX9_isThere_10 (by decide) ?_
    refine W.eq (g2 := F0 zm 14 ls [.int (bI true)]) rfl ?_
    exact rd_zret hx hb hr hlk hQ dX9_isThere_14 (by refine congrArg bI ?_; simp; omega)
set_option maxHeartbeats 4000000 in
theorem m_X9_isSquare (l : Launch) (D : va_G) (ca : Nat → ClassId) (h : Nat) (fs : List Value) (a : Nat) (d : Nat → Nat) (x : Int32) (hfs_5 : fs[5]? = some (.ref a)) (hd : dOK d) : Met l yX9_isSquare (ws_ yX9_isSquare cX9_isSquare 2 (some .boolean)) (rmL 1) (PcR (K1 D ca) D [.ref h, .int x] [(h, .inr (8, fs)), (a, .inl (ca 0, 64, .inl (dv d)))]) (vp_Si (fun zr => zr = bI (ltB x (d 2)))) 0 0 (fun _ => False) := by
  refine rd_head (by decide) (Nat.le_of_ble_eq_true rfl) ?_
  intro zp ze zs zm za zb zt zc ls zQ hx hb hml hr hlk hown hts hK hP hl hQ
  have hown : zs.vm.findClass RX9 = some zm.cls := hown
  have hl : lv_has ls 2 [(0, .ref h), (1, .int x)] := hl
  have hF : CallFix zp zm zc cX9_isSquare 2 zs za lw_all RX9 := ⟨hx, hb, hml, hown, hts⟩
  have hd2 : d 2 ≤ 8 := hd.2.2.1
  have hd3 : d 3 ≤ 5 := hd.2.2.2.1
  have hd0 : d 0 ≤ 9 := hd.1
  have hd1 : d 1 ≤ 8 := hd.2.1
  refine lv_iload_n hx hb dX9_isSquare_0 rfl (lv_at hl 1 rfl) ?_
  refine lv_i2l hx hb dX9_isSquare_1 rfl ?_
  refine lv_lconst (v := 0) hx hb dX9_isSquare_2 rfl ?_
  refine lv_aload_n hx hb dX9_isSquare_3 rfl (lv_at hl 0 rfl) ?_
  refine va_get (D := D) (ci := 8) (v := .ref a) (C := RX9) (T := TX9) (N := 24) hx hb hts in_X9 hown hK hP 0 rfl rfl 5 (by decide) (hts _ q1184) (fun _ h9 => h9) hfs_5 dX9_isSquare_4 ?_
  refine lv_iconst (v := nI 2) hx hb dX9_isSquare_7 rfl ?_
  refine wn_iald (v := nI (d 2)) hx hb hK hP 1 0 rfl rfl (by omega) (by decide) rfl dX9_isSquare_8 ?_
  refine lv_iconst (v := nI 1) hx hb dX9_isSquare_9 rfl ?_
  refine lv_isub hx hb dX9_isSquare_10 ?_
  refine lv_i2l hx hb dX9_isSquare_11 rfl ?_
  refine rd_callS hF (m_X9_in l D ca x.toInt64 0 (((nI (d 2)) - (nI 1)).toInt64) ) (cs_X9_in hts q1262 ⟨by decide, by decide⟩) (K1_mv D ca) hK (hP.sub [] rfl) rfl hl.1 rfl (Nat.le_of_ble_eq_true rfl) dX9_isSquare_12 ⟨Nat.zero_le _, Nat.zero_le _⟩ ?_
  exact rd_zret hx hb hr hlk hQ dX9_isSquare_15 (by rw [inB_lt (by omega)])
set_option maxHeartbeats 4000000 in
theorem m_X9_isVisitor (l : Launch) (D : va_G) (ca : Nat → ClassId) (h : Nat) (fs : List Value) (a : Nat) (d : Nat → Nat) (x : Int32) (hfs_5 : fs[5]? = some (.ref a)) (hd : dOK d) : Met l yX9_isVisitor (ws_ yX9_isVisitor cX9_isVisitor 2 (some .boolean)) (rmL 1) (PcR (K1 D ca) D [.ref h, .int x] [(h, .inr (8, fs)), (a, .inl (ca 0, 64, .inl (dv d)))]) (vp_Si (fun zr => zr = bI (ltB x (d 3)))) 0 0 (fun _ => False) := by
  refine rd_head (by decide) (Nat.le_of_ble_eq_true rfl) ?_
  intro zp ze zs zm za zb zt zc ls zQ hx hb hml hr hlk hown hts hK hP hl hQ
  have hown : zs.vm.findClass RX9 = some zm.cls := hown
  have hl : lv_has ls 2 [(0, .ref h), (1, .int x)] := hl
  have hF : CallFix zp zm zc cX9_isVisitor 2 zs za lw_all RX9 := ⟨hx, hb, hml, hown, hts⟩
  have hd2 : d 2 ≤ 8 := hd.2.2.1
  have hd3 : d 3 ≤ 5 := hd.2.2.2.1
  have hd0 : d 0 ≤ 9 := hd.1
  have hd1 : d 1 ≤ 8 := hd.2.1
  refine lv_iload_n hx hb dX9_isVisitor_0 rfl (lv_at hl 1 rfl) ?_
  refine lv_i2l hx hb dX9_isVisitor_1 rfl ?_
  refine lv_lconst (v := 0) hx hb dX9_isVisitor_2 rfl ?_
  refine lv_aload_n hx hb dX9_isVisitor_3 rfl (lv_at hl 0 rfl) ?_
  refine va_get (D := D) (ci := 8) (v := .ref a) (C := RX9) (T := TX9) (N := 24) hx hb hts in_X9 hown hK hP 0 rfl rfl 5 (by decide) (hts _ q1184) (fun _ h9 => h9) hfs_5 dX9_isVisitor_4 ?_
  refine lv_iconst (v := nI 3) hx hb dX9_isVisitor_7 rfl ?_
  refine wn_iald (v := nI (d 3)) hx hb hK hP 1 0 rfl rfl (by omega) (by decide) rfl dX9_isVisitor_8 ?_
  refine lv_iconst (v := nI 1) hx hb dX9_isVisitor_9 rfl ?_
  refine lv_isub hx hb dX9_isVisitor_10 ?_
  refine lv_i2l hx hb dX9_isVisitor_11 rfl ?_
  refine rd_callS hF (m_X9_in l D ca x.toInt64 0 (((nI (d 3)) - (nI 1)).toInt64) ) (cs_X9_in hts q1262 ⟨by decide, by decide⟩) (K1_mv D ca) hK (hP.sub [] rfl) rfl hl.1 rfl (Nat.le_of_ble_eq_true rfl) dX9_isVisitor_12 ⟨Nat.zero_le _, Nat.zero_le _⟩ ?_
  exact rd_zret hx hb hr hlk hQ dX9_isVisitor_15 (by rw [inB_lt (by omega)])
set_option maxHeartbeats 4000000 in
theorem m_X9_areSquares (l : Launch) (D : va_G) (ca : Nat → ClassId) (h : Nat) (fs : List Value) (a : Nat) (d : Nat → Nat) (x : Int32) (hfs_5 : fs[5]? = some (.ref a)) (hd : dOK d) : Met l yX9_areSquares (ws_ yX9_areSquares cX9_areSquares 2 (some .boolean)) (rmL 1) (PcR (K1 D ca) D [.ref h, .int x] [(h, .inr (8, fs)), (a, .inl (ca 0, 64, .inl (dv d)))]) (vp_Si (fun zr => zr = bI (ltB x (2 ^ d 2)))) 0 0 (fun _ => False) := by
  refine rd_head (by decide) (Nat.le_of_ble_eq_true rfl) ?_
  intro zp ze zs zm za zb zt zc ls zQ hx hb hml hr hlk hown hts hK hP hl hQ
  have hown : zs.vm.findClass RX9 = some zm.cls := hown
  have hl : lv_has ls 2 [(0, .ref h), (1, .int x)] := hl
  have hF : CallFix zp zm zc cX9_areSquares 2 zs za lw_all RX9 := ⟨hx, hb, hml, hown, hts⟩
  have hd2 : d 2 ≤ 8 := hd.2.2.1
  have hd3 : d 3 ≤ 5 := hd.2.2.2.1
  have hd0 : d 0 ≤ 9 := hd.1
  have hd1 : d 1 ≤ 8 := hd.2.1
  have hp := pow_8 hd2
  refine lv_iload_n hx hb dX9_areSquares_0 rfl (lv_at hl 1 rfl) ?_
  refine lv_i2l hx hb dX9_areSquares_1 rfl ?_
  refine lv_lconst (v := 0) hx hb dX9_areSquares_2 rfl ?_
  refine lv_iconst (v := nI 1) hx hb dX9_areSquares_3 rfl ?_
  refine lv_aload_n hx hb dX9_areSquares_4 rfl (lv_at hl 0 rfl) ?_
  refine va_get (D := D) (ci := 8) (v := .ref a) (C := RX9) (T := TX9) (N := 24) hx hb hts in_X9 hown hK hP 0 rfl rfl 5 (by decide) (hts _ q1184) (fun _ h9 => h9) hfs_5 dX9_areSquares_5 ?_
  refine lv_iconst (v := nI 2) hx hb dX9_areSquares_8 rfl ?_
  refine wn_iald (v := nI (d 2)) hx hb hK hP 1 0 rfl rfl (by omega) (by decide) rfl dX9_areSquares_9 ?_
  refine wn_shl hx hb (by omega) (by omega) dX9_areSquares_10 ?_
  refine lv_iconst (v := nI 1) hx hb dX9_areSquares_11 rfl ?_
  refine wn_sub hx hb (by omega) dX9_areSquares_12 ?_
  refine lv_i2l hx hb dX9_areSquares_13 rfl ?_
  refine rd_callS hF (m_X9_in l D ca x.toInt64 0 ((nI ((1 * 2 ^ (d 2)) - 1)).toInt64) ) (cs_X9_in hts q1262 ⟨by decide, by decide⟩) (K1_mv D ca) hK (hP.sub [] rfl) rfl hl.1 rfl (Nat.le_of_ble_eq_true rfl) dX9_areSquares_14 ⟨Nat.zero_le _, Nat.zero_le _⟩ ?_
  exact rd_zret hx hb hr hlk hQ dX9_areSquares_17 (by rw [inB_le (n := 2 ^ d 2) (by omega) (by omega)])
set_option maxHeartbeats 4000000 in
theorem m_X9_areVisitors (l : Launch) (D : va_G) (ca : Nat → ClassId) (h : Nat) (fs : List Value) (a : Nat) (d : Nat → Nat) (x : Int32) (hfs_5 : fs[5]? = some (.ref a)) (hd : dOK d) : Met l yX9_areVisitors (ws_ yX9_areVisitors cX9_areVisitors 2 (some .boolean)) (rmL 1) (PcR (K1 D ca) D [.ref h, .int x] [(h, .inr (8, fs)), (a, .inl (ca 0, 64, .inl (dv d)))]) (vp_Si (fun zr => zr = bI (ltB x (2 ^ d 3)))) 0 0 (fun _ => False) := by
  refine rd_head (by decide) (Nat.le_of_ble_eq_true rfl) ?_
  intro zp ze zs zm za zb zt zc ls zQ hx hb hml hr hlk hown hts hK hP hl hQ
  have hown : zs.vm.findClass RX9 = some zm.cls := hown
  have hl : lv_has ls 2 [(0, .ref h), (1, .int x)] := hl
  have hF : CallFix zp zm zc cX9_areVisitors 2 zs za lw_all RX9 := ⟨hx, hb, hml, hown, hts⟩
  have hd2 : d 2 ≤ 8 := hd.2.2.1
  have hd3 : d 3 ≤ 5 := hd.2.2.2.1
  have hd0 : d 0 ≤ 9 := hd.1
  have hd1 : d 1 ≤ 8 := hd.2.1
  have hp := pow_8 (show d 3 ≤ 8 by omega)
  refine lv_iload_n hx hb dX9_areVisitors_0 rfl (lv_at hl 1 rfl) ?_
  refine lv_i2l hx hb dX9_areVisitors_1 rfl ?_
  refine lv_lconst (v := 0) hx hb dX9_areVisitors_2 rfl ?_
  refine lv_iconst (v := nI 1) hx hb dX9_areVisitors_3 rfl ?_
  refine lv_aload_n hx hb dX9_areVisitors_4 rfl (lv_at hl 0 rfl) ?_
  refine va_get (D := D) (ci := 8) (v := .ref a) (C := RX9) (T := TX9) (N := 24) hx hb hts in_X9 hown hK hP 0 rfl rfl 5 (by decide) (hts _ q1184) (fun _ h9 => h9) hfs_5 dX9_areVisitors_5 ?_
  refine lv_iconst (v := nI 3) hx hb dX9_areVisitors_8 rfl ?_
  refine wn_iald (v := nI (d 3)) hx hb hK hP 1 0 rfl rfl (by omega) (by decide) rfl dX9_areVisitors_9 ?_
  refine wn_shl hx hb (by omega) (by omega) dX9_areVisitors_10 ?_
  refine lv_iconst (v := nI 1) hx hb dX9_areVisitors_11 rfl ?_
  refine wn_sub hx hb (by omega) dX9_areVisitors_12 ?_
  refine lv_i2l hx hb dX9_areVisitors_13 rfl ?_
  refine rd_callS hF (m_X9_in l D ca x.toInt64 0 ((nI ((1 * 2 ^ (d 3)) - 1)).toInt64) ) (cs_X9_in hts q1262 ⟨by decide, by decide⟩) (K1_mv D ca) hK (hP.sub [] rfl) rfl hl.1 rfl (Nat.le_of_ble_eq_true rfl) dX9_areVisitors_14 ⟨Nat.zero_le _, Nat.zero_le _⟩ ?_
  exact rd_zret hx hb hr hlk hQ dX9_areVisitors_17 (by rw [inB_le (n := 2 ^ d 3) (by omega) (by omega)])
theorem cs_X9_wrongOf {R : Room} {s : State} {args : Array Value} {own : String} {index : Nat} (hts : ∀ w ∈ lw_all, w.before args s = true) (hl : Cond.methodLink own index yX9_wrongOf ∈ lw_all) {rm : Room} {mc ms : Nat} (hR : rm.frames + 1 ≤ R.frames ∧ 8 + (5 + 11) + rm.locals ≤ R.locals) (hc : rm.cells = mc := by rfl) (hs : rm.slots = ms := by rfl) : CallB R s args own index yX9_wrongOf cX9_wrongOf 5 (some .int) (ws_ yX9_wrongOf cX9_wrongOf 5 (some .int)) rm mc ms 3 ∧ (Cond.static yX9_wrongOf).before args s = true := va_cwS 3 hts (lw_S hl q1371 q70 q1372) rfl hc hs (by decide +kernel) hR
set_option maxHeartbeats 4000000 in
theorem m_X9_guestsOf (l : Launch) (D : va_G) (ca : Nat → ClassId) (h : Nat) (fs : List Value) (a : Nat) (d : Nat → Nat) (set : Nat) (hfs_5 : fs[5]? = some (.ref a)) (hd : dOK d) (hs : set < 256) : Met l yX9_guestsOf (ws_ yX9_guestsOf cX9_guestsOf 4 (some .int)) (rmL 5) (PcR (K1 D ca) D [.ref h, .int (nI set)] [(h, .inr (8, fs)), (a, .inl (ca 0, 64, .inl (dv d)))]) (vp_Si (fun zr => zr = nI (gD d set))) 0 0 (fun _ => False) := by
  refine rd_head (by decide) (Nat.le_of_ble_eq_true rfl) ?_
  intro zp ze zs zm za zb zt zc ls zQ hx hb hml hr hlk hown hts hK hP hl hQ
  have hown : zs.vm.findClass RX9 = some zm.cls := hown
  have hl : lv_has ls 4 [(0, .ref h), (1, .int (nI set))] := hl
  have hF : CallFix zp zm zc cX9_guestsOf 4 zs za lw_all RX9 := ⟨hx, hb, hml, hown, hts⟩
  have hd2 : d 2 ≤ 8 := hd.2.2.1
  have hd3 : d 3 ≤ 5 := hd.2.2.2.1
  have hd0 : d 0 ≤ 9 := hd.1
  have hd1 : d 1 ≤ 8 := hd.2.1
  refine lv_iconst (v := nI 0) hx hb dX9_guestsOf_0 rfl ?_
  refine lv_istore_n (lv' := [(2, .int (nI 0)), (0, .ref h), (1, .int (nI set))]) hx hb dX9_guestsOf_1 rfl hl (by decide) rfl (fun ls hl => ?_)
  refine lv_iconst (v := nI 0) hx hb dX9_guestsOf_2 rfl ?_
  refine lv_istore_n (lv' := [(3, .int (nI 0)), (2, .int (nI 0)), (0, .ref h), (1, .int (nI set))]) hx hb dX9_guestsOf_3 rfl hl (by decide) rfl (fun ls hl => ?_)
  have lp_4 : ∀ (zn : Nat) (i : Nat), (i ≤ d 3) →  (d 3 - i) < zn → ∀ (ls : Array Slot), lv_has ls 4 [(0, .ref h), (1, .int (nI set)), (2, .int (nI (gstN d set i))), (3, .int (nI i))] → W zp l ze (rmL 5) zs zm za zb zt zc zs.heap [] 0 0 zQ (F0 zm 4 ls []) := by
    intro zn
    induction zn with
    | zero => intro i hi hmu_4; exact absurd hmu_4 (Nat.not_lt_zero _)
    | succ zn ih_4 =>
      intro i hi hmu_4 ls hl
      have hw := wroN_le d i set (d 2)
      have hp := pow_8 (show i ≤ 8 by omega)
      refine lv_iload_n hx hb dX9_guestsOf_4 rfl (lv_at hl 3 rfl) ?_
      refine lv_aload_n hx hb dX9_guestsOf_5 rfl (lv_at hl 0 rfl) ?_
      refine va_get (D := D) (ci := 8) (v := .ref a) (C := RX9) (T := TX9) (N := 24) hx hb hts in_X9 hown hK hP 0 rfl rfl 5 (by decide) (hts _ q1184) (fun _ h9 => h9) hfs_5 dX9_guestsOf_6 ?_
      refine lv_iconst (v := nI 3) hx hb dX9_guestsOf_9 rfl ?_
      refine wn_iald (v := nI (d 3)) hx hb hK hP 1 0 rfl rfl (by omega) (by decide) rfl dX9_guestsOf_10 ?_
      refine wn_ge (tgt := 48) hx hb (by omega) (by omega) dX9_guestsOf_11 (by decide) (fun c_11 => ?_) (fun c_11 => ?_)
      · have c_11n := Nat.not_lt.mpr c_11
        refine lv_iload_n hx hb dX9_guestsOf_48 rfl (lv_at hl 2 rfl) ?_
        exact rd_iret hx hb hr hlk hQ dX9_guestsOf_49 (by have hie : i = d 3 := (by omega); rw [hie]; rfl)
      · have c_11n := Nat.not_le.mpr c_11
        refine lv_iload_n hx hb dX9_guestsOf_14 rfl (lv_at hl 2 rfl) ?_
        refine lv_aload_n hx hb dX9_guestsOf_15 rfl (lv_at hl 0 rfl) ?_
        refine va_get (D := D) (ci := 8) (v := .ref a) (C := RX9) (T := TX9) (N := 24) hx hb hts in_X9 hown hK hP 0 rfl rfl 5 (by decide) (hts _ q1184) (fun _ h9 => h9) hfs_5 dX9_guestsOf_16 ?_
        refine lv_iload_n hx hb dX9_guestsOf_19 rfl (lv_at hl 3 rfl) ?_
        refine lv_iload_n hx hb dX9_guestsOf_20 rfl (lv_at hl 1 rfl) ?_
        refine rd_callS hF (m_X9_wrongOf l D ca a d i set (by assumption) (by first | assumption | omega) (by first | assumption | omega)) (cs_X9_wrongOf hts q1370 ⟨by decide, by decide⟩) (K1_mv D ca) hK (hP.sub [1] rfl) rfl hl.1 rfl (Nat.le_of_ble_eq_true rfl) dX9_guestsOf_21 ⟨Nat.zero_le _, Nat.zero_le _⟩ ?_
        refine lv_aload_n hx hb dX9_guestsOf_24 rfl (lv_at hl 0 rfl) ?_
        refine va_get (D := D) (ci := 8) (v := .ref a) (C := RX9) (T := TX9) (N := 24) hx hb hts in_X9 hown hK hP 0 rfl rfl 5 (by decide) (hts _ q1184) (fun _ h9 => h9) hfs_5 dX9_guestsOf_25 ?_
        refine lv_iconst (v := nI 1) hx hb dX9_guestsOf_28 rfl ?_
        refine wn_iald (v := nI (d 1)) hx hb hK hP 1 0 rfl rfl (by omega) (by decide) rfl dX9_guestsOf_29 ?_
        refine wn_gt (tgt := 39) hx hb (by omega) (by omega) dX9_guestsOf_30 (by decide) (fun c_30 => ?_) (fun c_30 => ?_)
        · have c_30n := Nat.not_le.mpr c_30
          refine lv_iconst (v := nI 0) hx hb dX9_guestsOf_39 rfl ?_
          refine wn_or hx hb dX9_guestsOf_40 ?_
          refine lv_istore_n (lv' := [(2, .int (nI ((gstN d set i) ||| 0))), (0, .ref h), (1, .int (nI set)), (3, .int (nI i))]) hx hb dX9_guestsOf_41 rfl hl (by decide) rfl (fun ls hl => ?_)
          refine lv_iinc (v := nI (i + 1)) (lv' := [(3, .int (nI (i + 1))), (2, .int (nI ((gstN d set i) ||| 0))), (0, .ref h), (1, .int (nI set))]) hx hb dX9_guestsOf_42 hl (k := 3) rfl (nI_add i 1) (by decide) rfl (fun ls hl => ?_)
          refine lv_goto (tgt := 4) hx hb dX9_guestsOf_45 (by decide) ?_
          have e_1 : (gstN d set i) ||| 0 = gstN d set (i + 1) := by first | rfl | (first | exact (setN_t _ (by simp; omega)).symm | exact (setN_f _ (by simp; omega)).symm)
          have e_2 : i + 1 = (i + 1) := by first | rfl | (first | exact (setN_t _ (by simp; omega)).symm | exact (setN_f _ (by simp; omega)).symm)
          exact ih_4 (i + 1) (by omega) (by omega) ls (lv_to (lv_sub hl [2, 3, 1, 0] rfl) (Eq.trans (congrArg (fun x => ([(0, .ref h), (1, .int (nI set)), (2, .int (nI x)), (3, .int (nI (i + 1)))] : List (Nat × Value))) e_1) (congrArg (fun x => ([(0, .ref h), (1, .int (nI set)), (2, .int (nI (gstN d set (i + 1)))), (3, .int (nI x))] : List (Nat × Value))) e_2)))
        · have c_30n := Nat.not_lt.mpr c_30
          refine lv_iconst (v := nI 1) hx hb dX9_guestsOf_33 rfl ?_
          refine lv_iload_n hx hb dX9_guestsOf_34 rfl (lv_at hl 3 rfl) ?_
          refine wn_shl hx hb (by omega) (by omega) dX9_guestsOf_35 ?_
          refine lv_goto (tgt := 40) hx hb dX9_guestsOf_36 (by decide) ?_
          refine wn_or hx hb dX9_guestsOf_40 ?_
          refine lv_istore_n (lv' := [(2, .int (nI ((gstN d set i) ||| (1 * 2 ^ i)))), (0, .ref h), (1, .int (nI set)), (3, .int (nI i))]) hx hb dX9_guestsOf_41 rfl hl (by decide) rfl (fun ls hl => ?_)
          refine lv_iinc (v := nI (i + 1)) (lv' := [(3, .int (nI (i + 1))), (2, .int (nI ((gstN d set i) ||| (1 * 2 ^ i)))), (0, .ref h), (1, .int (nI set))]) hx hb dX9_guestsOf_42 hl (k := 3) rfl (nI_add i 1) (by decide) rfl (fun ls hl => ?_)
          refine lv_goto (tgt := 4) hx hb dX9_guestsOf_45 (by decide) ?_
          have e_3 : (gstN d set i) ||| (1 * 2 ^ i) = gstN d set (i + 1) := by first | rfl | (first | exact (setN_t _ (by simp; omega)).symm | exact (setN_f _ (by simp; omega)).symm)
          have e_4 : i + 1 = (i + 1) := by first | rfl | (first | exact (setN_t _ (by simp; omega)).symm | exact (setN_f _ (by simp; omega)).symm)
          exact ih_4 (i + 1) (by omega) (by omega) ls (lv_to (lv_sub hl [2, 3, 1, 0] rfl) (Eq.trans (congrArg (fun x => ([(0, .ref h), (1, .int (nI set)), (2, .int (nI x)), (3, .int (nI (i + 1)))] : List (Nat × Value))) e_3) (congrArg (fun x => ([(0, .ref h), (1, .int (nI set)), (2, .int (nI (gstN d set (i + 1)))), (3, .int (nI x))] : List (Nat × Value))) e_4)))
  have e_5 : 0 = gstN d set 0 := by first | rfl | (first | exact (setN_t _ (by simp; omega)).symm | exact (setN_f _ (by simp; omega)).symm)
  exact lp_4 ((d 3 - 0) + 1) 0 (by omega) (by omega) ls (lv_to (lv_sub hl [2, 3, 1, 0] rfl) (congrArg (fun x => ([(0, .ref h), (1, .int (nI set)), (2, .int (nI x)), (3, .int (nI 0))] : List (Nat × Value))) e_5))
set_option maxHeartbeats 4000000 in
theorem m_X9_clicksOf (l : Launch) (D : va_G) (ca : Nat → ClassId) (h : Nat) (fs : List Value) (a : Nat) (d : Nat → Nat) (v : Nat) (hfs_5 : fs[5]? = some (.ref a)) (hd : dOK d) (hv : v < 5) : Met l yX9_clicksOf (ws_ yX9_clicksOf cX9_clicksOf 4 (some .int)) (rmL 3) (PcR (K1 D ca) D [.ref h, .int (nI v)] [(h, .inr (8, fs)), (a, .inl (ca 0, 64, .inl (dv d)))]) (vp_Si (fun zr => zr = nI (clkN d v (d 2)))) 0 0 (fun _ => False) := by
  refine rd_head (by decide) (Nat.le_of_ble_eq_true rfl) ?_
  intro zp ze zs zm za zb zt zc ls zQ hx hb hml hr hlk hown hts hK hP hl hQ
  have hown : zs.vm.findClass RX9 = some zm.cls := hown
  have hl : lv_has ls 4 [(0, .ref h), (1, .int (nI v))] := hl
  have hF : CallFix zp zm zc cX9_clicksOf 4 zs za lw_all RX9 := ⟨hx, hb, hml, hown, hts⟩
  have hd2 : d 2 ≤ 8 := hd.2.2.1
  have hd3 : d 3 ≤ 5 := hd.2.2.2.1
  have hd0 : d 0 ≤ 9 := hd.1
  have hd1 : d 1 ≤ 8 := hd.2.1
  refine lv_iconst (v := nI 0) hx hb dX9_clicksOf_0 rfl ?_
  refine lv_istore_n (lv' := [(2, .int (nI 0)), (0, .ref h), (1, .int (nI v))]) hx hb dX9_clicksOf_1 rfl hl (by decide) rfl (fun ls hl => ?_)
  refine lv_iconst (v := nI 0) hx hb dX9_clicksOf_2 rfl ?_
  refine lv_istore_n (lv' := [(3, .int (nI 0)), (2, .int (nI 0)), (0, .ref h), (1, .int (nI v))]) hx hb dX9_clicksOf_3 rfl hl (by decide) rfl (fun ls hl => ?_)
  have lp_4 : ∀ (zn : Nat) (i : Nat), (i ≤ d 2) →  (d 2 - i) < zn → ∀ (ls : Array Slot), lv_has ls 4 [(0, .ref h), (1, .int (nI v)), (2, .int (nI (clkN d v i))), (3, .int (nI i))] → W zp l ze (rmL 3) zs zm za zb zt zc zs.heap [] 0 0 zQ (F0 zm 4 ls []) := by
    intro zn
    induction zn with
    | zero => intro i hi hmu_4; exact absurd hmu_4 (Nat.not_lt_zero _)
    | succ zn ih_4 =>
      intro i hi hmu_4 ls hl
      have hp := pow_8 (show i ≤ 8 by omega)
      refine lv_iload_n hx hb dX9_clicksOf_4 rfl (lv_at hl 3 rfl) ?_
      refine lv_aload_n hx hb dX9_clicksOf_5 rfl (lv_at hl 0 rfl) ?_
      refine va_get (D := D) (ci := 8) (v := .ref a) (C := RX9) (T := TX9) (N := 24) hx hb hts in_X9 hown hK hP 0 rfl rfl 5 (by decide) (hts _ q1184) (fun _ h9 => h9) hfs_5 dX9_clicksOf_6 ?_
      refine lv_iconst (v := nI 2) hx hb dX9_clicksOf_9 rfl ?_
      refine wn_iald (v := nI (d 2)) hx hb hK hP 1 0 rfl rfl (by omega) (by decide) rfl dX9_clicksOf_10 ?_
      refine wn_ge (tgt := 42) hx hb (by omega) (by omega) dX9_clicksOf_11 (by decide) (fun c_11 => ?_) (fun c_11 => ?_)
      · have c_11n := Nat.not_lt.mpr c_11
        refine lv_iload_n hx hb dX9_clicksOf_42 rfl (lv_at hl 2 rfl) ?_
        exact rd_iret hx hb hr hlk hQ dX9_clicksOf_43 (by have hie : i = d 2 := (by omega); rw [hie])
      · have c_11n := Nat.not_le.mpr c_11
        refine lv_iload_n hx hb dX9_clicksOf_14 rfl (lv_at hl 2 rfl) ?_
        refine lv_aload_n hx hb dX9_clicksOf_15 rfl (lv_at hl 0 rfl) ?_
        refine va_get (D := D) (ci := 8) (v := .ref a) (C := RX9) (T := TX9) (N := 24) hx hb hts in_X9 hown hK hP 0 rfl rfl 5 (by decide) (hts _ q1184) (fun _ h9 => h9) hfs_5 dX9_clicksOf_16 ?_
        refine lv_iload_n hx hb dX9_clicksOf_19 rfl (lv_at hl 1 rfl) ?_
        refine lv_iload_n hx hb dX9_clicksOf_20 rfl (lv_at hl 3 rfl) ?_
        refine rd_callS hF (m_X9_clicksIt l D ca a d v i (by assumption) (by first | assumption | omega) (by first | assumption | omega)) (cs_X9_clicksIt hts q1385 ⟨by decide, by decide⟩) (K1_mv D ca) hK (hP.sub [1] rfl) rfl hl.1 rfl (Nat.le_of_ble_eq_true rfl) dX9_clicksOf_21 ⟨Nat.zero_le _, Nat.zero_le _⟩ ?_
        refine wb_eq (tgt := 33) hx hb dX9_clicksOf_24 (by decide) (fun c_24 => ?_) (fun c_24 => ?_)
        · refine lv_iconst (v := nI 0) hx hb dX9_clicksOf_33 rfl ?_
          refine wn_or hx hb dX9_clicksOf_34 ?_
          refine lv_istore_n (lv' := [(2, .int (nI ((clkN d v i) ||| 0))), (0, .ref h), (1, .int (nI v)), (3, .int (nI i))]) hx hb dX9_clicksOf_35 rfl hl (by decide) rfl (fun ls hl => ?_)
          refine lv_iinc (v := nI (i + 1)) (lv' := [(3, .int (nI (i + 1))), (2, .int (nI ((clkN d v i) ||| 0))), (0, .ref h), (1, .int (nI v))]) hx hb dX9_clicksOf_36 hl (k := 3) rfl (nI_add i 1) (by decide) rfl (fun ls hl => ?_)
          refine lv_goto (tgt := 4) hx hb dX9_clicksOf_39 (by decide) ?_
          have e_1 : (clkN d v i) ||| 0 = clkN d v (i + 1) := by first | rfl | (simp [clkN, setN, c_11, c_11n, c_24])
          have e_2 : i + 1 = (i + 1) := by first | rfl | (simp [clkN, setN, c_11, c_11n, c_24])
          exact ih_4 (i + 1) (by omega) (by omega) ls (lv_to (lv_sub hl [2, 3, 1, 0] rfl) (Eq.trans (congrArg (fun x => ([(0, .ref h), (1, .int (nI v)), (2, .int (nI x)), (3, .int (nI (i + 1)))] : List (Nat × Value))) e_1) (congrArg (fun x => ([(0, .ref h), (1, .int (nI v)), (2, .int (nI (clkN d v (i + 1)))), (3, .int (nI x))] : List (Nat × Value))) e_2)))
        · refine lv_iconst (v := nI 1) hx hb dX9_clicksOf_27 rfl ?_
          refine lv_iload_n hx hb dX9_clicksOf_28 rfl (lv_at hl 3 rfl) ?_
          refine wn_shl hx hb (by omega) (by omega) dX9_clicksOf_29 ?_
          refine lv_goto (tgt := 34) hx hb dX9_clicksOf_30 (by decide) ?_
          refine wn_or hx hb dX9_clicksOf_34 ?_
          refine lv_istore_n (lv' := [(2, .int (nI ((clkN d v i) ||| (1 * 2 ^ i)))), (0, .ref h), (1, .int (nI v)), (3, .int (nI i))]) hx hb dX9_clicksOf_35 rfl hl (by decide) rfl (fun ls hl => ?_)
          refine lv_iinc (v := nI (i + 1)) (lv' := [(3, .int (nI (i + 1))), (2, .int (nI ((clkN d v i) ||| (1 * 2 ^ i)))), (0, .ref h), (1, .int (nI v))]) hx hb dX9_clicksOf_36 hl (k := 3) rfl (nI_add i 1) (by decide) rfl (fun ls hl => ?_)
          refine lv_goto (tgt := 4) hx hb dX9_clicksOf_39 (by decide) ?_
          have e_3 : (clkN d v i) ||| (1 * 2 ^ i) = clkN d v (i + 1) := by first | rfl | (simp [clkN, setN, c_11, c_11n, c_24])
          have e_4 : i + 1 = (i + 1) := by first | rfl | (simp [clkN, setN, c_11, c_11n, c_24])
          exact ih_4 (i + 1) (by omega) (by omega) ls (lv_to (lv_sub hl [2, 3, 1, 0] rfl) (Eq.trans (congrArg (fun x => ([(0, .ref h), (1, .int (nI v)), (2, .int (nI x)), (3, .int (nI (i + 1)))] : List (Nat × Value))) e_3) (congrArg (fun x => ([(0, .ref h), (1, .int (nI v)), (2, .int (nI (clkN d v (i + 1)))), (3, .int (nI x))] : List (Nat × Value))) e_4)))
  have e_5 : 0 = clkN d v 0 := by first | rfl | (simp [clkN, setN])
  exact lp_4 ((d 2 - 0) + 1) 0 (by omega) (by omega) ls (lv_to (lv_sub hl [2, 3, 1, 0] rfl) (congrArg (fun x => ([(0, .ref h), (1, .int (nI v)), (2, .int (nI x)), (3, .int (nI 0))] : List (Nat × Value))) e_5))
theorem cs_X9_guestsOf {R : Room} {s : State} {args : Array Value} {own : String} {index : Nat} (hts : ∀ w ∈ lw_all, w.before args s = true) (hl : Cond.methodLink own index yX9_guestsOf ∈ lw_all) {rm : Room} {mc ms : Nat} (hR : rm.frames + 1 ≤ R.frames ∧ 8 + (4 + 11) + rm.locals ≤ R.locals) (hc : rm.cells = mc := by rfl) (hs : rm.slots = ms := by rfl) : CallW R s args own RX9 index yX9_guestsOf cX9_guestsOf 4 (some .int) (ws_ yX9_guestsOf cX9_guestsOf 4 (some .int)) rm mc ms 1 := cwV 1 hts (lw_V hl q1458 qs46 q70 q1459) rfl hc hs (by decide +kernel) hR
theorem cs_X9_bits {R : Room} {s : State} {args : Array Value} {own : String} {index : Nat} (hts : ∀ w ∈ lw_all, w.before args s = true) (hl : Cond.methodLink own index yX9_bits ∈ lw_all) {rm : Room} {mc ms : Nat} (hR : rm.frames + 1 ≤ R.frames ∧ 8 + (3 + 11) + rm.locals ≤ R.locals) (hc : rm.cells = mc := by rfl) (hs : rm.slots = ms := by rfl) : CallB R s args own index yX9_bits cX9_bits 3 (some .int) (ws_ yX9_bits cX9_bits 3 (some .int)) rm mc ms 1 ∧ (Cond.static yX9_bits).before args s = true := va_cwS 1 hts (lw_S hl q1473 q70 q1474) rfl hc hs (by decide +kernel) hR
set_option maxHeartbeats 4000000 in
theorem m_X9_fewestOf (l : Launch) (D : va_G) (ca : Nat → ClassId) (h : Nat) (fs : List Value) (a : Nat) (d : Nat → Nat) (of : Nat) (vis : Nat) (hfs_5 : fs[5]? = some (.ref a)) (hd : dOK d) (ho : of < 256) (hv : vis < 256) : Met l yX9_fewestOf (ws_ yX9_fewestOf cX9_fewestOf 6 (some .int)) (rmL 6) (PcR (K1 D ca) D [.ref h, .int (nI of), .int (nI vis)] [(h, .inr (8, fs)), (a, .inl (ca 0, 64, .inl (dv d)))]) (vp_Si (fun zr => zr = oI (fewN (gD d) of vis (of + 1)))) 0 0 (fun _ => False) := by
  refine rd_head (by decide) (Nat.le_of_ble_eq_true rfl) ?_
  intro zp ze zs zm za zb zt zc ls zQ hx hb hml hr hlk hown hts hK hP hl hQ
  have hown : zs.vm.findClass RX9 = some zm.cls := hown
  have hl : lv_has ls 6 [(0, .ref h), (1, .int (nI of)), (2, .int (nI vis))] := hl
  have hF : CallFix zp zm zc cX9_fewestOf 6 zs za lw_all RX9 := ⟨hx, hb, hml, hown, hts⟩
  have hd2 : d 2 ≤ 8 := hd.2.2.1
  have hd3 : d 3 ≤ 5 := hd.2.2.2.1
  have hd0 : d 0 ≤ 9 := hd.1
  have hd1 : d 1 ≤ 8 := hd.2.1
  have hgb : ∀ z, gD d z < 256 := fun z => gD_lt hd3
  refine lv_ldc (v := (-1000000)) hx hb hown (hts _ q1306) dX9_fewestOf_0 ?_
  refine lv_istore_n (lv' := [(3, .int ((-1000000))), (0, .ref h), (1, .int (nI of)), (2, .int (nI vis))]) hx hb dX9_fewestOf_2 rfl hl (by decide) rfl (fun ls hl => ?_)
  refine lv_iconst (v := nI 0) hx hb dX9_fewestOf_3 rfl ?_
  refine lv_istore (lv' := [(4, .int (nI 0)), (3, .int ((-1000000))), (0, .ref h), (1, .int (nI of)), (2, .int (nI vis))]) hx hb dX9_fewestOf_4 hl (by decide) rfl (fun ls hl => ?_)
  have lp_6 : ∀ (zn : Nat) (i : Nat), (i ≤ of + 1) →  (of + 1 - i) < zn → ∀ (ls : Array Slot), lv_has ls 6 [(0, .ref h), (1, .int (nI of)), (2, .int (nI vis)), (3, .int (oI (fewN (gD d) of vis i))), (4, .int (nI i))] → W zp l ze (rmL 6) zs zm za zb zt zc zs.heap [] 0 0 zQ (F0 zm 6 ls []) := by
    intro zn
    induction zn with
    | zero => intro i hi hmu_6; exact absurd hmu_6 (Nat.not_lt_zero _)
    | succ zn ih_6 =>
      intro i hi hmu_6 ls hl
      have hgi := hgb i
      refine lv_iload hx hb dX9_fewestOf_6 (lv_at hl 4 rfl) ?_
      refine lv_iload_n hx hb dX9_fewestOf_8 rfl (lv_at hl 1 rfl) ?_
      refine wn_gt (tgt := 74) hx hb (by omega) (by omega) dX9_fewestOf_9 (by decide) (fun c_9 => ?_) (fun c_9 => ?_)
      · have c_9n := Nat.not_le.mpr c_9
        refine lv_iload_n hx hb dX9_fewestOf_74 rfl (lv_at hl 3 rfl) ?_
        exact rd_iret hx hb hr hlk hQ dX9_fewestOf_75 (by have hie : i = of + 1 := (by omega); rw [hie])
      · have c_9n := Nat.not_lt.mpr c_9
        refine lv_iload hx hb dX9_fewestOf_12 (lv_at hl 4 rfl) ?_
        refine lv_iload_n hx hb dX9_fewestOf_14 rfl (lv_at hl 1 rfl) ?_
        refine lv_iconst (v := (-1)) hx hb dX9_fewestOf_15 rfl ?_
        refine lv_ixor hx hb dX9_fewestOf_16 ?_
        refine lv_iand hx hb dX9_fewestOf_17 ?_
        refine lv_if_ne (tgt := 43) hx hb dX9_fewestOf_18 (by decide) (fun c_18 => ?_) (fun c_18 => ?_)
        · refine lv_iconst (v := nI 0) hx hb dX9_fewestOf_43 rfl ?_
          refine lv_istore (lv' := [(5, .int (nI 0)), (0, .ref h), (1, .int (nI of)), (2, .int (nI vis)), (3, .int (oI (fewN (gD d) of vis i))), (4, .int (nI i))]) hx hb dX9_fewestOf_44 hl (by decide) rfl (fun ls hl => ?_)
          refine lv_iload hx hb dX9_fewestOf_46 (lv_at hl 0 rfl) ?_
          refine wn_ifeq (tgt := 66) hx hb (by omega) dX9_fewestOf_48 (by decide) (fun c_48 => ?_) (fun zh => by first | exact absurd zh (by decide) | exact absurd rfl zh | omega)
          refine lv_iload_n hx hb dX9_fewestOf_66 rfl (lv_at hl 4 rfl) ?_
          refine lv_istore_n (lv' := [(3, .int (oI (fewN (gD d) of vis i))), (5, .int (nI 0)), (0, .ref h), (1, .int (nI of)), (2, .int (nI vis)), (4, .int (nI i))]) hx hb dX9_fewestOf_67 rfl hl (by decide) rfl (fun ls hl => ?_)
          refine lv_iinc (v := nI (i + 1)) (lv' := [(4, .int (nI (i + 1))), (3, .int (oI (fewN (gD d) of vis i))), (5, .int (nI 0)), (0, .ref h), (1, .int (nI of)), (2, .int (nI vis))]) hx hb dX9_fewestOf_68 hl (k := 5) rfl (nI_add i 1) (by decide) rfl (fun ls hl => ?_)
          refine lv_goto (tgt := 6) hx hb dX9_fewestOf_71 (by decide) ?_
          have e_1 : oI (fewN (gD d) of vis i) = oI (fewN (gD d) of vis (i + 1)) := by first | rfl | (first | exact congrArg oI (fewN_n1 (by rw [← subN_iff (by omega)]; assumption)).symm | exact (congrArg oI ((fewN_n3 (by assumption)).trans (by assumption))).symm | exact (congrArg oI ((fewN_n2 (by rw [hO_21]; exact decide_eq_false (by omega))).trans hO_21)).symm | exact (congrArg oI (fewN_y (by rw [← subN_iff (by omega)]; assumption) (by rw [hO_21]; first | rfl | exact decide_eq_true (by omega)) (by assumption))).symm)
          have e_2 : i + 1 = (i + 1) := by first | rfl | (first | exact congrArg oI (fewN_n1 (by rw [← subN_iff (by omega)]; assumption)).symm | exact (congrArg oI ((fewN_n3 (by assumption)).trans (by assumption))).symm | exact (congrArg oI ((fewN_n2 (by rw [hO_21]; exact decide_eq_false (by omega))).trans hO_21)).symm | exact (congrArg oI (fewN_y (by rw [← subN_iff (by omega)]; assumption) (by rw [hO_21]; first | rfl | exact decide_eq_true (by omega)) (by assumption))).symm)
          exact ih_6 (i + 1) (by omega) (by omega) ls (lv_to (lv_sub hl [3, 4, 5, 1, 0] rfl) (Eq.trans (congrArg (fun x => ([(0, .ref h), (1, .int (nI of)), (2, .int (nI vis)), (3, .int x), (4, .int (nI (i + 1)))] : List (Nat × Value))) e_1) (congrArg (fun x => ([(0, .ref h), (1, .int (nI of)), (2, .int (nI vis)), (3, .int (oI (fewN (gD d) of vis (i + 1)))), (4, .int (nI x))] : List (Nat × Value))) e_2)))
        · rcases hO_21 : fewN (gD d) of vis i with _ | bs
          · rw [hO_21] at hl
            have hl : lv_has ls 6 [(0, .ref h), (1, .int (nI of)), (2, .int (nI vis)), (3, .int ((-1000000))), (4, .int (nI i))] := hl
            refine lv_iload_n hx hb dX9_fewestOf_21 rfl (lv_at hl 3 rfl) ?_
            refine lv_ldc (v := (-1000000)) hx hb hown (hts _ q1306) dX9_fewestOf_22 ?_
            refine lv_icmp_eq (tgt := 39) hx hb dX9_fewestOf_24 (by decide) (fun c_24 => ?_) (fun zh => by first | exact absurd rfl zh | exact absurd zh (by simp))
            refine lv_iconst (v := nI 1) hx hb dX9_fewestOf_39 rfl ?_
            refine lv_goto (tgt := 44) hx hb dX9_fewestOf_40 (by decide) ?_
            refine lv_istore (lv' := [(5, .int (nI 1)), (0, .ref h), (1, .int (nI of)), (2, .int (nI vis)), (3, .int ((-1000000))), (4, .int (nI i))]) hx hb dX9_fewestOf_44 hl (by decide) rfl (fun ls hl => ?_)
            refine lv_iload hx hb dX9_fewestOf_46 (lv_at hl 0 rfl) ?_
            refine wn_ifeq (tgt := 66) hx hb (by omega) dX9_fewestOf_48 (by decide) (fun zh => by first | exact absurd zh (by decide) | exact absurd rfl zh | omega) (fun c_48 => ?_)
            refine lv_aload_n hx hb dX9_fewestOf_51 rfl (lv_at hl 1 rfl) ?_
            refine lv_iload hx hb dX9_fewestOf_52 (lv_at hl 5 rfl) ?_
            refine rd_callV hF (m_X9_guestsOf l D ca h fs a d i (by first | rfl | assumption) (by assumption) (by first | assumption | omega)) (cs_X9_guestsOf hts q1456 ⟨by decide, by decide⟩) (K1_mv D ca) hK (hP.sub [0, 1] rfl) (va_recv hK hP (ci := 8) (q0 := 0) rfl rfl) rfl hl.1 rfl (Nat.le_of_ble_eq_true rfl) dX9_fewestOf_54 ⟨Nat.zero_le _, Nat.zero_le _⟩ ?_
            refine lv_iload_n hx hb dX9_fewestOf_57 rfl (lv_at hl 3 rfl) ?_
            refine wn_ne (tgt := 66) hx hb (by omega) (by omega) dX9_fewestOf_58 (by decide) (fun c_58 => ?_) (fun c_58 => ?_)
            · refine lv_iload_n hx hb dX9_fewestOf_66 rfl (lv_at hl 4 rfl) ?_
              refine lv_istore_n (lv' := [(3, .int ((-1000000))), (5, .int (nI 1)), (0, .ref h), (1, .int (nI of)), (2, .int (nI vis)), (4, .int (nI i))]) hx hb dX9_fewestOf_67 rfl hl (by decide) rfl (fun ls hl => ?_)
              refine lv_iinc (v := nI (i + 1)) (lv' := [(4, .int (nI (i + 1))), (3, .int ((-1000000))), (5, .int (nI 1)), (0, .ref h), (1, .int (nI of)), (2, .int (nI vis))]) hx hb dX9_fewestOf_68 hl (k := 5) rfl (nI_add i 1) (by decide) rfl (fun ls hl => ?_)
              refine lv_goto (tgt := 6) hx hb dX9_fewestOf_71 (by decide) ?_
              have e_3 : (-1000000) = oI (fewN (gD d) of vis (i + 1)) := by first | rfl | (first | exact congrArg oI (fewN_n1 (by rw [← subN_iff (by omega)]; assumption)).symm | exact (congrArg oI ((fewN_n3 (by assumption)).trans (by assumption))).symm | exact (congrArg oI ((fewN_n2 (by rw [hO_21]; exact decide_eq_false (by omega))).trans hO_21)).symm | exact (congrArg oI (fewN_y (by rw [← subN_iff (by omega)]; assumption) (by rw [hO_21]; first | rfl | exact decide_eq_true (by omega)) (by assumption))).symm)
              have e_4 : i + 1 = (i + 1) := by first | rfl | (first | exact congrArg oI (fewN_n1 (by rw [← subN_iff (by omega)]; assumption)).symm | exact (congrArg oI ((fewN_n3 (by assumption)).trans (by assumption))).symm | exact (congrArg oI ((fewN_n2 (by rw [hO_21]; exact decide_eq_false (by omega))).trans hO_21)).symm | exact (congrArg oI (fewN_y (by rw [← subN_iff (by omega)]; assumption) (by rw [hO_21]; first | rfl | exact decide_eq_true (by omega)) (by assumption))).symm)
              exact ih_6 (i + 1) (by omega) (by omega) ls (lv_to (lv_sub hl [3, 4, 5, 1, 0] rfl) (Eq.trans (congrArg (fun x => ([(0, .ref h), (1, .int (nI of)), (2, .int (nI vis)), (3, .int x), (4, .int (nI (i + 1)))] : List (Nat × Value))) e_3) (congrArg (fun x => ([(0, .ref h), (1, .int (nI of)), (2, .int (nI vis)), (3, .int (oI (fewN (gD d) of vis (i + 1)))), (4, .int (nI x))] : List (Nat × Value))) e_4)))
            · refine lv_iload hx hb dX9_fewestOf_61 (lv_at hl 5 rfl) ?_
              refine lv_goto (tgt := 67) hx hb dX9_fewestOf_63 (by decide) ?_
              refine lv_istore_n (lv' := [(3, .int (nI i)), (5, .int (nI 1)), (0, .ref h), (1, .int (nI of)), (2, .int (nI vis)), (4, .int (nI i))]) hx hb dX9_fewestOf_67 rfl hl (by decide) rfl (fun ls hl => ?_)
              refine lv_iinc (v := nI (i + 1)) (lv' := [(4, .int (nI (i + 1))), (3, .int (nI i)), (5, .int (nI 1)), (0, .ref h), (1, .int (nI of)), (2, .int (nI vis))]) hx hb dX9_fewestOf_68 hl (k := 5) rfl (nI_add i 1) (by decide) rfl (fun ls hl => ?_)
              refine lv_goto (tgt := 6) hx hb dX9_fewestOf_71 (by decide) ?_
              have e_5 : nI i = oI (fewN (gD d) of vis (i + 1)) := by first | rfl | (first | exact congrArg oI (fewN_n1 (by rw [← subN_iff (by omega)]; assumption)).symm | exact (congrArg oI ((fewN_n3 (by assumption)).trans (by assumption))).symm | exact (congrArg oI ((fewN_n2 (by rw [hO_21]; exact decide_eq_false (by omega))).trans hO_21)).symm | exact (congrArg oI (fewN_y (by rw [← subN_iff (by omega)]; assumption) (by rw [hO_21]; first | rfl | exact decide_eq_true (by omega)) (by assumption))).symm)
              have e_6 : i + 1 = (i + 1) := by first | rfl | (first | exact congrArg oI (fewN_n1 (by rw [← subN_iff (by omega)]; assumption)).symm | exact (congrArg oI ((fewN_n3 (by assumption)).trans (by assumption))).symm | exact (congrArg oI ((fewN_n2 (by rw [hO_21]; exact decide_eq_false (by omega))).trans hO_21)).symm | exact (congrArg oI (fewN_y (by rw [← subN_iff (by omega)]; assumption) (by rw [hO_21]; first | rfl | exact decide_eq_true (by omega)) (by assumption))).symm)
              exact ih_6 (i + 1) (by omega) (by omega) ls (lv_to (lv_sub hl [3, 4, 5, 1, 0] rfl) (Eq.trans (congrArg (fun x => ([(0, .ref h), (1, .int (nI of)), (2, .int (nI vis)), (3, .int x), (4, .int (nI (i + 1)))] : List (Nat × Value))) e_5) (congrArg (fun x => ([(0, .ref h), (1, .int (nI of)), (2, .int (nI vis)), (3, .int (oI (fewN (gD d) of vis (i + 1)))), (4, .int (nI x))] : List (Nat × Value))) e_6)))
          · rw [hO_21] at hl
            have hl : lv_has ls 6 [(0, .ref h), (1, .int (nI of)), (2, .int (nI vis)), (3, .int (nI bs)), (4, .int (nI i))] := hl
            have hbs : bs < i := fewN_lt (by assumption)
            have hb1 := bitN_le i 8
            have hb2 := bitN_le bs 8
            refine lv_iload_n hx hb dX9_fewestOf_21 rfl (lv_at hl 3 rfl) ?_
            refine lv_ldc (v := (-1000000)) hx hb hown (hts _ q1306) dX9_fewestOf_22 ?_
            refine lv_icmp_eq (tgt := 39) hx hb dX9_fewestOf_24 (by decide) (fun zh => by exact absurd zh (nI_neN (by omega))) (fun c_24 => ?_)
            refine lv_iload hx hb dX9_fewestOf_27 (lv_at hl 4 rfl) ?_
            refine rd_callS hF (m_X9_bits l D ca i (by first | assumption | omega)) (cs_X9_bits hts q1472 ⟨by decide, by decide⟩) (K1_mv D ca) hK (hP.sub [] rfl) rfl hl.1 rfl (Nat.le_of_ble_eq_true rfl) dX9_fewestOf_29 ⟨Nat.zero_le _, Nat.zero_le _⟩ ?_
            refine lv_iload_n hx hb dX9_fewestOf_32 rfl (lv_at hl 3 rfl) ?_
            refine rd_callS hF (m_X9_bits l D ca bs (by first | assumption | omega)) (cs_X9_bits hts q1472 ⟨by decide, by decide⟩) (K1_mv D ca) hK (hP.sub [] rfl) rfl hl.1 rfl (Nat.le_of_ble_eq_true rfl) dX9_fewestOf_33 ⟨Nat.zero_le _, Nat.zero_le _⟩ ?_
            refine wn_ge (tgt := 43) hx hb (by omega) (by omega) dX9_fewestOf_36 (by decide) (fun c_36 => ?_) (fun c_36 => ?_)
            · have c_36n := Nat.not_lt.mpr c_36
              refine lv_iconst (v := nI 0) hx hb dX9_fewestOf_43 rfl ?_
              refine lv_istore (lv' := [(5, .int (nI 0)), (0, .ref h), (1, .int (nI of)), (2, .int (nI vis)), (3, .int (nI bs)), (4, .int (nI i))]) hx hb dX9_fewestOf_44 hl (by decide) rfl (fun ls hl => ?_)
              refine lv_iload hx hb dX9_fewestOf_46 (lv_at hl 0 rfl) ?_
              refine wn_ifeq (tgt := 66) hx hb (by omega) dX9_fewestOf_48 (by decide) (fun c_48 => ?_) (fun zh => by first | exact absurd zh (by decide) | exact absurd rfl zh | omega)
              refine lv_iload_n hx hb dX9_fewestOf_66 rfl (lv_at hl 4 rfl) ?_
              refine lv_istore_n (lv' := [(3, .int (nI bs)), (5, .int (nI 0)), (0, .ref h), (1, .int (nI of)), (2, .int (nI vis)), (4, .int (nI i))]) hx hb dX9_fewestOf_67 rfl hl (by decide) rfl (fun ls hl => ?_)
              refine lv_iinc (v := nI (i + 1)) (lv' := [(4, .int (nI (i + 1))), (3, .int (nI bs)), (5, .int (nI 0)), (0, .ref h), (1, .int (nI of)), (2, .int (nI vis))]) hx hb dX9_fewestOf_68 hl (k := 5) rfl (nI_add i 1) (by decide) rfl (fun ls hl => ?_)
              refine lv_goto (tgt := 6) hx hb dX9_fewestOf_71 (by decide) ?_
              have e_7 : nI bs = oI (fewN (gD d) of vis (i + 1)) := by first | rfl | (first | exact congrArg oI (fewN_n1 (by rw [← subN_iff (by omega)]; assumption)).symm | exact (congrArg oI ((fewN_n3 (by assumption)).trans (by assumption))).symm | exact (congrArg oI ((fewN_n2 (by rw [hO_21]; exact decide_eq_false (by omega))).trans hO_21)).symm | exact (congrArg oI (fewN_y (by rw [← subN_iff (by omega)]; assumption) (by rw [hO_21]; first | rfl | exact decide_eq_true (by omega)) (by assumption))).symm)
              have e_8 : i + 1 = (i + 1) := by first | rfl | (first | exact congrArg oI (fewN_n1 (by rw [← subN_iff (by omega)]; assumption)).symm | exact (congrArg oI ((fewN_n3 (by assumption)).trans (by assumption))).symm | exact (congrArg oI ((fewN_n2 (by rw [hO_21]; exact decide_eq_false (by omega))).trans hO_21)).symm | exact (congrArg oI (fewN_y (by rw [← subN_iff (by omega)]; assumption) (by rw [hO_21]; first | rfl | exact decide_eq_true (by omega)) (by assumption))).symm)
              exact ih_6 (i + 1) (by omega) (by omega) ls (lv_to (lv_sub hl [3, 4, 5, 1, 0] rfl) (Eq.trans (congrArg (fun x => ([(0, .ref h), (1, .int (nI of)), (2, .int (nI vis)), (3, .int x), (4, .int (nI (i + 1)))] : List (Nat × Value))) e_7) (congrArg (fun x => ([(0, .ref h), (1, .int (nI of)), (2, .int (nI vis)), (3, .int (oI (fewN (gD d) of vis (i + 1)))), (4, .int (nI x))] : List (Nat × Value))) e_8)))
            · have c_36n := Nat.not_le.mpr c_36
              refine lv_iconst (v := nI 1) hx hb dX9_fewestOf_39 rfl ?_
              refine lv_goto (tgt := 44) hx hb dX9_fewestOf_40 (by decide) ?_
              refine lv_istore (lv' := [(5, .int (nI 1)), (0, .ref h), (1, .int (nI of)), (2, .int (nI vis)), (3, .int (nI bs)), (4, .int (nI i))]) hx hb dX9_fewestOf_44 hl (by decide) rfl (fun ls hl => ?_)
              refine lv_iload hx hb dX9_fewestOf_46 (lv_at hl 0 rfl) ?_
              refine wn_ifeq (tgt := 66) hx hb (by omega) dX9_fewestOf_48 (by decide) (fun zh => by first | exact absurd zh (by decide) | exact absurd rfl zh | omega) (fun c_48 => ?_)
              refine lv_aload_n hx hb dX9_fewestOf_51 rfl (lv_at hl 1 rfl) ?_
              refine lv_iload hx hb dX9_fewestOf_52 (lv_at hl 5 rfl) ?_
              refine rd_callV hF (m_X9_guestsOf l D ca h fs a d i (by first | rfl | assumption) (by assumption) (by first | assumption | omega)) (cs_X9_guestsOf hts q1456 ⟨by decide, by decide⟩) (K1_mv D ca) hK (hP.sub [0, 1] rfl) (va_recv hK hP (ci := 8) (q0 := 0) rfl rfl) rfl hl.1 rfl (Nat.le_of_ble_eq_true rfl) dX9_fewestOf_54 ⟨Nat.zero_le _, Nat.zero_le _⟩ ?_
              refine lv_iload_n hx hb dX9_fewestOf_57 rfl (lv_at hl 3 rfl) ?_
              refine wn_ne (tgt := 66) hx hb (by omega) (by omega) dX9_fewestOf_58 (by decide) (fun c_58 => ?_) (fun c_58 => ?_)
              · refine lv_iload_n hx hb dX9_fewestOf_66 rfl (lv_at hl 4 rfl) ?_
                refine lv_istore_n (lv' := [(3, .int (nI bs)), (5, .int (nI 1)), (0, .ref h), (1, .int (nI of)), (2, .int (nI vis)), (4, .int (nI i))]) hx hb dX9_fewestOf_67 rfl hl (by decide) rfl (fun ls hl => ?_)
                refine lv_iinc (v := nI (i + 1)) (lv' := [(4, .int (nI (i + 1))), (3, .int (nI bs)), (5, .int (nI 1)), (0, .ref h), (1, .int (nI of)), (2, .int (nI vis))]) hx hb dX9_fewestOf_68 hl (k := 5) rfl (nI_add i 1) (by decide) rfl (fun ls hl => ?_)
                refine lv_goto (tgt := 6) hx hb dX9_fewestOf_71 (by decide) ?_
                have e_9 : nI bs = oI (fewN (gD d) of vis (i + 1)) := by first | rfl | (first | exact congrArg oI (fewN_n1 (by rw [← subN_iff (by omega)]; assumption)).symm | exact (congrArg oI ((fewN_n3 (by assumption)).trans (by assumption))).symm | exact (congrArg oI ((fewN_n2 (by rw [hO_21]; exact decide_eq_false (by omega))).trans hO_21)).symm | exact (congrArg oI (fewN_y (by rw [← subN_iff (by omega)]; assumption) (by rw [hO_21]; first | rfl | exact decide_eq_true (by omega)) (by assumption))).symm)
                have e_10 : i + 1 = (i + 1) := by first | rfl | (first | exact congrArg oI (fewN_n1 (by rw [← subN_iff (by omega)]; assumption)).symm | exact (congrArg oI ((fewN_n3 (by assumption)).trans (by assumption))).symm | exact (congrArg oI ((fewN_n2 (by rw [hO_21]; exact decide_eq_false (by omega))).trans hO_21)).symm | exact (congrArg oI (fewN_y (by rw [← subN_iff (by omega)]; assumption) (by rw [hO_21]; first | rfl | exact decide_eq_true (by omega)) (by assumption))).symm)
                exact ih_6 (i + 1) (by omega) (by omega) ls (lv_to (lv_sub hl [3, 4, 5, 1, 0] rfl) (Eq.trans (congrArg (fun x => ([(0, .ref h), (1, .int (nI of)), (2, .int (nI vis)), (3, .int x), (4, .int (nI (i + 1)))] : List (Nat × Value))) e_9) (congrArg (fun x => ([(0, .ref h), (1, .int (nI of)), (2, .int (nI vis)), (3, .int (oI (fewN (gD d) of vis (i + 1)))), (4, .int (nI x))] : List (Nat × Value))) e_10)))
              · refine lv_iload hx hb dX9_fewestOf_61 (lv_at hl 5 rfl) ?_
                refine lv_goto (tgt := 67) hx hb dX9_fewestOf_63 (by decide) ?_
                refine lv_istore_n (lv' := [(3, .int (nI i)), (5, .int (nI 1)), (0, .ref h), (1, .int (nI of)), (2, .int (nI vis)), (4, .int (nI i))]) hx hb dX9_fewestOf_67 rfl hl (by decide) rfl (fun ls hl => ?_)
                refine lv_iinc (v := nI (i + 1)) (lv' := [(4, .int (nI (i + 1))), (3, .int (nI i)), (5, .int (nI 1)), (0, .ref h), (1, .int (nI of)), (2, .int (nI vis))]) hx hb dX9_fewestOf_68 hl (k := 5) rfl (nI_add i 1) (by decide) rfl (fun ls hl => ?_)
                refine lv_goto (tgt := 6) hx hb dX9_fewestOf_71 (by decide) ?_
                have e_11 : nI i = oI (fewN (gD d) of vis (i + 1)) := by first | rfl | (first | exact congrArg oI (fewN_n1 (by rw [← subN_iff (by omega)]; assumption)).symm | exact (congrArg oI ((fewN_n3 (by assumption)).trans (by assumption))).symm | exact (congrArg oI ((fewN_n2 (by rw [hO_21]; exact decide_eq_false (by omega))).trans hO_21)).symm | exact (congrArg oI (fewN_y (by rw [← subN_iff (by omega)]; assumption) (by rw [hO_21]; first | rfl | exact decide_eq_true (by omega)) (by assumption))).symm)
                have e_12 : i + 1 = (i + 1) := by first | rfl | (first | exact congrArg oI (fewN_n1 (by rw [← subN_iff (by omega)]; assumption)).symm | exact (congrArg oI ((fewN_n3 (by assumption)).trans (by assumption))).symm | exact (congrArg oI ((fewN_n2 (by rw [hO_21]; exact decide_eq_false (by omega))).trans hO_21)).symm | exact (congrArg oI (fewN_y (by rw [← subN_iff (by omega)]; assumption) (by rw [hO_21]; first | rfl | exact decide_eq_true (by omega)) (by assumption))).symm)
                exact ih_6 (i + 1) (by omega) (by omega) ls (lv_to (lv_sub hl [3, 4, 5, 1, 0] rfl) (Eq.trans (congrArg (fun x => ([(0, .ref h), (1, .int (nI of)), (2, .int (nI vis)), (3, .int x), (4, .int (nI (i + 1)))] : List (Nat × Value))) e_11) (congrArg (fun x => ([(0, .ref h), (1, .int (nI of)), (2, .int (nI vis)), (3, .int (oI (fewN (gD d) of vis (i + 1)))), (4, .int (nI x))] : List (Nat × Value))) e_12)))
  have e_13 : (-1000000) = oI (fewN (gD d) of vis 0) := by first | rfl | (first | exact congrArg oI (fewN_n1 (by rw [← subN_iff (by omega)]; assumption)).symm | exact (congrArg oI ((fewN_n3 (by assumption)).trans (by assumption))).symm | exact (congrArg oI ((fewN_n2 (by rw [hO_21]; exact decide_eq_false (by omega))).trans hO_21)).symm | exact (congrArg oI (fewN_y (by rw [← subN_iff (by omega)]; assumption) (by rw [hO_21]; first | rfl | exact decide_eq_true (by omega)) (by assumption))).symm)
  exact lp_6 ((of + 1 - 0) + 1) 0 (by omega) (by omega) ls (lv_to (lv_sub hl [2, 3, 4, 1, 0] rfl) (congrArg (fun x => ([(0, .ref h), (1, .int (nI of)), (2, .int (nI vis)), (3, .int x), (4, .int (nI 0))] : List (Nat × Value))) e_13))
