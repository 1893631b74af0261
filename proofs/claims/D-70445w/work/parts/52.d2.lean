set_option maxRecDepth 100000
theorem cs_X1_lamps {R : Room} {s : State} {args : Array Value} {own : String} {index : Nat} (hts : ∀ w ∈ lw_all, w.before args s = true) (hl : Cond.methodLink own index yX1_lamps ∈ lw_all) {rm : Room} {mc ms : Nat} (hR : rm.frames + 1 ≤ R.frames ∧ 8 + (3 + 11) + rm.locals ≤ R.locals) (hc : rm.cells = mc := by rfl) (hs : rm.slots = ms := by rfl) : CallW R s args own RX1 index yX1_lamps cX1_lamps 3 (some .int) (ws_ yX1_lamps cX1_lamps 3 (some .int)) rm mc ms 0 := cwV 0 hts (lw_V hl q806 q807 q59 q808) rfl hc hs (by decide +kernel) hR
theorem cs_X1_counting {R : Room} {s : State} {args : Array Value} {own : String} {index : Nat} (hts : ∀ w ∈ lw_all, w.before args s = true) (hl : Cond.methodLink own index yX1_counting ∈ lw_all) {rm : Room} {mc ms : Nat} (hR : rm.frames + 1 ≤ R.frames ∧ 8 + (3 + 11) + rm.locals ≤ R.locals) (hc : rm.cells = mc := by rfl) (hs : rm.slots = ms := by rfl) : CallW R s args own RX1 index yX1_counting cX1_counting 3 (some .int) (ws_ yX1_counting cX1_counting 3 (some .int)) rm mc ms 0 := cwV 0 hts (lw_V hl q815 q816 q59 q817) rfl hc hs (by decide +kernel) hR
theorem cs_J16_bitCount {R : Room} {s : State} {args : Array Value} {own : String} {index : Nat} (hts : ∀ w ∈ lw_all, w.before args s = true) (hl : Cond.methodLink own index yJ16_bitCount ∈ lw_all) {rm : Room} {mc ms : Nat} (hR : rm.frames + 1 ≤ R.frames ∧ 8 + (1 + 11) + rm.locals ≤ R.locals) (hc : rm.cells = mc := by rfl) (hs : rm.slots = ms := by rfl) : CallB R s args own index yJ16_bitCount cJ16_bitCount 1 (some .int) (ws_ yJ16_bitCount cJ16_bitCount 1 (some .int)) rm mc ms 1 ∧ (Cond.static yJ16_bitCount).before args s = true := va_cwS 1 hts (lw_S hl q834 q89 q835) rfl hc hs (by decide +kernel) hR
set_option maxHeartbeats 4000000 in
theorem m_X1_wrongIn (l : Launch) (D : va_G) (ca : Nat → ClassId) (g : Nat) (lsq : Nat) (b3 : Nat) (b4 : Nat) (b5 : Nat) (b6 : Nat) (b8 : Nat) (b9 : Nat) (b10 : Nat) (b11 : Nat) (d : Nat → Nat) (fz : va_W) (x : Nat) (set : Nat) (hd : dOK d) (hsq : SqL ca fz lsq d) (hx_ : x < 256) (hs : set < 256) : Met l yX1_wrongIn (ws_ yX1_wrongIn cX1_wrongIn 3 (some .int)) (rmL 5) (PcR (KK D ca) D [.ref g, .int (nI x), .int (nI set)] (([(g, .inr (1, [.int (nI (d 0)), .int (nI (d 1)), .ref lsq, .ref b3, .ref b4, .ref b5, .ref b6, .int (nI (d 3)), .ref b8, .ref b9, .ref b10, .ref b11])), (b3, .inl (ca 0, 8, .inl (dv (shF d)))), (b6, .inl (ca 0, 8, .inl (seF d)))] : va_W) ++ fz)) (vp_Si (fun zr => zr = nI (wrI d x set))) 0 0 (fun _ => False) := by
  refine rd_head (by decide) (Nat.le_of_ble_eq_true rfl) ?_
  intro zp ze zs zm za zb zt zc ls zQ hx hb hml hr hlk hown hts hK hP hl hQ
  have hown : zs.vm.findClass RX1 = some zm.cls := hown
  have hl : lv_has ls 3 [(0, .ref g), (1, .int (nI x)), (2, .int (nI set))] := hl
  have hF : CallFix zp zm zc cX1_wrongIn 3 zs za lw_all RX1 := ⟨hx, hb, hml, hown, hts⟩
  have hKK := hK
  have hK : K1 D ca zs := hKK.1
  have hd2 : d 2 ≤ 8 := hd.2.2.1
  have hd3 : d 3 ≤ 5 := hd.2.2.2.1
  have hd0 : d 0 ≤ 9 := hd.1
  have hd1 : d 1 ≤ 8 := hd.2.1
  refine lv_iload_n hx hb dX1_wrongIn_0 rfl (lv_at hl 1 rfl) ?_
  refine lv_aload_n hx hb dX1_wrongIn_1 rfl (lv_at hl 0 rfl) ?_
  refine rd_callV hF (m_X1_lamps l D ca g lsq b3 b4 b5 b6 b8 b9 b10 b11 d fz (by assumption) (by assumption)) (cs_X1_lamps hts q805 ⟨by decide, by decide⟩) (KK_mv D ca) hKK (wp_tail hP [0, 1, 2] rfl) (va_recv hK hP (ci := 1) (q0 := 0) rfl rfl) rfl hl.1 rfl (Nat.le_of_ble_eq_true rfl) dX1_wrongIn_2 ⟨Nat.zero_le _, Nat.zero_le _⟩ ?_
  refine wn_xor hx hb dX1_wrongIn_5 ?_
  refine lv_iload_n hx hb dX1_wrongIn_6 rfl (lv_at hl 2 rfl) ?_
  refine wn_and hx hb dX1_wrongIn_7 ?_
  refine lv_aload_n hx hb dX1_wrongIn_8 rfl (lv_at hl 0 rfl) ?_
  refine rd_callV hF (m_X1_counting l D ca g lsq b3 b4 b5 b6 b8 b9 b10 b11 d fz (by assumption) (by assumption)) (cs_X1_counting hts q814 ⟨by decide, by decide⟩) (KK_mv D ca) hKK (wp_tail hP [0, 2] rfl) (va_recv hK hP (ci := 1) (q0 := 0) rfl rfl) rfl hl.1 rfl (Nat.le_of_ble_eq_true rfl) dX1_wrongIn_9 ⟨Nat.zero_le _, Nat.zero_le _⟩ ?_
  refine wn_and hx hb dX1_wrongIn_12 ?_
  refine rd_callS hF (m_J16_bitCount l D ca (((x ^^^ (setN (lmpD d) (d 2))) &&& set) &&& (setN (cntD d) (d 2))) (by exact wr_lt (by assumption))) (cs_J16_bitCount hts q833 ⟨by decide, by decide⟩) (K1_mv D ca) hK (hP.sub [] rfl) rfl hl.1 rfl (Nat.le_of_ble_eq_true rfl) dX1_wrongIn_13 ⟨Nat.zero_le _, Nat.zero_le _⟩ ?_
  exact rd_iret hx hb hr hlk hQ dX1_wrongIn_16 (by rfl)
theorem cs_X1_clicked {R : Room} {s : State} {args : Array Value} {own : String} {index : Nat} (hts : ∀ w ∈ lw_all, w.before args s = true) (hl : Cond.methodLink own index yX1_clicked ∈ lw_all) {rm : Room} {mc ms : Nat} (hR : rm.frames + 1 ≤ R.frames ∧ 8 + (4 + 11) + rm.locals ≤ R.locals) (hc : rm.cells = mc := by rfl) (hs : rm.slots = ms := by rfl) : CallW R s args own RX1 index yX1_clicked cX1_clicked 4 (some .int) (ws_ yX1_clicked cX1_clicked 4 (some .int)) rm mc ms 1 := cwV 1 hts (lw_V hl q750 q751 q59 q752) rfl hc hs (by decide +kernel) hR
theorem cs_X1_wrongIn {R : Room} {s : State} {args : Array Value} {own : String} {index : Nat} (hts : ∀ w ∈ lw_all, w.before args s = true) (hl : Cond.methodLink own index yX1_wrongIn ∈ lw_all) {rm : Room} {mc ms : Nat} (hR : rm.frames + 1 ≤ R.frames ∧ 8 + (3 + 11) + rm.locals ≤ R.locals) (hc : rm.cells = mc := by rfl) (hs : rm.slots = ms := by rfl) : CallW R s args own RX1 index yX1_wrongIn cX1_wrongIn 3 (some .int) (ws_ yX1_wrongIn cX1_wrongIn 3 (some .int)) rm mc ms 2 := cwV 2 hts (lw_V hl q802 q803 q59 q804) rfl hc hs (by decide +kernel) hR
set_option maxHeartbeats 4000000 in
theorem m_X1_isLet (l : Launch) (D : va_G) (ca : Nat → ClassId) (g : Nat) (lsq : Nat) (b3 : Nat) (b4 : Nat) (b5 : Nat) (b6 : Nat) (b8 : Nat) (b9 : Nat) (b10 : Nat) (b11 : Nat) (d : Nat → Nat) (fz : va_W) (v : Nat) (set : Nat) (hd : dOK d) (hsq : SqL ca fz lsq d) (hv : v < d 3) (hs : set < 256) : Met l yX1_isLet (ws_ yX1_isLet cX1_isLet 3 (some .boolean)) (rmL 6) (PcR (KK D ca) D [.ref g, .int (nI v), .int (nI set)] (([(g, .inr (1, [.int (nI (d 0)), .int (nI (d 1)), .ref lsq, .ref b3, .ref b4, .ref b5, .ref b6, .int (nI (d 3)), .ref b8, .ref b9, .ref b10, .ref b11])), (b3, .inl (ca 0, 8, .inl (dv (shF d)))), (b6, .inl (ca 0, 8, .inl (seF d))), (b8, .inl (ca 0, 5, .inl (dv (caF d)))), (b9, .inl (ca 0, 5, .inl (dv (eaF d))))] : va_W) ++ fz)) (vp_Si (fun zr => zr = bI (letD d v set))) 0 0 (fun _ => False) := by
  refine rd_head (by decide) (Nat.le_of_ble_eq_true rfl) ?_
  intro zp ze zs zm za zb zt zc ls zQ hx hb hml hr hlk hown hts hK hP hl hQ
  have hown : zs.vm.findClass RX1 = some zm.cls := hown
  have hl : lv_has ls 3 [(0, .ref g), (1, .int (nI v)), (2, .int (nI set))] := hl
  have hF : CallFix zp zm zc cX1_isLet 3 zs za lw_all RX1 := ⟨hx, hb, hml, hown, hts⟩
  have hKK := hK
  have hK : K1 D ca zs := hKK.1
  have hd2 : d 2 ≤ 8 := hd.2.2.1
  have hd3 : d 3 ≤ 5 := hd.2.2.2.1
  have hd0 : d 0 ≤ 9 := hd.1
  have hd1 : d 1 ≤ 8 := hd.2.1
  have hcl : clkN d v (d 2) < 256 := clkN_lt hd2
  have hwl := wroN_le d v set (d 2)
  refine lv_aload_n hx hb dX1_isLet_0 rfl (lv_at hl 0 rfl) ?_
  refine lv_aload_n hx hb dX1_isLet_1 rfl (lv_at hl 0 rfl) ?_
  refine lv_iload_n hx hb dX1_isLet_2 rfl (lv_at hl 1 rfl) ?_
  refine rd_callV hF (m_X1_clicked l D ca g lsq b3 b4 b5 b6 b8 b9 b10 b11 d fz v (by assumption) (by assumption) (by first | assumption | omega)) (cs_X1_clicked hts q749 ⟨by decide, by decide⟩) (KK_mv D ca) hKK (wp_tail hP [0, 1, 3, 4] rfl) (va_recv hK hP (ci := 1) (q0 := 0) rfl rfl) rfl hl.1 rfl (Nat.le_of_ble_eq_true rfl) dX1_isLet_3 ⟨Nat.zero_le _, Nat.zero_le _⟩ ?_
  refine lv_iload_n hx hb dX1_isLet_6 rfl (lv_at hl 2 rfl) ?_
  refine rd_callV hF (m_X1_wrongIn l D ca g lsq b3 b4 b5 b6 b8 b9 b10 b11 d fz (clkN d v (d 2)) set (by assumption) (by assumption) (by first | assumption | omega) (by first | assumption | omega)) (cs_X1_wrongIn hts q801 ⟨by decide, by decide⟩) (KK_mv D ca) hKK (wp_tail hP [0, 1, 2] rfl) (va_recv hK hP (ci := 1) (q0 := 0) rfl rfl) rfl hl.1 rfl (Nat.le_of_ble_eq_true rfl) dX1_isLet_7 ⟨Nat.zero_le _, Nat.zero_le _⟩ ?_
  refine top_to (y := nI (wroN d v set (d 2))) (by rw [wrI_clk hd2]) ?_
  refine lv_aload_n hx hb dX1_isLet_10 rfl (lv_at hl 0 rfl) ?_
  refine va_get (D := D) (ci := 1) (v := .int (nI (d 1))) (C := RX1) (T := TX1) (N := 12) hx hb hts in_X1 hown hK hP 0 rfl rfl 1 (by decide) (hts _ q137) (fun _ h9 => h9) rfl dX1_isLet_11 ?_
  refine wn_gt (tgt := 21) hx hb (by omega) (by omega) dX1_isLet_14 (by decide) (fun c_14 => ?_) (fun c_14 => ?_)
  · have c_14n := Nat.not_le.mpr c_14
    refine lv_iconst (v := nI 0) hx hb dX1_isLet_21 rfl ?_
    refine W.eq (g2 := F0 zm 22 ls [.int (bI false)]) rfl ?_
    exact rd_zret hx hb hr hlk hQ dX1_isLet_22 (by refine congrArg bI ?_; simp [letD]; omega)
  · have c_14n := Nat.not_lt.mpr c_14
    refine lv_iconst (v := nI 1) hx hb dX1_isLet_17 rfl ?_
    refine lv_goto (tgt := 22) hx hb dX1_isLet_18 (by decide) ?_
    refine W.eq (g2 := F0 zm 22 ls [.int (bI true)]) rfl ?_
    exact rd_zret hx hb hr hlk hQ dX1_isLet_22 (by refine congrArg bI ?_; simp [letD]; omega)
theorem cs_X1_isLet {R : Room} {s : State} {args : Array Value} {own : String} {index : Nat} (hts : ∀ w ∈ lw_all, w.before args s = true) (hl : Cond.methodLink own index yX1_isLet ∈ lw_all) {rm : Room} {mc ms : Nat} (hR : rm.frames + 1 ≤ R.frames ∧ 8 + (3 + 11) + rm.locals ≤ R.locals) (hc : rm.cells = mc := by rfl) (hs : rm.slots = ms := by rfl) : CallW R s args own RX1 index yX1_isLet cX1_isLet 3 (some .boolean) (ws_ yX1_isLet cX1_isLet 3 (some .boolean)) rm mc ms 2 := cwV 2 hts (lw_V hl q746 q747 q59 q748) rfl hc hs (by decide +kernel) hR
set_option maxHeartbeats 4000000 in
theorem m_X1_guests (l : Launch) (D : va_G) (ca : Nat → ClassId) (g : Nat) (lsq : Nat) (b3 : Nat) (b4 : Nat) (b5 : Nat) (b6 : Nat) (b8 : Nat) (b9 : Nat) (b10 : Nat) (b11 : Nat) (d : Nat → Nat) (fz : va_W) (set : Nat) (hd : dOK d) (hsq : SqL ca fz lsq d) (hs : set < 256) : Met l yX1_guests (ws_ yX1_guests cX1_guests 4 (some .int)) (rmL 7) (PcR (KK D ca) D [.ref g, .int (nI set)] (([(g, .inr (1, [.int (nI (d 0)), .int (nI (d 1)), .ref lsq, .ref b3, .ref b4, .ref b5, .ref b6, .int (nI (d 3)), .ref b8, .ref b9, .ref b10, .ref b11])), (b3, .inl (ca 0, 8, .inl (dv (shF d)))), (b6, .inl (ca 0, 8, .inl (seF d))), (b8, .inl (ca 0, 5, .inl (dv (caF d)))), (b9, .inl (ca 0, 5, .inl (dv (eaF d))))] : va_W) ++ fz)) (vp_Si (fun zr => zr = nI (gD d set))) 0 0 (fun _ => False) := by
  refine rd_head (by decide) (Nat.le_of_ble_eq_true rfl) ?_
  intro zp ze zs zm za zb zt zc ls zQ hx hb hml hr hlk hown hts hK hP hl hQ
  have hown : zs.vm.findClass RX1 = some zm.cls := hown
  have hl : lv_has ls 4 [(0, .ref g), (1, .int (nI set))] := hl
  have hF : CallFix zp zm zc cX1_guests 4 zs za lw_all RX1 := ⟨hx, hb, hml, hown, hts⟩
  have hKK := hK
  have hK : K1 D ca zs := hKK.1
  have hd2 : d 2 ≤ 8 := hd.2.2.1
  have hd3 : d 3 ≤ 5 := hd.2.2.2.1
  have hd0 : d 0 ≤ 9 := hd.1
  have hd1 : d 1 ≤ 8 := hd.2.1
  refine lv_iconst (v := nI 0) hx hb dX1_guests_0 rfl ?_
  refine lv_istore_n (lv' := [(2, .int (nI 0)), (0, .ref g), (1, .int (nI set))]) hx hb dX1_guests_1 rfl hl (by decide) rfl (fun ls hl => ?_)
  refine lv_iconst (v := nI 0) hx hb dX1_guests_2 rfl ?_
  refine lv_istore_n (lv' := [(3, .int (nI 0)), (2, .int (nI 0)), (0, .ref g), (1, .int (nI set))]) hx hb dX1_guests_3 rfl hl (by decide) rfl (fun ls hl => ?_)
  have lp_4 : ∀ (zn : Nat) (i : Nat), (i ≤ d 3) →  (d 3 - i) < zn → ∀ (ls : Array Slot), lv_has ls 4 [(0, .ref g), (1, .int (nI set)), (2, .int (nI (gstN d set i))), (3, .int (nI i))] → W zp l ze (rmL 7) zs zm za zb zt zc zs.heap [] 0 0 zQ (F0 zm 4 ls []) := by
    intro zn
    induction zn with
    | zero => intro i hi hmu_4; exact absurd hmu_4 (Nat.not_lt_zero _)
    | succ zn ih_4 =>
      intro i hi hmu_4 ls hl
      have hp := pow_8 (show i ≤ 8 by omega)
      refine lv_iload_n hx hb dX1_guests_4 rfl (lv_at hl 3 rfl) ?_
      refine lv_aload_n hx hb dX1_guests_5 rfl (lv_at hl 0 rfl) ?_
      refine va_get (D := D) (ci := 1) (v := .int (nI (d 3))) (C := RX1) (T := TX1) (N := 12) hx hb hts in_X1 hown hK hP 0 rfl rfl 7 (by decide) (hts _ q154) (fun _ h9 => h9) rfl dX1_guests_6 ?_
      refine wn_ge (tgt := 37) hx hb (by omega) (by omega) dX1_guests_9 (by decide) (fun c_9 => ?_) (fun c_9 => ?_)
      · have c_9n := Nat.not_lt.mpr c_9
        refine lv_iload_n hx hb dX1_guests_37 rfl (lv_at hl 2 rfl) ?_
        exact rd_iret hx hb hr hlk hQ dX1_guests_38 (by have hie : i = d 3 := (by omega); rw [hie]; rfl)
      · have c_9n := Nat.not_le.mpr c_9
        refine lv_iload_n hx hb dX1_guests_12 rfl (lv_at hl 2 rfl) ?_
        refine lv_aload_n hx hb dX1_guests_13 rfl (lv_at hl 0 rfl) ?_
        refine lv_iload_n hx hb dX1_guests_14 rfl (lv_at hl 3 rfl) ?_
        refine lv_iload_n hx hb dX1_guests_15 rfl (lv_at hl 1 rfl) ?_
        refine rd_callV hF (m_X1_isLet l D ca g lsq b3 b4 b5 b6 b8 b9 b10 b11 d fz i set (by assumption) (by assumption) (by first | assumption | omega) (by first | assumption | omega)) (cs_X1_isLet hts q745 ⟨by decide, by decide⟩) (KK_mv D ca) hKK (wp_tail hP [0, 1, 2, 3, 4] rfl) (va_recv hK hP (ci := 1) (q0 := 0) rfl rfl) rfl hl.1 rfl (Nat.le_of_ble_eq_true rfl) dX1_guests_16 ⟨Nat.zero_le _, Nat.zero_le _⟩ ?_
        refine wb_eq (tgt := 28) hx hb dX1_guests_19 (by decide) (fun c_19 => ?_) (fun c_19 => ?_)
        · refine lv_iconst (v := nI 0) hx hb dX1_guests_28 rfl ?_
          refine wn_or hx hb dX1_guests_29 ?_
          refine lv_istore_n (lv' := [(2, .int (nI ((gstN d set i) ||| 0))), (0, .ref g), (1, .int (nI set)), (3, .int (nI i))]) hx hb dX1_guests_30 rfl hl (by decide) rfl (fun ls hl => ?_)
          refine lv_iinc (v := nI (i + 1)) (lv' := [(3, .int (nI (i + 1))), (2, .int (nI ((gstN d set i) ||| 0))), (0, .ref g), (1, .int (nI set))]) hx hb dX1_guests_31 hl (k := 3) rfl (nI_add i 1) (by decide) rfl (fun ls hl => ?_)
          refine lv_goto (tgt := 4) hx hb dX1_guests_34 (by decide) ?_
          have e_1 : (gstN d set i) ||| 0 = gstN d set (i + 1) := by first | rfl | (first | exact (setN_t (fun z => decide (wroN d z set (d 2) ≤ d 1)) c_19).symm | exact (setN_f (fun z => decide (wroN d z set (d 2) ≤ d 1)) c_19).symm)
          have e_2 : i + 1 = (i + 1) := by first | rfl | (first | exact (setN_t (fun z => decide (wroN d z set (d 2) ≤ d 1)) c_19).symm | exact (setN_f (fun z => decide (wroN d z set (d 2) ≤ d 1)) c_19).symm)
          exact ih_4 (i + 1) (by omega) (by omega) ls (lv_to (lv_sub hl [2, 3, 1, 0] rfl) (Eq.trans (congrArg (fun x => ([(0, .ref g), (1, .int (nI set)), (2, .int (nI x)), (3, .int (nI (i + 1)))] : List (Nat × Value))) e_1) (congrArg (fun x => ([(0, .ref g), (1, .int (nI set)), (2, .int (nI (gstN d set (i + 1)))), (3, .int (nI x))] : List (Nat × Value))) e_2)))
        · refine lv_iconst (v := nI 1) hx hb dX1_guests_22 rfl ?_
          refine lv_iload_n hx hb dX1_guests_23 rfl (lv_at hl 3 rfl) ?_
          refine wn_shl hx hb (by omega) (by omega) dX1_guests_24 ?_
          refine lv_goto (tgt := 29) hx hb dX1_guests_25 (by decide) ?_
          refine wn_or hx hb dX1_guests_29 ?_
          refine lv_istore_n (lv' := [(2, .int (nI ((gstN d set i) ||| (1 * 2 ^ i)))), (0, .ref g), (1, .int (nI set)), (3, .int (nI i))]) hx hb dX1_guests_30 rfl hl (by decide) rfl (fun ls hl => ?_)
          refine lv_iinc (v := nI (i + 1)) (lv' := [(3, .int (nI (i + 1))), (2, .int (nI ((gstN d set i) ||| (1 * 2 ^ i)))), (0, .ref g), (1, .int (nI set))]) hx hb dX1_guests_31 hl (k := 3) rfl (nI_add i 1) (by decide) rfl (fun ls hl => ?_)
          refine lv_goto (tgt := 4) hx hb dX1_guests_34 (by decide) ?_
          have e_3 : (gstN d set i) ||| (1 * 2 ^ i) = gstN d set (i + 1) := by first | rfl | (first | exact (setN_t (fun z => decide (wroN d z set (d 2) ≤ d 1)) c_19).symm | exact (setN_f (fun z => decide (wroN d z set (d 2) ≤ d 1)) c_19).symm)
          have e_4 : i + 1 = (i + 1) := by first | rfl | (first | exact (setN_t (fun z => decide (wroN d z set (d 2) ≤ d 1)) c_19).symm | exact (setN_f (fun z => decide (wroN d z set (d 2) ≤ d 1)) c_19).symm)
          exact ih_4 (i + 1) (by omega) (by omega) ls (lv_to (lv_sub hl [2, 3, 1, 0] rfl) (Eq.trans (congrArg (fun x => ([(0, .ref g), (1, .int (nI set)), (2, .int (nI x)), (3, .int (nI (i + 1)))] : List (Nat × Value))) e_3) (congrArg (fun x => ([(0, .ref g), (1, .int (nI set)), (2, .int (nI (gstN d set (i + 1)))), (3, .int (nI x))] : List (Nat × Value))) e_4)))
  have e_5 : 0 = gstN d set 0 := by first | rfl | (rfl)
  exact lp_4 ((d 3 - 0) + 1) 0 (by omega) (by omega) ls (lv_to (lv_sub hl [2, 3, 1, 0] rfl) (congrArg (fun x => ([(0, .ref g), (1, .int (nI set)), (2, .int (nI x)), (3, .int (nI 0))] : List (Nat × Value))) e_5))
