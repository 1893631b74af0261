set_option maxRecDepth 100000
set_option maxHeartbeats 4000000 in
theorem m_X9_in (l : Launch) (D : va_G) (ca : Nat → ClassId) (v : Int64) (lo : Int64) (hi : Int64)  : Met l yX9_in (ws_ yX9_in cX9_in 6 (some .boolean)) (rmL 0) (PcR (K1 D ca) D [.long v, .long lo, .long hi] []) (vp_Si (fun zr => zr = bI (inB v lo hi))) 0 0 (fun _ => False) := by
  refine rd_head (by decide) (Nat.le_of_ble_eq_true rfl) ?_
  intro zp ze zs zm za zb zt zc ls zQ hx hb hml hr hlk hown hts hK hP hl hQ
  have hown : zs.vm.findClass RX9 = some zm.cls := hown
  have hl : lv_has ls 6 [(0, .long v), (2, .long lo), (4, .long hi)] := hl
  have hF : CallFix zp zm zc cX9_in 6 zs za lw_all RX9 := ⟨hx, hb, hml, hown, hts⟩
  refine lv_lload_n hx hb dX9_in_0 rfl (lv_at hl 0 rfl) ?_
  refine lv_lload_n hx hb dX9_in_1 rfl (lv_at hl 1 rfl) ?_
  refine W.lcmp hx hb dX9_in_2 ?_
  refine wl_lt (tgt := 17) hx hb dX9_in_3 (by decide) (fun c_3 => ?_) (fun c_3 => ?_)
  · refine lv_iconst (v := nI 0) hx hb dX9_in_17 rfl ?_
    refine W.eq (g2 := F0 zm 18 ls [.int (bI false)]) rfl ?_
    exact rd_zret hx hb hr hlk hQ dX9_in_18 (by refine congrArg bI ?_; simp [inB, c_3])
  · refine lv_lload_n hx hb dX9_in_6 rfl (lv_at hl 0 rfl) ?_
    refine lv_lload hx hb dX9_in_7 (lv_at hl 2 rfl) ?_
    refine W.lcmp hx hb dX9_in_9 ?_
    refine wl_gt (tgt := 17) hx hb dX9_in_10 (by decide) (fun c_10 => ?_) (fun c_10 => ?_)
    · refine lv_iconst (v := nI 0) hx hb dX9_in_17 rfl ?_
      refine W.eq (g2 := F0 zm 18 ls [.int (bI false)]) rfl ?_
      exact rd_zret hx hb hr hlk hQ dX9_in_18 (by refine congrArg bI ?_; simp [inB, c_3, c_10])
    · refine lv_iconst (v := nI 1) hx hb dX9_in_13 rfl ?_
      refine lv_goto (tgt := 18) hx hb dX9_in_14 (by decide) ?_
      refine W.eq (g2 := F0 zm 18 ls [.int (bI true)]) rfl ?_
      exact rd_zret hx hb hr hlk hQ dX9_in_18 (by refine congrArg bI ?_; simp [inB, c_3, c_10])
theorem cs_X9_in {R : Room} {s : State} {args : Array Value} {own : String} {index : Nat} (hts : ∀ w ∈ lw_all, w.before args s = true) (hl : Cond.methodLink own index yX9_in ∈ lw_all) {rm : Room} {mc ms : Nat} (hR : rm.frames + 1 ≤ R.frames ∧ 8 + (6 + 11) + rm.locals ≤ R.locals) (hc : rm.cells = mc := by rfl) (hs : rm.slots = ms := by rfl) : CallB R s args own index yX9_in cX9_in 6 (some .boolean) (ws_ yX9_in cX9_in 6 (some .boolean)) rm mc ms 3 ∧ (Cond.static yX9_in).before args s = true := va_cwS 3 hts (lw_S hl q1263 q70 q1264) rfl hc hs (by decide +kernel) hR
set_option maxHeartbeats 4000000 in
theorem m_X9_isRow (l : Launch) (D : va_G) (ca : Nat → ClassId) (r : Int32)  : Met l yX9_isRow (ws_ yX9_isRow cX9_isRow 1 (some .boolean)) (rmL 1) (PcR (K1 D ca) D [.int r] []) (vp_Si (fun zr => zr = bI (ltB r 8))) 0 0 (fun _ => False) := by
  refine rd_head (by decide) (Nat.le_of_ble_eq_true rfl) ?_
  intro zp ze zs zm za zb zt zc ls zQ hx hb hml hr hlk hown hts hK hP hl hQ
  have hown : zs.vm.findClass RX9 = some zm.cls := hown
  have hl : lv_has ls 1 [(0, .int r)] := hl
  have hF : CallFix zp zm zc cX9_isRow 1 zs za lw_all RX9 := ⟨hx, hb, hml, hown, hts⟩
  refine lv_iload_n hx hb dX9_isRow_0 rfl (lv_at hl 0 rfl) ?_
  refine lv_i2l hx hb dX9_isRow_1 rfl ?_
  refine lv_lconst (v := 0) hx hb dX9_isRow_2 rfl ?_
  refine lv_ldc2 (v := 7) hx hb hown (hts _ q1261) dX9_isRow_3 ?_
  refine rd_callS hF (m_X9_in l D ca r.toInt64 0 7 ) (cs_X9_in hts q1262 ⟨by decide, by decide⟩) (K1_mv D ca) hK (hP.sub [] rfl) rfl hl.1 rfl (Nat.le_of_ble_eq_true rfl) dX9_isRow_6 ⟨Nat.zero_le _, Nat.zero_le _⟩ ?_
  exact rd_zret hx hb hr hlk hQ dX9_isRow_9 (by rw [inB_c (n := 8) (by decide)])
set_option maxHeartbeats 4000000 in
theorem m_X9_has (l : Launch) (D : va_G) (ca : Nat → ClassId) (set : Nat) (k : Nat) (h1 : set < 256) (h2 : k < 32) : Met l yX9_has (ws_ yX9_has cX9_has 2 (some .boolean)) (rmL 0) (PcR (K1 D ca) D [.int (nI set), .int (nI k)] []) (vp_Si (fun zr => zr = bI (hasN set k))) 0 0 (fun _ => False) := by
  refine rd_head (by decide) (Nat.le_of_ble_eq_true rfl) ?_
  intro zp ze zs zm za zb zt zc ls zQ hx hb hml hr hlk hown hts hK hP hl hQ
  have hown : zs.vm.findClass RX9 = some zm.cls := hown
  have hl : lv_has ls 2 [(0, .int (nI set)), (1, .int (nI k))] := hl
  have hF : CallFix zp zm zc cX9_has 2 zs za lw_all RX9 := ⟨hx, hb, hml, hown, hts⟩
  refine lv_iload_n hx hb dX9_has_0 rfl (lv_at hl 0 rfl) ?_
  refine lv_iload_n hx hb dX9_has_1 rfl (lv_at hl 1 rfl) ?_
  refine wn_shr hx hb (by omega) (by omega) dX9_has_2 ?_
  refine lv_iconst (v := nI 1) hx hb dX9_has_3 rfl ?_
  refine wn_and hx hb dX9_has_4 ?_
  refine lv_iconst (v := nI 1) hx hb dX9_has_5 rfl ?_
  refine wn_ne (tgt := 13) hx hb (by first | omega | (rw [and1]; omega)) (by first | omega | (rw [and1]; omega)) dX9_has_6 (by decide) (fun c_6 => ?_) (fun c_6 => ?_)
  · refine lv_iconst (v := nI 0) hx hb dX9_has_13 rfl ?_
    refine W.eq (g2 := F0 zm 14 ls [.int (bI false)]) rfl ?_
    exact rd_zret hx hb hr hlk hQ dX9_has_14 (by simp only [and1] at *; refine congrArg bI ?_; simp [hasN, c_6])
  · refine lv_iconst (v := nI 1) hx hb dX9_has_9 rfl ?_
    refine lv_goto (tgt := 14) hx hb dX9_has_10 (by decide) ?_
    refine W.eq (g2 := F0 zm 14 ls [.int (bI true)]) rfl ?_
    exact rd_zret hx hb hr hlk hQ dX9_has_14 (by simp only [and1] at *; refine congrArg bI ?_; simp [hasN, c_6])
set_option maxHeartbeats 4000000 in
theorem m_X9_bits (l : Launch) (D : va_G) (ca : Nat → ClassId) (set : Nat) (h1 : set < 256) : Met l yX9_bits (ws_ yX9_bits cX9_bits 3 (some .int)) (rmL 0) (PcR (K1 D ca) D [.int (nI set)] []) (vp_Si (fun zr => zr = nI (bitN set 8))) 0 0 (fun _ => False) := by
  refine rd_head (by decide) (Nat.le_of_ble_eq_true rfl) ?_
  intro zp ze zs zm za zb zt zc ls zQ hx hb hml hr hlk hown hts hK hP hl hQ
  have hown : zs.vm.findClass RX9 = some zm.cls := hown
  have hl : lv_has ls 3 [(0, .int (nI set))] := hl
  have hF : CallFix zp zm zc cX9_bits 3 zs za lw_all RX9 := ⟨hx, hb, hml, hown, hts⟩
  refine lv_iconst (v := nI 0) hx hb dX9_bits_0 rfl ?_
  refine lv_istore_n (lv' := [(1, .int (nI 0)), (0, .int (nI set))]) hx hb dX9_bits_1 rfl hl (by decide) rfl (fun ls hl => ?_)
  refine lv_iconst (v := nI 0) hx hb dX9_bits_2 rfl ?_
  refine lv_istore_n (lv' := [(2, .int (nI 0)), (1, .int (nI 0)), (0, .int (nI set))]) hx hb dX9_bits_3 rfl hl (by decide) rfl (fun ls hl => ?_)
  have lp_4 : ∀ (zn : Nat) (i : Nat), (i ≤ 8) →  (8 - i) < zn → ∀ (ls : Array Slot), lv_has ls 3 [(0, .int (nI set)), (1, .int (nI (bitN set i))), (2, .int (nI i))] → W zp l ze (rmL 0) zs zm za zb zt zc zs.heap [] 0 0 zQ (F0 zm 4 ls []) := by
    intro zn
    induction zn with
    | zero => intro i hi hmu_4; exact absurd hmu_4 (Nat.not_lt_zero _)
    | succ zn ih_4 =>
      intro i hi hmu_4 ls hl
      refine lv_iload_n hx hb dX9_bits_4 rfl (lv_at hl 2 rfl) ?_
      refine lv_bipush (v := nI 8) hx hb dX9_bits_5 rfl ?_
      refine wn_ge (tgt := 24) hx hb (by omega) (by omega) dX9_bits_7 (by decide) (fun c_7 => ?_) (fun c_7 => ?_)
      · have c_7n := Nat.not_lt.mpr c_7
        refine lv_iload_n hx hb dX9_bits_24 rfl (lv_at hl 1 rfl) ?_
        exact rd_iret hx hb hr hlk hQ dX9_bits_25 (by have hie : i = 8 := (by omega); rw [hie])
      · have c_7n := Nat.not_le.mpr c_7
        refine lv_iload_n hx hb dX9_bits_10 rfl (lv_at hl 1 rfl) ?_
        refine lv_iload_n hx hb dX9_bits_11 rfl (lv_at hl 0 rfl) ?_
        refine lv_iload_n hx hb dX9_bits_12 rfl (lv_at hl 2 rfl) ?_
        refine wn_shr hx hb (by omega) (by omega) dX9_bits_13 ?_
        refine lv_iconst (v := nI 1) hx hb dX9_bits_14 rfl ?_
        refine wn_and hx hb dX9_bits_15 ?_
        refine wn_add hx hb dX9_bits_16 ?_
        refine lv_istore_n (lv' := [(1, .int (nI ((bitN set i) + ((set / 2 ^ i) &&& 1)))), (0, .int (nI set)), (2, .int (nI i))]) hx hb dX9_bits_17 rfl hl (by decide) rfl (fun ls hl => ?_)
        refine lv_iinc (v := nI (i + 1)) (lv' := [(2, .int (nI (i + 1))), (1, .int (nI ((bitN set i) + ((set / 2 ^ i) &&& 1)))), (0, .int (nI set))]) hx hb dX9_bits_18 hl (k := 2) rfl (nI_add i 1) (by decide) rfl (fun ls hl => ?_)
        refine lv_goto (tgt := 4) hx hb dX9_bits_21 (by decide) ?_
        have e_1 : (bitN set i) + ((set / 2 ^ i) &&& 1) = bitN set (i + 1) := by first | rfl | (simp only [bitN, and1])
        have e_2 : i + 1 = (i + 1) := by first | rfl | (simp only [bitN, and1])
        exact ih_4 (i + 1) (by omega) (by omega) ls (lv_to (lv_sub hl [2, 1, 0] rfl) (Eq.trans (congrArg (fun x => ([(0, .int (nI set)), (1, .int (nI x)), (2, .int (nI (i + 1)))] : List (Nat × Value))) e_1) (congrArg (fun x => ([(0, .int (nI set)), (1, .int (nI (bitN set (i + 1)))), (2, .int (nI x))] : List (Nat × Value))) e_2)))
  have e_3 : 0 = bitN set 0 := by first | rfl | (simp only [bitN, and1])
  exact lp_4 ((8 - 0) + 1) 0 (by omega) (by omega) ls (lv_to (lv_sub hl [2, 1, 0] rfl) (congrArg (fun x => ([(0, .int (nI set)), (1, .int (nI x)), (2, .int (nI 0))] : List (Nat × Value))) e_3))
set_option maxHeartbeats 4000000 in
theorem m_X9_of (l : Launch) (D : va_G) (ca : Nat → ClassId) (a : Nat) (d : Nat → Nat) (s : Nat) (w : Nat) (h1 : 4 + 5 * s + w < 64) : Met l yX9_of (ws_ yX9_of cX9_of 3 (some .int)) (rmL 0) (PcR (K1 D ca) D [.ref a, .int (nI s), .int (nI w)] [(a, .inl (ca 0, 64, .inl (dv d)))]) (vp_Si (fun zr => zr = nI (d (4 + 5 * s + w)))) 0 0 (fun _ => False) := by
  refine rd_head (by decide) (Nat.le_of_ble_eq_true rfl) ?_
  intro zp ze zs zm za zb zt zc ls zQ hx hb hml hr hlk hown hts hK hP hl hQ
  have hown : zs.vm.findClass RX9 = some zm.cls := hown
  have hl : lv_has ls 3 [(0, .ref a), (1, .int (nI s)), (2, .int (nI w))] := hl
  have hF : CallFix zp zm zc cX9_of 3 zs za lw_all RX9 := ⟨hx, hb, hml, hown, hts⟩
  refine lv_aload_n hx hb dX9_of_0 rfl (lv_at hl 0 rfl) ?_
  refine lv_iconst (v := nI 4) hx hb dX9_of_1 rfl ?_
  refine lv_iconst (v := nI 5) hx hb dX9_of_2 rfl ?_
  refine lv_iload_n hx hb dX9_of_3 rfl (lv_at hl 1 rfl) ?_
  refine wn_mul hx hb dX9_of_4 ?_
  refine wn_add hx hb dX9_of_5 ?_
  refine lv_iload_n hx hb dX9_of_6 rfl (lv_at hl 2 rfl) ?_
  refine wn_add hx hb dX9_of_7 ?_
  refine wn_iald (v := nI (d ((4 + (5 * s)) + w))) hx hb hK hP 0 0 rfl rfl (by omega) (by decide) rfl dX9_of_8 ?_
  exact rd_iret hx hb hr hlk hQ dX9_of_9 (by rfl)
set_option maxHeartbeats 4000000 in
theorem m_X9_guest (l : Launch) (D : va_G) (ca : Nat → ClassId) (a : Nat) (d : Nat → Nat) (v : Nat) (w : Nat) (h1 : 44 + 4 * v + w < 64) : Met l yX9_guest (ws_ yX9_guest cX9_guest 3 (some .int)) (rmL 0) (PcR (K1 D ca) D [.ref a, .int (nI v), .int (nI w)] [(a, .inl (ca 0, 64, .inl (dv d)))]) (vp_Si (fun zr => zr = nI (d (44 + 4 * v + w)))) 0 0 (fun _ => False) := by
  refine rd_head (by decide) (Nat.le_of_ble_eq_true rfl) ?_
  intro zp ze zs zm za zb zt zc ls zQ hx hb hml hr hlk hown hts hK hP hl hQ
  have hown : zs.vm.findClass RX9 = some zm.cls := hown
  have hl : lv_has ls 3 [(0, .ref a), (1, .int (nI v)), (2, .int (nI w))] := hl
  have hF : CallFix zp zm zc cX9_guest 3 zs za lw_all RX9 := ⟨hx, hb, hml, hown, hts⟩
  refine lv_aload_n hx hb dX9_guest_0 rfl (lv_at hl 0 rfl) ?_
  refine lv_bipush (v := nI 44) hx hb dX9_guest_1 rfl ?_
  refine lv_iconst (v := nI 4) hx hb dX9_guest_3 rfl ?_
  refine lv_iload_n hx hb dX9_guest_4 rfl (lv_at hl 1 rfl) ?_
  refine wn_mul hx hb dX9_guest_5 ?_
  refine wn_add hx hb dX9_guest_6 ?_
  refine lv_iload_n hx hb dX9_guest_7 rfl (lv_at hl 2 rfl) ?_
  refine wn_add hx hb dX9_guest_8 ?_
  refine wn_iald (v := nI (d ((44 + (4 * v)) + w))) hx hb hK hP 0 0 rfl rfl (by omega) (by decide) rfl dX9_guest_9 ?_
  exact rd_iret hx hb hr hlk hQ dX9_guest_10 (by rfl)
set_option maxHeartbeats 4000000 in
theorem m_X9_seesBy (l : Launch) (D : va_G) (ca : Nat → ClassId) (k : Nat) (sh : Nat) (cr : Nat) (ea : Nat) (h1 : k ≤ 5) (h2 : sh ≤ 9) (h3 : cr ≤ 9) (h4 : ea ≤ 9) : Met l yX9_seesBy (ws_ yX9_seesBy cX9_seesBy 4 (some .int)) (rmL 0) (PcR (K1 D ca) D [.int (nI k), .int (nI sh), .int (nI cr), .int (nI ea)] []) (vp_Si (fun zr => zr = nI (seesN k sh cr ea))) 0 0 (fun _ => False) := by
  refine rd_head (by decide) (Nat.le_of_ble_eq_true rfl) ?_
  intro zp ze zs zm za zb zt zc ls zQ hx hb hml hr hlk hown hts hK hP hl hQ
  have hown : zs.vm.findClass RX9 = some zm.cls := hown
  have hl : lv_has ls 4 [(0, .int (nI k)), (1, .int (nI sh)), (2, .int (nI cr)), (3, .int (nI ea))] := hl
  have hF : CallFix zp zm zc cX9_seesBy 4 zs za lw_all RX9 := ⟨hx, hb, hml, hown, hts⟩
  refine lv_iload_n hx hb dX9_seesBy_0 rfl (lv_at hl 0 rfl) ?_
  rcases (show (k < 2 ∨ 5 < k) ∨ k = 2 ∨ k = 3 ∨ k = 4 ∨ k = 5 by omega) with c_1 | c_1 | c_1 | c_1 | c_1
  · refine lv_tableOut (tgt := 69) hx hb dX9_seesBy_1 (by rw [nI_toInt (by omega)]; omega) (by decide) ?_
    refine lv_iload_n hx hb dX9_seesBy_69 rfl (lv_at hl 1 rfl) ?_
    exact rd_iret hx hb hr hlk hQ dX9_seesBy_70 (by refine congrArg nI ?_; simp only [seesN]; (repeat' split) <;> omega)
  · refine lv_tableIn (off := 31) (tgt := 32) hx hb dX9_seesBy_1 (by rw [nI_toInt (by omega)]; omega) (by rw [nI_toInt (by omega)]; omega) (by rw [c_1]; rfl) (by decide) ?_
    refine lv_iload_n hx hb dX9_seesBy_32 rfl (lv_at hl 1 rfl) ?_
    refine wn_ifle (tgt := 42) hx hb (by omega) dX9_seesBy_33 (by decide) (fun c_33 => ?_) (fun c_33 => ?_)
    · refine lv_iconst (v := nI 0) hx hb dX9_seesBy_42 rfl ?_
      exact rd_iret hx hb hr hlk hQ dX9_seesBy_43 (by refine congrArg nI ?_; simp only [seesN]; (repeat' split) <;> omega)
    · refine lv_iload_n hx hb dX9_seesBy_36 rfl (lv_at hl 1 rfl) ?_
      refine lv_iconst (v := nI 1) hx hb dX9_seesBy_37 rfl ?_
      refine wn_sub hx hb (by omega) dX9_seesBy_38 ?_
      refine lv_goto (tgt := 43) hx hb dX9_seesBy_39 (by decide) ?_
      exact rd_iret hx hb hr hlk hQ dX9_seesBy_43 (by refine congrArg nI ?_; simp only [seesN]; (repeat' split) <;> omega)
  · refine lv_tableIn (off := 43) (tgt := 44) hx hb dX9_seesBy_1 (by rw [nI_toInt (by omega)]; omega) (by rw [nI_toInt (by omega)]; omega) (by rw [c_1]; rfl) (by decide) ?_
    refine lv_iload_n hx hb dX9_seesBy_44 rfl (lv_at hl 2 rfl) ?_
    refine lv_iconst (v := nI 5) hx hb dX9_seesBy_45 rfl ?_
    refine wn_ge (tgt := 56) hx hb (by omega) (by omega) dX9_seesBy_46 (by decide) (fun c_46 => ?_) (fun c_46 => ?_)
    · have c_46n := Nat.not_lt.mpr c_46
      refine lv_iload_n hx hb dX9_seesBy_56 rfl (lv_at hl 1 rfl) ?_
      exact rd_iret hx hb hr hlk hQ dX9_seesBy_57 (by refine congrArg nI ?_; simp only [seesN]; (repeat' split) <;> omega)
    · have c_46n := Nat.not_le.mpr c_46
      refine lv_bipush (v := nI 9) hx hb dX9_seesBy_49 rfl ?_
      refine lv_iload_n hx hb dX9_seesBy_51 rfl (lv_at hl 1 rfl) ?_
      refine wn_sub hx hb (by omega) dX9_seesBy_52 ?_
      refine lv_goto (tgt := 57) hx hb dX9_seesBy_53 (by decide) ?_
      exact rd_iret hx hb hr hlk hQ dX9_seesBy_57 (by refine congrArg nI ?_; simp only [seesN]; (repeat' split) <;> omega)
  · refine lv_tableIn (off := 68) (tgt := 69) hx hb dX9_seesBy_1 (by rw [nI_toInt (by omega)]; omega) (by rw [nI_toInt (by omega)]; omega) (by rw [c_1]; rfl) (by decide) ?_
    refine lv_iload_n hx hb dX9_seesBy_69 rfl (lv_at hl 1 rfl) ?_
    exact rd_iret hx hb hr hlk hQ dX9_seesBy_70 (by refine congrArg nI ?_; simp only [seesN]; (repeat' split) <;> omega)
  · refine lv_tableIn (off := 57) (tgt := 58) hx hb dX9_seesBy_1 (by rw [nI_toInt (by omega)]; omega) (by rw [nI_toInt (by omega)]; omega) (by rw [c_1]; rfl) (by decide) ?_
    refine lv_iload_n hx hb dX9_seesBy_58 rfl (lv_at hl 3 rfl) ?_
    refine lv_iconst (v := nI 5) hx hb dX9_seesBy_59 rfl ?_
    refine wn_lt (tgt := 67) hx hb (by omega) (by omega) dX9_seesBy_60 (by decide) (fun c_60 => ?_) (fun c_60 => ?_)
    · have c_60n := Nat.not_le.mpr c_60
      refine lv_iconst (v := nI 0) hx hb dX9_seesBy_67 rfl ?_
      exact rd_iret hx hb hr hlk hQ dX9_seesBy_68 (by refine congrArg nI ?_; simp only [seesN]; (repeat' split) <;> omega)
    · have c_60n := Nat.not_lt.mpr c_60
      refine lv_iload_n hx hb dX9_seesBy_63 rfl (lv_at hl 1 rfl) ?_
      refine lv_goto (tgt := 68) hx hb dX9_seesBy_64 (by decide) ?_
      exact rd_iret hx hb hr hlk hQ dX9_seesBy_68 (by refine congrArg nI ?_; simp only [seesN]; (repeat' split) <;> omega)
theorem cs_X9_seesBy {R : Room} {s : State} {args : Array Value} {own : String} {index : Nat} (hts : ∀ w ∈ lw_all, w.before args s = true) (hl : Cond.methodLink own index yX9_seesBy ∈ lw_all) {rm : Room} {mc ms : Nat} (hR : rm.frames + 1 ≤ R.frames ∧ 8 + (4 + 11) + rm.locals ≤ R.locals) (hc : rm.cells = mc := by rfl) (hs : rm.slots = ms := by rfl) : CallB R s args own index yX9_seesBy cX9_seesBy 4 (some .int) (ws_ yX9_seesBy cX9_seesBy 4 (some .int)) rm mc ms 4 ∧ (Cond.static yX9_seesBy).before args s = true := va_cwS 4 hts (lw_S hl q1395 q70 q1396) rfl hc hs (by decide +kernel) hR
set_option maxHeartbeats 4000000 in
theorem m_X9_clicksBy (l : Launch) (D : va_G) (ca : Nat → ClassId) (k : Nat) (sh : Nat) (cr : Nat) (ea : Nat) (h1 : k ≤ 5) (h2 : sh ≤ 9) (h3 : cr ≤ 9) (h4 : ea ≤ 9) : Met l yX9_clicksBy (ws_ yX9_clicksBy cX9_clicksBy 4 (some .boolean)) (rmL 1) (PcR (K1 D ca) D [.int (nI k), .int (nI sh), .int (nI cr), .int (nI ea)] []) (vp_Si (fun zr => zr = bI (clkB k sh cr ea))) 0 0 (fun _ => False) := by
  refine rd_head (by decide) (Nat.le_of_ble_eq_true rfl) ?_
  intro zp ze zs zm za zb zt zc ls zQ hx hb hml hr hlk hown hts hK hP hl hQ
  have hown : zs.vm.findClass RX9 = some zm.cls := hown
  have hl : lv_has ls 4 [(0, .int (nI k)), (1, .int (nI sh)), (2, .int (nI cr)), (3, .int (nI ea))] := hl
  have hF : CallFix zp zm zc cX9_clicksBy 4 zs za lw_all RX9 := ⟨hx, hb, hml, hown, hts⟩
  have hse := seesN_le (k := k) (ca := cr) (ea := ea) h2
  refine lv_iload_n hx hb dX9_clicksBy_0 rfl (lv_at hl 0 rfl) ?_
  refine lv_iload_n hx hb dX9_clicksBy_1 rfl (lv_at hl 1 rfl) ?_
  refine lv_iload_n hx hb dX9_clicksBy_2 rfl (lv_at hl 2 rfl) ?_
  refine lv_iload_n hx hb dX9_clicksBy_3 rfl (lv_at hl 3 rfl) ?_
  refine rd_callS hF (m_X9_seesBy l D ca k sh cr ea (by first | assumption | omega) (by first | assumption | omega) (by first | assumption | omega) (by first | assumption | omega)) (cs_X9_seesBy hts q1394 ⟨by decide, by decide⟩) (K1_mv D ca) hK (hP.sub [] rfl) rfl hl.1 rfl (Nat.le_of_ble_eq_true rfl) dX9_clicksBy_4 ⟨Nat.zero_le _, Nat.zero_le _⟩ ?_
  refine lv_bipush (v := nI 9) hx hb dX9_clicksBy_7 rfl ?_
  refine lv_iload_n hx hb dX9_clicksBy_9 rfl (lv_at hl 2 rfl) ?_
  refine wn_sub hx hb (by omega) dX9_clicksBy_10 ?_
  refine wn_le (tgt := 18) hx hb (by omega) (by omega) dX9_clicksBy_11 (by decide) (fun c_11 => ?_) (fun c_11 => ?_)
  · have c_11n := Nat.not_lt.mpr c_11
    refine lv_iconst (v := nI 0) hx hb dX9_clicksBy_18 rfl ?_
    refine W.eq (g2 := F0 zm 19 ls [.int (bI false)]) rfl ?_
    exact rd_zret hx hb hr hlk hQ dX9_clicksBy_19 (by refine congrArg bI ?_; simp only [clkB]; simp; omega)
  · have c_11n := Nat.not_le.mpr c_11
    refine lv_iconst (v := nI 1) hx hb dX9_clicksBy_14 rfl ?_
    refine lv_goto (tgt := 19) hx hb dX9_clicksBy_15 (by decide) ?_
    refine W.eq (g2 := F0 zm 19 ls [.int (bI true)]) rfl ?_
    exact rd_zret hx hb hr hlk hQ dX9_clicksBy_19 (by refine congrArg bI ?_; simp only [clkB]; simp; omega)
theorem cs_X9_of {R : Room} {s : State} {args : Array Value} {own : String} {index : Nat} (hts : ∀ w ∈ lw_all, w.before args s = true) (hl : Cond.methodLink own index yX9_of ∈ lw_all) {rm : Room} {mc ms : Nat} (hR : rm.frames + 1 ≤ R.frames ∧ 8 + (3 + 11) + rm.locals ≤ R.locals) (hc : rm.cells = mc := by rfl) (hs : rm.slots = ms := by rfl) : CallB R s args own index yX9_of cX9_of 3 (some .int) (ws_ yX9_of cX9_of 3 (some .int)) rm mc ms 3 ∧ (Cond.static yX9_of).before args s = true := va_cwS 3 hts (lw_S hl q1383 q70 q1384) rfl hc hs (by decide +kernel) hR
theorem cs_X9_guest {R : Room} {s : State} {args : Array Value} {own : String} {index : Nat} (hts : ∀ w ∈ lw_all, w.before args s = true) (hl : Cond.methodLink own index yX9_guest ∈ lw_all) {rm : Room} {mc ms : Nat} (hR : rm.frames + 1 ≤ R.frames ∧ 8 + (3 + 11) + rm.locals ≤ R.locals) (hc : rm.cells = mc := by rfl) (hs : rm.slots = ms := by rfl) : CallB R s args own index yX9_guest cX9_guest 3 (some .int) (ws_ yX9_guest cX9_guest 3 (some .int)) rm mc ms 3 ∧ (Cond.static yX9_guest).before args s = true := va_cwS 3 hts (lw_S hl q1389 q70 q1390) rfl hc hs (by decide +kernel) hR
theorem cs_X9_clicksBy {R : Room} {s : State} {args : Array Value} {own : String} {index : Nat} (hts : ∀ w ∈ lw_all, w.before args s = true) (hl : Cond.methodLink own index yX9_clicksBy ∈ lw_all) {rm : Room} {mc ms : Nat} (hR : rm.frames + 1 ≤ R.frames ∧ 8 + (4 + 11) + rm.locals ≤ R.locals) (hc : rm.cells = mc := by rfl) (hs : rm.slots = ms := by rfl) : CallB R s args own index yX9_clicksBy cX9_clicksBy 4 (some .boolean) (ws_ yX9_clicksBy cX9_clicksBy 4 (some .boolean)) rm mc ms 4 ∧ (Cond.static yX9_clicksBy).before args s = true := va_cwS 4 hts (lw_S hl q1392 q70 q1393) rfl hc hs (by decide +kernel) hR
set_option maxHeartbeats 4000000 in
theorem m_X9_clicksIt (l : Launch) (D : va_G) (ca : Nat → ClassId) (a : Nat) (d : Nat → Nat) (v : Nat) (s : Nat) (hd : dOK d) (hv : v < 5) (hs : s < 8) : Met l yX9_clicksIt (ws_ yX9_clicksIt cX9_clicksIt 3 (some .boolean)) (rmL 2) (PcR (K1 D ca) D [.ref a, .int (nI v), .int (nI s)] [(a, .inl (ca 0, 64, .inl (dv d)))]) (vp_Si (fun zr => zr = bI (clkD d v s))) 0 0 (fun _ => False) := by
  refine rd_head (by decide) (Nat.le_of_ble_eq_true rfl) ?_
  intro zp ze zs zm za zb zt zc ls zQ hx hb hml hr hlk hown hts hK hP hl hQ
  have hown : zs.vm.findClass RX9 = some zm.cls := hown
  have hl : lv_has ls 3 [(0, .ref a), (1, .int (nI v)), (2, .int (nI s))] := hl
  have hF : CallFix zp zm zc cX9_clicksIt 3 zs za lw_all RX9 := ⟨hx, hb, hml, hown, hts⟩
  obtain ⟨hd0, hd1, hd2, hd3, hdq, hdv, hdk⟩ := hd
  have hq := hdq s hs
  have hw := hdv v hv
  refine lv_aload_n hx hb dX9_clicksIt_0 rfl (lv_at hl 0 rfl) ?_
  refine lv_iload_n hx hb dX9_clicksIt_1 rfl (lv_at hl 2 rfl) ?_
  refine lv_iconst (v := nI 0) hx hb dX9_clicksIt_2 rfl ?_
  refine rd_callS hF (m_X9_of l D ca a d s 0 (by first | assumption | omega)) (cs_X9_of hts q1382 ⟨by decide, by decide⟩) (K1_mv D ca) hK (hP.sub [0] rfl) rfl hl.1 rfl (Nat.le_of_ble_eq_true rfl) dX9_clicksIt_3 ⟨Nat.zero_le _, Nat.zero_le _⟩ ?_
  refine lv_aload_n hx hb dX9_clicksIt_6 rfl (lv_at hl 0 rfl) ?_
  refine lv_iload_n hx hb dX9_clicksIt_7 rfl (lv_at hl 2 rfl) ?_
  refine lv_iconst (v := nI 1) hx hb dX9_clicksIt_8 rfl ?_
  refine rd_callS hF (m_X9_of l D ca a d s 1 (by first | assumption | omega)) (cs_X9_of hts q1382 ⟨by decide, by decide⟩) (K1_mv D ca) hK (hP.sub [0] rfl) rfl hl.1 rfl (Nat.le_of_ble_eq_true rfl) dX9_clicksIt_9 ⟨Nat.zero_le _, Nat.zero_le _⟩ ?_
  refine lv_aload_n hx hb dX9_clicksIt_12 rfl (lv_at hl 0 rfl) ?_
  refine lv_iload_n hx hb dX9_clicksIt_13 rfl (lv_at hl 1 rfl) ?_
  refine lv_iconst (v := nI 0) hx hb dX9_clicksIt_14 rfl ?_
  refine rd_callS hF (m_X9_guest l D ca a d v 0 (by first | assumption | omega)) (cs_X9_guest hts q1388 ⟨by decide, by decide⟩) (K1_mv D ca) hK (hP.sub [0] rfl) rfl hl.1 rfl (Nat.le_of_ble_eq_true rfl) dX9_clicksIt_15 ⟨Nat.zero_le _, Nat.zero_le _⟩ ?_
  refine lv_aload_n hx hb dX9_clicksIt_18 rfl (lv_at hl 0 rfl) ?_
  refine lv_iload_n hx hb dX9_clicksIt_19 rfl (lv_at hl 1 rfl) ?_
  refine lv_iconst (v := nI 1) hx hb dX9_clicksIt_20 rfl ?_
  refine rd_callS hF (m_X9_guest l D ca a d v 1 (by first | assumption | omega)) (cs_X9_guest hts q1388 ⟨by decide, by decide⟩) (K1_mv D ca) hK (hP.sub [0] rfl) rfl hl.1 rfl (Nat.le_of_ble_eq_true rfl) dX9_clicksIt_21 ⟨Nat.zero_le _, Nat.zero_le _⟩ ?_
  refine rd_callS hF (m_X9_clicksBy l D ca (d (4 + 5 * s + 0)) (d (4 + 5 * s + 1)) (d (44 + 4 * v + 0)) (d (44 + 4 * v + 1)) (by first | assumption | omega) (by first | assumption | omega) (by first | assumption | omega) (by first | assumption | omega)) (cs_X9_clicksBy hts q1391 ⟨by decide, by decide⟩) (K1_mv D ca) hK (hP.sub [] rfl) rfl hl.1 rfl (Nat.le_of_ble_eq_true rfl) dX9_clicksIt_24 ⟨Nat.zero_le _, Nat.zero_le _⟩ ?_
  exact rd_zret hx hb hr hlk hQ dX9_clicksIt_27 (by rfl)
set_option maxHeartbeats 4000000 in
theorem m_X9_counts (l : Launch) (D : va_G) (ca : Nat → ClassId) (a : Nat) (d : Nat → Nat) (s : Nat) (hd : dOK d) (hs : s < 8) : Met l yX9_counts (ws_ yX9_counts cX9_counts 2 (some .boolean)) (rmL 1) (PcR (K1 D ca) D [.ref a, .int (nI s)] [(a, .inl (ca 0, 64, .inl (dv d)))]) (vp_Si (fun zr => zr = bI (cntD d s))) 0 0 (fun _ => False) := by
  refine rd_head (by decide) (Nat.le_of_ble_eq_true rfl) ?_
  intro zp ze zs zm za zb zt zc ls zQ hx hb hml hr hlk hown hts hK hP hl hQ
  have hown : zs.vm.findClass RX9 = some zm.cls := hown
  have hl : lv_has ls 2 [(0, .ref a), (1, .int (nI s))] := hl
  have hF : CallFix zp zm zc cX9_counts 2 zs za lw_all RX9 := ⟨hx, hb, hml, hown, hts⟩
  obtain ⟨hd0, hd1, hd2, hd3, hdq, hdv, hdk⟩ := hd
  have hq := hdq s hs
  refine lv_aload_n hx hb dX9_counts_0 rfl (lv_at hl 0 rfl) ?_
  refine lv_iload_n hx hb dX9_counts_1 rfl (lv_at hl 1 rfl) ?_
  refine lv_iconst (v := nI 0) hx hb dX9_counts_2 rfl ?_
  refine rd_callS hF (m_X9_of l D ca a d s 0 (by first | assumption | omega)) (cs_X9_of hts q1382 ⟨by decide, by decide⟩) (K1_mv D ca) hK (hP.sub [0] rfl) rfl hl.1 rfl (Nat.le_of_ble_eq_true rfl) dX9_counts_3 ⟨Nat.zero_le _, Nat.zero_le _⟩ ?_
  refine lv_iconst (v := nI 4) hx hb dX9_counts_6 rfl ?_
  refine wn_lt (tgt := 19) hx hb (by omega) (by omega) dX9_counts_7 (by decide) (fun c_7 => ?_) (fun c_7 => ?_)
  · have c_7n := Nat.not_le.mpr c_7
    refine lv_iconst (v := nI 1) hx hb dX9_counts_19 rfl ?_
    refine lv_goto (tgt := 24) hx hb dX9_counts_20 (by decide) ?_
    refine W.eq (g2 := F0 zm 24 ls [.int (bI true)]) rfl ?_
    exact rd_zret hx hb hr hlk hQ dX9_counts_24 (by refine congrArg bI ?_; unfold cntD; grind)
  · have c_7n := Nat.not_lt.mpr c_7
    refine lv_aload_n hx hb dX9_counts_10 rfl (lv_at hl 0 rfl) ?_
    refine lv_iload_n hx hb dX9_counts_11 rfl (lv_at hl 1 rfl) ?_
    refine lv_iconst (v := nI 4) hx hb dX9_counts_12 rfl ?_
    refine rd_callS hF (m_X9_of l D ca a d s 4 (by first | assumption | omega)) (cs_X9_of hts q1382 ⟨by decide, by decide⟩) (K1_mv D ca) hK (hP.sub [0] rfl) rfl hl.1 rfl (Nat.le_of_ble_eq_true rfl) dX9_counts_13 ⟨Nat.zero_le _, Nat.zero_le _⟩ ?_
    refine wn_ifle (tgt := 23) hx hb (by omega) dX9_counts_16 (by decide) (fun c_16 => ?_) (fun c_16 => ?_)
    · refine lv_iconst (v := nI 0) hx hb dX9_counts_23 rfl ?_
      refine W.eq (g2 := F0 zm 24 ls [.int (bI false)]) rfl ?_
      exact rd_zret hx hb hr hlk hQ dX9_counts_24 (by refine congrArg bI ?_; unfold cntD; grind)
    · refine lv_iconst (v := nI 1) hx hb dX9_counts_19 rfl ?_
      refine lv_goto (tgt := 24) hx hb dX9_counts_20 (by decide) ?_
      refine W.eq (g2 := F0 zm 24 ls [.int (bI true)]) rfl ?_
      exact rd_zret hx hb hr hlk hQ dX9_counts_24 (by refine congrArg bI ?_; unfold cntD; grind)
set_option maxHeartbeats 4000000 in
theorem m_X9_isLamp (l : Launch) (D : va_G) (ca : Nat → ClassId) (a : Nat) (d : Nat → Nat) (s : Nat) (hd : dOK d) (hs : s < 8) : Met l yX9_isLamp (ws_ yX9_isLamp cX9_isLamp 2 (some .boolean)) (rmL 1) (PcR (K1 D ca) D [.ref a, .int (nI s)] [(a, .inl (ca 0, 64, .inl (dv d)))]) (vp_Si (fun zr => zr = bI (lmpD d s))) 0 0 (fun _ => False) := by
  refine rd_head (by decide) (Nat.le_of_ble_eq_true rfl) ?_
  intro zp ze zs zm za zb zt zc ls zQ hx hb hml hr hlk hown hts hK hP hl hQ
  have hown : zs.vm.findClass RX9 = some zm.cls := hown
  have hl : lv_has ls 2 [(0, .ref a), (1, .int (nI s))] := hl
  have hF : CallFix zp zm zc cX9_isLamp 2 zs za lw_all RX9 := ⟨hx, hb, hml, hown, hts⟩
  obtain ⟨hd0, hd1, hd2, hd3, hdq, hdv, hdk⟩ := hd
  have hq := hdq s hs
  refine lv_aload_n hx hb dX9_isLamp_0 rfl (lv_at hl 0 rfl) ?_
  refine lv_iload_n hx hb dX9_isLamp_1 rfl (lv_at hl 1 rfl) ?_
  refine lv_iconst (v := nI 4) hx hb dX9_isLamp_2 rfl ?_
  refine rd_callS hF (m_X9_of l D ca a d s 4 (by first | assumption | omega)) (cs_X9_of hts q1382 ⟨by decide, by decide⟩) (K1_mv D ca) hK (hP.sub [0] rfl) rfl hl.1 rfl (Nat.le_of_ble_eq_true rfl) dX9_isLamp_3 ⟨Nat.zero_le _, Nat.zero_le _⟩ ?_
  refine wn_ifne (tgt := 29) hx hb (by omega) dX9_isLamp_6 (by decide) (fun c_6 => ?_) (fun c_6 => ?_)
  · refine lv_aload_n hx hb dX9_isLamp_29 rfl (lv_at hl 0 rfl) ?_
    refine lv_iload_n hx hb dX9_isLamp_30 rfl (lv_at hl 1 rfl) ?_
    refine lv_iconst (v := nI 4) hx hb dX9_isLamp_31 rfl ?_
    refine rd_callS hF (m_X9_of l D ca a d s 4 (by first | assumption | omega)) (cs_X9_of hts q1382 ⟨by decide, by decide⟩) (K1_mv D ca) hK (hP.sub [0] rfl) rfl hl.1 rfl (Nat.le_of_ble_eq_true rfl) dX9_isLamp_32 ⟨Nat.zero_le _, Nat.zero_le _⟩ ?_
    refine lv_iconst (v := nI 2) hx hb dX9_isLamp_35 rfl ?_
    refine wn_ne (tgt := 43) hx hb (by omega) (by omega) dX9_isLamp_36 (by decide) (fun c_36 => ?_) (fun c_36 => ?_)
    · refine lv_iconst (v := nI 0) hx hb dX9_isLamp_43 rfl ?_
      refine W.eq (g2 := F0 zm 44 ls [.int (bI false)]) rfl ?_
      exact rd_zret hx hb hr hlk hQ dX9_isLamp_44 (by refine congrArg bI ?_; simp only [lmpD]; split <;> simp <;> omega)
    · refine lv_iconst (v := nI 1) hx hb dX9_isLamp_39 rfl ?_
      refine lv_goto (tgt := 44) hx hb dX9_isLamp_40 (by decide) ?_
      refine W.eq (g2 := F0 zm 44 ls [.int (bI true)]) rfl ?_
      exact rd_zret hx hb hr hlk hQ dX9_isLamp_44 (by refine congrArg bI ?_; simp only [lmpD]; split <;> simp <;> omega)
  · refine lv_aload_n hx hb dX9_isLamp_9 rfl (lv_at hl 0 rfl) ?_
    refine lv_iload_n hx hb dX9_isLamp_10 rfl (lv_at hl 1 rfl) ?_
    refine lv_iconst (v := nI 1) hx hb dX9_isLamp_11 rfl ?_
    refine rd_callS hF (m_X9_of l D ca a d s 1 (by first | assumption | omega)) (cs_X9_of hts q1382 ⟨by decide, by decide⟩) (K1_mv D ca) hK (hP.sub [0] rfl) rfl hl.1 rfl (Nat.le_of_ble_eq_true rfl) dX9_isLamp_12 ⟨Nat.zero_le _, Nat.zero_le _⟩ ?_
    refine lv_aload_n hx hb dX9_isLamp_15 rfl (lv_at hl 0 rfl) ?_
    refine lv_iconst (v := nI 0) hx hb dX9_isLamp_16 rfl ?_
    refine wn_iald (v := nI (d 0)) hx hb hK hP 0 0 rfl rfl (by omega) (by decide) rfl dX9_isLamp_17 ?_
    refine wn_lt (tgt := 25) hx hb (by omega) (by omega) dX9_isLamp_18 (by decide) (fun c_18 => ?_) (fun c_18 => ?_)
    · have c_18n := Nat.not_le.mpr c_18
      refine lv_iconst (v := nI 0) hx hb dX9_isLamp_25 rfl ?_
      refine lv_goto (tgt := 44) hx hb dX9_isLamp_26 (by decide) ?_
      refine W.eq (g2 := F0 zm 44 ls [.int (bI false)]) rfl ?_
      exact rd_zret hx hb hr hlk hQ dX9_isLamp_44 (by refine congrArg bI ?_; simp only [lmpD]; split <;> simp <;> omega)
    · have c_18n := Nat.not_lt.mpr c_18
      refine lv_iconst (v := nI 1) hx hb dX9_isLamp_21 rfl ?_
      refine lv_goto (tgt := 44) hx hb dX9_isLamp_22 (by decide) ?_
      refine W.eq (g2 := F0 zm 44 ls [.int (bI true)]) rfl ?_
      exact rd_zret hx hb hr hlk hQ dX9_isLamp_44 (by refine congrArg bI ?_; simp only [lmpD]; split <;> simp <;> omega)
theorem cs_X9_counts {R : Room} {s : State} {args : Array Value} {own : String} {index : Nat} (hts : ∀ w ∈ lw_all, w.before args s = true) (hl : Cond.methodLink own index yX9_counts ∈ lw_all) {rm : Room} {mc ms : Nat} (hR : rm.frames + 1 ≤ R.frames ∧ 8 + (2 + 11) + rm.locals ≤ R.locals) (hc : rm.cells = mc := by rfl) (hs : rm.slots = ms := by rfl) : CallB R s args own index yX9_counts cX9_counts 2 (some .boolean) (ws_ yX9_counts cX9_counts 2 (some .boolean)) rm mc ms 2 ∧ (Cond.static yX9_counts).before args s = true := va_cwS 2 hts (lw_S hl q1380 q70 q1381) rfl hc hs (by decide +kernel) hR
theorem cs_X9_clicksIt {R : Room} {s : State} {args : Array Value} {own : String} {index : Nat} (hts : ∀ w ∈ lw_all, w.before args s = true) (hl : Cond.methodLink own index yX9_clicksIt ∈ lw_all) {rm : Room} {mc ms : Nat} (hR : rm.frames + 1 ≤ R.frames ∧ 8 + (3 + 11) + rm.locals ≤ R.locals) (hc : rm.cells = mc := by rfl) (hs : rm.slots = ms := by rfl) : CallB R s args own index yX9_clicksIt cX9_clicksIt 3 (some .boolean) (ws_ yX9_clicksIt cX9_clicksIt 3 (some .boolean)) rm mc ms 3 ∧ (Cond.static yX9_clicksIt).before args s = true := va_cwS 3 hts (lw_S hl q1386 q70 q1387) rfl hc hs (by decide +kernel) hR
theorem cs_X9_isLamp {R : Room} {s : State} {args : Array Value} {own : String} {index : Nat} (hts : ∀ w ∈ lw_all, w.before args s = true) (hl : Cond.methodLink own index yX9_isLamp ∈ lw_all) {rm : Room} {mc ms : Nat} (hR : rm.frames + 1 ≤ R.frames ∧ 8 + (2 + 11) + rm.locals ≤ R.locals) (hc : rm.cells = mc := by rfl) (hs : rm.slots = ms := by rfl) : CallB R s args own index yX9_isLamp cX9_isLamp 2 (some .boolean) (ws_ yX9_isLamp cX9_isLamp 2 (some .boolean)) rm mc ms 2 ∧ (Cond.static yX9_isLamp).before args s = true := va_cwS 2 hts (lw_S hl q1398 q70 q1399) rfl hc hs (by decide +kernel) hR
set_option maxHeartbeats 4000000 in
theorem m_X9_isWrong (l : Launch) (D : va_G) (ca : Nat → ClassId) (a : Nat) (d : Nat → Nat) (v : Nat) (s : Nat) (hd : dOK d) (hv : v < 5) (hs : s < 8) : Met l yX9_isWrong (ws_ yX9_isWrong cX9_isWrong 3 (some .boolean)) (rmL 3) (PcR (K1 D ca) D [.ref a, .int (nI v), .int (nI s)] [(a, .inl (ca 0, 64, .inl (dv d)))]) (vp_Si (fun zr => zr = bI (wrgD d v s))) 0 0 (fun _ => False) := by
  refine rd_head (by decide) (Nat.le_of_ble_eq_true rfl) ?_
  intro zp ze zs zm za zb zt zc ls zQ hx hb hml hr hlk hown hts hK hP hl hQ
  have hown : zs.vm.findClass RX9 = some zm.cls := hown
  have hl : lv_has ls 3 [(0, .ref a), (1, .int (nI v)), (2, .int (nI s))] := hl
  have hF : CallFix zp zm zc cX9_isWrong 3 zs za lw_all RX9 := ⟨hx, hb, hml, hown, hts⟩
  refine lv_aload_n hx hb dX9_isWrong_0 rfl (lv_at hl 0 rfl) ?_
  refine lv_iload_n hx hb dX9_isWrong_1 rfl (lv_at hl 2 rfl) ?_
  refine rd_callS hF (m_X9_counts l D ca a d s (by assumption) (by first | assumption | omega)) (cs_X9_counts hts q1379 ⟨by decide, by decide⟩) (K1_mv D ca) hK (hP.sub [0] rfl) rfl hl.1 rfl (Nat.le_of_ble_eq_true rfl) dX9_isWrong_2 ⟨Nat.zero_le _, Nat.zero_le _⟩ ?_
  refine wb_eq (tgt := 26) hx hb dX9_isWrong_5 (by decide) (fun c_5 => ?_) (fun c_5 => ?_)
  · refine lv_iconst (v := nI 0) hx hb dX9_isWrong_26 rfl ?_
    refine W.eq (g2 := F0 zm 27 ls [.int (bI false)]) rfl ?_
    exact rd_zret hx hb hr hlk hQ dX9_isWrong_27 (by refine congrArg bI ?_; simp [wrgD, c_5])
  · refine lv_aload_n hx hb dX9_isWrong_8 rfl (lv_at hl 0 rfl) ?_
    refine lv_iload_n hx hb dX9_isWrong_9 rfl (lv_at hl 1 rfl) ?_
    refine lv_iload_n hx hb dX9_isWrong_10 rfl (lv_at hl 2 rfl) ?_
    refine rd_callS hF (m_X9_clicksIt l D ca a d v s (by assumption) (by first | assumption | omega) (by first | assumption | omega)) (cs_X9_clicksIt hts q1385 ⟨by decide, by decide⟩) (K1_mv D ca) hK (hP.sub [0] rfl) rfl hl.1 rfl (Nat.le_of_ble_eq_true rfl) dX9_isWrong_11 ⟨Nat.zero_le _, Nat.zero_le _⟩ ?_
    refine lv_aload_n hx hb dX9_isWrong_14 rfl (lv_at hl 0 rfl) ?_
    refine lv_iload_n hx hb dX9_isWrong_15 rfl (lv_at hl 2 rfl) ?_
    refine rd_callS hF (m_X9_isLamp l D ca a d s (by assumption) (by first | assumption | omega)) (cs_X9_isLamp hts q1397 ⟨by decide, by decide⟩) (K1_mv D ca) hK (hP.sub [0] rfl) rfl hl.1 rfl (Nat.le_of_ble_eq_true rfl) dX9_isWrong_16 ⟨Nat.zero_le _, Nat.zero_le _⟩ ?_
    refine wb_ieq (tgt := 26) hx hb dX9_isWrong_19 (by decide) (fun c_19 => ?_) (fun c_19 => ?_)
    · refine lv_iconst (v := nI 0) hx hb dX9_isWrong_26 rfl ?_
      refine W.eq (g2 := F0 zm 27 ls [.int (bI false)]) rfl ?_
      exact rd_zret hx hb hr hlk hQ dX9_isWrong_27 (by refine congrArg bI ?_; simp [wrgD, c_5, c_19])
    · refine lv_iconst (v := nI 1) hx hb dX9_isWrong_22 rfl ?_
      refine lv_goto (tgt := 27) hx hb dX9_isWrong_23 (by decide) ?_
      refine W.eq (g2 := F0 zm 27 ls [.int (bI true)]) rfl ?_
      exact rd_zret hx hb hr hlk hQ dX9_isWrong_27 (by refine congrArg bI ?_; simp [wrgD, c_5, c_19])
theorem cs_X9_has {R : Room} {s : State} {args : Array Value} {own : String} {index : Nat} (hts : ∀ w ∈ lw_all, w.before args s = true) (hl : Cond.methodLink own index yX9_has ∈ lw_all) {rm : Room} {mc ms : Nat} (hR : rm.frames + 1 ≤ R.frames ∧ 8 + (2 + 11) + rm.locals ≤ R.locals) (hc : rm.cells = mc := by rfl) (hs : rm.slots = ms := by rfl) : CallB R s args own index yX9_has cX9_has 2 (some .boolean) (ws_ yX9_has cX9_has 2 (some .boolean)) rm mc ms 2 ∧ (Cond.static yX9_has).before args s = true := va_cwS 2 hts (lw_S hl q1374 q70 q1375) rfl hc hs (by decide +kernel) hR
theorem cs_X9_isWrong {R : Room} {s : State} {args : Array Value} {own : String} {index : Nat} (hts : ∀ w ∈ lw_all, w.before args s = true) (hl : Cond.methodLink own index yX9_isWrong ∈ lw_all) {rm : Room} {mc ms : Nat} (hR : rm.frames + 1 ≤ R.frames ∧ 8 + (3 + 11) + rm.locals ≤ R.locals) (hc : rm.cells = mc := by rfl) (hs : rm.slots = ms := by rfl) : CallB R s args own index yX9_isWrong cX9_isWrong 3 (some .boolean) (ws_ yX9_isWrong cX9_isWrong 3 (some .boolean)) rm mc ms 3 ∧ (Cond.static yX9_isWrong).before args s = true := va_cwS 3 hts (lw_S hl q1377 q70 q1378) rfl hc hs (by decide +kernel) hR
set_option maxHeartbeats 4000000 in
theorem m_X9_wrongOf (l : Launch) (D : va_G) (ca : Nat → ClassId) (a : Nat) (d : Nat → Nat) (v : Nat) (set : Nat) (hd : dOK d) (hv : v < 5) (hs : set < 256) : Met l yX9_wrongOf (ws_ yX9_wrongOf cX9_wrongOf 5 (some .int)) (rmL 4) (PcR (K1 D ca) D [.ref a, .int (nI v), .int (nI set)] [(a, .inl (ca 0, 64, .inl (dv d)))]) (vp_Si (fun zr => zr = nI (wroN d v set (d 2)))) 0 0 (fun _ => False) := by
  refine rd_head (by decide) (Nat.le_of_ble_eq_true rfl) ?_
  intro zp ze zs zm za zb zt zc ls zQ hx hb hml hr hlk hown hts hK hP hl hQ
  have hown : zs.vm.findClass RX9 = some zm.cls := hown
  have hl : lv_has ls 5 [(0, .ref a), (1, .int (nI v)), (2, .int (nI set))] := hl
  have hF : CallFix zp zm zc cX9_wrongOf 5 zs za lw_all RX9 := ⟨hx, hb, hml, hown, hts⟩
  have hd2 : d 2 ≤ 8 := hd.2.2.1
  refine lv_iconst (v := nI 0) hx hb dX9_wrongOf_0 rfl ?_
  refine lv_istore_n (lv' := [(3, .int (nI 0)), (0, .ref a), (1, .int (nI v)), (2, .int (nI set))]) hx hb dX9_wrongOf_1 rfl hl (by decide) rfl (fun ls hl => ?_)
  refine lv_iconst (v := nI 0) hx hb dX9_wrongOf_2 rfl ?_
  refine lv_istore (lv' := [(4, .int (nI 0)), (3, .int (nI 0)), (0, .ref a), (1, .int (nI v)), (2, .int (nI set))]) hx hb dX9_wrongOf_3 hl (by decide) rfl (fun ls hl => ?_)
  have lp_5 : ∀ (zn : Nat) (i : Nat), (i ≤ d 2) →  (d 2 - i) < zn → ∀ (ls : Array Slot), lv_has ls 5 [(0, .ref a), (1, .int (nI v)), (2, .int (nI set)), (3, .int (nI (wroN d v set i))), (4, .int (nI i))] → W zp l ze (rmL 4) zs zm za zb zt zc zs.heap [] 0 0 zQ (F0 zm 5 ls []) := by
    intro zn
    induction zn with
    | zero => intro i hi hmu_5; exact absurd hmu_5 (Nat.not_lt_zero _)
    | succ zn ih_5 =>
      intro i hi hmu_5 ls hl
      refine lv_iload hx hb dX9_wrongOf_5 (lv_at hl 4 rfl) ?_
      refine lv_aload_n hx hb dX9_wrongOf_7 rfl (lv_at hl 0 rfl) ?_
      refine lv_iconst (v := nI 2) hx hb dX9_wrongOf_8 rfl ?_
      refine wn_iald (v := nI (d 2)) hx hb hK hP 0 0 rfl rfl (by omega) (by decide) rfl dX9_wrongOf_9 ?_
      refine wn_ge (tgt := 46) hx hb (by omega) (by omega) dX9_wrongOf_10 (by decide) (fun c_10 => ?_) (fun c_10 => ?_)
      · have c_10n := Nat.not_lt.mpr c_10
        refine lv_iload_n hx hb dX9_wrongOf_46 rfl (lv_at hl 3 rfl) ?_
        exact rd_iret hx hb hr hlk hQ dX9_wrongOf_47 (by have hie : i = d 2 := (by omega); rw [hie])
      · have c_10n := Nat.not_le.mpr c_10
        refine lv_iload_n hx hb dX9_wrongOf_13 rfl (lv_at hl 3 rfl) ?_
        refine lv_iload_n hx hb dX9_wrongOf_14 rfl (lv_at hl 2 rfl) ?_
        refine lv_iload hx hb dX9_wrongOf_15 (lv_at hl 4 rfl) ?_
        refine rd_callS hF (m_X9_has l D ca set i (by first | assumption | omega) (by first | assumption | omega)) (cs_X9_has hts q1373 ⟨by decide, by decide⟩) (K1_mv D ca) hK (hP.sub [] rfl) rfl hl.1 rfl (Nat.le_of_ble_eq_true rfl) dX9_wrongOf_17 ⟨Nat.zero_le _, Nat.zero_le _⟩ ?_
        refine wb_eq (tgt := 37) hx hb dX9_wrongOf_20 (by decide) (fun c_20 => ?_) (fun c_20 => ?_)
        · refine lv_iconst (v := nI 0) hx hb dX9_wrongOf_37 rfl ?_
          refine wn_add hx hb dX9_wrongOf_38 ?_
          refine lv_istore_n (lv' := [(3, .int (nI ((wroN d v set i) + 0))), (0, .ref a), (1, .int (nI v)), (2, .int (nI set)), (4, .int (nI i))]) hx hb dX9_wrongOf_39 rfl hl (by decide) rfl (fun ls hl => ?_)
          refine lv_iinc (v := nI (i + 1)) (lv' := [(4, .int (nI (i + 1))), (3, .int (nI ((wroN d v set i) + 0))), (0, .ref a), (1, .int (nI v)), (2, .int (nI set))]) hx hb dX9_wrongOf_40 hl (k := 4) rfl (nI_add i 1) (by decide) rfl (fun ls hl => ?_)
          refine lv_goto (tgt := 5) hx hb dX9_wrongOf_43 (by decide) ?_
          have e_1 : (wroN d v set i) + 0 = wroN d v set (i + 1) := by first | rfl | (simp [wroN, c_10, c_10n, c_20])
          have e_2 : i + 1 = (i + 1) := by first | rfl | (simp [wroN, c_10, c_10n, c_20])
          exact ih_5 (i + 1) (by omega) (by omega) ls (lv_to (lv_sub hl [2, 3, 4, 1, 0] rfl) (Eq.trans (congrArg (fun x => ([(0, .ref a), (1, .int (nI v)), (2, .int (nI set)), (3, .int (nI x)), (4, .int (nI (i + 1)))] : List (Nat × Value))) e_1) (congrArg (fun x => ([(0, .ref a), (1, .int (nI v)), (2, .int (nI set)), (3, .int (nI (wroN d v set (i + 1)))), (4, .int (nI x))] : List (Nat × Value))) e_2)))
        · refine lv_aload_n hx hb dX9_wrongOf_23 rfl (lv_at hl 0 rfl) ?_
          refine lv_iload_n hx hb dX9_wrongOf_24 rfl (lv_at hl 1 rfl) ?_
          refine lv_iload hx hb dX9_wrongOf_25 (lv_at hl 4 rfl) ?_
          refine rd_callS hF (m_X9_isWrong l D ca a d v i (by assumption) (by first | assumption | omega) (by first | assumption | omega)) (cs_X9_isWrong hts q1376 ⟨by decide, by decide⟩) (K1_mv D ca) hK (hP.sub [0] rfl) rfl hl.1 rfl (Nat.le_of_ble_eq_true rfl) dX9_wrongOf_27 ⟨Nat.zero_le _, Nat.zero_le _⟩ ?_
          refine wb_eq (tgt := 37) hx hb dX9_wrongOf_30 (by decide) (fun c_30 => ?_) (fun c_30 => ?_)
          · refine lv_iconst (v := nI 0) hx hb dX9_wrongOf_37 rfl ?_
            refine wn_add hx hb dX9_wrongOf_38 ?_
            refine lv_istore_n (lv' := [(3, .int (nI ((wroN d v set i) + 0))), (0, .ref a), (1, .int (nI v)), (2, .int (nI set)), (4, .int (nI i))]) hx hb dX9_wrongOf_39 rfl hl (by decide) rfl (fun ls hl => ?_)
            refine lv_iinc (v := nI (i + 1)) (lv' := [(4, .int (nI (i + 1))), (3, .int (nI ((wroN d v set i) + 0))), (0, .ref a), (1, .int (nI v)), (2, .int (nI set))]) hx hb dX9_wrongOf_40 hl (k := 4) rfl (nI_add i 1) (by decide) rfl (fun ls hl => ?_)
            refine lv_goto (tgt := 5) hx hb dX9_wrongOf_43 (by decide) ?_
            have e_3 : (wroN d v set i) + 0 = wroN d v set (i + 1) := by first | rfl | (simp [wroN, c_10, c_10n, c_20, c_30])
            have e_4 : i + 1 = (i + 1) := by first | rfl | (simp [wroN, c_10, c_10n, c_20, c_30])
            exact ih_5 (i + 1) (by omega) (by omega) ls (lv_to (lv_sub hl [2, 3, 4, 1, 0] rfl) (Eq.trans (congrArg (fun x => ([(0, .ref a), (1, .int (nI v)), (2, .int (nI set)), (3, .int (nI x)), (4, .int (nI (i + 1)))] : List (Nat × Value))) e_3) (congrArg (fun x => ([(0, .ref a), (1, .int (nI v)), (2, .int (nI set)), (3, .int (nI (wroN d v set (i + 1)))), (4, .int (nI x))] : List (Nat × Value))) e_4)))
          · refine lv_iconst (v := nI 1) hx hb dX9_wrongOf_33 rfl ?_
            refine lv_goto (tgt := 38) hx hb dX9_wrongOf_34 (by decide) ?_
            refine wn_add hx hb dX9_wrongOf_38 ?_
            refine lv_istore_n (lv' := [(3, .int (nI ((wroN d v set i) + 1))), (0, .ref a), (1, .int (nI v)), (2, .int (nI set)), (4, .int (nI i))]) hx hb dX9_wrongOf_39 rfl hl (by decide) rfl (fun ls hl => ?_)
            refine lv_iinc (v := nI (i + 1)) (lv' := [(4, .int (nI (i + 1))), (3, .int (nI ((wroN d v set i) + 1))), (0, .ref a), (1, .int (nI v)), (2, .int (nI set))]) hx hb dX9_wrongOf_40 hl (k := 4) rfl (nI_add i 1) (by decide) rfl (fun ls hl => ?_)
            refine lv_goto (tgt := 5) hx hb dX9_wrongOf_43 (by decide) ?_
            have e_5 : (wroN d v set i) + 1 = wroN d v set (i + 1) := by first | rfl | (simp [wroN, c_10, c_10n, c_20, c_30])
            have e_6 : i + 1 = (i + 1) := by first | rfl | (simp [wroN, c_10, c_10n, c_20, c_30])
            exact ih_5 (i + 1) (by omega) (by omega) ls (lv_to (lv_sub hl [2, 3, 4, 1, 0] rfl) (Eq.trans (congrArg (fun x => ([(0, .ref a), (1, .int (nI v)), (2, .int (nI set)), (3, .int (nI x)), (4, .int (nI (i + 1)))] : List (Nat × Value))) e_5) (congrArg (fun x => ([(0, .ref a), (1, .int (nI v)), (2, .int (nI set)), (3, .int (nI (wroN d v set (i + 1)))), (4, .int (nI x))] : List (Nat × Value))) e_6)))
  have e_7 : 0 = wroN d v set 0 := by first | rfl | (simp [wroN])
  exact lp_5 ((d 2 - 0) + 1) 0 (by omega) (by omega) ls (lv_to (lv_sub hl [2, 3, 4, 1, 0] rfl) (congrArg (fun x => ([(0, .ref a), (1, .int (nI v)), (2, .int (nI set)), (3, .int (nI x)), (4, .int (nI 0))] : List (Nat × Value))) e_7))
set_option maxHeartbeats 4000000 in
theorem m_X9_votesOf (l : Launch) (D : va_G) (ca : Nat → ClassId) (a : Nat) (d : Nat → Nat) (hd : dOK d) : Met l yX9_votesOf (ws_ yX9_votesOf cX9_votesOf 3 (some .int)) (rmL 1) (PcR (K1 D ca) D [.ref a] [(a, .inl (ca 0, 64, .inl (dv d)))]) (vp_Si (fun zr => zr = nI (vtN d (d 2)))) 0 0 (fun _ => False) := by
  refine rd_head (by decide) (Nat.le_of_ble_eq_true rfl) ?_
  intro zp ze zs zm za zb zt zc ls zQ hx hb hml hr hlk hown hts hK hP hl hQ
  have hown : zs.vm.findClass RX9 = some zm.cls := hown
  have hl : lv_has ls 3 [(0, .ref a)] := hl
  have hF : CallFix zp zm zc cX9_votesOf 3 zs za lw_all RX9 := ⟨hx, hb, hml, hown, hts⟩
  have hd2 : d 2 ≤ 8 := hd.2.2.1
  refine lv_iconst (v := nI 0) hx hb dX9_votesOf_0 rfl ?_
  refine lv_istore_n (lv' := [(1, .int (nI 0)), (0, .ref a)]) hx hb dX9_votesOf_1 rfl hl (by decide) rfl (fun ls hl => ?_)
  refine lv_iconst (v := nI 0) hx hb dX9_votesOf_2 rfl ?_
  refine lv_istore_n (lv' := [(2, .int (nI 0)), (1, .int (nI 0)), (0, .ref a)]) hx hb dX9_votesOf_3 rfl hl (by decide) rfl (fun ls hl => ?_)
  have lp_4 : ∀ (zn : Nat) (i : Nat), (i ≤ d 2) →  (d 2 - i) < zn → ∀ (ls : Array Slot), lv_has ls 3 [(0, .ref a), (1, .int (nI (vtN d i))), (2, .int (nI i))] → W zp l ze (rmL 1) zs zm za zb zt zc zs.heap [] 0 0 zQ (F0 zm 4 ls []) := by
    intro zn
    induction zn with
    | zero => intro i hi hmu_4; exact absurd hmu_4 (Nat.not_lt_zero _)
    | succ zn ih_4 =>
      intro i hi hmu_4 ls hl
      refine lv_iload_n hx hb dX9_votesOf_4 rfl (lv_at hl 2 rfl) ?_
      refine lv_aload_n hx hb dX9_votesOf_5 rfl (lv_at hl 0 rfl) ?_
      refine lv_iconst (v := nI 2) hx hb dX9_votesOf_6 rfl ?_
      refine wn_iald (v := nI (d 2)) hx hb hK hP 0 0 rfl rfl (by omega) (by decide) rfl dX9_votesOf_7 ?_
      refine wn_ge (tgt := 33) hx hb (by omega) (by omega) dX9_votesOf_8 (by decide) (fun c_8 => ?_) (fun c_8 => ?_)
      · have c_8n := Nat.not_lt.mpr c_8
        refine lv_iload_n hx hb dX9_votesOf_33 rfl (lv_at hl 1 rfl) ?_
        exact rd_iret hx hb hr hlk hQ dX9_votesOf_34 (by have hie : i = d 2 := (by omega); rw [hie])
      · have c_8n := Nat.not_le.mpr c_8
        refine lv_iload_n hx hb dX9_votesOf_11 rfl (lv_at hl 1 rfl) ?_
        refine lv_aload_n hx hb dX9_votesOf_12 rfl (lv_at hl 0 rfl) ?_
        refine lv_iload_n hx hb dX9_votesOf_13 rfl (lv_at hl 2 rfl) ?_
        refine lv_iconst (v := nI 2) hx hb dX9_votesOf_14 rfl ?_
        refine rd_callS hF (m_X9_of l D ca a d i 2 (by first | assumption | omega)) (cs_X9_of hts q1382 ⟨by decide, by decide⟩) (K1_mv D ca) hK (hP.sub [0] rfl) rfl hl.1 rfl (Nat.le_of_ble_eq_true rfl) dX9_votesOf_15 ⟨Nat.zero_le _, Nat.zero_le _⟩ ?_
        refine lv_aload_n hx hb dX9_votesOf_18 rfl (lv_at hl 0 rfl) ?_
        refine lv_iload_n hx hb dX9_votesOf_19 rfl (lv_at hl 2 rfl) ?_
        refine lv_iconst (v := nI 3) hx hb dX9_votesOf_20 rfl ?_
        refine rd_callS hF (m_X9_of l D ca a d i 3 (by first | assumption | omega)) (cs_X9_of hts q1382 ⟨by decide, by decide⟩) (K1_mv D ca) hK (hP.sub [0] rfl) rfl hl.1 rfl (Nat.le_of_ble_eq_true rfl) dX9_votesOf_21 ⟨Nat.zero_le _, Nat.zero_le _⟩ ?_
        refine wn_add hx hb dX9_votesOf_24 ?_
        refine wn_add hx hb dX9_votesOf_25 ?_
        refine lv_istore_n (lv' := [(1, .int (nI ((vtN d i) + ((d (4 + 5 * i + 2)) + (d (4 + 5 * i + 3)))))), (0, .ref a), (2, .int (nI i))]) hx hb dX9_votesOf_26 rfl hl (by decide) rfl (fun ls hl => ?_)
        refine lv_iinc (v := nI (i + 1)) (lv' := [(2, .int (nI (i + 1))), (1, .int (nI ((vtN d i) + ((d (4 + 5 * i + 2)) + (d (4 + 5 * i + 3)))))), (0, .ref a)]) hx hb dX9_votesOf_27 hl (k := 2) rfl (nI_add i 1) (by decide) rfl (fun ls hl => ?_)
        refine lv_goto (tgt := 4) hx hb dX9_votesOf_30 (by decide) ?_
        have e_1 : (vtN d i) + ((d (4 + 5 * i + 2)) + (d (4 + 5 * i + 3))) = vtN d (i + 1) := by first | rfl | (simp [vtN])
        have e_2 : i + 1 = (i + 1) := by first | rfl | (simp [vtN])
        exact ih_4 (i + 1) (by omega) (by omega) ls (lv_to (lv_sub hl [2, 1, 0] rfl) (Eq.trans (congrArg (fun x => ([(0, .ref a), (1, .int (nI x)), (2, .int (nI (i + 1)))] : List (Nat × Value))) e_1) (congrArg (fun x => ([(0, .ref a), (1, .int (nI (vtN d (i + 1)))), (2, .int (nI x))] : List (Nat × Value))) e_2)))
  have e_3 : 0 = vtN d 0 := by first | rfl | (simp [vtN])
  exact lp_4 ((d 2 - 0) + 1) 0 (by omega) (by omega) ls (lv_to (lv_sub hl [2, 1, 0] rfl) (congrArg (fun x => ([(0, .ref a), (1, .int (nI x)), (2, .int (nI 0))] : List (Nat × Value))) e_3))
