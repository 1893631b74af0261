set_option maxRecDepth 100000
set_option maxHeartbeats 4000000 in
theorem m_J2_size (l : Launch) (D : va_G) (ca : Nat → ClassId) (h : Nat) (mo : Int32) (eo : Option Nat) (sz : Nat)  : Met l yJ2_size (ws_ yJ2_size cJ2_size 1 (some .int)) (rmL 0) (PcR (K1 D ca) D [.ref h] [(h, .inr (13, [.int mo, va_rf eo, .int (nI sz)]))]) (vp_Si (fun zr => zr = nI sz)) 0 0 (fun _ => False) := by
  refine rd_head (by decide) (Nat.le_of_ble_eq_true rfl) ?_
  intro zp ze zs zm za zb zt zc ls zQ hx hb hml hr hlk hown hts hK hP hl hQ
  have hown : zs.vm.findClass RJ2 = some zm.cls := hown
  have hl : lv_has ls 1 [(0, .ref h)] := hl
  have hF : CallFix zp zm zc cJ2_size 1 zs za lw_all RJ2 := ⟨hx, hb, hml, hown, hts⟩
  refine lv_aload_n hx hb dJ2_size_0 rfl (lv_at hl 0 rfl) ?_
  refine va_get (D := D) (ci := 13) (v := .int (nI sz)) (C := RJ2) (T := TJ2) (N := 3) hx hb hts in_J2 hown hK hP 0 rfl rfl 2 (by decide) (hts _ q122) (fun _ h9 => h9) rfl dJ2_size_1 ?_
  exact rd_iret hx hb hr hlk hQ dJ2_size_4 (by rfl)
set_option maxHeartbeats 4000000 in
theorem m_J10_checkIndex (l : Launch) (D : va_G) (ca : Nat → ClassId) (i : Nat) (n : Nat) (h1 : i < n) (h2 : n < 2147483648) : Met l yJ10_checkIndex (ws_ yJ10_checkIndex cJ10_checkIndex 3 (some .int)) (rmL 0) (PcR (K1 D ca) D [.int (nI i), .int (nI n), .null] []) (vp_Si (fun zr => zr = nI i)) 0 0 (fun _ => False) := by
  refine rd_head (by decide) (Nat.le_of_ble_eq_true rfl) ?_
  intro zp ze zs zm za zb zt zc ls zQ hx hb hml hr hlk hown hts hK hP hl hQ
  have hown : zs.vm.findClass RJ10 = some zm.cls := hown
  have hl : lv_has ls 3 [(0, .int (nI i)), (1, .int (nI n)), (2, .null)] := hl
  have hF : CallFix zp zm zc cJ10_checkIndex 3 zs za lw_all RJ10 := ⟨hx, hb, hml, hown, hts⟩
  refine lv_iload_n hx hb dJ10_checkIndex_0 rfl (lv_at hl 0 rfl) ?_
  refine wn_iflt (tgt := 9) hx hb (by omega) dJ10_checkIndex_1 (by decide) ?_
  refine lv_iload_n hx hb dJ10_checkIndex_4 rfl (lv_at hl 0 rfl) ?_
  refine lv_iload_n hx hb dJ10_checkIndex_5 rfl (lv_at hl 1 rfl) ?_
  refine wn_lt (tgt := 16) hx hb (by omega) (by omega) dJ10_checkIndex_6 (by decide) (fun c_6 => ?_) (fun c_6 => ?_)
  · have c_6n := Nat.not_le.mpr c_6
    refine lv_iload_n hx hb dJ10_checkIndex_16 rfl (lv_at hl 0 rfl) ?_
    exact rd_iret hx hb hr hlk hQ dJ10_checkIndex_17 (by rfl)
  · have c_6n := Nat.not_lt.mpr c_6
    exact absurd h1 (by omega)
theorem cs_J10_checkIndex {R : Room} {s : State} {args : Array Value} {own : String} {index : Nat} (hts : ∀ w ∈ lw_all, w.before args s = true) (hl : Cond.methodLink own index yJ10_checkIndex ∈ lw_all) {rm : Room} {mc ms : Nat} (hR : rm.frames + 1 ≤ R.frames ∧ 8 + (3 + 11) + rm.locals ≤ R.locals) (hc : rm.cells = mc := by rfl) (hs : rm.slots = ms := by rfl) : CallB R s args own index yJ10_checkIndex cJ10_checkIndex 3 (some .int) (ws_ yJ10_checkIndex cJ10_checkIndex 3 (some .int)) rm mc ms 3 ∧ (Cond.static yJ10_checkIndex).before args s = true := va_cwS 3 hts (lw_S hl q593 q83 q594) rfl hc hs (by decide +kernel) hR
set_option maxHeartbeats 4000000 in
theorem m_J15_checkIndex (l : Launch) (D : va_G) (ca : Nat → ClassId) (i : Nat) (n : Nat) (h1 : i < n) (h2 : n < 2147483648) : Met l yJ15_checkIndex (ws_ yJ15_checkIndex cJ15_checkIndex 2 (some .int)) (rmL 1) (PcR (K1 D ca) D [.int (nI i), .int (nI n)] []) (vp_Si (fun zr => zr = nI i)) 0 0 (fun _ => False) := by
  refine rd_head (by decide) (Nat.le_of_ble_eq_true rfl) ?_
  intro zp ze zs zm za zb zt zc ls zQ hx hb hml hr hlk hown hts hK hP hl hQ
  have hown : zs.vm.findClass RJ15 = some zm.cls := hown
  have hl : lv_has ls 2 [(0, .int (nI i)), (1, .int (nI n))] := hl
  have hF : CallFix zp zm zc cJ15_checkIndex 2 zs za lw_all RJ15 := ⟨hx, hb, hml, hown, hts⟩
  refine lv_iload_n hx hb dJ15_checkIndex_0 rfl (lv_at hl 0 rfl) ?_
  refine lv_iload_n hx hb dJ15_checkIndex_1 rfl (lv_at hl 1 rfl) ?_
  refine lv_null hx hb dJ15_checkIndex_2 ?_
  refine rd_callS hF (m_J10_checkIndex l D ca i n (by first | assumption | omega) (by first | assumption | omega)) (cs_J10_checkIndex hts q770 ⟨by decide, by decide⟩) (K1_mv D ca) hK (hP.sub [] rfl) rfl hl.1 rfl (Nat.le_of_ble_eq_true rfl) dJ15_checkIndex_3 ⟨Nat.zero_le _, Nat.zero_le _⟩ ?_
  exact rd_iret hx hb hr hlk hQ dJ15_checkIndex_6 (by rfl)
set_option maxHeartbeats 4000000 in
theorem m_J2_elementData (l : Launch) (D : va_G) (ca : Nat → ClassId) (h : Nat) (mo : Int32) (eo : Nat) (sz : Nat) (n : Nat) (f : Nat → Option Nat) (i : Nat) (a : Nat) (h1 : i < n) (h2 : n < 2147483648) (hfa : f i = some a) : Met l yJ2_elementData (ws_ yJ2_elementData cJ2_elementData 2 (some (.object "java/lang/Object"))) (rmL 0) (PcR (K1 D ca) D [.ref h, .int (nI i)] [(h, .inr (13, [.int mo, .ref eo, .int (nI sz)])), (eo, .inl (ca 7, n, .inr (.inr (.inr (.inr f)))))]) (vrS (.ref a)) 0 0 (fun _ => False) := by
  refine rd_head (by decide) (Nat.le_of_ble_eq_true rfl) ?_
  intro zp ze zs zm za zb zt zc ls zQ hx hb hml hr hlk hown hts hK hP hl hQ
  have hown : zs.vm.findClass RJ2 = some zm.cls := hown
  have hl : lv_has ls 2 [(0, .ref h), (1, .int (nI i))] := hl
  have hF : CallFix zp zm zc cJ2_elementData 2 zs za lw_all RJ2 := ⟨hx, hb, hml, hown, hts⟩
  refine lv_aload_n hx hb dJ2_elementData_0 rfl (lv_at hl 0 rfl) ?_
  refine va_get (D := D) (ci := 13) (v := .ref eo) (C := RJ2) (T := TJ2) (N := 3) hx hb hts in_J2 hown hK hP 0 rfl rfl 1 (by decide) (hts _ q121) (fun _ h9 => h9) rfl dJ2_elementData_1 ?_
  refine lv_iload_n hx hb dJ2_elementData_4 rfl (lv_at hl 1 rfl) ?_
  refine wn_aald (v := .ref a) hx hb hK hP 1 7 rfl rfl (by omega) (by first | decide | omega) (by rw [hfa]; rfl) dJ2_elementData_5 ?_
  exact rd_aret hx hb hr (by first | exact Or.inl ⟨_, rfl⟩ | exact Or.inr ⟨_, rfl⟩) hlk hQ dJ2_elementData_6 (by first | exact Or.inr ⟨_, rfl⟩ | exact Or.inl rfl)
theorem cs_J15_checkIndex {R : Room} {s : State} {args : Array Value} {own : String} {index : Nat} (hts : ∀ w ∈ lw_all, w.before args s = true) (hl : Cond.methodLink own index yJ15_checkIndex ∈ lw_all) {rm : Room} {mc ms : Nat} (hR : rm.frames + 1 ≤ R.frames ∧ 8 + (2 + 11) + rm.locals ≤ R.locals) (hc : rm.cells = mc := by rfl) (hs : rm.slots = ms := by rfl) : CallB R s args own index yJ15_checkIndex cJ15_checkIndex 2 (some .int) (ws_ yJ15_checkIndex cJ15_checkIndex 2 (some .int)) rm mc ms 2 ∧ (Cond.static yJ15_checkIndex).before args s = true := va_cwS 2 hts (lw_S hl q768 q88 q769) rfl hc hs (by decide +kernel) hR
theorem cs_J2_elementData {R : Room} {s : State} {args : Array Value} {own : String} {index : Nat} (hts : ∀ w ∈ lw_all, w.before args s = true) (hl : Cond.methodLink own index yJ2_elementData ∈ lw_all) {rm : Room} {mc ms : Nat} (hR : rm.frames + 1 ≤ R.frames ∧ 8 + (2 + 11) + rm.locals ≤ R.locals) (hc : rm.cells = mc := by rfl) (hs : rm.slots = ms := by rfl) : CallW R s args own RJ2 index yJ2_elementData cJ2_elementData 2 (some (.object "java/lang/Object")) (ws_ yJ2_elementData cJ2_elementData 2 (some (.object "java/lang/Object"))) rm mc ms 1 := cwV 1 hts (lw_V hl q772 q773 q62 q774) rfl hc hs (by decide +kernel) hR
set_option maxHeartbeats 4000000 in
theorem m_J2_get (l : Launch) (D : va_G) (ca : Nat → ClassId) (h : Nat) (mo : Int32) (eo : Nat) (sz : Nat) (n : Nat) (f : Nat → Option Nat) (i : Nat) (a : Nat) (h1 : i < sz) (h1b : sz ≤ n) (h2 : n < 2147483648) (hfa : f i = some a) : Met l yJ2_get (ws_ yJ2_get cJ2_get 2 (some (.object "java/lang/Object"))) (rmL 2) (PcR (K1 D ca) D [.ref h, .int (nI i)] [(h, .inr (13, [.int mo, .ref eo, .int (nI sz)])), (eo, .inl (ca 7, n, .inr (.inr (.inr (.inr f)))))]) (vrS (.ref a)) 0 0 (fun _ => False) := by
  refine rd_head (by decide) (Nat.le_of_ble_eq_true rfl) ?_
  intro zp ze zs zm za zb zt zc ls zQ hx hb hml hr hlk hown hts hK hP hl hQ
  have hown : zs.vm.findClass RJ2 = some zm.cls := hown
  have hl : lv_has ls 2 [(0, .ref h), (1, .int (nI i))] := hl
  have hF : CallFix zp zm zc cJ2_get 2 zs za lw_all RJ2 := ⟨hx, hb, hml, hown, hts⟩
  refine lv_iload_n hx hb dJ2_get_0 rfl (lv_at hl 1 rfl) ?_
  refine lv_aload_n hx hb dJ2_get_1 rfl (lv_at hl 0 rfl) ?_
  refine va_get (D := D) (ci := 13) (v := .int (nI sz)) (C := RJ2) (T := TJ2) (N := 3) hx hb hts in_J2 hown hK hP 0 rfl rfl 2 (by decide) (hts _ q122) (fun _ h9 => h9) rfl dJ2_get_2 ?_
  refine rd_callS hF (m_J15_checkIndex l D ca i sz (by first | assumption | omega) (by first | assumption | omega)) (cs_J15_checkIndex hts q767 ⟨by decide, by decide⟩) (K1_mv D ca) hK (hP.sub [] rfl) rfl hl.1 rfl (Nat.le_of_ble_eq_true rfl) dJ2_get_5 ⟨Nat.zero_le _, Nat.zero_le _⟩ ?_
  refine lv_pop hx hb dJ2_get_8 rfl ?_
  refine lv_aload_n hx hb dJ2_get_9 rfl (lv_at hl 0 rfl) ?_
  refine lv_iload_n hx hb dJ2_get_10 rfl (lv_at hl 1 rfl) ?_
  refine rd_callVr hF (m_J2_elementData l D ca h mo eo sz n f i a (by first | assumption | omega) (by first | assumption | omega) (by assumption)) (cs_J2_elementData hts q771 ⟨by decide, by decide⟩) (K1_mv D ca) hK (hP.sub [0, 1] rfl) (va_recv hK hP (ci := 13) (q0 := 0) rfl rfl) rfl hl.1 rfl (Nat.le_of_ble_eq_true rfl) dJ2_get_11 ⟨Nat.zero_le _, Nat.zero_le _⟩ ?_
  exact rd_aret hx hb hr (by first | exact Or.inl ⟨_, rfl⟩ | exact Or.inr ⟨_, rfl⟩) hlk hQ dJ2_get_14 (by first | exact Or.inr ⟨_, rfl⟩ | exact Or.inl rfl)
set_option maxHeartbeats 4000000 in
theorem m_J16_bitCount (l : Launch) (D : va_G) (ca : Nat → ClassId) (set : Nat) (h1 : set < 256) : Met l yJ16_bitCount (ws_ yJ16_bitCount cJ16_bitCount 1 (some .int)) (rmL 0) (PcR (K1 D ca) D [.int (nI set)] []) (vp_Si (fun zr => zr = nI (bitN set 8))) 0 0 (fun _ => False) := by
  refine rd_head (by decide) (Nat.le_of_ble_eq_true rfl) ?_
  intro zp ze zs zm za zb zt zc ls zQ hx hb hml hr hlk hown hts hK hP hl hQ
  have hown : zs.vm.findClass RJ16 = some zm.cls := hown
  have hl : lv_has ls 1 [(0, .int (nI set))] := hl
  have hF : CallFix zp zm zc cJ16_bitCount 1 zs za lw_all RJ16 := ⟨hx, hb, hml, hown, hts⟩
  refine lv_iload_n hx hb dJ16_bitCount_0 rfl (lv_at hl 0 rfl) ?_
  refine lv_iload_n hx hb dJ16_bitCount_1 rfl (lv_at hl 0 rfl) ?_
  refine lv_iconst (v := nI 1) hx hb dJ16_bitCount_2 rfl ?_
  refine lv_iushr (v := ((nI set).toUInt32 >>> ((nI 1).toUInt32 &&& Int32.toUInt32 31)).toInt32) hx hb dJ16_bitCount_3 rfl ?_
  refine lv_ldcw (v := nI 1431655765) hx hb hown (hts _ q836) dJ16_bitCount_4 ?_
  refine lv_iand hx hb dJ16_bitCount_7 ?_
  refine lv_isub hx hb dJ16_bitCount_8 ?_
  refine lv_istore_n (lv' := [(0, .int ((nI set) - ((((nI set).toUInt32 >>> ((nI 1).toUInt32 &&& Int32.toUInt32 31)).toInt32) &&& (nI 1431655765))))]) hx hb dJ16_bitCount_9 rfl hl (by decide) rfl (fun ls hl => ?_)
  refine lv_iload_n hx hb dJ16_bitCount_10 rfl (lv_at hl 0 rfl) ?_
  refine lv_ldcw (v := nI 858993459) hx hb hown (hts _ q837) dJ16_bitCount_11 ?_
  refine lv_iand hx hb dJ16_bitCount_14 ?_
  refine lv_iload_n hx hb dJ16_bitCount_15 rfl (lv_at hl 0 rfl) ?_
  refine lv_iconst (v := nI 2) hx hb dJ16_bitCount_16 rfl ?_
  refine lv_iushr (v := (((nI set) - ((((nI set).toUInt32 >>> ((nI 1).toUInt32 &&& Int32.toUInt32 31)).toInt32) &&& (nI 1431655765))).toUInt32 >>> ((nI 2).toUInt32 &&& Int32.toUInt32 31)).toInt32) hx hb dJ16_bitCount_17 rfl ?_
  refine lv_ldcw (v := nI 858993459) hx hb hown (hts _ q837) dJ16_bitCount_18 ?_
  refine lv_iand hx hb dJ16_bitCount_21 ?_
  refine lv_iadd hx hb dJ16_bitCount_22 ?_
  refine lv_istore_n (lv' := [(0, .int ((((nI set) - ((((nI set).toUInt32 >>> ((nI 1).toUInt32 &&& Int32.toUInt32 31)).toInt32) &&& (nI 1431655765))) &&& (nI 858993459)) + (((((nI set) - ((((nI set).toUInt32 >>> ((nI 1).toUInt32 &&& Int32.toUInt32 31)).toInt32) &&& (nI 1431655765))).toUInt32 >>> ((nI 2).toUInt32 &&& Int32.toUInt32 31)).toInt32) &&& (nI 858993459))))]) hx hb dJ16_bitCount_23 rfl hl (by decide) rfl (fun ls hl => ?_)
  refine lv_iload_n hx hb dJ16_bitCount_24 rfl (lv_at hl 0 rfl) ?_
  refine lv_iload_n hx hb dJ16_bitCount_25 rfl (lv_at hl 0 rfl) ?_
  refine lv_iconst (v := nI 4) hx hb dJ16_bitCount_26 rfl ?_
  refine lv_iushr (v := (((((nI set) - ((((nI set).toUInt32 >>> ((nI 1).toUInt32 &&& Int32.toUInt32 31)).toInt32) &&& (nI 1431655765))) &&& (nI 858993459)) + (((((nI set) - ((((nI set).toUInt32 >>> ((nI 1).toUInt32 &&& Int32.toUInt32 31)).toInt32) &&& (nI 1431655765))).toUInt32 >>> ((nI 2).toUInt32 &&& Int32.toUInt32 31)).toInt32) &&& (nI 858993459))).toUInt32 >>> ((nI 4).toUInt32 &&& Int32.toUInt32 31)).toInt32) hx hb dJ16_bitCount_27 rfl ?_
  refine lv_iadd hx hb dJ16_bitCount_28 ?_
  refine lv_ldcw (v := nI 252645135) hx hb hown (hts _ q838) dJ16_bitCount_29 ?_
  refine lv_iand hx hb dJ16_bitCount_32 ?_
  refine lv_istore_n (lv' := [(0, .int ((((((nI set) - ((((nI set).toUInt32 >>> ((nI 1).toUInt32 &&& Int32.toUInt32 31)).toInt32) &&& (nI 1431655765))) &&& (nI 858993459)) + (((((nI set) - ((((nI set).toUInt32 >>> ((nI 1).toUInt32 &&& Int32.toUInt32 31)).toInt32) &&& (nI 1431655765))).toUInt32 >>> ((nI 2).toUInt32 &&& Int32.toUInt32 31)).toInt32) &&& (nI 858993459))) + ((((((nI set) - ((((nI set).toUInt32 >>> ((nI 1).toUInt32 &&& Int32.toUInt32 31)).toInt32) &&& (nI 1431655765))) &&& (nI 858993459)) + (((((nI set) - ((((nI set).toUInt32 >>> ((nI 1).toUInt32 &&& Int32.toUInt32 31)).toInt32) &&& (nI 1431655765))).toUInt32 >>> ((nI 2).toUInt32 &&& Int32.toUInt32 31)).toInt32) &&& (nI 858993459))).toUInt32 >>> ((nI 4).toUInt32 &&& Int32.toUInt32 31)).toInt32)) &&& (nI 252645135)))]) hx hb dJ16_bitCount_33 rfl hl (by decide) rfl (fun ls hl => ?_)
  refine lv_iload_n hx hb dJ16_bitCount_34 rfl (lv_at hl 0 rfl) ?_
  refine lv_iload_n hx hb dJ16_bitCount_35 rfl (lv_at hl 0 rfl) ?_
  refine lv_bipush (v := nI 8) hx hb dJ16_bitCount_36 rfl ?_
  refine lv_iushr (v := (((((((nI set) - ((((nI set).toUInt32 >>> ((nI 1).toUInt32 &&& Int32.toUInt32 31)).toInt32) &&& (nI 1431655765))) &&& (nI 858993459)) + (((((nI set) - ((((nI set).toUInt32 >>> ((nI 1).toUInt32 &&& Int32.toUInt32 31)).toInt32) &&& (nI 1431655765))).toUInt32 >>> ((nI 2).toUInt32 &&& Int32.toUInt32 31)).toInt32) &&& (nI 858993459))) + ((((((nI set) - ((((nI set).toUInt32 >>> ((nI 1).toUInt32 &&& Int32.toUInt32 31)).toInt32) &&& (nI 1431655765))) &&& (nI 858993459)) + (((((nI set) - ((((nI set).toUInt32 >>> ((nI 1).toUInt32 &&& Int32.toUInt32 31)).toInt32) &&& (nI 1431655765))).toUInt32 >>> ((nI 2).toUInt32 &&& Int32.toUInt32 31)).toInt32) &&& (nI 858993459))).toUInt32 >>> ((nI 4).toUInt32 &&& Int32.toUInt32 31)).toInt32)) &&& (nI 252645135)).toUInt32 >>> ((nI 8).toUInt32 &&& Int32.toUInt32 31)).toInt32) hx hb dJ16_bitCount_38 rfl ?_
  refine lv_iadd hx hb dJ16_bitCount_39 ?_
  refine lv_istore_n (lv' := [(0, .int (((((((nI set) - ((((nI set).toUInt32 >>> ((nI 1).toUInt32 &&& Int32.toUInt32 31)).toInt32) &&& (nI 1431655765))) &&& (nI 858993459)) + (((((nI set) - ((((nI set).toUInt32 >>> ((nI 1).toUInt32 &&& Int32.toUInt32 31)).toInt32) &&& (nI 1431655765))).toUInt32 >>> ((nI 2).toUInt32 &&& Int32.toUInt32 31)).toInt32) &&& (nI 858993459))) + ((((((nI set) - ((((nI set).toUInt32 >>> ((nI 1).toUInt32 &&& Int32.toUInt32 31)).toInt32) &&& (nI 1431655765))) &&& (nI 858993459)) + (((((nI set) - ((((nI set).toUInt32 >>> ((nI 1).toUInt32 &&& Int32.toUInt32 31)).toInt32) &&& (nI 1431655765))).toUInt32 >>> ((nI 2).toUInt32 &&& Int32.toUInt32 31)).toInt32) &&& (nI 858993459))).toUInt32 >>> ((nI 4).toUInt32 &&& Int32.toUInt32 31)).toInt32)) &&& (nI 252645135)) + ((((((((nI set) - ((((nI set).toUInt32 >>> ((nI 1).toUInt32 &&& Int32.toUInt32 31)).toInt32) &&& (nI 1431655765))) &&& (nI 858993459)) + (((((nI set) - ((((nI set).toUInt32 >>> ((nI 1).toUInt32 &&& Int32.toUInt32 31)).toInt32) &&& (nI 1431655765))).toUInt32 >>> ((nI 2).toUInt32 &&& Int32.toUInt32 31)).toInt32) &&& (nI 858993459))) + ((((((nI set) - ((((nI set).toUInt32 >>> ((nI 1).toUInt32 &&& Int32.toUInt32 31)).toInt32) &&& (nI 1431655765))) &&& (nI 858993459)) + (((((nI set) - ((((nI set).toUInt32 >>> ((nI 1).toUInt32 &&& Int32.toUInt32 31)).toInt32) &&& (nI 1431655765))).toUInt32 >>> ((nI 2).toUInt32 &&& Int32.toUInt32 31)).toInt32) &&& (nI 858993459))).toUInt32 >>> ((nI 4).toUInt32 &&& Int32.toUInt32 31)).toInt32)) &&& (nI 252645135)).toUInt32 >>> ((nI 8).toUInt32 &&& Int32.toUInt32 31)).toInt32)))]) hx hb dJ16_bitCount_40 rfl hl (by decide) rfl (fun ls hl => ?_)
  refine lv_iload_n hx hb dJ16_bitCount_41 rfl (lv_at hl 0 rfl) ?_
  refine lv_iload_n hx hb dJ16_bitCount_42 rfl (lv_at hl 0 rfl) ?_
  refine lv_bipush (v := nI 16) hx hb dJ16_bitCount_43 rfl ?_
  refine lv_iushr (v := ((((((((nI set) - ((((nI set).toUInt32 >>> ((nI 1).toUInt32 &&& Int32.toUInt32 31)).toInt32) &&& (nI 1431655765))) &&& (nI 858993459)) + (((((nI set) - ((((nI set).toUInt32 >>> ((nI 1).toUInt32 &&& Int32.toUInt32 31)).toInt32) &&& (nI 1431655765))).toUInt32 >>> ((nI 2).toUInt32 &&& Int32.toUInt32 31)).toInt32) &&& (nI 858993459))) + ((((((nI set) - ((((nI set).toUInt32 >>> ((nI 1).toUInt32 &&& Int32.toUInt32 31)).toInt32) &&& (nI 1431655765))) &&& (nI 858993459)) + (((((nI set) - ((((nI set).toUInt32 >>> ((nI 1).toUInt32 &&& Int32.toUInt32 31)).toInt32) &&& (nI 1431655765))).toUInt32 >>> ((nI 2).toUInt32 &&& Int32.toUInt32 31)).toInt32) &&& (nI 858993459))).toUInt32 >>> ((nI 4).toUInt32 &&& Int32.toUInt32 31)).toInt32)) &&& (nI 252645135)) + ((((((((nI set) - ((((nI set).toUInt32 >>> ((nI 1).toUInt32 &&& Int32.toUInt32 31)).toInt32) &&& (nI 1431655765))) &&& (nI 858993459)) + (((((nI set) - ((((nI set).toUInt32 >>> ((nI 1).toUInt32 &&& Int32.toUInt32 31)).toInt32) &&& (nI 1431655765))).toUInt32 >>> ((nI 2).toUInt32 &&& Int32.toUInt32 31)).toInt32) &&& (nI 858993459))) + ((((((nI set) - ((((nI set).toUInt32 >>> ((nI 1).toUInt32 &&& Int32.toUInt32 31)).toInt32) &&& (nI 1431655765))) &&& (nI 858993459)) + (((((nI set) - ((((nI set).toUInt32 >>> ((nI 1).toUInt32 &&& Int32.toUInt32 31)).toInt32) &&& (nI 1431655765))).toUInt32 >>> ((nI 2).toUInt32 &&& Int32.toUInt32 31)).toInt32) &&& (nI 858993459))).toUInt32 >>> ((nI 4).toUInt32 &&& Int32.toUInt32 31)).toInt32)) &&& (nI 252645135)).toUInt32 >>> ((nI 8).toUInt32 &&& Int32.toUInt32 31)).toInt32)).toUInt32 >>> ((nI 16).toUInt32 &&& Int32.toUInt32 31)).toInt32) hx hb dJ16_bitCount_45 rfl ?_
  refine lv_iadd hx hb dJ16_bitCount_46 ?_
  refine lv_istore_n (lv' := [(0, .int ((((((((nI set) - ((((nI set).toUInt32 >>> ((nI 1).toUInt32 &&& Int32.toUInt32 31)).toInt32) &&& (nI 1431655765))) &&& (nI 858993459)) + (((((nI set) - ((((nI set).toUInt32 >>> ((nI 1).toUInt32 &&& Int32.toUInt32 31)).toInt32) &&& (nI 1431655765))).toUInt32 >>> ((nI 2).toUInt32 &&& Int32.toUInt32 31)).toInt32) &&& (nI 858993459))) + ((((((nI set) - ((((nI set).toUInt32 >>> ((nI 1).toUInt32 &&& Int32.toUInt32 31)).toInt32) &&& (nI 1431655765))) &&& (nI 858993459)) + (((((nI set) - ((((nI set).toUInt32 >>> ((nI 1).toUInt32 &&& Int32.toUInt32 31)).toInt32) &&& (nI 1431655765))).toUInt32 >>> ((nI 2).toUInt32 &&& Int32.toUInt32 31)).toInt32) &&& (nI 858993459))).toUInt32 >>> ((nI 4).toUInt32 &&& Int32.toUInt32 31)).toInt32)) &&& (nI 252645135)) + ((((((((nI set) - ((((nI set).toUInt32 >>> ((nI 1).toUInt32 &&& Int32.toUInt32 31)).toInt32) &&& (nI 1431655765))) &&& (nI 858993459)) + (((((nI set) - ((((nI set).toUInt32 >>> ((nI 1).toUInt32 &&& Int32.toUInt32 31)).toInt32) &&& (nI 1431655765))).toUInt32 >>> ((nI 2).toUInt32 &&& Int32.toUInt32 31)).toInt32) &&& (nI 858993459))) + ((((((nI set) - ((((nI set).toUInt32 >>> ((nI 1).toUInt32 &&& Int32.toUInt32 31)).toInt32) &&& (nI 1431655765))) &&& (nI 858993459)) + (((((nI set) - ((((nI set).toUInt32 >>> ((nI 1).toUInt32 &&& Int32.toUInt32 31)).toInt32) &&& (nI 1431655765))).toUInt32 >>> ((nI 2).toUInt32 &&& Int32.toUInt32 31)).toInt32) &&& (nI 858993459))).toUInt32 >>> ((nI 4).toUInt32 &&& Int32.toUInt32 31)).toInt32)) &&& (nI 252645135)).toUInt32 >>> ((nI 8).toUInt32 &&& Int32.toUInt32 31)).toInt32)) + (((((((((nI set) - ((((nI set).toUInt32 >>> ((nI 1).toUInt32 &&& Int32.toUInt32 31)).toInt32) &&& (nI 1431655765))) &&& (nI 858993459)) + (((((nI set) - ((((nI set).toUInt32 >>> ((nI 1).toUInt32 &&& Int32.toUInt32 31)).toInt32) &&& (nI 1431655765))).toUInt32 >>> ((nI 2).toUInt32 &&& Int32.toUInt32 31)).toInt32) &&& (nI 858993459))) + ((((((nI set) - ((((nI set).toUInt32 >>> ((nI 1).toUInt32 &&& Int32.toUInt32 31)).toInt32) &&& (nI 1431655765))) &&& (nI 858993459)) + (((((nI set) - ((((nI set).toUInt32 >>> ((nI 1).toUInt32 &&& Int32.toUInt32 31)).toInt32) &&& (nI 1431655765))).toUInt32 >>> ((nI 2).toUInt32 &&& Int32.toUInt32 31)).toInt32) &&& (nI 858993459))).toUInt32 >>> ((nI 4).toUInt32 &&& Int32.toUInt32 31)).toInt32)) &&& (nI 252645135)) + ((((((((nI set) - ((((nI set).toUInt32 >>> ((nI 1).toUInt32 &&& Int32.toUInt32 31)).toInt32) &&& (nI 1431655765))) &&& (nI 858993459)) + (((((nI set) - ((((nI set).toUInt32 >>> ((nI 1).toUInt32 &&& Int32.toUInt32 31)).toInt32) &&& (nI 1431655765))).toUInt32 >>> ((nI 2).toUInt32 &&& Int32.toUInt32 31)).toInt32) &&& (nI 858993459))) + ((((((nI set) - ((((nI set).toUInt32 >>> ((nI 1).toUInt32 &&& Int32.toUInt32 31)).toInt32) &&& (nI 1431655765))) &&& (nI 858993459)) + (((((nI set) - ((((nI set).toUInt32 >>> ((nI 1).toUInt32 &&& Int32.toUInt32 31)).toInt32) &&& (nI 1431655765))).toUInt32 >>> ((nI 2).toUInt32 &&& Int32.toUInt32 31)).toInt32) &&& (nI 858993459))).toUInt32 >>> ((nI 4).toUInt32 &&& Int32.toUInt32 31)).toInt32)) &&& (nI 252645135)).toUInt32 >>> ((nI 8).toUInt32 &&& Int32.toUInt32 31)).toInt32)).toUInt32 >>> ((nI 16).toUInt32 &&& Int32.toUInt32 31)).toInt32)))]) hx hb dJ16_bitCount_47 rfl hl (by decide) rfl (fun ls hl => ?_)
  refine lv_iload_n hx hb dJ16_bitCount_48 rfl (lv_at hl 0 rfl) ?_
  refine lv_bipush (v := nI 63) hx hb dJ16_bitCount_49 rfl ?_
  refine lv_iand hx hb dJ16_bitCount_51 ?_
  exact rd_iret hx hb hr hlk hQ dJ16_bitCount_52 (by exact bc_all set h1)
set_option maxHeartbeats 4000000 in
theorem m_J16_signum (l : Launch) (D : va_G) (ca : Nat → ClassId) (x : Int32)  : Met l yJ16_signum (ws_ yJ16_signum cJ16_signum 1 (some .int)) (rmL 0) (PcR (K1 D ca) D [.int x] []) (vp_Si (fun zr => zr = sgI x)) 0 0 (fun _ => False) := by
  refine rd_head (by decide) (Nat.le_of_ble_eq_true rfl) ?_
  intro zp ze zs zm za zb zt zc ls zQ hx hb hml hr hlk hown hts hK hP hl hQ
  have hown : zs.vm.findClass RJ16 = some zm.cls := hown
  have hl : lv_has ls 1 [(0, .int x)] := hl
  have hF : CallFix zp zm zc cJ16_signum 1 zs za lw_all RJ16 := ⟨hx, hb, hml, hown, hts⟩
  refine lv_iload_n hx hb dJ16_signum_0 rfl (lv_at hl 0 rfl) ?_
  refine lv_bipush (v := nI 31) hx hb dJ16_signum_1 rfl ?_
  refine lv_ishr hx hb dJ16_signum_3 ?_
  refine lv_iload_n hx hb dJ16_signum_4 rfl (lv_at hl 0 rfl) ?_
  refine lv_ineg hx hb dJ16_signum_5 ?_
  refine lv_bipush (v := nI 31) hx hb dJ16_signum_6 rfl ?_
  refine lv_iushr (v := ((-x).toUInt32 >>> ((nI 31).toUInt32 &&& Int32.toUInt32 31)).toInt32) hx hb dJ16_signum_8 rfl ?_
  refine lv_ior hx hb dJ16_signum_9 ?_
  exact rd_iret hx hb hr hlk hQ dJ16_signum_10 (by rfl)
set_option maxHeartbeats 4000000 in
theorem m_X3_seen (l : Launch) (D : va_G) (ca : Nat → ClassId) (h : Nat) (sh : Nat) (cr : Nat) (ea : Nat)  : Met l yX3_seen (ws_ yX3_seen cX3_seen 4 (some .int)) (rmL 0) (PcR (K1 D ca) D [.ref h, .int (nI sh), .int (nI cr), .int (nI ea)] []) (vp_Si (fun zr => zr = nI sh)) 0 0 (fun _ => False) := by
  refine rd_head (by decide) (Nat.le_of_ble_eq_true rfl) ?_
  intro zp ze zs zm za zb zt zc ls zQ hx hb hml hr hlk hown hts hK hP hl hQ
  have hown : zs.vm.findClass RX3 = some zm.cls := hown
  have hl : lv_has ls 4 [(0, .ref h), (1, .int (nI sh)), (2, .int (nI cr)), (3, .int (nI ea))] := hl
  have hF : CallFix zp zm zc cX3_seen 4 zs za lw_all RX3 := ⟨hx, hb, hml, hown, hts⟩
  refine lv_iload_n hx hb dX3_seen_0 rfl (lv_at hl 1 rfl) ?_
  exact rd_iret hx hb hr hlk hQ dX3_seen_1 (by rfl)
set_option maxHeartbeats 4000000 in
theorem m_X3_counts (l : Launch) (D : va_G) (ca : Nat → ClassId) (h : Nat)  : Met l yX3_counts (ws_ yX3_counts cX3_counts 1 (some .boolean)) (rmL 0) (PcR (K1 D ca) D [.ref h] []) (vp_Si (fun zr => zr = bI false)) 0 0 (fun _ => False) := by
  refine rd_head (by decide) (Nat.le_of_ble_eq_true rfl) ?_
  intro zp ze zs zm za zb zt zc ls zQ hx hb hml hr hlk hown hts hK hP hl hQ
  have hown : zs.vm.findClass RX3 = some zm.cls := hown
  have hl : lv_has ls 1 [(0, .ref h)] := hl
  have hF : CallFix zp zm zc cX3_counts 1 zs za lw_all RX3 := ⟨hx, hb, hml, hown, hts⟩
  refine lv_iconst (v := nI 0) hx hb dX3_counts_0 rfl ?_
  refine W.eq (g2 := F0 zm 1 ls [.int (bI false)]) rfl ?_
  exact rd_zret hx hb hr hlk hQ dX3_counts_1 (by rfl)
set_option maxHeartbeats 4000000 in
theorem m_X4_counts (l : Launch) (D : va_G) (ca : Nat → ClassId) (h : Nat)  : Met l yX4_counts (ws_ yX4_counts cX4_counts 1 (some .boolean)) (rmL 0) (PcR (K1 D ca) D [.ref h] []) (vp_Si (fun zr => zr = bI true)) 0 0 (fun _ => False) := by
  refine rd_head (by decide) (Nat.le_of_ble_eq_true rfl) ?_
  intro zp ze zs zm za zb zt zc ls zQ hx hb hml hr hlk hown hts hK hP hl hQ
  have hown : zs.vm.findClass RX4 = some zm.cls := hown
  have hl : lv_has ls 1 [(0, .ref h)] := hl
  have hF : CallFix zp zm zc cX4_counts 1 zs za lw_all RX4 := ⟨hx, hb, hml, hown, hts⟩
  refine lv_iconst (v := nI 1) hx hb dX4_counts_0 rfl ?_
  refine W.eq (g2 := F0 zm 1 ls [.int (bI true)]) rfl ?_
  exact rd_zret hx hb hr hlk hQ dX4_counts_1 (by rfl)
set_option maxHeartbeats 4000000 in
theorem m_X4_kind (l : Launch) (D : va_G) (ca : Nat → ClassId) (h : Nat)  : Met l yX4_kind (ws_ yX4_kind cX4_kind 1 (some .int)) (rmL 0) (PcR (K1 D ca) D [.ref h] []) (vp_Si (fun zr => zr = nI 1)) 0 0 (fun _ => False) := by
  refine rd_head (by decide) (Nat.le_of_ble_eq_true rfl) ?_
  intro zp ze zs zm za zb zt zc ls zQ hx hb hml hr hlk hown hts hK hP hl hQ
  have hown : zs.vm.findClass RX4 = some zm.cls := hown
  have hl : lv_has ls 1 [(0, .ref h)] := hl
  have hF : CallFix zp zm zc cX4_kind 1 zs za lw_all RX4 := ⟨hx, hb, hml, hown, hts⟩
  refine lv_iconst (v := nI 1) hx hb dX4_kind_0 rfl ?_
  exact rd_iret hx hb hr hlk hQ dX4_kind_1 (by rfl)
set_option maxHeartbeats 4000000 in
theorem m_X5_kind (l : Launch) (D : va_G) (ca : Nat → ClassId) (h : Nat)  : Met l yX5_kind (ws_ yX5_kind cX5_kind 1 (some .int)) (rmL 0) (PcR (K1 D ca) D [.ref h] []) (vp_Si (fun zr => zr = nI 2)) 0 0 (fun _ => False) := by
  refine rd_head (by decide) (Nat.le_of_ble_eq_true rfl) ?_
  intro zp ze zs zm za zb zt zc ls zQ hx hb hml hr hlk hown hts hK hP hl hQ
  have hown : zs.vm.findClass RX5 = some zm.cls := hown
  have hl : lv_has ls 1 [(0, .ref h)] := hl
  have hF : CallFix zp zm zc cX5_kind 1 zs za lw_all RX5 := ⟨hx, hb, hml, hown, hts⟩
  refine lv_iconst (v := nI 2) hx hb dX5_kind_0 rfl ?_
  exact rd_iret hx hb hr hlk hQ dX5_kind_1 (by rfl)
set_option maxHeartbeats 4000000 in
theorem m_X6_kind (l : Launch) (D : va_G) (ca : Nat → ClassId) (h : Nat)  : Met l yX6_kind (ws_ yX6_kind cX6_kind 1 (some .int)) (rmL 0) (PcR (K1 D ca) D [.ref h] []) (vp_Si (fun zr => zr = nI 3)) 0 0 (fun _ => False) := by
  refine rd_head (by decide) (Nat.le_of_ble_eq_true rfl) ?_
  intro zp ze zs zm za zb zt zc ls zQ hx hb hml hr hlk hown hts hK hP hl hQ
  have hown : zs.vm.findClass RX6 = some zm.cls := hown
  have hl : lv_has ls 1 [(0, .ref h)] := hl
  have hF : CallFix zp zm zc cX6_kind 1 zs za lw_all RX6 := ⟨hx, hb, hml, hown, hts⟩
  refine lv_iconst (v := nI 3) hx hb dX6_kind_0 rfl ?_
  exact rd_iret hx hb hr hlk hQ dX6_kind_1 (by rfl)
set_option maxHeartbeats 4000000 in
theorem m_X7_kind (l : Launch) (D : va_G) (ca : Nat → ClassId) (h : Nat)  : Met l yX7_kind (ws_ yX7_kind cX7_kind 1 (some .int)) (rmL 0) (PcR (K1 D ca) D [.ref h] []) (vp_Si (fun zr => zr = nI 4)) 0 0 (fun _ => False) := by
  refine rd_head (by decide) (Nat.le_of_ble_eq_true rfl) ?_
  intro zp ze zs zm za zb zt zc ls zQ hx hb hml hr hlk hown hts hK hP hl hQ
  have hown : zs.vm.findClass RX7 = some zm.cls := hown
  have hl : lv_has ls 1 [(0, .ref h)] := hl
  have hF : CallFix zp zm zc cX7_kind 1 zs za lw_all RX7 := ⟨hx, hb, hml, hown, hts⟩
  refine lv_iconst (v := nI 4) hx hb dX7_kind_0 rfl ?_
  exact rd_iret hx hb hr hlk hQ dX7_kind_1 (by rfl)
set_option maxHeartbeats 4000000 in
theorem m_X8_kind (l : Launch) (D : va_G) (ca : Nat → ClassId) (h : Nat)  : Met l yX8_kind (ws_ yX8_kind cX8_kind 1 (some .int)) (rmL 0) (PcR (K1 D ca) D [.ref h] []) (vp_Si (fun zr => zr = nI 5)) 0 0 (fun _ => False) := by
  refine rd_head (by decide) (Nat.le_of_ble_eq_true rfl) ?_
  intro zp ze zs zm za zb zt zc ls zQ hx hb hml hr hlk hown hts hK hP hl hQ
  have hown : zs.vm.findClass RX8 = some zm.cls := hown
  have hl : lv_has ls 1 [(0, .ref h)] := hl
  have hF : CallFix zp zm zc cX8_kind 1 zs za lw_all RX8 := ⟨hx, hb, hml, hown, hts⟩
  refine lv_iconst (v := nI 5) hx hb dX8_kind_0 rfl ?_
  exact rd_iret hx hb hr hlk hQ dX8_kind_1 (by rfl)
set_option maxHeartbeats 4000000 in
theorem m_X3_number_X4 (l : Launch) (D : va_G) (ca : Nat → ClassId) (h : Nat) (v : Int32)  : Met l yX3_number (ws_ yX3_number cX3_number 1 (some .int)) (rmL 0) (PcR (K1 D ca) D [.ref h] [(h, .inr (3, [.int v]))]) (vp_Si (fun zr => zr = v)) 0 0 (fun _ => False) := by
  refine rd_head (by decide) (Nat.le_of_ble_eq_true rfl) ?_
  intro zp ze zs zm za zb zt zc ls zQ hx hb hml hr hlk hown hts hK hP hl hQ
  have hown : zs.vm.findClass RX3 = some zm.cls := hown
  have hl : lv_has ls 1 [(0, .ref h)] := hl
  have hF : CallFix zp zm zc cX3_number 1 zs za lw_all RX3 := ⟨hx, hb, hml, hown, hts⟩
  refine lv_aload_n hx hb dX3_number_0 rfl (lv_at hl 0 rfl) ?_
  refine va_get (D := D) (ci := 3) (v := .int v) (C := RX4) (T := TX4) (N := 1) hx hb hts in_X4 hown hK hP 0 rfl rfl 0 (by decide) (hts _ q220) (fun _ h9 => h9) rfl dX3_number_1 ?_
  exact rd_iret hx hb hr hlk hQ dX3_number_4 (by rfl)
set_option maxHeartbeats 4000000 in
theorem m_X3_number_X5 (l : Launch) (D : va_G) (ca : Nat → ClassId) (h : Nat) (v : Int32)  : Met l yX3_number (ws_ yX3_number cX3_number 1 (some .int)) (rmL 0) (PcR (K1 D ca) D [.ref h] [(h, .inr (4, [.int v]))]) (vp_Si (fun zr => zr = v)) 0 0 (fun _ => False) := by
  refine rd_head (by decide) (Nat.le_of_ble_eq_true rfl) ?_
  intro zp ze zs zm za zb zt zc ls zQ hx hb hml hr hlk hown hts hK hP hl hQ
  have hown : zs.vm.findClass RX3 = some zm.cls := hown
  have hl : lv_has ls 1 [(0, .ref h)] := hl
  have hF : CallFix zp zm zc cX3_number 1 zs za lw_all RX3 := ⟨hx, hb, hml, hown, hts⟩
  refine lv_aload_n hx hb dX3_number_0 rfl (lv_at hl 0 rfl) ?_
  refine va_get (D := D) (ci := 4) (v := .int v) (C := RX5) (T := TX5) (N := 1) hx hb hts in_X5 hown hK hP 0 rfl rfl 0 (by decide) (hts _ q220) (fun _ h9 => h9) rfl dX3_number_1 ?_
  exact rd_iret hx hb hr hlk hQ dX3_number_4 (by rfl)
set_option maxHeartbeats 4000000 in
theorem m_X3_number_X6 (l : Launch) (D : va_G) (ca : Nat → ClassId) (h : Nat) (v : Int32)  : Met l yX3_number (ws_ yX3_number cX3_number 1 (some .int)) (rmL 0) (PcR (K1 D ca) D [.ref h] [(h, .inr (5, [.int v]))]) (vp_Si (fun zr => zr = v)) 0 0 (fun _ => False) := by
  refine rd_head (by decide) (Nat.le_of_ble_eq_true rfl) ?_
  intro zp ze zs zm za zb zt zc ls zQ hx hb hml hr hlk hown hts hK hP hl hQ
  have hown : zs.vm.findClass RX3 = some zm.cls := hown
  have hl : lv_has ls 1 [(0, .ref h)] := hl
  have hF : CallFix zp zm zc cX3_number 1 zs za lw_all RX3 := ⟨hx, hb, hml, hown, hts⟩
  refine lv_aload_n hx hb dX3_number_0 rfl (lv_at hl 0 rfl) ?_
  refine va_get (D := D) (ci := 5) (v := .int v) (C := RX6) (T := TX6) (N := 1) hx hb hts in_X6 hown hK hP 0 rfl rfl 0 (by decide) (hts _ q220) (fun _ h9 => h9) rfl dX3_number_1 ?_
  exact rd_iret hx hb hr hlk hQ dX3_number_4 (by rfl)
set_option maxHeartbeats 4000000 in
theorem m_X3_number_X7 (l : Launch) (D : va_G) (ca : Nat → ClassId) (h : Nat) (v : Int32)  : Met l yX3_number (ws_ yX3_number cX3_number 1 (some .int)) (rmL 0) (PcR (K1 D ca) D [.ref h] [(h, .inr (6, [.int v]))]) (vp_Si (fun zr => zr = v)) 0 0 (fun _ => False) := by
  refine rd_head (by decide) (Nat.le_of_ble_eq_true rfl) ?_
  intro zp ze zs zm za zb zt zc ls zQ hx hb hml hr hlk hown hts hK hP hl hQ
  have hown : zs.vm.findClass RX3 = some zm.cls := hown
  have hl : lv_has ls 1 [(0, .ref h)] := hl
  have hF : CallFix zp zm zc cX3_number 1 zs za lw_all RX3 := ⟨hx, hb, hml, hown, hts⟩
  refine lv_aload_n hx hb dX3_number_0 rfl (lv_at hl 0 rfl) ?_
  refine va_get (D := D) (ci := 6) (v := .int v) (C := RX7) (T := TX7) (N := 1) hx hb hts in_X7 hown hK hP 0 rfl rfl 0 (by decide) (hts _ q220) (fun _ h9 => h9) rfl dX3_number_1 ?_
  exact rd_iret hx hb hr hlk hQ dX3_number_4 (by rfl)
set_option maxHeartbeats 4000000 in
theorem m_X3_number_X8 (l : Launch) (D : va_G) (ca : Nat → ClassId) (h : Nat) (v : Int32)  : Met l yX3_number (ws_ yX3_number cX3_number 1 (some .int)) (rmL 0) (PcR (K1 D ca) D [.ref h] [(h, .inr (7, [.int v]))]) (vp_Si (fun zr => zr = v)) 0 0 (fun _ => False) := by
  refine rd_head (by decide) (Nat.le_of_ble_eq_true rfl) ?_
  intro zp ze zs zm za zb zt zc ls zQ hx hb hml hr hlk hown hts hK hP hl hQ
  have hown : zs.vm.findClass RX3 = some zm.cls := hown
  have hl : lv_has ls 1 [(0, .ref h)] := hl
  have hF : CallFix zp zm zc cX3_number 1 zs za lw_all RX3 := ⟨hx, hb, hml, hown, hts⟩
  refine lv_aload_n hx hb dX3_number_0 rfl (lv_at hl 0 rfl) ?_
  refine va_get (D := D) (ci := 7) (v := .int v) (C := RX8) (T := TX8) (N := 1) hx hb hts in_X8 hown hK hP 0 rfl rfl 0 (by decide) (hts _ q220) (fun _ h9 => h9) rfl dX3_number_1 ?_
  exact rd_iret hx hb hr hlk hQ dX3_number_4 (by rfl)
set_option maxHeartbeats 4000000 in
theorem m_X5_seen (l : Launch) (D : va_G) (ca : Nat → ClassId) (h : Nat) (v : Int32) (sh : Nat) (cr : Nat) (ea : Nat) (h1 : sh ≤ 9) (h2 : cr ≤ 9) (h3 : ea ≤ 9) : Met l yX5_seen (ws_ yX5_seen cX5_seen 4 (some .int)) (rmL 1) (PcR (K1 D ca) D [.ref h, .int (nI sh), .int (nI cr), .int (nI ea)] [(h, .inr (4, [.int v]))]) (vp_Si (fun zr => zr = nI (seesN 2 sh cr ea))) 0 0 (fun _ => False) := by
  refine rd_head (by decide) (Nat.le_of_ble_eq_true rfl) ?_
  intro zp ze zs zm za zb zt zc ls zQ hx hb hml hr hlk hown hts hK hP hl hQ
  have hown : zs.vm.findClass RX5 = some zm.cls := hown
  have hl : lv_has ls 4 [(0, .ref h), (1, .int (nI sh)), (2, .int (nI cr)), (3, .int (nI ea))] := hl
  have hF : CallFix zp zm zc cX5_seen 4 zs za lw_all RX5 := ⟨hx, hb, hml, hown, hts⟩
  refine lv_iconst (v := nI 0) hx hb dX5_seen_0 rfl ?_
  refine lv_aload_n hx hb dX5_seen_1 rfl (lv_at hl 0 rfl) ?_
  refine lv_iload_n hx hb dX5_seen_2 rfl (lv_at hl 1 rfl) ?_
  refine lv_iload_n hx hb dX5_seen_3 rfl (lv_at hl 2 rfl) ?_
  refine lv_iload_n hx hb dX5_seen_4 rfl (lv_at hl 3 rfl) ?_
  refine rd_callSP (n := 3) (x := ⟨"LampSquares$Known", "seen", "(III)I"⟩) (owner := "LampSquares$Square") (hK.1 4 _ rfl).2 hF (m_X3_seen l D ca h sh cr ea ) q791 q786 q231 q780 q64 q800 rfl (Or.inr q223) rfl rfl (by decide +kernel) (by decide) (K1_mv D ca) hK (hP.sub [] rfl) (va_recv hK hP (ci := 4) (q0 := 0) rfl rfl) rfl hl.1 rfl (Nat.le_of_ble_eq_true rfl) dX5_seen_5 ⟨Nat.zero_le _, Nat.zero_le _⟩ ?_
  refine lv_iconst (v := nI 1) hx hb dX5_seen_8 rfl ?_
  refine lv_isub hx hb dX5_seen_9 ?_
  refine va_mmax hx hb (hml.trans hl.1.symm) hown (hts _ q792) (hts _ q664) (hts _ q86) (hts _ q665) (by decide) (by decide) (Nat.zero_le _) (Nat.zero_le _) dX5_seen_10 ?_
  exact rd_iret hx hb hr hlk hQ dX5_seen_13 (by exact edg_all sh (by omega))
set_option maxHeartbeats 4000000 in
theorem m_X6_seen (l : Launch) (D : va_G) (ca : Nat → ClassId) (h : Nat) (v : Int32) (sh : Nat) (cr : Nat) (ea : Nat) (h1 : sh ≤ 9) (h2 : cr ≤ 9) (h3 : ea ≤ 9) : Met l yX6_seen (ws_ yX6_seen cX6_seen 4 (some .int)) (rmL 1) (PcR (K1 D ca) D [.ref h, .int (nI sh), .int (nI cr), .int (nI ea)] [(h, .inr (5, [.int v]))]) (vp_Si (fun zr => zr = nI (seesN 3 sh cr ea))) 0 0 (fun _ => False) := by
  refine rd_head (by decide) (Nat.le_of_ble_eq_true rfl) ?_
  intro zp ze zs zm za zb zt zc ls zQ hx hb hml hr hlk hown hts hK hP hl hQ
  have hown : zs.vm.findClass RX6 = some zm.cls := hown
  have hl : lv_has ls 4 [(0, .ref h), (1, .int (nI sh)), (2, .int (nI cr)), (3, .int (nI ea))] := hl
  have hF : CallFix zp zm zc cX6_seen 4 zs za lw_all RX6 := ⟨hx, hb, hml, hown, hts⟩
  refine lv_iload_n hx hb dX6_seen_0 rfl (lv_at hl 2 rfl) ?_
  refine lv_iconst (v := nI 5) hx hb dX6_seen_1 rfl ?_
  refine wn_ge (tgt := 12) hx hb (by omega) (by omega) dX6_seen_2 (by decide) (fun c_2 => ?_) (fun c_2 => ?_)
  · have c_2n := Nat.not_lt.mpr c_2
    refine lv_aload_n hx hb dX6_seen_12 rfl (lv_at hl 0 rfl) ?_
    refine lv_iload_n hx hb dX6_seen_13 rfl (lv_at hl 1 rfl) ?_
    refine lv_iload_n hx hb dX6_seen_14 rfl (lv_at hl 2 rfl) ?_
    refine lv_iload_n hx hb dX6_seen_15 rfl (lv_at hl 3 rfl) ?_
    refine rd_callSP (n := 3) (x := ⟨"LampSquares$Known", "seen", "(III)I"⟩) (owner := "LampSquares$Square") (hK.1 5 _ rfl).2 hF (m_X3_seen l D ca h sh cr ea ) q785 q786 q239 q780 q64 q800 rfl (Or.inr q223) rfl rfl (by decide +kernel) (by decide) (K1_mv D ca) hK (hP.sub [] rfl) (va_recv hK hP (ci := 5) (q0 := 0) rfl rfl) rfl hl.1 rfl (Nat.le_of_ble_eq_true rfl) dX6_seen_16 ⟨Nat.zero_le _, Nat.zero_le _⟩ ?_
    exact rd_iret hx hb hr hlk hQ dX6_seen_19 (by refine congrArg nI ?_; show _ = (if cr < 5 then 9 - sh else sh); first | rw [if_pos (by omega)] | rw [if_neg (by omega)])
  · have c_2n := Nat.not_le.mpr c_2
    refine lv_bipush (v := nI 9) hx hb dX6_seen_5 rfl ?_
    refine lv_iload_n hx hb dX6_seen_7 rfl (lv_at hl 1 rfl) ?_
    refine wn_sub hx hb (by omega) dX6_seen_8 ?_
    refine lv_goto (tgt := 19) hx hb dX6_seen_9 (by decide) ?_
    exact rd_iret hx hb hr hlk hQ dX6_seen_19 (by refine congrArg nI ?_; show _ = (if cr < 5 then 9 - sh else sh); first | rw [if_pos (by omega)] | rw [if_neg (by omega)])
set_option maxHeartbeats 4000000 in
theorem m_X8_seen (l : Launch) (D : va_G) (ca : Nat → ClassId) (h : Nat) (v : Int32) (sh : Nat) (cr : Nat) (ea : Nat) (h1 : sh ≤ 9) (h2 : cr ≤ 9) (h3 : ea ≤ 9) : Met l yX8_seen (ws_ yX8_seen cX8_seen 4 (some .int)) (rmL 1) (PcR (K1 D ca) D [.ref h, .int (nI sh), .int (nI cr), .int (nI ea)] [(h, .inr (7, [.int v]))]) (vp_Si (fun zr => zr = nI (seesN 5 sh cr ea))) 0 0 (fun _ => False) := by
  refine rd_head (by decide) (Nat.le_of_ble_eq_true rfl) ?_
  intro zp ze zs zm za zb zt zc ls zQ hx hb hml hr hlk hown hts hK hP hl hQ
  have hown : zs.vm.findClass RX8 = some zm.cls := hown
  have hl : lv_has ls 4 [(0, .ref h), (1, .int (nI sh)), (2, .int (nI cr)), (3, .int (nI ea))] := hl
  have hF : CallFix zp zm zc cX8_seen 4 zs za lw_all RX8 := ⟨hx, hb, hml, hown, hts⟩
  refine lv_iload_n hx hb dX8_seen_0 rfl (lv_at hl 3 rfl) ?_
  refine lv_iconst (v := nI 5) hx hb dX8_seen_1 rfl ?_
  refine wn_ge (tgt := 9) hx hb (by omega) (by omega) dX8_seen_2 (by decide) (fun c_2 => ?_) (fun c_2 => ?_)
  · have c_2n := Nat.not_lt.mpr c_2
    refine lv_aload_n hx hb dX8_seen_9 rfl (lv_at hl 0 rfl) ?_
    refine lv_iload_n hx hb dX8_seen_10 rfl (lv_at hl 1 rfl) ?_
    refine lv_iload_n hx hb dX8_seen_11 rfl (lv_at hl 2 rfl) ?_
    refine lv_iload_n hx hb dX8_seen_12 rfl (lv_at hl 3 rfl) ?_
    refine rd_callSP (n := 3) (x := ⟨"LampSquares$Unknown", "seen", "(III)I"⟩) (owner := "LampSquares$Square") (hK.1 7 _ rfl).2 hF (m_X3_seen l D ca h sh cr ea ) q796 q797 q255 q780 q64 q800 rfl (Or.inr q247) rfl rfl (by decide +kernel) (by decide) (K1_mv D ca) hK (hP.sub [] rfl) (va_recv hK hP (ci := 7) (q0 := 0) rfl rfl) rfl hl.1 rfl (Nat.le_of_ble_eq_true rfl) dX8_seen_13 ⟨Nat.zero_le _, Nat.zero_le _⟩ ?_
    exact rd_iret hx hb hr hlk hQ dX8_seen_16 (by refine congrArg nI ?_; show _ = (if 5 ≤ ea then sh else 0); first | rw [if_pos (by omega)] | rw [if_neg (by omega)])
  · have c_2n := Nat.not_le.mpr c_2
    refine lv_iconst (v := nI 0) hx hb dX8_seen_5 rfl ?_
    refine lv_goto (tgt := 16) hx hb dX8_seen_6 (by decide) ?_
    exact rd_iret hx hb hr hlk hQ dX8_seen_16 (by refine congrArg nI ?_; show _ = (if 5 ≤ ea then sh else 0); first | rw [if_pos (by omega)] | rw [if_neg (by omega)])
