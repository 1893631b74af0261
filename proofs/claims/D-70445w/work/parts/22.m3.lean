set_option maxRecDepth 100000
set_option maxHeartbeats 4000000 in
theorem m_X9_allClickSo (l : Launch) (D : va_G) (ca : Nat → ClassId) (h : Nat) (fs : List Value) (a : Nat) (d : Nat → Nat) (it : Nat → Int32) (ai : Nat) (k : Nat) (sh : Nat) (fr : Nat) (hfs_5 : fs[5]? = some (.ref a)) (hd : dOK d) (hfs_4 : fs[4]? = some (.ref ai)) (hk : k ≤ 5) (hsh : sh ≤ 9) (hfr : fr + d 3 ≤ 320) : Met l yX9_allClickSo (ws_ yX9_allClickSo cX9_allClickSo 6 (some .boolean)) (rmL 2) (PcR (K1 D ca) D [.ref h, .int (nI k), .int (nI sh), .int (nI fr)] [(h, .inr (8, fs)), (a, .inl (ca 0, 64, .inl (dv d))), (ai, .inl (ca 0, 320, .inl it))]) (vp_Si (fun zr => zr = bI (allN (fun z => clkB k sh (d (44 + 4 * z + 0)) (d (44 + 4 * z + 1))) it fr (d 3)))) 0 0 (fun _ => False) := by
  refine rd_head (by decide) (Nat.le_of_ble_eq_true rfl) ?_
  intro zp ze zs zm za zb zt zc ls zQ hx hb hml hr hlk hown hts hK hP hl hQ
  have hown : zs.vm.findClass RX9 = some zm.cls := hown
  have hl : lv_has ls 6 [(0, .ref h), (1, .int (nI k)), (2, .int (nI sh)), (3, .int (nI fr))] := hl
  have hF : CallFix zp zm zc cX9_allClickSo 6 zs za lw_all RX9 := ⟨hx, hb, hml, hown, hts⟩
  have hd2 : d 2 ≤ 8 := hd.2.2.1
  have hd3 : d 3 ≤ 5 := hd.2.2.2.1
  have hd0 : d 0 ≤ 9 := hd.1
  have hd1 : d 1 ≤ 8 := hd.2.1
  refine lv_iconst (v := nI 1) hx hb dX9_allClickSo_0 rfl ?_
  refine lv_istore (lv' := [(4, .int (nI 1)), (0, .ref h), (1, .int (nI k)), (2, .int (nI sh)), (3, .int (nI fr))]) hx hb dX9_allClickSo_1 hl (by decide) rfl (fun ls hl => ?_)
  refine lv_iconst (v := nI 0) hx hb dX9_allClickSo_3 rfl ?_
  refine lv_istore (lv' := [(5, .int (nI 0)), (4, .int (nI 1)), (0, .ref h), (1, .int (nI k)), (2, .int (nI sh)), (3, .int (nI fr))]) hx hb dX9_allClickSo_4 hl (by decide) rfl (fun ls hl => ?_)
  have lp_6 : ∀ (zn : Nat) (i : Nat), (i ≤ d 3) →  (d 3 - i) < zn → ∀ (ls : Array Slot), lv_has ls 6 [(0, .ref h), (1, .int (nI k)), (2, .int (nI sh)), (3, .int (nI fr)), (4, .int (bI (allN (fun z => clkB k sh (d (44 + 4 * z + 0)) (d (44 + 4 * z + 1))) it fr i))), (5, .int (nI i))] → W zp l ze (rmL 2) zs zm za zb zt zc zs.heap [] 0 0 zQ (F0 zm 6 ls []) := by
    intro zn
    induction zn with
    | zero => intro i hi hmu_6; exact absurd hmu_6 (Nat.not_lt_zero _)
    | succ zn ih_6 =>
      intro i hi hmu_6 ls hl
      refine lv_iload hx hb dX9_allClickSo_6 (lv_at hl 5 rfl) ?_
      refine lv_aload_n hx hb dX9_allClickSo_8 rfl (lv_at hl 0 rfl) ?_
      refine va_get (D := D) (ci := 8) (v := .ref a) (C := RX9) (T := TX9) (N := 24) hx hb hts in_X9 hown hK hP 0 rfl rfl 5 (by decide) (hts _ q1184) (fun _ h9 => h9) hfs_5 dX9_allClickSo_9 ?_
      refine lv_iconst (v := nI 3) hx hb dX9_allClickSo_12 rfl ?_
      refine wn_iald (v := nI (d 3)) hx hb hK hP 1 0 rfl rfl (by omega) (by decide) rfl dX9_allClickSo_13 ?_
      refine wn_ge (tgt := 80) hx hb (by omega) (by omega) dX9_allClickSo_14 (by decide) (fun c_14 => ?_) (fun c_14 => ?_)
      · have c_14n := Nat.not_lt.mpr c_14
        refine lv_iload hx hb dX9_allClickSo_80 (lv_at hl 4 rfl) ?_
        exact rd_zret hx hb hr hlk hQ dX9_allClickSo_82 (by have hie : i = d 3 := (by omega); rw [hie])
      · have c_14n := Nat.not_le.mpr c_14
        have hv_ := hd.2.2.2.2.2.1 i (by omega)
        refine lv_iload hx hb dX9_allClickSo_17 (lv_at hl 4 rfl) ?_
        refine wb_eq (tgt := 71) hx hb dX9_allClickSo_19 (by decide) (fun c_19 => ?_) (fun c_19 => ?_)
        · refine lv_iconst (v := nI 0) hx hb dX9_allClickSo_71 rfl ?_
          refine lv_istore (lv' := [(4, .int (nI 0)), (0, .ref h), (1, .int (nI k)), (2, .int (nI sh)), (3, .int (nI fr)), (5, .int (nI i))]) hx hb dX9_allClickSo_72 hl (by decide) rfl (fun ls hl => ?_)
          refine lv_iinc (v := nI (i + 1)) (lv' := [(5, .int (nI (i + 1))), (4, .int (nI 0)), (0, .ref h), (1, .int (nI k)), (2, .int (nI sh)), (3, .int (nI fr))]) hx hb dX9_allClickSo_74 hl (k := 5) rfl (nI_add i 1) (by decide) rfl (fun ls hl => ?_)
          refine lv_goto (tgt := 6) hx hb dX9_allClickSo_77 (by decide) ?_
          have e_1 : false = allN (fun z => clkB k sh (d (44 + 4 * z + 0)) (d (44 + 4 * z + 1))) it fr (i + 1) := by first | rfl | (first | (simp [allN, c_14, c_14n, c_19]; done) | (simp_all [allN, bI, nI1_1, nI_0]; done))
          have e_2 : i + 1 = (i + 1) := by first | rfl | (first | (simp [allN, c_14, c_14n, c_19]; done) | (simp_all [allN, bI, nI1_1, nI_0]; done))
          exact ih_6 (i + 1) (by omega) (by omega) ls (lv_to (lv_sub hl [2, 3, 4, 5, 1, 0] rfl) (Eq.trans (congrArg (fun x => ([(0, .ref h), (1, .int (nI k)), (2, .int (nI sh)), (3, .int (nI fr)), (4, .int (bI x)), (5, .int (nI (i + 1)))] : List (Nat × Value))) e_1) (congrArg (fun x => ([(0, .ref h), (1, .int (nI k)), (2, .int (nI sh)), (3, .int (nI fr)), (4, .int (bI (allN (fun z => clkB k sh (d (44 + 4 * z + 0)) (d (44 + 4 * z + 1))) it fr (i + 1)))), (5, .int (nI x))] : List (Nat × Value))) e_2)))
        · refine lv_iload_n hx hb dX9_allClickSo_22 rfl (lv_at hl 1 rfl) ?_
          refine lv_iload_n hx hb dX9_allClickSo_23 rfl (lv_at hl 2 rfl) ?_
          refine lv_aload_n hx hb dX9_allClickSo_24 rfl (lv_at hl 0 rfl) ?_
          refine va_get (D := D) (ci := 8) (v := .ref a) (C := RX9) (T := TX9) (N := 24) hx hb hts in_X9 hown hK hP 0 rfl rfl 5 (by decide) (hts _ q1184) (fun _ h9 => h9) hfs_5 dX9_allClickSo_25 ?_
          refine lv_iload hx hb dX9_allClickSo_28 (lv_at hl 5 rfl) ?_
          refine lv_iconst (v := nI 0) hx hb dX9_allClickSo_30 rfl ?_
          refine rd_callS hF (m_X9_guest l D ca a d i 0 (by first | assumption | omega)) (cs_X9_guest hts q1388 ⟨by decide, by decide⟩) (K1_mv D ca) hK (hP.sub [1] rfl) rfl hl.1 rfl (Nat.le_of_ble_eq_true rfl) dX9_allClickSo_31 ⟨Nat.zero_le _, Nat.zero_le _⟩ ?_
          refine lv_aload_n hx hb dX9_allClickSo_34 rfl (lv_at hl 0 rfl) ?_
          refine va_get (D := D) (ci := 8) (v := .ref a) (C := RX9) (T := TX9) (N := 24) hx hb hts in_X9 hown hK hP 0 rfl rfl 5 (by decide) (hts _ q1184) (fun _ h9 => h9) hfs_5 dX9_allClickSo_35 ?_
          refine lv_iload hx hb dX9_allClickSo_38 (lv_at hl 5 rfl) ?_
          refine lv_iconst (v := nI 1) hx hb dX9_allClickSo_40 rfl ?_
          refine rd_callS hF (m_X9_guest l D ca a d i 1 (by first | assumption | omega)) (cs_X9_guest hts q1388 ⟨by decide, by decide⟩) (K1_mv D ca) hK (hP.sub [1] rfl) rfl hl.1 rfl (Nat.le_of_ble_eq_true rfl) dX9_allClickSo_41 ⟨Nat.zero_le _, Nat.zero_le _⟩ ?_
          refine rd_callS hF (m_X9_clicksBy l D ca k sh (d (44 + 4 * i + 0)) (d (44 + 4 * i + 1)) (by first | assumption | omega) (by first | assumption | omega) (by first | assumption | omega) (by first | assumption | omega)) (cs_X9_clicksBy hts q1391 ⟨by decide, by decide⟩) (K1_mv D ca) hK (hP.sub [] rfl) rfl hl.1 rfl (Nat.le_of_ble_eq_true rfl) dX9_allClickSo_44 ⟨Nat.zero_le _, Nat.zero_le _⟩ ?_
          refine wb_eq (tgt := 54) hx hb dX9_allClickSo_47 (by decide) (fun c_47 => ?_) (fun c_47 => ?_)
          · refine lv_iconst (v := nI 0) hx hb dX9_allClickSo_54 rfl ?_
            refine lv_aload_n hx hb dX9_allClickSo_55 rfl (lv_at hl 0 rfl) ?_
            refine va_get (D := D) (ci := 8) (v := .ref ai) (C := RX9) (T := TX9) (N := 24) hx hb hts in_X9 hown hK hP 0 rfl rfl 4 (by decide) (hts _ q1183) (fun _ h9 => h9) hfs_4 dX9_allClickSo_56 ?_
            refine lv_iload_n hx hb dX9_allClickSo_59 rfl (lv_at hl 3 rfl) ?_
            refine lv_iload hx hb dX9_allClickSo_60 (lv_at hl 5 rfl) ?_
            refine wn_add hx hb dX9_allClickSo_62 ?_
            refine wn_iald (v := it (fr + i)) hx hb hK hP 2 0 rfl rfl (by omega) (by decide) rfl dX9_allClickSo_63 ?_
            refine lv_icmp_ne (tgt := 71) hx hb dX9_allClickSo_64 (by decide) (fun c_64 => ?_) (fun c_64 => ?_)
            · refine lv_iconst (v := nI 0) hx hb dX9_allClickSo_71 rfl ?_
              refine lv_istore (lv' := [(4, .int (nI 0)), (0, .ref h), (1, .int (nI k)), (2, .int (nI sh)), (3, .int (nI fr)), (5, .int (nI i))]) hx hb dX9_allClickSo_72 hl (by decide) rfl (fun ls hl => ?_)
              refine lv_iinc (v := nI (i + 1)) (lv' := [(5, .int (nI (i + 1))), (4, .int (nI 0)), (0, .ref h), (1, .int (nI k)), (2, .int (nI sh)), (3, .int (nI fr))]) hx hb dX9_allClickSo_74 hl (k := 5) rfl (nI_add i 1) (by decide) rfl (fun ls hl => ?_)
              refine lv_goto (tgt := 6) hx hb dX9_allClickSo_77 (by decide) ?_
              have e_3 : false = allN (fun z => clkB k sh (d (44 + 4 * z + 0)) (d (44 + 4 * z + 1))) it fr (i + 1) := by first | rfl | (first | (simp [allN, c_14, c_14n, c_19, c_47, c_64]; done) | (simp_all [allN, bI, nI1_1, nI_0]; done))
              have e_4 : i + 1 = (i + 1) := by first | rfl | (first | (simp [allN, c_14, c_14n, c_19, c_47, c_64]; done) | (simp_all [allN, bI, nI1_1, nI_0]; done))
              exact ih_6 (i + 1) (by omega) (by omega) ls (lv_to (lv_sub hl [2, 3, 4, 5, 1, 0] rfl) (Eq.trans (congrArg (fun x => ([(0, .ref h), (1, .int (nI k)), (2, .int (nI sh)), (3, .int (nI fr)), (4, .int (bI x)), (5, .int (nI (i + 1)))] : List (Nat × Value))) e_3) (congrArg (fun x => ([(0, .ref h), (1, .int (nI k)), (2, .int (nI sh)), (3, .int (nI fr)), (4, .int (bI (allN (fun z => clkB k sh (d (44 + 4 * z + 0)) (d (44 + 4 * z + 1))) it fr (i + 1)))), (5, .int (nI x))] : List (Nat × Value))) e_4)))
            · refine lv_iconst (v := nI 1) hx hb dX9_allClickSo_67 rfl ?_
              refine lv_goto (tgt := 72) hx hb dX9_allClickSo_68 (by decide) ?_
              refine lv_istore (lv' := [(4, .int (nI 1)), (0, .ref h), (1, .int (nI k)), (2, .int (nI sh)), (3, .int (nI fr)), (5, .int (nI i))]) hx hb dX9_allClickSo_72 hl (by decide) rfl (fun ls hl => ?_)
              refine lv_iinc (v := nI (i + 1)) (lv' := [(5, .int (nI (i + 1))), (4, .int (nI 1)), (0, .ref h), (1, .int (nI k)), (2, .int (nI sh)), (3, .int (nI fr))]) hx hb dX9_allClickSo_74 hl (k := 5) rfl (nI_add i 1) (by decide) rfl (fun ls hl => ?_)
              refine lv_goto (tgt := 6) hx hb dX9_allClickSo_77 (by decide) ?_
              have e_5 : true = allN (fun z => clkB k sh (d (44 + 4 * z + 0)) (d (44 + 4 * z + 1))) it fr (i + 1) := by first | rfl | (first | (simp [allN, c_14, c_14n, c_19, c_47, c_64]; done) | (simp_all [allN, bI, nI1_1, nI_0]; done))
              have e_6 : i + 1 = (i + 1) := by first | rfl | (first | (simp [allN, c_14, c_14n, c_19, c_47, c_64]; done) | (simp_all [allN, bI, nI1_1, nI_0]; done))
              exact ih_6 (i + 1) (by omega) (by omega) ls (lv_to (lv_sub hl [2, 3, 4, 5, 1, 0] rfl) (Eq.trans (congrArg (fun x => ([(0, .ref h), (1, .int (nI k)), (2, .int (nI sh)), (3, .int (nI fr)), (4, .int (bI x)), (5, .int (nI (i + 1)))] : List (Nat × Value))) e_5) (congrArg (fun x => ([(0, .ref h), (1, .int (nI k)), (2, .int (nI sh)), (3, .int (nI fr)), (4, .int (bI (allN (fun z => clkB k sh (d (44 + 4 * z + 0)) (d (44 + 4 * z + 1))) it fr (i + 1)))), (5, .int (nI x))] : List (Nat × Value))) e_6)))
          · refine lv_iconst (v := nI 1) hx hb dX9_allClickSo_50 rfl ?_
            refine lv_goto (tgt := 55) hx hb dX9_allClickSo_51 (by decide) ?_
            refine lv_aload_n hx hb dX9_allClickSo_55 rfl (lv_at hl 0 rfl) ?_
            refine va_get (D := D) (ci := 8) (v := .ref ai) (C := RX9) (T := TX9) (N := 24) hx hb hts in_X9 hown hK hP 0 rfl rfl 4 (by decide) (hts _ q1183) (fun _ h9 => h9) hfs_4 dX9_allClickSo_56 ?_
            refine lv_iload_n hx hb dX9_allClickSo_59 rfl (lv_at hl 3 rfl) ?_
            refine lv_iload hx hb dX9_allClickSo_60 (lv_at hl 5 rfl) ?_
            refine wn_add hx hb dX9_allClickSo_62 ?_
            refine wn_iald (v := it (fr + i)) hx hb hK hP 2 0 rfl rfl (by omega) (by decide) rfl dX9_allClickSo_63 ?_
            refine lv_icmp_ne (tgt := 71) hx hb dX9_allClickSo_64 (by decide) (fun c_64 => ?_) (fun c_64 => ?_)
            · refine lv_iconst (v := nI 0) hx hb dX9_allClickSo_71 rfl ?_
              refine lv_istore (lv' := [(4, .int (nI 0)), (0, .ref h), (1, .int (nI k)), (2, .int (nI sh)), (3, .int (nI fr)), (5, .int (nI i))]) hx hb dX9_allClickSo_72 hl (by decide) rfl (fun ls hl => ?_)
              refine lv_iinc (v := nI (i + 1)) (lv' := [(5, .int (nI (i + 1))), (4, .int (nI 0)), (0, .ref h), (1, .int (nI k)), (2, .int (nI sh)), (3, .int (nI fr))]) hx hb dX9_allClickSo_74 hl (k := 5) rfl (nI_add i 1) (by decide) rfl (fun ls hl => ?_)
              refine lv_goto (tgt := 6) hx hb dX9_allClickSo_77 (by decide) ?_
              have e_7 : false = allN (fun z => clkB k sh (d (44 + 4 * z + 0)) (d (44 + 4 * z + 1))) it fr (i + 1) := by first | rfl | (first | (simp [allN, c_14, c_14n, c_19, c_47, c_64]; done) | (simp_all [allN, bI, nI1_1, nI_0]; done))
              have e_8 : i + 1 = (i + 1) := by first | rfl | (first | (simp [allN, c_14, c_14n, c_19, c_47, c_64]; done) | (simp_all [allN, bI, nI1_1, nI_0]; done))
              exact ih_6 (i + 1) (by omega) (by omega) ls (lv_to (lv_sub hl [2, 3, 4, 5, 1, 0] rfl) (Eq.trans (congrArg (fun x => ([(0, .ref h), (1, .int (nI k)), (2, .int (nI sh)), (3, .int (nI fr)), (4, .int (bI x)), (5, .int (nI (i + 1)))] : List (Nat × Value))) e_7) (congrArg (fun x => ([(0, .ref h), (1, .int (nI k)), (2, .int (nI sh)), (3, .int (nI fr)), (4, .int (bI (allN (fun z => clkB k sh (d (44 + 4 * z + 0)) (d (44 + 4 * z + 1))) it fr (i + 1)))), (5, .int (nI x))] : List (Nat × Value))) e_8)))
            · refine lv_iconst (v := nI 1) hx hb dX9_allClickSo_67 rfl ?_
              refine lv_goto (tgt := 72) hx hb dX9_allClickSo_68 (by decide) ?_
              refine lv_istore (lv' := [(4, .int (nI 1)), (0, .ref h), (1, .int (nI k)), (2, .int (nI sh)), (3, .int (nI fr)), (5, .int (nI i))]) hx hb dX9_allClickSo_72 hl (by decide) rfl (fun ls hl => ?_)
              refine lv_iinc (v := nI (i + 1)) (lv' := [(5, .int (nI (i + 1))), (4, .int (nI 1)), (0, .ref h), (1, .int (nI k)), (2, .int (nI sh)), (3, .int (nI fr))]) hx hb dX9_allClickSo_74 hl (k := 5) rfl (nI_add i 1) (by decide) rfl (fun ls hl => ?_)
              refine lv_goto (tgt := 6) hx hb dX9_allClickSo_77 (by decide) ?_
              have e_9 : true = allN (fun z => clkB k sh (d (44 + 4 * z + 0)) (d (44 + 4 * z + 1))) it fr (i + 1) := by first | rfl | (first | (simp [allN, c_14, c_14n, c_19, c_47, c_64]; done) | (simp_all [allN, bI, nI1_1, nI_0]; done))
              have e_10 : i + 1 = (i + 1) := by first | rfl | (first | (simp [allN, c_14, c_14n, c_19, c_47, c_64]; done) | (simp_all [allN, bI, nI1_1, nI_0]; done))
              exact ih_6 (i + 1) (by omega) (by omega) ls (lv_to (lv_sub hl [2, 3, 4, 5, 1, 0] rfl) (Eq.trans (congrArg (fun x => ([(0, .ref h), (1, .int (nI k)), (2, .int (nI sh)), (3, .int (nI fr)), (4, .int (bI x)), (5, .int (nI (i + 1)))] : List (Nat × Value))) e_9) (congrArg (fun x => ([(0, .ref h), (1, .int (nI k)), (2, .int (nI sh)), (3, .int (nI fr)), (4, .int (bI (allN (fun z => clkB k sh (d (44 + 4 * z + 0)) (d (44 + 4 * z + 1))) it fr (i + 1)))), (5, .int (nI x))] : List (Nat × Value))) e_10)))
  have e_11 : true = allN (fun z => clkB k sh (d (44 + 4 * z + 0)) (d (44 + 4 * z + 1))) it fr 0 := by first | rfl | (rfl)
  exact lp_6 ((d 3 - 0) + 1) 0 (by omega) (by omega) ls (lv_to (lv_sub hl [2, 3, 4, 5, 1, 0] rfl) (congrArg (fun x => ([(0, .ref h), (1, .int (nI k)), (2, .int (nI sh)), (3, .int (nI fr)), (4, .int (bI x)), (5, .int (nI 0))] : List (Nat × Value))) e_11))
set_option maxHeartbeats 4000000 in
theorem m_X9_clicksSo (l : Launch) (D : va_G) (ca : Nat → ClassId) (h : Nat) (fs : List Value) (a : Nat) (d : Nat → Nat) (it : Nat → Int32) (ai : Nat) (k : Nat) (sh : Nat) (fr : Nat) (hfs_5 : fs[5]? = some (.ref a)) (hd : dOK d) (hfs_4 : fs[4]? = some (.ref ai)) (hk : k ≤ 9) (hsh : sh ≤ 9) (hfr : fr + d 2 ≤ 320) : Met l yX9_clicksSo (ws_ yX9_clicksSo cX9_clicksSo 6 (some .boolean)) (rmL 2) (PcR (K1 D ca) D [.ref h, .int (nI k), .int (nI sh), .int (nI fr)] [(h, .inr (8, fs)), (a, .inl (ca 0, 64, .inl (dv d))), (ai, .inl (ca 0, 320, .inl it))]) (vp_Si (fun zr => zr = bI (allN (fun z => clkB (d (4 + 5 * z + 0)) (d (4 + 5 * z + 1)) k sh) it fr (d 2)))) 0 0 (fun _ => False) := by
  refine rd_head (by decide) (Nat.le_of_ble_eq_true rfl) ?_
  intro zp ze zs zm za zb zt zc ls zQ hx hb hml hr hlk hown hts hK hP hl hQ
  have hown : zs.vm.findClass RX9 = some zm.cls := hown
  have hl : lv_has ls 6 [(0, .ref h), (1, .int (nI k)), (2, .int (nI sh)), (3, .int (nI fr))] := hl
  have hF : CallFix zp zm zc cX9_clicksSo 6 zs za lw_all RX9 := ⟨hx, hb, hml, hown, hts⟩
  have hd2 : d 2 ≤ 8 := hd.2.2.1
  have hd3 : d 3 ≤ 5 := hd.2.2.2.1
  have hd0 : d 0 ≤ 9 := hd.1
  have hd1 : d 1 ≤ 8 := hd.2.1
  refine lv_iconst (v := nI 1) hx hb dX9_clicksSo_0 rfl ?_
  refine lv_istore (lv' := [(4, .int (nI 1)), (0, .ref h), (1, .int (nI k)), (2, .int (nI sh)), (3, .int (nI fr))]) hx hb dX9_clicksSo_1 hl (by decide) rfl (fun ls hl => ?_)
  refine lv_iconst (v := nI 0) hx hb dX9_clicksSo_3 rfl ?_
  refine lv_istore (lv' := [(5, .int (nI 0)), (4, .int (nI 1)), (0, .ref h), (1, .int (nI k)), (2, .int (nI sh)), (3, .int (nI fr))]) hx hb dX9_clicksSo_4 hl (by decide) rfl (fun ls hl => ?_)
  have lp_6 : ∀ (zn : Nat) (i : Nat), (i ≤ d 2) →  (d 2 - i) < zn → ∀ (ls : Array Slot), lv_has ls 6 [(0, .ref h), (1, .int (nI k)), (2, .int (nI sh)), (3, .int (nI fr)), (4, .int (bI (allN (fun z => clkB (d (4 + 5 * z + 0)) (d (4 + 5 * z + 1)) k sh) it fr i))), (5, .int (nI i))] → W zp l ze (rmL 2) zs zm za zb zt zc zs.heap [] 0 0 zQ (F0 zm 6 ls []) := by
    intro zn
    induction zn with
    | zero => intro i hi hmu_6; exact absurd hmu_6 (Nat.not_lt_zero _)
    | succ zn ih_6 =>
      intro i hi hmu_6 ls hl
      refine lv_iload hx hb dX9_clicksSo_6 (lv_at hl 5 rfl) ?_
      refine lv_aload_n hx hb dX9_clicksSo_8 rfl (lv_at hl 0 rfl) ?_
      refine va_get (D := D) (ci := 8) (v := .ref a) (C := RX9) (T := TX9) (N := 24) hx hb hts in_X9 hown hK hP 0 rfl rfl 5 (by decide) (hts _ q1184) (fun _ h9 => h9) hfs_5 dX9_clicksSo_9 ?_
      refine lv_iconst (v := nI 2) hx hb dX9_clicksSo_12 rfl ?_
      refine wn_iald (v := nI (d 2)) hx hb hK hP 1 0 rfl rfl (by omega) (by decide) rfl dX9_clicksSo_13 ?_
      refine wn_ge (tgt := 80) hx hb (by omega) (by omega) dX9_clicksSo_14 (by decide) (fun c_14 => ?_) (fun c_14 => ?_)
      · have c_14n := Nat.not_lt.mpr c_14
        refine lv_iload hx hb dX9_clicksSo_80 (lv_at hl 4 rfl) ?_
        exact rd_zret hx hb hr hlk hQ dX9_clicksSo_82 (by have hie : i = d 2 := (by omega); rw [hie])
      · have c_14n := Nat.not_le.mpr c_14
        have hv_ := hd.2.2.2.2.1 i (by omega)
        refine lv_iload hx hb dX9_clicksSo_17 (lv_at hl 4 rfl) ?_
        refine wb_eq (tgt := 71) hx hb dX9_clicksSo_19 (by decide) (fun c_19 => ?_) (fun c_19 => ?_)
        · refine lv_iconst (v := nI 0) hx hb dX9_clicksSo_71 rfl ?_
          refine lv_istore (lv' := [(4, .int (nI 0)), (0, .ref h), (1, .int (nI k)), (2, .int (nI sh)), (3, .int (nI fr)), (5, .int (nI i))]) hx hb dX9_clicksSo_72 hl (by decide) rfl (fun ls hl => ?_)
          refine lv_iinc (v := nI (i + 1)) (lv' := [(5, .int (nI (i + 1))), (4, .int (nI 0)), (0, .ref h), (1, .int (nI k)), (2, .int (nI sh)), (3, .int (nI fr))]) hx hb dX9_clicksSo_74 hl (k := 5) rfl (nI_add i 1) (by decide) rfl (fun ls hl => ?_)
          refine lv_goto (tgt := 6) hx hb dX9_clicksSo_77 (by decide) ?_
          have e_1 : false = allN (fun z => clkB (d (4 + 5 * z + 0)) (d (4 + 5 * z + 1)) k sh) it fr (i + 1) := by first | rfl | (first | (simp [allN, c_14, c_14n, c_19]; done) | (simp_all [allN, bI, nI1_1, nI_0]; done))
          have e_2 : i + 1 = (i + 1) := by first | rfl | (first | (simp [allN, c_14, c_14n, c_19]; done) | (simp_all [allN, bI, nI1_1, nI_0]; done))
          exact ih_6 (i + 1) (by omega) (by omega) ls (lv_to (lv_sub hl [2, 3, 4, 5, 1, 0] rfl) (Eq.trans (congrArg (fun x => ([(0, .ref h), (1, .int (nI k)), (2, .int (nI sh)), (3, .int (nI fr)), (4, .int (bI x)), (5, .int (nI (i + 1)))] : List (Nat × Value))) e_1) (congrArg (fun x => ([(0, .ref h), (1, .int (nI k)), (2, .int (nI sh)), (3, .int (nI fr)), (4, .int (bI (allN (fun z => clkB (d (4 + 5 * z + 0)) (d (4 + 5 * z + 1)) k sh) it fr (i + 1)))), (5, .int (nI x))] : List (Nat × Value))) e_2)))
        · refine lv_aload_n hx hb dX9_clicksSo_22 rfl (lv_at hl 0 rfl) ?_
          refine va_get (D := D) (ci := 8) (v := .ref a) (C := RX9) (T := TX9) (N := 24) hx hb hts in_X9 hown hK hP 0 rfl rfl 5 (by decide) (hts _ q1184) (fun _ h9 => h9) hfs_5 dX9_clicksSo_23 ?_
          refine lv_iload hx hb dX9_clicksSo_26 (lv_at hl 5 rfl) ?_
          refine lv_iconst (v := nI 0) hx hb dX9_clicksSo_28 rfl ?_
          refine rd_callS hF (m_X9_of l D ca a d i 0 (by first | assumption | omega)) (cs_X9_of hts q1382 ⟨by decide, by decide⟩) (K1_mv D ca) hK (hP.sub [1] rfl) rfl hl.1 rfl (Nat.le_of_ble_eq_true rfl) dX9_clicksSo_29 ⟨Nat.zero_le _, Nat.zero_le _⟩ ?_
          refine lv_aload_n hx hb dX9_clicksSo_32 rfl (lv_at hl 0 rfl) ?_
          refine va_get (D := D) (ci := 8) (v := .ref a) (C := RX9) (T := TX9) (N := 24) hx hb hts in_X9 hown hK hP 0 rfl rfl 5 (by decide) (hts _ q1184) (fun _ h9 => h9) hfs_5 dX9_clicksSo_33 ?_
          refine lv_iload hx hb dX9_clicksSo_36 (lv_at hl 5 rfl) ?_
          refine lv_iconst (v := nI 1) hx hb dX9_clicksSo_38 rfl ?_
          refine rd_callS hF (m_X9_of l D ca a d i 1 (by first | assumption | omega)) (cs_X9_of hts q1382 ⟨by decide, by decide⟩) (K1_mv D ca) hK (hP.sub [1] rfl) rfl hl.1 rfl (Nat.le_of_ble_eq_true rfl) dX9_clicksSo_39 ⟨Nat.zero_le _, Nat.zero_le _⟩ ?_
          refine lv_iload_n hx hb dX9_clicksSo_42 rfl (lv_at hl 1 rfl) ?_
          refine lv_iload_n hx hb dX9_clicksSo_43 rfl (lv_at hl 2 rfl) ?_
          refine rd_callS hF (m_X9_clicksBy l D ca (d (4 + 5 * i + 0)) (d (4 + 5 * i + 1)) k sh (by first | assumption | omega) (by first | assumption | omega) (by first | assumption | omega) (by first | assumption | omega)) (cs_X9_clicksBy hts q1391 ⟨by decide, by decide⟩) (K1_mv D ca) hK (hP.sub [] rfl) rfl hl.1 rfl (Nat.le_of_ble_eq_true rfl) dX9_clicksSo_44 ⟨Nat.zero_le _, Nat.zero_le _⟩ ?_
          refine wb_eq (tgt := 54) hx hb dX9_clicksSo_47 (by decide) (fun c_47 => ?_) (fun c_47 => ?_)
          · refine lv_iconst (v := nI 0) hx hb dX9_clicksSo_54 rfl ?_
            refine lv_aload_n hx hb dX9_clicksSo_55 rfl (lv_at hl 0 rfl) ?_
            refine va_get (D := D) (ci := 8) (v := .ref ai) (C := RX9) (T := TX9) (N := 24) hx hb hts in_X9 hown hK hP 0 rfl rfl 4 (by decide) (hts _ q1183) (fun _ h9 => h9) hfs_4 dX9_clicksSo_56 ?_
            refine lv_iload_n hx hb dX9_clicksSo_59 rfl (lv_at hl 3 rfl) ?_
            refine lv_iload hx hb dX9_clicksSo_60 (lv_at hl 5 rfl) ?_
            refine wn_add hx hb dX9_clicksSo_62 ?_
            refine wn_iald (v := it (fr + i)) hx hb hK hP 2 0 rfl rfl (by omega) (by decide) rfl dX9_clicksSo_63 ?_
            refine lv_icmp_ne (tgt := 71) hx hb dX9_clicksSo_64 (by decide) (fun c_64 => ?_) (fun c_64 => ?_)
            · refine lv_iconst (v := nI 0) hx hb dX9_clicksSo_71 rfl ?_
              refine lv_istore (lv' := [(4, .int (nI 0)), (0, .ref h), (1, .int (nI k)), (2, .int (nI sh)), (3, .int (nI fr)), (5, .int (nI i))]) hx hb dX9_clicksSo_72 hl (by decide) rfl (fun ls hl => ?_)
              refine lv_iinc (v := nI (i + 1)) (lv' := [(5, .int (nI (i + 1))), (4, .int (nI 0)), (0, .ref h), (1, .int (nI k)), (2, .int (nI sh)), (3, .int (nI fr))]) hx hb dX9_clicksSo_74 hl (k := 5) rfl (nI_add i 1) (by decide) rfl (fun ls hl => ?_)
              refine lv_goto (tgt := 6) hx hb dX9_clicksSo_77 (by decide) ?_
              have e_3 : false = allN (fun z => clkB (d (4 + 5 * z + 0)) (d (4 + 5 * z + 1)) k sh) it fr (i + 1) := by first | rfl | (first | (simp [allN, c_14, c_14n, c_19, c_47, c_64]; done) | (simp_all [allN, bI, nI1_1, nI_0]; done))
              have e_4 : i + 1 = (i + 1) := by first | rfl | (first | (simp [allN, c_14, c_14n, c_19, c_47, c_64]; done) | (simp_all [allN, bI, nI1_1, nI_0]; done))
              exact ih_6 (i + 1) (by omega) (by omega) ls (lv_to (lv_sub hl [2, 3, 4, 5, 1, 0] rfl) (Eq.trans (congrArg (fun x => ([(0, .ref h), (1, .int (nI k)), (2, .int (nI sh)), (3, .int (nI fr)), (4, .int (bI x)), (5, .int (nI (i + 1)))] : List (Nat × Value))) e_3) (congrArg (fun x => ([(0, .ref h), (1, .int (nI k)), (2, .int (nI sh)), (3, .int (nI fr)), (4, .int (bI (allN (fun z => clkB (d (4 + 5 * z + 0)) (d (4 + 5 * z + 1)) k sh) it fr (i + 1)))), (5, .int (nI x))] : List (Nat × Value))) e_4)))
            · refine lv_iconst (v := nI 1) hx hb dX9_clicksSo_67 rfl ?_
              refine lv_goto (tgt := 72) hx hb dX9_clicksSo_68 (by decide) ?_
              refine lv_istore (lv' := [(4, .int (nI 1)), (0, .ref h), (1, .int (nI k)), (2, .int (nI sh)), (3, .int (nI fr)), (5, .int (nI i))]) hx hb dX9_clicksSo_72 hl (by decide) rfl (fun ls hl => ?_)
              refine lv_iinc (v := nI (i + 1)) (lv' := [(5, .int (nI (i + 1))), (4, .int (nI 1)), (0, .ref h), (1, .int (nI k)), (2, .int (nI sh)), (3, .int (nI fr))]) hx hb dX9_clicksSo_74 hl (k := 5) rfl (nI_add i 1) (by decide) rfl (fun ls hl => ?_)
              refine lv_goto (tgt := 6) hx hb dX9_clicksSo_77 (by decide) ?_
              have e_5 : true = allN (fun z => clkB (d (4 + 5 * z + 0)) (d (4 + 5 * z + 1)) k sh) it fr (i + 1) := by first | rfl | (first | (simp [allN, c_14, c_14n, c_19, c_47, c_64]; done) | (simp_all [allN, bI, nI1_1, nI_0]; done))
              have e_6 : i + 1 = (i + 1) := by first | rfl | (first | (simp [allN, c_14, c_14n, c_19, c_47, c_64]; done) | (simp_all [allN, bI, nI1_1, nI_0]; done))
              exact ih_6 (i + 1) (by omega) (by omega) ls (lv_to (lv_sub hl [2, 3, 4, 5, 1, 0] rfl) (Eq.trans (congrArg (fun x => ([(0, .ref h), (1, .int (nI k)), (2, .int (nI sh)), (3, .int (nI fr)), (4, .int (bI x)), (5, .int (nI (i + 1)))] : List (Nat × Value))) e_5) (congrArg (fun x => ([(0, .ref h), (1, .int (nI k)), (2, .int (nI sh)), (3, .int (nI fr)), (4, .int (bI (allN (fun z => clkB (d (4 + 5 * z + 0)) (d (4 + 5 * z + 1)) k sh) it fr (i + 1)))), (5, .int (nI x))] : List (Nat × Value))) e_6)))
          · refine lv_iconst (v := nI 1) hx hb dX9_clicksSo_50 rfl ?_
            refine lv_goto (tgt := 55) hx hb dX9_clicksSo_51 (by decide) ?_
            refine lv_aload_n hx hb dX9_clicksSo_55 rfl (lv_at hl 0 rfl) ?_
            refine va_get (D := D) (ci := 8) (v := .ref ai) (C := RX9) (T := TX9) (N := 24) hx hb hts in_X9 hown hK hP 0 rfl rfl 4 (by decide) (hts _ q1183) (fun _ h9 => h9) hfs_4 dX9_clicksSo_56 ?_
            refine lv_iload_n hx hb dX9_clicksSo_59 rfl (lv_at hl 3 rfl) ?_
            refine lv_iload hx hb dX9_clicksSo_60 (lv_at hl 5 rfl) ?_
            refine wn_add hx hb dX9_clicksSo_62 ?_
            refine wn_iald (v := it (fr + i)) hx hb hK hP 2 0 rfl rfl (by omega) (by decide) rfl dX9_clicksSo_63 ?_
            refine lv_icmp_ne (tgt := 71) hx hb dX9_clicksSo_64 (by decide) (fun c_64 => ?_) (fun c_64 => ?_)
            · refine lv_iconst (v := nI 0) hx hb dX9_clicksSo_71 rfl ?_
              refine lv_istore (lv' := [(4, .int (nI 0)), (0, .ref h), (1, .int (nI k)), (2, .int (nI sh)), (3, .int (nI fr)), (5, .int (nI i))]) hx hb dX9_clicksSo_72 hl (by decide) rfl (fun ls hl => ?_)
              refine lv_iinc (v := nI (i + 1)) (lv' := [(5, .int (nI (i + 1))), (4, .int (nI 0)), (0, .ref h), (1, .int (nI k)), (2, .int (nI sh)), (3, .int (nI fr))]) hx hb dX9_clicksSo_74 hl (k := 5) rfl (nI_add i 1) (by decide) rfl (fun ls hl => ?_)
              refine lv_goto (tgt := 6) hx hb dX9_clicksSo_77 (by decide) ?_
              have e_7 : false = allN (fun z => clkB (d (4 + 5 * z + 0)) (d (4 + 5 * z + 1)) k sh) it fr (i + 1) := by first | rfl | (first | (simp [allN, c_14, c_14n, c_19, c_47, c_64]; done) | (simp_all [allN, bI, nI1_1, nI_0]; done))
              have e_8 : i + 1 = (i + 1) := by first | rfl | (first | (simp [allN, c_14, c_14n, c_19, c_47, c_64]; done) | (simp_all [allN, bI, nI1_1, nI_0]; done))
              exact ih_6 (i + 1) (by omega) (by omega) ls (lv_to (lv_sub hl [2, 3, 4, 5, 1, 0] rfl) (Eq.trans (congrArg (fun x => ([(0, .ref h), (1, .int (nI k)), (2, .int (nI sh)), (3, .int (nI fr)), (4, .int (bI x)), (5, .int (nI (i + 1)))] : List (Nat × Value))) e_7) (congrArg (fun x => ([(0, .ref h), (1, .int (nI k)), (2, .int (nI sh)), (3, .int (nI fr)), (4, .int (bI (allN (fun z => clkB (d (4 + 5 * z + 0)) (d (4 + 5 * z + 1)) k sh) it fr (i + 1)))), (5, .int (nI x))] : List (Nat × Value))) e_8)))
            · refine lv_iconst (v := nI 1) hx hb dX9_clicksSo_67 rfl ?_
              refine lv_goto (tgt := 72) hx hb dX9_clicksSo_68 (by decide) ?_
              refine lv_istore (lv' := [(4, .int (nI 1)), (0, .ref h), (1, .int (nI k)), (2, .int (nI sh)), (3, .int (nI fr)), (5, .int (nI i))]) hx hb dX9_clicksSo_72 hl (by decide) rfl (fun ls hl => ?_)
              refine lv_iinc (v := nI (i + 1)) (lv' := [(5, .int (nI (i + 1))), (4, .int (nI 1)), (0, .ref h), (1, .int (nI k)), (2, .int (nI sh)), (3, .int (nI fr))]) hx hb dX9_clicksSo_74 hl (k := 5) rfl (nI_add i 1) (by decide) rfl (fun ls hl => ?_)
              refine lv_goto (tgt := 6) hx hb dX9_clicksSo_77 (by decide) ?_
              have e_9 : true = allN (fun z => clkB (d (4 + 5 * z + 0)) (d (4 + 5 * z + 1)) k sh) it fr (i + 1) := by first | rfl | (first | (simp [allN, c_14, c_14n, c_19, c_47, c_64]; done) | (simp_all [allN, bI, nI1_1, nI_0]; done))
              have e_10 : i + 1 = (i + 1) := by first | rfl | (first | (simp [allN, c_14, c_14n, c_19, c_47, c_64]; done) | (simp_all [allN, bI, nI1_1, nI_0]; done))
              exact ih_6 (i + 1) (by omega) (by omega) ls (lv_to (lv_sub hl [2, 3, 4, 5, 1, 0] rfl) (Eq.trans (congrArg (fun x => ([(0, .ref h), (1, .int (nI k)), (2, .int (nI sh)), (3, .int (nI fr)), (4, .int (bI x)), (5, .int (nI (i + 1)))] : List (Nat × Value))) e_9) (congrArg (fun x => ([(0, .ref h), (1, .int (nI k)), (2, .int (nI sh)), (3, .int (nI fr)), (4, .int (bI (allN (fun z => clkB (d (4 + 5 * z + 0)) (d (4 + 5 * z + 1)) k sh) it fr (i + 1)))), (5, .int (nI x))] : List (Nat × Value))) e_10)))
  have e_11 : true = allN (fun z => clkB (d (4 + 5 * z + 0)) (d (4 + 5 * z + 1)) k sh) it fr 0 := by first | rfl | (rfl)
  exact lp_6 ((d 2 - 0) + 1) 0 (by omega) (by omega) ls (lv_to (lv_sub hl [2, 3, 4, 5, 1, 0] rfl) (congrArg (fun x => ([(0, .ref h), (1, .int (nI k)), (2, .int (nI sh)), (3, .int (nI fr)), (4, .int (bI x)), (5, .int (nI 0))] : List (Nat × Value))) e_11))
set_option maxHeartbeats 4000000 in
theorem m_X9_isOf (l : Launch) (D : va_G) (ca : Nat → ClassId) (k : Nat) (o : Nat) (h1 : k ≤ 5) (h2 : o ≤ 5) : Met l yX9_isOf (ws_ yX9_isOf cX9_isOf 2 (some .boolean)) (rmL 0) (PcR (K1 D ca) D [.int (nI k), .int (nI o)] []) (vp_Si (fun zr => zr = bI (isOfB k o))) 0 0 (fun _ => False) := by
  refine rd_head (by decide) (Nat.le_of_ble_eq_true rfl) ?_
  intro zp ze zs zm za zb zt zc ls zQ hx hb hml hr hlk hown hts hK hP hl hQ
  have hown : zs.vm.findClass RX9 = some zm.cls := hown
  have hl : lv_has ls 2 [(0, .int (nI k)), (1, .int (nI o))] := hl
  have hF : CallFix zp zm zc cX9_isOf 2 zs za lw_all RX9 := ⟨hx, hb, hml, hown, hts⟩
  refine lv_iload_n hx hb dX9_isOf_0 rfl (lv_at hl 1 rfl) ?_
  refine wn_ifeq (tgt := 29) hx hb (by omega) dX9_isOf_1 (by decide) (fun c_1 => ?_) (fun c_1 => ?_)
  · refine lv_iconst (v := nI 1) hx hb dX9_isOf_29 rfl ?_
    refine lv_goto (tgt := 34) hx hb dX9_isOf_30 (by decide) ?_
    refine W.eq (g2 := F0 zm 34 ls [.int (bI true)]) rfl ?_
    exact rd_zret hx hb hr hlk hQ dX9_isOf_34 (by refine congrArg bI ?_; unfold isOfB; grind)
  · refine lv_iload_n hx hb dX9_isOf_4 rfl (lv_at hl 0 rfl) ?_
    refine lv_iload_n hx hb dX9_isOf_5 rfl (lv_at hl 1 rfl) ?_
    refine wn_eq (tgt := 29) hx hb (by omega) (by omega) dX9_isOf_6 (by decide) (fun c_6 => ?_) (fun c_6 => ?_)
    · refine lv_iconst (v := nI 1) hx hb dX9_isOf_29 rfl ?_
      refine lv_goto (tgt := 34) hx hb dX9_isOf_30 (by decide) ?_
      refine W.eq (g2 := F0 zm 34 ls [.int (bI true)]) rfl ?_
      exact rd_zret hx hb hr hlk hQ dX9_isOf_34 (by refine congrArg bI ?_; unfold isOfB; grind)
    · refine lv_iload_n hx hb dX9_isOf_9 rfl (lv_at hl 1 rfl) ?_
      refine lv_iconst (v := nI 1) hx hb dX9_isOf_10 rfl ?_
      refine wn_ne (tgt := 19) hx hb (by omega) (by omega) dX9_isOf_11 (by decide) (fun c_11 => ?_) (fun c_11 => ?_)
      · refine lv_iload_n hx hb dX9_isOf_19 rfl (lv_at hl 1 rfl) ?_
        refine lv_iconst (v := nI 4) hx hb dX9_isOf_20 rfl ?_
        refine wn_ne (tgt := 33) hx hb (by omega) (by omega) dX9_isOf_21 (by decide) (fun c_21 => ?_) (fun c_21 => ?_)
        · refine lv_iconst (v := nI 0) hx hb dX9_isOf_33 rfl ?_
          refine W.eq (g2 := F0 zm 34 ls [.int (bI false)]) rfl ?_
          exact rd_zret hx hb hr hlk hQ dX9_isOf_34 (by refine congrArg bI ?_; unfold isOfB; grind)
        · refine lv_iload_n hx hb dX9_isOf_24 rfl (lv_at hl 0 rfl) ?_
          refine lv_iconst (v := nI 5) hx hb dX9_isOf_25 rfl ?_
          refine wn_ne (tgt := 33) hx hb (by omega) (by omega) dX9_isOf_26 (by decide) (fun c_26 => ?_) (fun c_26 => ?_)
          · refine lv_iconst (v := nI 0) hx hb dX9_isOf_33 rfl ?_
            refine W.eq (g2 := F0 zm 34 ls [.int (bI false)]) rfl ?_
            exact rd_zret hx hb hr hlk hQ dX9_isOf_34 (by refine congrArg bI ?_; unfold isOfB; grind)
          · refine lv_iconst (v := nI 1) hx hb dX9_isOf_29 rfl ?_
            refine lv_goto (tgt := 34) hx hb dX9_isOf_30 (by decide) ?_
            refine W.eq (g2 := F0 zm 34 ls [.int (bI true)]) rfl ?_
            exact rd_zret hx hb hr hlk hQ dX9_isOf_34 (by refine congrArg bI ?_; unfold isOfB; grind)
      · refine lv_iload_n hx hb dX9_isOf_14 rfl (lv_at hl 0 rfl) ?_
        refine lv_iconst (v := nI 4) hx hb dX9_isOf_15 rfl ?_
        refine wn_lt (tgt := 29) hx hb (by omega) (by omega) dX9_isOf_16 (by decide) (fun c_16 => ?_) (fun c_16 => ?_)
        · have c_16n := Nat.not_le.mpr c_16
          refine lv_iconst (v := nI 1) hx hb dX9_isOf_29 rfl ?_
          refine lv_goto (tgt := 34) hx hb dX9_isOf_30 (by decide) ?_
          refine W.eq (g2 := F0 zm 34 ls [.int (bI true)]) rfl ?_
          exact rd_zret hx hb hr hlk hQ dX9_isOf_34 (by refine congrArg bI ?_; unfold isOfB; grind)
        · have c_16n := Nat.not_lt.mpr c_16
          refine lv_iload_n hx hb dX9_isOf_19 rfl (lv_at hl 1 rfl) ?_
          refine lv_iconst (v := nI 4) hx hb dX9_isOf_20 rfl ?_
          refine wn_ne (tgt := 33) hx hb (by omega) (by omega) dX9_isOf_21 (by decide) (fun c_21 => ?_) (fun c_21 => ?_)
          · refine lv_iconst (v := nI 0) hx hb dX9_isOf_33 rfl ?_
            refine W.eq (g2 := F0 zm 34 ls [.int (bI false)]) rfl ?_
            exact rd_zret hx hb hr hlk hQ dX9_isOf_34 (by refine congrArg bI ?_; unfold isOfB; grind)
          · refine lv_iload_n hx hb dX9_isOf_24 rfl (lv_at hl 0 rfl) ?_
            refine lv_iconst (v := nI 5) hx hb dX9_isOf_25 rfl ?_
            refine wn_ne (tgt := 33) hx hb (by omega) (by omega) dX9_isOf_26 (by decide) (fun c_26 => ?_) (fun c_26 => ?_)
            · refine lv_iconst (v := nI 0) hx hb dX9_isOf_33 rfl ?_
              refine W.eq (g2 := F0 zm 34 ls [.int (bI false)]) rfl ?_
              exact rd_zret hx hb hr hlk hQ dX9_isOf_34 (by refine congrArg bI ?_; unfold isOfB; grind)
            · refine lv_iconst (v := nI 1) hx hb dX9_isOf_29 rfl ?_
              refine lv_goto (tgt := 34) hx hb dX9_isOf_30 (by decide) ?_
              refine W.eq (g2 := F0 zm 34 ls [.int (bI true)]) rfl ?_
              exact rd_zret hx hb hr hlk hQ dX9_isOf_34 (by refine congrArg bI ?_; unfold isOfB; grind)
set_option maxHeartbeats 4000000 in
theorem m_X9_kindBy (l : Launch) (D : va_G) (ca : Nat → ClassId) (x : Nat) (h1 : x < 256) : Met l yX9_kindBy (ws_ yX9_kindBy cX9_kindBy 1 (some .int)) (rmL 0) (PcR (K1 D ca) D [.int (nI x)] []) (vp_Si (fun zr => zr = oI (knd x))) 0 0 (fun _ => False) := by
  refine rd_head (by decide) (Nat.le_of_ble_eq_true rfl) ?_
  intro zp ze zs zm za zb zt zc ls zQ hx hb hml hr hlk hown hts hK hP hl hQ
  have hown : zs.vm.findClass RX9 = some zm.cls := hown
  have hl : lv_has ls 1 [(0, .int (nI x))] := hl
  have hF : CallFix zp zm zc cX9_kindBy 1 zs za lw_all RX9 := ⟨hx, hb, hml, hown, hts⟩
  refine lv_iload_n hx hb dX9_kindBy_0 rfl (lv_at hl 0 rfl) ?_
  refine lv_bipush (v := nI 107) hx hb dX9_kindBy_1 rfl ?_
  refine wn_ne (tgt := 10) hx hb (by omega) (by omega) dX9_kindBy_3 (by decide) (fun c_3 => ?_) (fun c_3 => ?_)
  · refine lv_iload_n hx hb dX9_kindBy_10 rfl (lv_at hl 0 rfl) ?_
    refine lv_bipush (v := nI 101) hx hb dX9_kindBy_11 rfl ?_
    refine wn_ne (tgt := 20) hx hb (by omega) (by omega) dX9_kindBy_13 (by decide) (fun c_13 => ?_) (fun c_13 => ?_)
    · refine lv_iload_n hx hb dX9_kindBy_20 rfl (lv_at hl 0 rfl) ?_
      refine lv_bipush (v := nI 99) hx hb dX9_kindBy_21 rfl ?_
      refine wn_ne (tgt := 30) hx hb (by omega) (by omega) dX9_kindBy_23 (by decide) (fun c_23 => ?_) (fun c_23 => ?_)
      · refine lv_iload_n hx hb dX9_kindBy_30 rfl (lv_at hl 0 rfl) ?_
        refine lv_bipush (v := nI 117) hx hb dX9_kindBy_31 rfl ?_
        refine wn_ne (tgt := 40) hx hb (by omega) (by omega) dX9_kindBy_33 (by decide) (fun c_33 => ?_) (fun c_33 => ?_)
        · refine lv_iload_n hx hb dX9_kindBy_40 rfl (lv_at hl 0 rfl) ?_
          refine lv_bipush (v := nI 104) hx hb dX9_kindBy_41 rfl ?_
          refine wn_ne (tgt := 50) hx hb (by omega) (by omega) dX9_kindBy_43 (by decide) (fun c_43 => ?_) (fun c_43 => ?_)
          · refine lv_ldc (v := (-1000000)) hx hb hown (hts _ q1306) dX9_kindBy_50 ?_
            exact rd_iret hx hb hr hlk hQ dX9_kindBy_52 (by unfold knd; subst_vars; first | rfl | simp_all [oI])
          · refine lv_iconst (v := nI 5) hx hb dX9_kindBy_46 rfl ?_
            refine lv_goto (tgt := 52) hx hb dX9_kindBy_47 (by decide) ?_
            exact rd_iret hx hb hr hlk hQ dX9_kindBy_52 (by unfold knd; subst_vars; first | rfl | simp_all [oI])
        · refine lv_iconst (v := nI 4) hx hb dX9_kindBy_36 rfl ?_
          refine lv_goto (tgt := 52) hx hb dX9_kindBy_37 (by decide) ?_
          exact rd_iret hx hb hr hlk hQ dX9_kindBy_52 (by unfold knd; subst_vars; first | rfl | simp_all [oI])
      · refine lv_iconst (v := nI 3) hx hb dX9_kindBy_26 rfl ?_
        refine lv_goto (tgt := 52) hx hb dX9_kindBy_27 (by decide) ?_
        exact rd_iret hx hb hr hlk hQ dX9_kindBy_52 (by unfold knd; subst_vars; first | rfl | simp_all [oI])
    · refine lv_iconst (v := nI 2) hx hb dX9_kindBy_16 rfl ?_
      refine lv_goto (tgt := 52) hx hb dX9_kindBy_17 (by decide) ?_
      exact rd_iret hx hb hr hlk hQ dX9_kindBy_52 (by unfold knd; subst_vars; first | rfl | simp_all [oI])
  · refine lv_iconst (v := nI 1) hx hb dX9_kindBy_6 rfl ?_
    refine lv_goto (tgt := 52) hx hb dX9_kindBy_7 (by decide) ?_
    exact rd_iret hx hb hr hlk hQ dX9_kindBy_52 (by unfold knd; subst_vars; first | rfl | simp_all [oI])
