set_option maxRecDepth 100000
set_option maxHeartbeats 4000000 in
theorem m_X0_fewestOf (l : Launch) (D : va_G) (ca : Nat → ClassId) (h : Nat) (a0 : Nat) (a1 : Nat) (tg : Nat) (a6 : Nat) (a8 : Nat) (tr : Nat) (a11 : Nat) (tpd : Nat) (ac : Nat) (lat : Int32) (t1 : Int32) (g : Nat) (lsq : Nat) (b3 : Nat) (b4 : Nat) (b5 : Nat) (b6 : Nat) (b8 : Nat) (b9 : Nat) (b10 : Nat) (b11 : Nat) (d : Nat → Nat) (fz : va_W) (of : Nat) (vis : Nat) (hd : dOK d) (hsq : SqL ca fz lsq d) (ho : of < 256) (hv : vis < 256) : Met l yX0_fewestOf (ws_ yX0_fewestOf cX0_fewestOf 5 (some .int)) (rmL 8) (PcR (KK D ca) D [.ref h, .int (nI of), .int (nI vis)] (([(h, .inr (0, [.ref a0, .ref a1, .int (nI tpd), .int lat, .ref g, .ref tg, .ref a6, .int (nI ac), .ref a8, .ref tr, .int t1, .ref a11])), (g, .inr (1, [.int (nI (d 0)), .int (nI (d 1)), .ref lsq, .ref b3, .ref b4, .ref b5, .ref b6, .int (nI (d 3)), .ref b8, .ref b9, .ref b10, .ref b11])), (b3, .inl (ca 0, 8, .inl (dv (shF d)))), (b6, .inl (ca 0, 8, .inl (seF d))), (b8, .inl (ca 0, 5, .inl (dv (caF d)))), (b9, .inl (ca 0, 5, .inl (dv (eaF d))))] : va_W) ++ fz)) (vp_Si (fun zr => zr = oI (fewN (gD d) of vis (of + 1)))) 0 0 (fun _ => False) := by
  refine rd_head (by decide) (Nat.le_of_ble_eq_true rfl) ?_
  intro zp ze zs zm za zb zt zc ls zQ hx hb hml hr hlk hown hts hK hP hl hQ
  have hown : zs.vm.findClass RX0 = some zm.cls := hown
  have hl : lv_has ls 5 [(0, .ref h), (1, .int (nI of)), (2, .int (nI vis))] := hl
  have hF : CallFix zp zm zc cX0_fewestOf 5 zs za lw_all RX0 := ⟨hx, hb, hml, hown, hts⟩
  have hKK := hK
  have hK : K1 D ca zs := hKK.1
  have hd2 : d 2 ≤ 8 := hd.2.2.1
  have hd3 : d 3 ≤ 5 := hd.2.2.2.1
  have hd0 : d 0 ≤ 9 := hd.1
  have hd1 : d 1 ≤ 8 := hd.2.1
  have hgb : ∀ z, gD d z < 256 := fun z => gD_lt hd3
  refine lv_ldc (v := (-1000000)) hx hb hown (hts _ q913) dX0_fewestOf_0 ?_
  refine lv_istore_n (lv' := [(3, .int ((-1000000))), (0, .ref h), (1, .int (nI of)), (2, .int (nI vis))]) hx hb dX0_fewestOf_2 rfl hl (by decide) rfl (fun ls hl => ?_)
  refine lv_iconst (v := nI 0) hx hb dX0_fewestOf_3 rfl ?_
  refine lv_istore (lv' := [(4, .int (nI 0)), (3, .int ((-1000000))), (0, .ref h), (1, .int (nI of)), (2, .int (nI vis))]) hx hb dX0_fewestOf_4 hl (by decide) rfl (fun ls hl => ?_)
  have lp_6 : ∀ (zn : Nat) (i : Nat), (i ≤ of + 1) →  (of + 1 - i) < zn → ∀ (ls : Array Slot), lv_has ls 5 [(0, .ref h), (1, .int (nI of)), (2, .int (nI vis)), (3, .int (oI (fewN (gD d) of vis i))), (4, .int (nI i))] → W zp l ze (rmL 8) zs zm za zb zt zc zs.heap [] 0 0 zQ (F0 zm 6 ls []) := by
    intro zn
    induction zn with
    | zero => intro i hi hmu_6; exact absurd hmu_6 (Nat.not_lt_zero _)
    | succ zn ih_6 =>
      intro i hi hmu_6 ls hl
      have hgi := hgb i
      refine lv_iload hx hb dX0_fewestOf_6 (lv_at hl 4 rfl) ?_
      refine lv_iload_n hx hb dX0_fewestOf_8 rfl (lv_at hl 1 rfl) ?_
      refine wn_gt (tgt := 68) hx hb (by omega) (by omega) dX0_fewestOf_9 (by decide) (fun c_9 => ?_) (fun c_9 => ?_)
      · have c_9n := Nat.not_le.mpr c_9
        refine lv_iload_n hx hb dX0_fewestOf_68 rfl (lv_at hl 3 rfl) ?_
        exact rd_iret hx hb hr hlk hQ dX0_fewestOf_69 (by have hie : i = of + 1 := (by omega); rw [hie])
      · have c_9n := Nat.not_lt.mpr c_9
        refine lv_iload hx hb dX0_fewestOf_12 (lv_at hl 4 rfl) ?_
        refine lv_iload_n hx hb dX0_fewestOf_14 rfl (lv_at hl 1 rfl) ?_
        refine lv_iconst (v := (-1)) hx hb dX0_fewestOf_15 rfl ?_
        refine lv_ixor hx hb dX0_fewestOf_16 ?_
        refine lv_iand hx hb dX0_fewestOf_17 ?_
        refine lv_if_ne (tgt := 62) hx hb dX0_fewestOf_18 (by decide) (fun c_18 => ?_) (fun c_18 => ?_)
        · refine lv_iinc (v := nI (i + 1)) (lv' := [(4, .int (nI (i + 1))), (0, .ref h), (1, .int (nI of)), (2, .int (nI vis)), (3, .int (oI (fewN (gD d) of vis i)))]) hx hb dX0_fewestOf_62 hl (k := 4) rfl (nI_add i 1) (by decide) rfl (fun ls hl => ?_)
          refine lv_goto (tgt := 6) hx hb dX0_fewestOf_65 (by decide) ?_
          have e_1 : oI (fewN (gD d) of vis i) = oI (fewN (gD d) of vis (i + 1)) := by first | rfl | (first | exact congrArg oI (fewN_n1 (by rw [← subN_iff (by omega)]; assumption)).symm | exact (congrArg oI ((fewN_n3 (by assumption)).trans (by assumption))).symm | exact (congrArg oI ((fewN_n2 (by rw [hO_21]; exact decide_eq_false (by omega))).trans hO_21)).symm | exact (congrArg oI (fewN_y (by rw [← subN_iff (by omega)]; assumption) (by rw [hO_21]; first | rfl | exact decide_eq_true (by omega)) (by assumption))).symm)
          have e_2 : i + 1 = (i + 1) := by first | rfl | (first | exact congrArg oI (fewN_n1 (by rw [← subN_iff (by omega)]; assumption)).symm | exact (congrArg oI ((fewN_n3 (by assumption)).trans (by assumption))).symm | exact (congrArg oI ((fewN_n2 (by rw [hO_21]; exact decide_eq_false (by omega))).trans hO_21)).symm | exact (congrArg oI (fewN_y (by rw [← subN_iff (by omega)]; assumption) (by rw [hO_21]; first | rfl | exact decide_eq_true (by omega)) (by assumption))).symm)
          exact ih_6 (i + 1) (by omega) (by omega) ls (lv_to (lv_sub hl [1, 2, 3, 4, 0] rfl) (Eq.trans (congrArg (fun x => ([(0, .ref h), (1, .int (nI of)), (2, .int (nI vis)), (3, .int x), (4, .int (nI (i + 1)))] : List (Nat × Value))) e_1) (congrArg (fun x => ([(0, .ref h), (1, .int (nI of)), (2, .int (nI vis)), (3, .int (oI (fewN (gD d) of vis (i + 1)))), (4, .int (nI x))] : List (Nat × Value))) e_2)))
        · rcases hO_21 : fewN (gD d) of vis i with _ | bs
          · rw [hO_21] at hl
            have hl : lv_has ls 5 [(0, .ref h), (1, .int (nI of)), (2, .int (nI vis)), (3, .int ((-1000000))), (4, .int (nI i))] := hl
            refine lv_iload_n hx hb dX0_fewestOf_21 rfl (lv_at hl 3 rfl) ?_
            refine lv_ldc (v := (-1000000)) hx hb hown (hts _ q913) dX0_fewestOf_22 ?_
            refine lv_icmp_eq (tgt := 42) hx hb dX0_fewestOf_24 (by decide) (fun c_24 => ?_) (fun zh => by first | exact absurd rfl zh | exact absurd zh (by simp))
            refine lv_aload_n hx hb dX0_fewestOf_42 rfl (lv_at hl 0 rfl) ?_
            refine va_get (D := D) (ci := 0) (v := .ref g) (C := RX0) (T := TX0) (N := 12) hx hb hts in_X0 hown hK hP 0 rfl rfl 4 (by decide) (hts _ q260) (fun _ h9 => h9) rfl dX0_fewestOf_43 ?_
            refine lv_iload hx hb dX0_fewestOf_46 (lv_at hl 4 rfl) ?_
            refine rd_callV hF (m_X1_guests l D ca g lsq b3 b4 b5 b6 b8 b9 b10 b11 d fz i (by assumption) (by assumption) (by first | assumption | omega)) (cs_X1_guests hts q894 ⟨by decide, by decide⟩) (KK_mv D ca) hKK (wp_tail hP [1, 2, 3, 4, 5] rfl) (va_recv hK hP (ci := 1) (q0 := 1) rfl rfl) rfl hl.1 rfl (Nat.le_of_ble_eq_true rfl) dX0_fewestOf_48 ⟨Nat.zero_le _, Nat.zero_le _⟩ ?_
            refine lv_iload_n hx hb dX0_fewestOf_51 rfl (lv_at hl 2 rfl) ?_
            refine wn_ne (tgt := 60) hx hb (by omega) (by omega) dX0_fewestOf_52 (by decide) (fun c_52 => ?_) (fun c_52 => ?_)
            · refine lv_iload_n hx hb dX0_fewestOf_60 rfl (lv_at hl 3 rfl) ?_
              refine lv_istore_n (lv' := [(3, .int ((-1000000))), (0, .ref h), (1, .int (nI of)), (2, .int (nI vis)), (4, .int (nI i))]) hx hb dX0_fewestOf_61 rfl hl (by decide) rfl (fun ls hl => ?_)
              refine lv_iinc (v := nI (i + 1)) (lv' := [(4, .int (nI (i + 1))), (3, .int ((-1000000))), (0, .ref h), (1, .int (nI of)), (2, .int (nI vis))]) hx hb dX0_fewestOf_62 hl (k := 4) rfl (nI_add i 1) (by decide) rfl (fun ls hl => ?_)
              refine lv_goto (tgt := 6) hx hb dX0_fewestOf_65 (by decide) ?_
              have e_3 : (-1000000) = oI (fewN (gD d) of vis (i + 1)) := by first | rfl | (first | exact congrArg oI (fewN_n1 (by rw [← subN_iff (by omega)]; assumption)).symm | exact (congrArg oI ((fewN_n3 (by assumption)).trans (by assumption))).symm | exact (congrArg oI ((fewN_n2 (by rw [hO_21]; exact decide_eq_false (by omega))).trans hO_21)).symm | exact (congrArg oI (fewN_y (by rw [← subN_iff (by omega)]; assumption) (by rw [hO_21]; first | rfl | exact decide_eq_true (by omega)) (by assumption))).symm)
              have e_4 : i + 1 = (i + 1) := by first | rfl | (first | exact congrArg oI (fewN_n1 (by rw [← subN_iff (by omega)]; assumption)).symm | exact (congrArg oI ((fewN_n3 (by assumption)).trans (by assumption))).symm | exact (congrArg oI ((fewN_n2 (by rw [hO_21]; exact decide_eq_false (by omega))).trans hO_21)).symm | exact (congrArg oI (fewN_y (by rw [← subN_iff (by omega)]; assumption) (by rw [hO_21]; first | rfl | exact decide_eq_true (by omega)) (by assumption))).symm)
              exact ih_6 (i + 1) (by omega) (by omega) ls (lv_to (lv_sub hl [2, 3, 4, 1, 0] rfl) (Eq.trans (congrArg (fun x => ([(0, .ref h), (1, .int (nI of)), (2, .int (nI vis)), (3, .int x), (4, .int (nI (i + 1)))] : List (Nat × Value))) e_3) (congrArg (fun x => ([(0, .ref h), (1, .int (nI of)), (2, .int (nI vis)), (3, .int (oI (fewN (gD d) of vis (i + 1)))), (4, .int (nI x))] : List (Nat × Value))) e_4)))
            · refine lv_iload hx hb dX0_fewestOf_55 (lv_at hl 4 rfl) ?_
              refine lv_goto (tgt := 61) hx hb dX0_fewestOf_57 (by decide) ?_
              refine lv_istore_n (lv' := [(3, .int (nI i)), (0, .ref h), (1, .int (nI of)), (2, .int (nI vis)), (4, .int (nI i))]) hx hb dX0_fewestOf_61 rfl hl (by decide) rfl (fun ls hl => ?_)
              refine lv_iinc (v := nI (i + 1)) (lv' := [(4, .int (nI (i + 1))), (3, .int (nI i)), (0, .ref h), (1, .int (nI of)), (2, .int (nI vis))]) hx hb dX0_fewestOf_62 hl (k := 4) rfl (nI_add i 1) (by decide) rfl (fun ls hl => ?_)
              refine lv_goto (tgt := 6) hx hb dX0_fewestOf_65 (by decide) ?_
              have e_5 : nI i = oI (fewN (gD d) of vis (i + 1)) := by first | rfl | (first | exact congrArg oI (fewN_n1 (by rw [← subN_iff (by omega)]; assumption)).symm | exact (congrArg oI ((fewN_n3 (by assumption)).trans (by assumption))).symm | exact (congrArg oI ((fewN_n2 (by rw [hO_21]; exact decide_eq_false (by omega))).trans hO_21)).symm | exact (congrArg oI (fewN_y (by rw [← subN_iff (by omega)]; assumption) (by rw [hO_21]; first | rfl | exact decide_eq_true (by omega)) (by assumption))).symm)
              have e_6 : i + 1 = (i + 1) := by first | rfl | (first | exact congrArg oI (fewN_n1 (by rw [← subN_iff (by omega)]; assumption)).symm | exact (congrArg oI ((fewN_n3 (by assumption)).trans (by assumption))).symm | exact (congrArg oI ((fewN_n2 (by rw [hO_21]; exact decide_eq_false (by omega))).trans hO_21)).symm | exact (congrArg oI (fewN_y (by rw [← subN_iff (by omega)]; assumption) (by rw [hO_21]; first | rfl | exact decide_eq_true (by omega)) (by assumption))).symm)
              exact ih_6 (i + 1) (by omega) (by omega) ls (lv_to (lv_sub hl [2, 3, 4, 1, 0] rfl) (Eq.trans (congrArg (fun x => ([(0, .ref h), (1, .int (nI of)), (2, .int (nI vis)), (3, .int x), (4, .int (nI (i + 1)))] : List (Nat × Value))) e_5) (congrArg (fun x => ([(0, .ref h), (1, .int (nI of)), (2, .int (nI vis)), (3, .int (oI (fewN (gD d) of vis (i + 1)))), (4, .int (nI x))] : List (Nat × Value))) e_6)))
          · rw [hO_21] at hl
            have hl : lv_has ls 5 [(0, .ref h), (1, .int (nI of)), (2, .int (nI vis)), (3, .int (nI bs)), (4, .int (nI i))] := hl
            have hbs : bs < i := fewN_lt (by assumption)
            have hb1 := bitN_le i 8
            have hb2 := bitN_le bs 8
            refine lv_iload_n hx hb dX0_fewestOf_21 rfl (lv_at hl 3 rfl) ?_
            refine lv_ldc (v := (-1000000)) hx hb hown (hts _ q913) dX0_fewestOf_22 ?_
            refine lv_icmp_eq (tgt := 42) hx hb dX0_fewestOf_24 (by decide) (fun zh => by exact absurd zh (nI_neN (by omega))) (fun c_24 => ?_)
            refine lv_iload hx hb dX0_fewestOf_27 (lv_at hl 4 rfl) ?_
            refine rd_callS hF (m_J16_bitCount l D ca i (by first | assumption | omega)) (cs_J16_bitCount hts q914 ⟨by decide, by decide⟩) (K1_mv D ca) hK (hP.sub [] rfl) rfl hl.1 rfl (Nat.le_of_ble_eq_true rfl) dX0_fewestOf_29 ⟨Nat.zero_le _, Nat.zero_le _⟩ ?_
            refine lv_iload_n hx hb dX0_fewestOf_32 rfl (lv_at hl 3 rfl) ?_
            refine rd_callS hF (m_J16_bitCount l D ca bs (by first | assumption | omega)) (cs_J16_bitCount hts q914 ⟨by decide, by decide⟩) (K1_mv D ca) hK (hP.sub [] rfl) rfl hl.1 rfl (Nat.le_of_ble_eq_true rfl) dX0_fewestOf_33 ⟨Nat.zero_le _, Nat.zero_le _⟩ ?_
            refine wn_lt (tgt := 42) hx hb (by omega) (by omega) dX0_fewestOf_36 (by decide) (fun c_36 => ?_) (fun c_36 => ?_)
            · have c_36n := Nat.not_le.mpr c_36
              refine lv_aload_n hx hb dX0_fewestOf_42 rfl (lv_at hl 0 rfl) ?_
              refine va_get (D := D) (ci := 0) (v := .ref g) (C := RX0) (T := TX0) (N := 12) hx hb hts in_X0 hown hK hP 0 rfl rfl 4 (by decide) (hts _ q260) (fun _ h9 => h9) rfl dX0_fewestOf_43 ?_
              refine lv_iload hx hb dX0_fewestOf_46 (lv_at hl 4 rfl) ?_
              refine rd_callV hF (m_X1_guests l D ca g lsq b3 b4 b5 b6 b8 b9 b10 b11 d fz i (by assumption) (by assumption) (by first | assumption | omega)) (cs_X1_guests hts q894 ⟨by decide, by decide⟩) (KK_mv D ca) hKK (wp_tail hP [1, 2, 3, 4, 5] rfl) (va_recv hK hP (ci := 1) (q0 := 1) rfl rfl) rfl hl.1 rfl (Nat.le_of_ble_eq_true rfl) dX0_fewestOf_48 ⟨Nat.zero_le _, Nat.zero_le _⟩ ?_
              refine lv_iload_n hx hb dX0_fewestOf_51 rfl (lv_at hl 2 rfl) ?_
              refine wn_ne (tgt := 60) hx hb (by omega) (by omega) dX0_fewestOf_52 (by decide) (fun c_52 => ?_) (fun c_52 => ?_)
              · refine lv_iload_n hx hb dX0_fewestOf_60 rfl (lv_at hl 3 rfl) ?_
                refine lv_istore_n (lv' := [(3, .int (nI bs)), (0, .ref h), (1, .int (nI of)), (2, .int (nI vis)), (4, .int (nI i))]) hx hb dX0_fewestOf_61 rfl hl (by decide) rfl (fun ls hl => ?_)
                refine lv_iinc (v := nI (i + 1)) (lv' := [(4, .int (nI (i + 1))), (3, .int (nI bs)), (0, .ref h), (1, .int (nI of)), (2, .int (nI vis))]) hx hb dX0_fewestOf_62 hl (k := 4) rfl (nI_add i 1) (by decide) rfl (fun ls hl => ?_)
                refine lv_goto (tgt := 6) hx hb dX0_fewestOf_65 (by decide) ?_
                have e_7 : nI bs = oI (fewN (gD d) of vis (i + 1)) := by first | rfl | (first | exact congrArg oI (fewN_n1 (by rw [← subN_iff (by omega)]; assumption)).symm | exact (congrArg oI ((fewN_n3 (by assumption)).trans (by assumption))).symm | exact (congrArg oI ((fewN_n2 (by rw [hO_21]; exact decide_eq_false (by omega))).trans hO_21)).symm | exact (congrArg oI (fewN_y (by rw [← subN_iff (by omega)]; assumption) (by rw [hO_21]; first | rfl | exact decide_eq_true (by omega)) (by assumption))).symm)
                have e_8 : i + 1 = (i + 1) := by first | rfl | (first | exact congrArg oI (fewN_n1 (by rw [← subN_iff (by omega)]; assumption)).symm | exact (congrArg oI ((fewN_n3 (by assumption)).trans (by assumption))).symm | exact (congrArg oI ((fewN_n2 (by rw [hO_21]; exact decide_eq_false (by omega))).trans hO_21)).symm | exact (congrArg oI (fewN_y (by rw [← subN_iff (by omega)]; assumption) (by rw [hO_21]; first | rfl | exact decide_eq_true (by omega)) (by assumption))).symm)
                exact ih_6 (i + 1) (by omega) (by omega) ls (lv_to (lv_sub hl [2, 3, 4, 1, 0] rfl) (Eq.trans (congrArg (fun x => ([(0, .ref h), (1, .int (nI of)), (2, .int (nI vis)), (3, .int x), (4, .int (nI (i + 1)))] : List (Nat × Value))) e_7) (congrArg (fun x => ([(0, .ref h), (1, .int (nI of)), (2, .int (nI vis)), (3, .int (oI (fewN (gD d) of vis (i + 1)))), (4, .int (nI x))] : List (Nat × Value))) e_8)))
              · refine lv_iload hx hb dX0_fewestOf_55 (lv_at hl 4 rfl) ?_
                refine lv_goto (tgt := 61) hx hb dX0_fewestOf_57 (by decide) ?_
                refine lv_istore_n (lv' := [(3, .int (nI i)), (0, .ref h), (1, .int (nI of)), (2, .int (nI vis)), (4, .int (nI i))]) hx hb dX0_fewestOf_61 rfl hl (by decide) rfl (fun ls hl => ?_)
                refine lv_iinc (v := nI (i + 1)) (lv' := [(4, .int (nI (i + 1))), (3, .int (nI i)), (0, .ref h), (1, .int (nI of)), (2, .int (nI vis))]) hx hb dX0_fewestOf_62 hl (k := 4) rfl (nI_add i 1) (by decide) rfl (fun ls hl => ?_)
                refine lv_goto (tgt := 6) hx hb dX0_fewestOf_65 (by decide) ?_
                have e_9 : nI i = oI (fewN (gD d) of vis (i + 1)) := by first | rfl | (first | exact congrArg oI (fewN_n1 (by rw [← subN_iff (by omega)]; assumption)).symm | exact (congrArg oI ((fewN_n3 (by assumption)).trans (by assumption))).symm | exact (congrArg oI ((fewN_n2 (by rw [hO_21]; exact decide_eq_false (by omega))).trans hO_21)).symm | exact (congrArg oI (fewN_y (by rw [← subN_iff (by omega)]; assumption) (by rw [hO_21]; first | rfl | exact decide_eq_true (by omega)) (by assumption))).symm)
                have e_10 : i + 1 = (i + 1) := by first | rfl | (first | exact congrArg oI (fewN_n1 (by rw [← subN_iff (by omega)]; assumption)).symm | exact (congrArg oI ((fewN_n3 (by assumption)).trans (by assumption))).symm | exact (congrArg oI ((fewN_n2 (by rw [hO_21]; exact decide_eq_false (by omega))).trans hO_21)).symm | exact (congrArg oI (fewN_y (by rw [← subN_iff (by omega)]; assumption) (by rw [hO_21]; first | rfl | exact decide_eq_true (by omega)) (by assumption))).symm)
                exact ih_6 (i + 1) (by omega) (by omega) ls (lv_to (lv_sub hl [2, 3, 4, 1, 0] rfl) (Eq.trans (congrArg (fun x => ([(0, .ref h), (1, .int (nI of)), (2, .int (nI vis)), (3, .int x), (4, .int (nI (i + 1)))] : List (Nat × Value))) e_9) (congrArg (fun x => ([(0, .ref h), (1, .int (nI of)), (2, .int (nI vis)), (3, .int (oI (fewN (gD d) of vis (i + 1)))), (4, .int (nI x))] : List (Nat × Value))) e_10)))
            · have c_36n := Nat.not_lt.mpr c_36
              refine lv_goto (tgt := 62) hx hb dX0_fewestOf_39 (by decide) ?_
              refine lv_iinc (v := nI (i + 1)) (lv' := [(4, .int (nI (i + 1))), (0, .ref h), (1, .int (nI of)), (2, .int (nI vis)), (3, .int (nI bs))]) hx hb dX0_fewestOf_62 hl (k := 4) rfl (nI_add i 1) (by decide) rfl (fun ls hl => ?_)
              refine lv_goto (tgt := 6) hx hb dX0_fewestOf_65 (by decide) ?_
              have e_11 : nI bs = oI (fewN (gD d) of vis (i + 1)) := by first | rfl | (first | exact congrArg oI (fewN_n1 (by rw [← subN_iff (by omega)]; assumption)).symm | exact (congrArg oI ((fewN_n3 (by assumption)).trans (by assumption))).symm | exact (congrArg oI ((fewN_n2 (by rw [hO_21]; exact decide_eq_false (by omega))).trans hO_21)).symm | exact (congrArg oI (fewN_y (by rw [← subN_iff (by omega)]; assumption) (by rw [hO_21]; first | rfl | exact decide_eq_true (by omega)) (by assumption))).symm)
              have e_12 : i + 1 = (i + 1) := by first | rfl | (first | exact congrArg oI (fewN_n1 (by rw [← subN_iff (by omega)]; assumption)).symm | exact (congrArg oI ((fewN_n3 (by assumption)).trans (by assumption))).symm | exact (congrArg oI ((fewN_n2 (by rw [hO_21]; exact decide_eq_false (by omega))).trans hO_21)).symm | exact (congrArg oI (fewN_y (by rw [← subN_iff (by omega)]; assumption) (by rw [hO_21]; first | rfl | exact decide_eq_true (by omega)) (by assumption))).symm)
              exact ih_6 (i + 1) (by omega) (by omega) ls (lv_to (lv_sub hl [1, 2, 3, 4, 0] rfl) (Eq.trans (congrArg (fun x => ([(0, .ref h), (1, .int (nI of)), (2, .int (nI vis)), (3, .int x), (4, .int (nI (i + 1)))] : List (Nat × Value))) e_11) (congrArg (fun x => ([(0, .ref h), (1, .int (nI of)), (2, .int (nI vis)), (3, .int (oI (fewN (gD d) of vis (i + 1)))), (4, .int (nI x))] : List (Nat × Value))) e_12)))
  have e_13 : (-1000000) = oI (fewN (gD d) of vis 0) := by first | rfl | (first | exact congrArg oI (fewN_n1 (by rw [← subN_iff (by omega)]; assumption)).symm | exact (congrArg oI ((fewN_n3 (by assumption)).trans (by assumption))).symm | exact (congrArg oI ((fewN_n2 (by rw [hO_21]; exact decide_eq_false (by omega))).trans hO_21)).symm | exact (congrArg oI (fewN_y (by rw [← subN_iff (by omega)]; assumption) (by rw [hO_21]; first | rfl | exact decide_eq_true (by omega)) (by assumption))).symm)
  exact lp_6 ((of + 1 - 0) + 1) 0 (by omega) (by omega) ls (lv_to (lv_sub hl [2, 3, 4, 1, 0] rfl) (congrArg (fun x => ([(0, .ref h), (1, .int (nI of)), (2, .int (nI vis)), (3, .int x), (4, .int (nI 0))] : List (Nat × Value))) e_13))
theorem cs_X0_areVisitors {R : Room} {s : State} {args : Array Value} {own : String} {index : Nat} (hts : ∀ w ∈ lw_all, w.before args s = true) (hl : Cond.methodLink own index yX0_areVisitors ∈ lw_all) {rm : Room} {mc ms : Nat} (hR : rm.frames + 1 ≤ R.frames ∧ 8 + (2 + 11) + rm.locals ≤ R.locals) (hc : rm.cells = mc := by rfl) (hs : rm.slots = ms := by rfl) : CallW R s args own RX0 index yX0_areVisitors cX0_areVisitors 2 (some .boolean) (ws_ yX0_areVisitors cX0_areVisitors 2 (some .boolean)) rm mc ms 1 := cwV 1 hts (lw_V hl q904 qs23 q58 q905) rfl hc hs (by decide +kernel) hR
theorem cs_X0_isHalf {R : Room} {s : State} {args : Array Value} {own : String} {index : Nat} (hts : ∀ w ∈ lw_all, w.before args s = true) (hl : Cond.methodLink own index yX0_isHalf ∈ lw_all) {rm : Room} {mc ms : Nat} (hR : rm.frames + 1 ≤ R.frames ∧ 8 + (1 + 11) + rm.locals ≤ R.locals) (hc : rm.cells = mc := by rfl) (hs : rm.slots = ms := by rfl) : CallB R s args own index yX0_isHalf cX0_isHalf 1 (some .boolean) (ws_ yX0_isHalf cX0_isHalf 1 (some .boolean)) rm mc ms 1 ∧ (Cond.static yX0_isHalf).before args s = true := va_cwS 1 hts (lw_S hl q907 q58 q908) rfl hc hs (by decide +kernel) hR
theorem cs_X0_fewestOf {R : Room} {s : State} {args : Array Value} {own : String} {index : Nat} (hts : ∀ w ∈ lw_all, w.before args s = true) (hl : Cond.methodLink own index yX0_fewestOf ∈ lw_all) {rm : Room} {mc ms : Nat} (hR : rm.frames + 1 ≤ R.frames ∧ 8 + (5 + 11) + rm.locals ≤ R.locals) (hc : rm.cells = mc := by rfl) (hs : rm.slots = ms := by rfl) : CallW R s args own RX0 index yX0_fewestOf cX0_fewestOf 5 (some .int) (ws_ yX0_fewestOf cX0_fewestOf 5 (some .int)) rm mc ms 2 := cwV 2 hts (lw_V hl q911 qs24 q58 q912) rfl hc hs (by decide +kernel) hR
set_option maxHeartbeats 4000000 in
theorem m_X0_fewest (l : Launch) (D : va_G) (ca : Nat → ClassId) (h : Nat) (a0 : Nat) (a1 : Nat) (tg : Nat) (a6 : Nat) (a8 : Nat) (tr : Nat) (a11 : Nat) (tpd : Nat) (ac : Nat) (lat : Int32) (t1 : Int32) (g : Nat) (lsq : Nat) (b3 : Nat) (b4 : Nat) (b5 : Nat) (b6 : Nat) (b8 : Nat) (b9 : Nat) (b10 : Nat) (b11 : Nat) (d : Nat → Nat) (fz : va_W) (x : Int32) (w : Int32) (hd : dOK d) (hsq : SqL ca fz lsq d) : Met l yX0_fewest (ws_ yX0_fewest cX0_fewest 4 (some .int)) (rmL 9) (PcR (KK D ca) D [.ref h, .int x, .int w] (([(h, .inr (0, [.ref a0, .ref a1, .int (nI tpd), .int lat, .ref g, .ref tg, .ref a6, .int (nI ac), .ref a8, .ref tr, .int t1, .ref a11])), (g, .inr (1, [.int (nI (d 0)), .int (nI (d 1)), .ref lsq, .ref b3, .ref b4, .ref b5, .ref b6, .int (nI (d 3)), .ref b8, .ref b9, .ref b10, .ref b11])), (b3, .inl (ca 0, 8, .inl (dv (shF d)))), (b6, .inl (ca 0, 8, .inl (seF d))), (b8, .inl (ca 0, 5, .inl (dv (caF d)))), (b9, .inl (ca 0, 5, .inl (dv (eaF d))))] : va_W) ++ fz)) (vp_Si (fun zr => zr = fewI d x w)) 0 0 (fun _ => False) := by
  refine rd_head (by decide) (Nat.le_of_ble_eq_true rfl) ?_
  intro zp ze zs zm za zb zt zc ls zQ hx hb hml hr hlk hown hts hK hP hl hQ
  have hown : zs.vm.findClass RX0 = some zm.cls := hown
  have hl : lv_has ls 4 [(0, .ref h), (1, .int x), (2, .int w)] := hl
  have hF : CallFix zp zm zc cX0_fewest 4 zs za lw_all RX0 := ⟨hx, hb, hml, hown, hts⟩
  have hKK := hK
  have hK : K1 D ca zs := hKK.1
  have hd2 : d 2 ≤ 8 := hd.2.2.1
  have hd3 : d 3 ≤ 5 := hd.2.2.2.1
  have hd0 : d 0 ≤ 9 := hd.1
  have hd1 : d 1 ≤ 8 := hd.2.1
  have hp2 := pow_8 hd2
  have hp3 := pow_8 (show d 3 ≤ 8 by omega)
  refine lv_aload_n hx hb dX0_fewest_0 rfl (lv_at hl 0 rfl) ?_
  refine rd_callV hF (m_X0_isDoor l D ca h a0 a1 tg a6 a8 tr a11 tpd ac lat t1 g lsq b3 b4 b5 b6 b8 b9 b10 b11 d fz (by assumption) (by assumption)) (cs_X0_isDoor hts q844 ⟨by decide, by decide⟩) (KK_mv D ca) hKK (wp_tail hP [0, 1] rfl) (va_recv hK hP (ci := 0) (q0 := 0) rfl rfl) rfl hl.1 rfl (Nat.le_of_ble_eq_true rfl) dX0_fewest_1 ⟨Nat.zero_le _, Nat.zero_le _⟩ ?_
  refine wb_ne (tgt := 10) hx hb dX0_fewest_4 (by decide) (fun c_4 => ?_) (fun c_4 => ?_)
  · refine lv_aload_n hx hb dX0_fewest_10 rfl (lv_at hl 0 rfl) ?_
    refine lv_iload_n hx hb dX0_fewest_11 rfl (lv_at hl 1 rfl) ?_
    refine rd_callV hF (m_X0_areVisitors l D ca h a0 a1 tg a6 a8 tr a11 tpd ac lat t1 g lsq b3 b4 b5 b6 b8 b9 b10 b11 d fz x (by assumption) (by assumption)) (cs_X0_areVisitors hts q902 ⟨by decide, by decide⟩) (KK_mv D ca) hKK (wp_tail hP [0, 1] rfl) (va_recv hK hP (ci := 0) (q0 := 0) rfl rfl) rfl hl.1 rfl (Nat.le_of_ble_eq_true rfl) dX0_fewest_12 ⟨Nat.zero_le _, Nat.zero_le _⟩ ?_
    refine wb_eq (tgt := 25) hx hb dX0_fewest_15 (by decide) (fun c_15 => ?_) (fun c_15 => ?_)
    · have ix_x : ixO x (2 ^ d 3) = none := ixO_f c_15
      refine lv_ldc (v := (-1000001)) hx hb hown (hts _ q306) dX0_fewest_25 ?_
      exact rd_iret hx hb hr hlk hQ dX0_fewest_27 (by first | (simp [fewI, bI, nI1_1, nI_0, c_4, c_15, ix_x]; done) | (simp [fewI, bI, nI1_1, nI_0, c_4, c_15, ix_x]; omega) | grind [fewI, bI, nI1_1, nI_0])
    · obtain ⟨vis, hvis, hxvis⟩ := (ltB_iff (by omega)).mp c_15
      subst hxvis
      have ix_vis : ixO (nI vis) (2 ^ d 3) = some vis := ixO_t hvis (by omega)
      refine lv_iload_n hx hb dX0_fewest_18 rfl (lv_at hl 2 rfl) ?_
      refine rd_callS hF (m_X0_isHalf l D ca w ) (cs_X0_isHalf hts q906 ⟨by decide, by decide⟩) (K1_mv D ca) hK (hP.sub [] rfl) rfl hl.1 rfl (Nat.le_of_ble_eq_true rfl) dX0_fewest_19 ⟨Nat.zero_le _, Nat.zero_le _⟩ ?_
      refine wb_ne (tgt := 28) hx hb dX0_fewest_22 (by decide) (fun c_22 => ?_) (fun c_22 => ?_)
      · obtain ⟨k, hk, hxk⟩ := (ltB_iff (by omega)).mp c_22
        subst hxk
        have ix_k : ixO (nI k) 2 = some k := ixO_t hk (by omega)
        refine lv_aload_n hx hb dX0_fewest_28 rfl (lv_at hl 0 rfl) ?_
        refine lv_iconst (v := nI 1) hx hb dX0_fewest_29 rfl ?_
        refine lv_aload_n hx hb dX0_fewest_30 rfl (lv_at hl 0 rfl) ?_
        refine va_get (D := D) (ci := 0) (v := .ref g) (C := RX0) (T := TX0) (N := 12) hx hb hts in_X0 hown hK hP 0 rfl rfl 4 (by decide) (hts _ q260) (fun _ h9 => h9) rfl dX0_fewest_31 ?_
        refine rd_callV hF (m_X1_many l D ca g lsq b3 b4 b5 b6 b8 b9 b10 b11 d fz (by assumption) (by assumption)) (cs_X1_many hts q715 ⟨by decide, by decide⟩) (KK_mv D ca) hKK (wp_tail hP [1] rfl) (va_recv hK hP (ci := 1) (q0 := 1) rfl rfl) rfl hl.1 rfl (Nat.le_of_ble_eq_true rfl) dX0_fewest_34 ⟨Nat.zero_le _, Nat.zero_le _⟩ ?_
        refine wn_shl hx hb (by omega) (by omega) dX0_fewest_37 ?_
        refine lv_iconst (v := nI 1) hx hb dX0_fewest_38 rfl ?_
        refine wn_sub hx hb (by omega) dX0_fewest_39 ?_
        refine lv_iload_n hx hb dX0_fewest_40 rfl (lv_at hl 1 rfl) ?_
        refine rd_callV hF (m_X0_fewestOf l D ca h a0 a1 tg a6 a8 tr a11 tpd ac lat t1 g lsq b3 b4 b5 b6 b8 b9 b10 b11 d fz ((1 * 2 ^ (d 2)) - 1) vis (by assumption) (by assumption) (by first | assumption | omega) (by first | assumption | omega)) (cs_X0_fewestOf hts q909 ⟨by decide, by decide⟩) (KK_mv D ca) hKK (wp_tail hP [0, 1, 2, 3, 4, 5] rfl) (va_recv hK hP (ci := 0) (q0 := 0) rfl rfl) rfl hl.1 rfl (Nat.le_of_ble_eq_true rfl) dX0_fewest_41 ⟨Nat.zero_le _, Nat.zero_le _⟩ ?_
        refine lv_istore_n (lv' := [(3, .int (oI (fewN (gD d) ((1 * 2 ^ (d 2)) - 1) vis (((1 * 2 ^ (d 2)) - 1) + 1)))), (0, .ref h), (1, .int (nI vis)), (2, .int (nI k))]) hx hb dX0_fewest_44 rfl hl (by decide) rfl (fun ls hl => ?_)
        rcases hO_45 : fewN (gD d) ((1 * 2 ^ (d 2)) - 1) vis ((1 * 2 ^ (d 2)) - 1 + 1) with _ | bs
        · rw [hO_45] at hl
          have hl : lv_has ls 4 [(3, .int ((-1000000))), (0, .ref h), (1, .int (nI vis)), (2, .int (nI k))] := hl
          refine lv_iload_n hx hb dX0_fewest_45 rfl (lv_at hl 0 rfl) ?_
          refine lv_ldc (v := (-1000000)) hx hb hown (hts _ q913) dX0_fewest_46 ?_
          refine lv_icmp_eq (tgt := 56) hx hb dX0_fewest_48 (by decide) (fun c_48 => ?_) (fun zh => by first | exact absurd rfl zh | exact absurd zh (by simp))
          refine lv_iload_n hx hb dX0_fewest_56 rfl (lv_at hl 0 rfl) ?_
          refine lv_goto (tgt := 64) hx hb dX0_fewest_57 (by decide) ?_
          exact rd_iret hx hb hr hlk hQ dX0_fewest_64 (by first | (simp [fewI, bI, nI1_1, nI_0, c_4, c_15, ix_vis, c_22, ix_k, hO_45]; done) | (simp [fewI, bI, nI1_1, nI_0, c_4, c_15, ix_vis, c_22, ix_k, hO_45]; omega) | grind [fewI, bI, nI1_1, nI_0])
        · rw [hO_45] at hl
          have hl : lv_has ls 4 [(3, .int (nI bs)), (0, .ref h), (1, .int (nI vis)), (2, .int (nI k))] := hl
          have hbs : bs < 1 * 2 ^ d 2 - 1 + 1 := fewN_lt (by assumption)
          refine lv_iload_n hx hb dX0_fewest_45 rfl (lv_at hl 0 rfl) ?_
          refine lv_ldc (v := (-1000000)) hx hb hown (hts _ q913) dX0_fewest_46 ?_
          refine lv_icmp_eq (tgt := 56) hx hb dX0_fewest_48 (by decide) (fun zh => by exact absurd zh (nI_neN (by omega))) (fun c_48 => ?_)
          refine lv_iload_n hx hb dX0_fewest_51 rfl (lv_at hl 3 rfl) ?_
          refine lv_iconst (v := nI 1) hx hb dX0_fewest_52 rfl ?_
          refine wn_ne (tgt := 60) hx hb (by omega) (by omega) dX0_fewest_53 (by decide) (fun c_53 => ?_) (fun c_53 => ?_)
          · refine lv_iload_n hx hb dX0_fewest_60 rfl (lv_at hl 0 rfl) ?_
            refine rd_callS hF (m_J16_bitCount l D ca bs (by first | assumption | omega)) (cs_J16_bitCount hts q914 ⟨by decide, by decide⟩) (K1_mv D ca) hK (hP.sub [] rfl) rfl hl.1 rfl (Nat.le_of_ble_eq_true rfl) dX0_fewest_61 ⟨Nat.zero_le _, Nat.zero_le _⟩ ?_
            exact rd_iret hx hb hr hlk hQ dX0_fewest_64 (by first | (simp [fewI, bI, nI1_1, nI_0, c_4, c_15, ix_vis, c_22, ix_k, hO_45, c_53]; done) | (simp [fewI, bI, nI1_1, nI_0, c_4, c_15, ix_vis, c_22, ix_k, hO_45, c_53]; omega) | grind [fewI, bI, nI1_1, nI_0])
          · refine lv_iload_n hx hb dX0_fewest_56 rfl (lv_at hl 0 rfl) ?_
            refine lv_goto (tgt := 64) hx hb dX0_fewest_57 (by decide) ?_
            exact rd_iret hx hb hr hlk hQ dX0_fewest_64 (by first | (simp [fewI, bI, nI1_1, nI_0, c_4, c_15, ix_vis, c_22, ix_k, hO_45, c_53]; done) | (simp [fewI, bI, nI1_1, nI_0, c_4, c_15, ix_vis, c_22, ix_k, hO_45, c_53]; omega) | grind [fewI, bI, nI1_1, nI_0])
      · have ix_w : ixO w 2 = none := ixO_f c_22
        refine lv_ldc (v := (-1000001)) hx hb hown (hts _ q306) dX0_fewest_25 ?_
        exact rd_iret hx hb hr hlk hQ dX0_fewest_27 (by first | (simp [fewI, bI, nI1_1, nI_0, c_4, c_15, ix_vis, c_22, ix_w]; done) | (simp [fewI, bI, nI1_1, nI_0, c_4, c_15, ix_vis, c_22, ix_w]; omega) | grind [fewI, bI, nI1_1, nI_0])
  · refine lv_ldc (v := (-1000002)) hx hb hown (hts _ q724) dX0_fewest_7 ?_
    exact rd_iret hx hb hr hlk hQ dX0_fewest_9 (by first | (simp [fewI, bI, nI1_1, nI_0, c_4]; done) | (simp [fewI, bI, nI1_1, nI_0, c_4]; omega) | grind [fewI, bI, nI1_1, nI_0])
set_option maxHeartbeats 4000000 in
theorem m_X0_save (l : Launch) (D : va_G) (ca : Nat → ClassId) (h : Nat) (a0 : Nat) (a1 : Nat) (tg : Nat) (a6 : Nat) (a8 : Nat) (tr : Nat) (a11 : Nat) (tpd : Nat) (ac : Nat) (lat : Int32) (t1 : Int32) (g : Nat) (lsq : Nat) (b3 : Nat) (b4 : Nat) (b5 : Nat) (b6 : Nat) (b8 : Nat) (b9 : Nat) (b10 : Nat) (b11 : Nat) (d : Nat → Nat) (fz : va_W) (x : Int32) (w : Int32) (hd : dOK d) (hsq : SqL ca fz lsq d) : Met l yX0_save (ws_ yX0_save cX0_save 4 (some .int)) (rmL 9) (PcR (KK D ca) D [.ref h, .int x, .int w] (([(h, .inr (0, [.ref a0, .ref a1, .int (nI tpd), .int lat, .ref g, .ref tg, .ref a6, .int (nI ac), .ref a8, .ref tr, .int t1, .ref a11])), (g, .inr (1, [.int (nI (d 0)), .int (nI (d 1)), .ref lsq, .ref b3, .ref b4, .ref b5, .ref b6, .int (nI (d 3)), .ref b8, .ref b9, .ref b10, .ref b11])), (b3, .inl (ca 0, 8, .inl (dv (shF d)))), (b6, .inl (ca 0, 8, .inl (seF d))), (b8, .inl (ca 0, 5, .inl (dv (caF d)))), (b9, .inl (ca 0, 5, .inl (dv (eaF d))))] : va_W) ++ fz)) (vp_Si (fun zr => zr = savI d x w)) 0 0 (fun _ => False) := by
  refine rd_head (by decide) (Nat.le_of_ble_eq_true rfl) ?_
  intro zp ze zs zm za zb zt zc ls zQ hx hb hml hr hlk hown hts hK hP hl hQ
  have hown : zs.vm.findClass RX0 = some zm.cls := hown
  have hl : lv_has ls 4 [(0, .ref h), (1, .int x), (2, .int w)] := hl
  have hF : CallFix zp zm zc cX0_save 4 zs za lw_all RX0 := ⟨hx, hb, hml, hown, hts⟩
  have hKK := hK
  have hK : K1 D ca zs := hKK.1
  have hd2 : d 2 ≤ 8 := hd.2.2.1
  have hd3 : d 3 ≤ 5 := hd.2.2.2.1
  have hd0 : d 0 ≤ 9 := hd.1
  have hd1 : d 1 ≤ 8 := hd.2.1
  have hp2 := pow_8 hd2
  have hp3 := pow_8 (show d 3 ≤ 8 by omega)
  refine lv_aload_n hx hb dX0_save_0 rfl (lv_at hl 0 rfl) ?_
  refine rd_callV hF (m_X0_isDoor l D ca h a0 a1 tg a6 a8 tr a11 tpd ac lat t1 g lsq b3 b4 b5 b6 b8 b9 b10 b11 d fz (by assumption) (by assumption)) (cs_X0_isDoor hts q844 ⟨by decide, by decide⟩) (KK_mv D ca) hKK (wp_tail hP [0, 1] rfl) (va_recv hK hP (ci := 0) (q0 := 0) rfl rfl) rfl hl.1 rfl (Nat.le_of_ble_eq_true rfl) dX0_save_1 ⟨Nat.zero_le _, Nat.zero_le _⟩ ?_
  refine wb_ne (tgt := 10) hx hb dX0_save_4 (by decide) (fun c_4 => ?_) (fun c_4 => ?_)
  · refine lv_aload_n hx hb dX0_save_10 rfl (lv_at hl 0 rfl) ?_
    refine lv_iload_n hx hb dX0_save_11 rfl (lv_at hl 1 rfl) ?_
    refine rd_callV hF (m_X0_areSquares l D ca h a0 a1 tg a6 a8 tr a11 tpd ac lat t1 g lsq b3 b4 b5 b6 b8 b9 b10 b11 d fz x (by assumption) (by assumption)) (cs_X0_areSquares hts q733 ⟨by decide, by decide⟩) (KK_mv D ca) hKK (wp_tail hP [0, 1] rfl) (va_recv hK hP (ci := 0) (q0 := 0) rfl rfl) rfl hl.1 rfl (Nat.le_of_ble_eq_true rfl) dX0_save_12 ⟨Nat.zero_le _, Nat.zero_le _⟩ ?_
    refine wb_eq (tgt := 25) hx hb dX0_save_15 (by decide) (fun c_15 => ?_) (fun c_15 => ?_)
    · have ix_x : ixO x (2 ^ d 2) = none := ixO_f c_15
      refine lv_ldc (v := (-1000001)) hx hb hown (hts _ q306) dX0_save_25 ?_
      exact rd_iret hx hb hr hlk hQ dX0_save_27 (by first | (simp [savI, bI, nI1_1, nI_0, c_4, c_15, ix_x]; done) | (simp [savI, bI, nI1_1, nI_0, c_4, c_15, ix_x]; omega) | grind [savI, bI, nI1_1, nI_0])
    · obtain ⟨s, hs, hxs⟩ := (ltB_iff (by omega)).mp c_15
      subst hxs
      have ix_s : ixO (nI s) (2 ^ d 2) = some s := ixO_t hs (by omega)
      refine lv_iload_n hx hb dX0_save_18 rfl (lv_at hl 2 rfl) ?_
      refine rd_callS hF (m_X0_isHalf l D ca w ) (cs_X0_isHalf hts q906 ⟨by decide, by decide⟩) (K1_mv D ca) hK (hP.sub [] rfl) rfl hl.1 rfl (Nat.le_of_ble_eq_true rfl) dX0_save_19 ⟨Nat.zero_le _, Nat.zero_le _⟩ ?_
      refine wb_ne (tgt := 28) hx hb dX0_save_22 (by decide) (fun c_22 => ?_) (fun c_22 => ?_)
      · obtain ⟨k, hk, hxk⟩ := (ltB_iff (by omega)).mp c_22
        subst hxk
        have ix_k : ixO (nI k) 2 = some k := ixO_t hk (by omega)
        refine lv_aload_n hx hb dX0_save_28 rfl (lv_at hl 0 rfl) ?_
        refine lv_iload_n hx hb dX0_save_29 rfl (lv_at hl 1 rfl) ?_
        refine lv_aload_n hx hb dX0_save_30 rfl (lv_at hl 0 rfl) ?_
        refine va_get (D := D) (ci := 0) (v := .ref g) (C := RX0) (T := TX0) (N := 12) hx hb hts in_X0 hown hK hP 0 rfl rfl 4 (by decide) (hts _ q260) (fun _ h9 => h9) rfl dX0_save_31 ?_
        refine lv_iload_n hx hb dX0_save_34 rfl (lv_at hl 1 rfl) ?_
        refine rd_callV hF (m_X1_guests l D ca g lsq b3 b4 b5 b6 b8 b9 b10 b11 d fz s (by assumption) (by assumption) (by first | assumption | omega)) (cs_X1_guests hts q894 ⟨by decide, by decide⟩) (KK_mv D ca) hKK (wp_tail hP [1, 2, 3, 4, 5] rfl) (va_recv hK hP (ci := 1) (q0 := 1) rfl rfl) rfl hl.1 rfl (Nat.le_of_ble_eq_true rfl) dX0_save_35 ⟨Nat.zero_le _, Nat.zero_le _⟩ ?_
        refine rd_callV hF (m_X0_fewestOf l D ca h a0 a1 tg a6 a8 tr a11 tpd ac lat t1 g lsq b3 b4 b5 b6 b8 b9 b10 b11 d fz s (gD d s) (by assumption) (by assumption) (by first | assumption | omega) (by exact gD_lt hd3)) (cs_X0_fewestOf hts q909 ⟨by decide, by decide⟩) (KK_mv D ca) hKK (wp_tail hP [0, 1, 2, 3, 4, 5] rfl) (va_recv hK hP (ci := 0) (q0 := 0) rfl rfl) rfl hl.1 rfl (Nat.le_of_ble_eq_true rfl) dX0_save_38 ⟨Nat.zero_le _, Nat.zero_le _⟩ ?_
        refine lv_istore_n (lv' := [(3, .int (oI (fewN (gD d) s (gD d s) (s + 1)))), (0, .ref h), (1, .int (nI s)), (2, .int (nI k))]) hx hb dX0_save_41 rfl hl (by decide) rfl (fun ls hl => ?_)
        rcases hO_42 : fewN (gD d) s (gD d s) (s + 1) with _ | bs
        · rw [hO_42] at hl
          have hl : lv_has ls 4 [(3, .int ((-1000000))), (0, .ref h), (1, .int (nI s)), (2, .int (nI k))] := hl
          exact absurd hO_42 (fewN_self _ _)
        · rw [hO_42] at hl
          have hl : lv_has ls 4 [(3, .int (nI bs)), (0, .ref h), (1, .int (nI s)), (2, .int (nI k))] := hl
          have hbs : bs < s + 1 := fewN_lt (by assumption)
          refine lv_iload_n hx hb dX0_save_42 rfl (lv_at hl 3 rfl) ?_
          refine lv_iconst (v := nI 1) hx hb dX0_save_43 rfl ?_
          refine wn_ne (tgt := 51) hx hb (by omega) (by omega) dX0_save_44 (by decide) (fun c_44 => ?_) (fun c_44 => ?_)
          · refine lv_iload_n hx hb dX0_save_51 rfl (lv_at hl 0 rfl) ?_
            refine rd_callS hF (m_J16_bitCount l D ca bs (by first | assumption | omega)) (cs_J16_bitCount hts q914 ⟨by decide, by decide⟩) (K1_mv D ca) hK (hP.sub [] rfl) rfl hl.1 rfl (Nat.le_of_ble_eq_true rfl) dX0_save_52 ⟨Nat.zero_le _, Nat.zero_le _⟩ ?_
            exact rd_iret hx hb hr hlk hQ dX0_save_55 (by first | (simp [savI, bI, nI1_1, nI_0, c_4, c_15, ix_s, c_22, ix_k, hO_42, c_44]; done) | (simp [savI, bI, nI1_1, nI_0, c_4, c_15, ix_s, c_22, ix_k, hO_42, c_44]; omega) | grind [savI, bI, nI1_1, nI_0])
          · refine lv_iload_n hx hb dX0_save_47 rfl (lv_at hl 0 rfl) ?_
            refine lv_goto (tgt := 55) hx hb dX0_save_48 (by decide) ?_
            exact rd_iret hx hb hr hlk hQ dX0_save_55 (by first | (simp [savI, bI, nI1_1, nI_0, c_4, c_15, ix_s, c_22, ix_k, hO_42, c_44]; done) | (simp [savI, bI, nI1_1, nI_0, c_4, c_15, ix_s, c_22, ix_k, hO_42, c_44]; omega) | grind [savI, bI, nI1_1, nI_0])
      · have ix_w : ixO w 2 = none := ixO_f c_22
        refine lv_ldc (v := (-1000001)) hx hb hown (hts _ q306) dX0_save_25 ?_
        exact rd_iret hx hb hr hlk hQ dX0_save_27 (by first | (simp [savI, bI, nI1_1, nI_0, c_4, c_15, ix_s, c_22, ix_w]; done) | (simp [savI, bI, nI1_1, nI_0, c_4, c_15, ix_s, c_22, ix_w]; omega) | grind [savI, bI, nI1_1, nI_0])
  · refine lv_ldc (v := (-1000002)) hx hb hown (hts _ q724) dX0_save_7 ?_
    exact rd_iret hx hb hr hlk hQ dX0_save_9 (by first | (simp [savI, bI, nI1_1, nI_0, c_4]; done) | (simp [savI, bI, nI1_1, nI_0, c_4]; omega) | grind [savI, bI, nI1_1, nI_0])
theorem cs_X0_has {R : Room} {s : State} {args : Array Value} {own : String} {index : Nat} (hts : ∀ w ∈ lw_all, w.before args s = true) (hl : Cond.methodLink own index yX0_has ∈ lw_all) {rm : Room} {mc ms : Nat} (hR : rm.frames + 1 ≤ R.frames ∧ 8 + (2 + 11) + rm.locals ≤ R.locals) (hc : rm.cells = mc := by rfl) (hs : rm.slots = ms := by rfl) : CallB R s args own index yX0_has cX0_has 2 (some .boolean) (ws_ yX0_has cX0_has 2 (some .boolean)) rm mc ms 2 ∧ (Cond.static yX0_has).before args s = true := va_cwS 2 hts (lw_S hl q920 q58 q921) rfl hc hs (by decide +kernel) hR
theorem cs_X0_wrong {R : Room} {s : State} {args : Array Value} {own : String} {index : Nat} (hts : ∀ w ∈ lw_all, w.before args s = true) (hl : Cond.methodLink own index yX0_wrong ∈ lw_all) {rm : Room} {mc ms : Nat} (hR : rm.frames + 1 ≤ R.frames ∧ 8 + (3 + 11) + rm.locals ≤ R.locals) (hc : rm.cells = mc := by rfl) (hs : rm.slots = ms := by rfl) : CallW R s args own RX0 index yX0_wrong cX0_wrong 3 (some .int) (ws_ yX0_wrong cX0_wrong 3 (some .int)) rm mc ms 2 := cwV 2 hts (lw_V hl q886 q887 q58 q888) rfl hc hs (by decide +kernel) hR
set_option maxHeartbeats 4000000 in
theorem m_X0_harsh (l : Launch) (D : va_G) (ca : Nat → ClassId) (h : Nat) (a0 : Nat) (a1 : Nat) (tg : Nat) (a6 : Nat) (a8 : Nat) (tr : Nat) (a11 : Nat) (tpd : Nat) (ac : Nat) (lat : Int32) (t1 : Int32) (g : Nat) (lsq : Nat) (b3 : Nat) (b4 : Nat) (b5 : Nat) (b6 : Nat) (b8 : Nat) (b9 : Nat) (b10 : Nat) (b11 : Nat) (d : Nat → Nat) (fz : va_W) (x : Int32) (y : Int32) (hd : dOK d) (hsq : SqL ca fz lsq d) : Met l yX0_harsh (ws_ yX0_harsh cX0_harsh 5 (some .int)) (rmL 7) (PcR (KK D ca) D [.ref h, .int x, .int y] (([(h, .inr (0, [.ref a0, .ref a1, .int (nI tpd), .int lat, .ref g, .ref tg, .ref a6, .int (nI ac), .ref a8, .ref tr, .int t1, .ref a11])), (g, .inr (1, [.int (nI (d 0)), .int (nI (d 1)), .ref lsq, .ref b3, .ref b4, .ref b5, .ref b6, .int (nI (d 3)), .ref b8, .ref b9, .ref b10, .ref b11])), (b3, .inl (ca 0, 8, .inl (dv (shF d)))), (b6, .inl (ca 0, 8, .inl (seF d))), (b8, .inl (ca 0, 5, .inl (dv (caF d)))), (b9, .inl (ca 0, 5, .inl (dv (eaF d))))] : va_W) ++ fz)) (vp_Si (fun zr => zr = harI d x y)) 0 0 (fun _ => False) := by
  refine rd_head (by decide) (Nat.le_of_ble_eq_true rfl) ?_
  intro zp ze zs zm za zb zt zc ls zQ hx hb hml hr hlk hown hts hK hP hl hQ
  have hown : zs.vm.findClass RX0 = some zm.cls := hown
  have hl : lv_has ls 5 [(0, .ref h), (1, .int x), (2, .int y)] := hl
  have hF : CallFix zp zm zc cX0_harsh 5 zs za lw_all RX0 := ⟨hx, hb, hml, hown, hts⟩
  have hKK := hK
  have hK : K1 D ca zs := hKK.1
  have hd2 : d 2 ≤ 8 := hd.2.2.1
  have hd3 : d 3 ≤ 5 := hd.2.2.2.1
  have hd0 : d 0 ≤ 9 := hd.1
  have hd1 : d 1 ≤ 8 := hd.2.1
  have hp2 := pow_8 hd2
  have hp3 := pow_8 (show d 3 ≤ 8 by omega)
  refine lv_aload_n hx hb dX0_harsh_0 rfl (lv_at hl 0 rfl) ?_
  refine rd_callV hF (m_X0_isDoor l D ca h a0 a1 tg a6 a8 tr a11 tpd ac lat t1 g lsq b3 b4 b5 b6 b8 b9 b10 b11 d fz (by assumption) (by assumption)) (cs_X0_isDoor hts q844 ⟨by decide, by decide⟩) (KK_mv D ca) hKK (wp_tail hP [0, 1] rfl) (va_recv hK hP (ci := 0) (q0 := 0) rfl rfl) rfl hl.1 rfl (Nat.le_of_ble_eq_true rfl) dX0_harsh_1 ⟨Nat.zero_le _, Nat.zero_le _⟩ ?_
  refine wb_ne (tgt := 10) hx hb dX0_harsh_4 (by decide) (fun c_4 => ?_) (fun c_4 => ?_)
  · refine lv_aload_n hx hb dX0_harsh_10 rfl (lv_at hl 0 rfl) ?_
    refine lv_iload_n hx hb dX0_harsh_11 rfl (lv_at hl 1 rfl) ?_
    refine rd_callV hF (m_X0_areVisitors l D ca h a0 a1 tg a6 a8 tr a11 tpd ac lat t1 g lsq b3 b4 b5 b6 b8 b9 b10 b11 d fz x (by assumption) (by assumption)) (cs_X0_areVisitors hts q902 ⟨by decide, by decide⟩) (KK_mv D ca) hKK (wp_tail hP [0, 1] rfl) (va_recv hK hP (ci := 0) (q0 := 0) rfl rfl) rfl hl.1 rfl (Nat.le_of_ble_eq_true rfl) dX0_harsh_12 ⟨Nat.zero_le _, Nat.zero_le _⟩ ?_
    refine wb_eq (tgt := 26) hx hb dX0_harsh_15 (by decide) (fun c_15 => ?_) (fun c_15 => ?_)
    · have ix_x : ixO x (2 ^ d 3) = none := ixO_f c_15
      refine lv_ldc (v := (-1000001)) hx hb hown (hts _ q306) dX0_harsh_26 ?_
      exact rd_iret hx hb hr hlk hQ dX0_harsh_28 (by first | (simp [harI, c_4, c_15, ix_x]; done) | grind [harI] | (have hie : i = d 3 := (by omega); subst hie; grind [harI]))
    · obtain ⟨vs, hvs, hxvs⟩ := (ltB_iff (by omega)).mp c_15
      subst hxvs
      have ix_vs : ixO (nI vs) (2 ^ d 3) = some vs := ixO_t hvs (by omega)
      refine lv_aload_n hx hb dX0_harsh_18 rfl (lv_at hl 0 rfl) ?_
      refine lv_iload_n hx hb dX0_harsh_19 rfl (lv_at hl 2 rfl) ?_
      refine rd_callV hF (m_X0_areSquares l D ca h a0 a1 tg a6 a8 tr a11 tpd ac lat t1 g lsq b3 b4 b5 b6 b8 b9 b10 b11 d fz y (by assumption) (by assumption)) (cs_X0_areSquares hts q733 ⟨by decide, by decide⟩) (KK_mv D ca) hKK (wp_tail hP [0, 1] rfl) (va_recv hK hP (ci := 0) (q0 := 0) rfl rfl) rfl hl.1 rfl (Nat.le_of_ble_eq_true rfl) dX0_harsh_20 ⟨Nat.zero_le _, Nat.zero_le _⟩ ?_
      refine wb_ne (tgt := 29) hx hb dX0_harsh_23 (by decide) (fun c_23 => ?_) (fun c_23 => ?_)
      · obtain ⟨s, hs, hxs⟩ := (ltB_iff (by omega)).mp c_23
        subst hxs
        have ix_s : ixO (nI s) (2 ^ d 2) = some s := ixO_t hs (by omega)
        refine lv_iconst (v := nI 0) hx hb dX0_harsh_29 rfl ?_
        refine lv_istore_n (lv' := [(3, .int (nI 0)), (0, .ref h), (1, .int (nI vs)), (2, .int (nI s))]) hx hb dX0_harsh_30 rfl hl (by decide) rfl (fun ls hl => ?_)
        refine lv_iconst (v := nI 0) hx hb dX0_harsh_31 rfl ?_
        refine lv_istore (lv' := [(4, .int (nI 0)), (3, .int (nI 0)), (0, .ref h), (1, .int (nI vs)), (2, .int (nI s))]) hx hb dX0_harsh_32 hl (by decide) rfl (fun ls hl => ?_)
        have lp_34 : ∀ (zn : Nat) (i : Nat), (i ≤ d 3) →  (d 3 - i) < zn → ∀ (ls : Array Slot), lv_has ls 5 [(0, .ref h), (1, .int (nI vs)), (2, .int (nI s)), (3, .int (nI (harN d vs s i))), (4, .int (nI i))] → W zp l ze (rmL 7) zs zm za zb zt zc zs.heap [] 0 0 zQ (F0 zm 34 ls []) := by
          intro zn
          induction zn with
          | zero => intro i hi hmu_34; exact absurd hmu_34 (Nat.not_lt_zero _)
          | succ zn ih_34 =>
            intro i hi hmu_34 ls hl
            have hhl := harN_le d vs s i
            refine lv_iload hx hb dX0_harsh_34 (lv_at hl 4 rfl) ?_
            refine lv_aload_n hx hb dX0_harsh_36 rfl (lv_at hl 0 rfl) ?_
            refine va_get (D := D) (ci := 0) (v := .ref g) (C := RX0) (T := TX0) (N := 12) hx hb hts in_X0 hown hK hP 0 rfl rfl 4 (by decide) (hts _ q260) (fun _ h9 => h9) rfl dX0_harsh_37 ?_
            refine va_get (D := D) (ci := 1) (v := .int (nI (d 3))) (C := RX1) (T := TX1) (N := 12) hx hb hts in_X1 hown hK hP 1 rfl rfl 7 (by decide) (hts _ q156) (fun _ h9 => h9) rfl dX0_harsh_40 ?_
            refine wn_ge (tgt := 77) hx hb (by omega) (by omega) dX0_harsh_43 (by decide) (fun c_43 => ?_) (fun c_43 => ?_)
            · have c_43n := Nat.not_lt.mpr c_43
              refine lv_iload_n hx hb dX0_harsh_77 rfl (lv_at hl 3 rfl) ?_
              exact rd_iret hx hb hr hlk hQ dX0_harsh_78 (by first | (simp [harI, c_4, c_15, ix_vs, c_23, ix_s, c_43, c_43n]; done) | grind [harI] | (have hie : i = d 3 := (by omega); subst hie; grind [harI]))
            · have c_43n := Nat.not_le.mpr c_43
              refine lv_iload_n hx hb dX0_harsh_46 rfl (lv_at hl 1 rfl) ?_
              refine lv_iload hx hb dX0_harsh_47 (lv_at hl 4 rfl) ?_
              refine rd_callS hF (m_X0_has l D ca vs i (by first | assumption | omega) (by first | assumption | omega)) (cs_X0_has hts q919 ⟨by decide, by decide⟩) (K1_mv D ca) hK (hP.sub [] rfl) rfl hl.1 rfl (Nat.le_of_ble_eq_true rfl) dX0_harsh_49 ⟨Nat.zero_le _, Nat.zero_le _⟩ ?_
              refine wb_eq (tgt := 69) hx hb dX0_harsh_52 (by decide) (fun c_52 => ?_) (fun c_52 => ?_)
              · refine lv_iload_n hx hb dX0_harsh_69 rfl (lv_at hl 3 rfl) ?_
                refine lv_istore_n (lv' := [(3, .int (nI (harN d vs s i))), (0, .ref h), (1, .int (nI vs)), (2, .int (nI s)), (4, .int (nI i))]) hx hb dX0_harsh_70 rfl hl (by decide) rfl (fun ls hl => ?_)
                refine lv_iinc (v := nI (i + 1)) (lv' := [(4, .int (nI (i + 1))), (3, .int (nI (harN d vs s i))), (0, .ref h), (1, .int (nI vs)), (2, .int (nI s))]) hx hb dX0_harsh_71 hl (k := 4) rfl (nI_add i 1) (by decide) rfl (fun ls hl => ?_)
                refine lv_goto (tgt := 34) hx hb dX0_harsh_74 (by decide) ?_
                have e_1 : harN d vs s i = harN d vs s (i + 1) := by first | rfl | (first | exact har_t c_52 hd2 | exact har_f c_52)
                have e_2 : i + 1 = (i + 1) := by first | rfl | (first | exact har_t c_52 hd2 | exact har_f c_52)
                exact ih_34 (i + 1) (by omega) (by omega) ls (lv_to (lv_sub hl [2, 3, 4, 1, 0] rfl) (Eq.trans (congrArg (fun x => ([(0, .ref h), (1, .int (nI vs)), (2, .int (nI s)), (3, .int (nI x)), (4, .int (nI (i + 1)))] : List (Nat × Value))) e_1) (congrArg (fun x => ([(0, .ref h), (1, .int (nI vs)), (2, .int (nI s)), (3, .int (nI (harN d vs s (i + 1)))), (4, .int (nI x))] : List (Nat × Value))) e_2)))
              · refine lv_iload_n hx hb dX0_harsh_55 rfl (lv_at hl 3 rfl) ?_
                refine lv_aload_n hx hb dX0_harsh_56 rfl (lv_at hl 0 rfl) ?_
                refine lv_iload hx hb dX0_harsh_57 (lv_at hl 4 rfl) ?_
                refine lv_iload_n hx hb dX0_harsh_59 rfl (lv_at hl 2 rfl) ?_
                refine rd_callV hF (m_X0_wrong l D ca h a0 a1 tg a6 a8 tr a11 tpd ac lat t1 g lsq b3 b4 b5 b6 b8 b9 b10 b11 d fz (nI i) (nI s) (by assumption) (by assumption)) (cs_X0_wrong hts q922 ⟨by decide, by decide⟩) (KK_mv D ca) hKK (wp_tail hP [0, 1, 2, 3, 4, 5] rfl) (va_recv hK hP (ci := 0) (q0 := 0) rfl rfl) rfl hl.1 rfl (Nat.le_of_ble_eq_true rfl) dX0_harsh_60 ⟨Nat.zero_le _, Nat.zero_le _⟩ ?_
                refine top_to (y := nI (wroN d i s (d 2))) (by have hj : ixO (nI i) (d 3) = some i := ixO_t (by omega) (by omega); simp only [wroI, hj, ix_s]) ?_
                refine va_mmax hx hb (hml.trans hl.1.symm) hown (hts _ q923) (hts _ q664) (hts _ q86) (hts _ q665) (by decide) (by decide) (Nat.zero_le _) (Nat.zero_le _) dX0_harsh_63 ?_
                refine lv_goto (tgt := 70) hx hb dX0_harsh_66 (by decide) ?_
                refine lv_istore_n (lv' := [(3, .int (if (nI (harN d vs s i)) < (nI (wroN d i s (d 2))) then (nI (wroN d i s (d 2))) else (nI (harN d vs s i)))), (0, .ref h), (1, .int (nI vs)), (2, .int (nI s)), (4, .int (nI i))]) hx hb dX0_harsh_70 rfl hl (by decide) rfl (fun ls hl => ?_)
                refine lv_iinc (v := nI (i + 1)) (lv' := [(4, .int (nI (i + 1))), (3, .int (if (nI (harN d vs s i)) < (nI (wroN d i s (d 2))) then (nI (wroN d i s (d 2))) else (nI (harN d vs s i)))), (0, .ref h), (1, .int (nI vs)), (2, .int (nI s))]) hx hb dX0_harsh_71 hl (k := 4) rfl (nI_add i 1) (by decide) rfl (fun ls hl => ?_)
                refine lv_goto (tgt := 34) hx hb dX0_harsh_74 (by decide) ?_
                have e_3 : (if (nI (harN d vs s i)) < (nI (wroN d i s (d 2))) then (nI (wroN d i s (d 2))) else (nI (harN d vs s i))) = nI (harN d vs s (i + 1)) := by first | rfl | (first | exact har_t c_52 hd2 | exact har_f c_52)
                have e_4 : i + 1 = (i + 1) := by first | rfl | (first | exact har_t c_52 hd2 | exact har_f c_52)
                exact ih_34 (i + 1) (by omega) (by omega) ls (lv_to (lv_sub hl [2, 3, 4, 1, 0] rfl) (Eq.trans (congrArg (fun x => ([(0, .ref h), (1, .int (nI vs)), (2, .int (nI s)), (3, .int x), (4, .int (nI (i + 1)))] : List (Nat × Value))) e_3) (congrArg (fun x => ([(0, .ref h), (1, .int (nI vs)), (2, .int (nI s)), (3, .int (nI (harN d vs s (i + 1)))), (4, .int (nI x))] : List (Nat × Value))) e_4)))
        have e_5 : 0 = harN d vs s 0 := by first | rfl | (rfl)
        exact lp_34 ((d 3 - 0) + 1) 0 (by omega) (by omega) ls (lv_to (lv_sub hl [2, 3, 4, 1, 0] rfl) (congrArg (fun x => ([(0, .ref h), (1, .int (nI vs)), (2, .int (nI s)), (3, .int (nI x)), (4, .int (nI 0))] : List (Nat × Value))) e_5))
      · have ix_y : ixO y (2 ^ d 2) = none := ixO_f c_23
        refine lv_ldc (v := (-1000001)) hx hb hown (hts _ q306) dX0_harsh_26 ?_
        exact rd_iret hx hb hr hlk hQ dX0_harsh_28 (by first | (simp [harI, c_4, c_15, ix_vs, c_23, ix_y]; done) | grind [harI] | (have hie : i = d 3 := (by omega); subst hie; grind [harI]))
  · refine lv_ldc (v := (-1000002)) hx hb hown (hts _ q724) dX0_harsh_7 ?_
    exact rd_iret hx hb hr hlk hQ dX0_harsh_9 (by first | (simp [harI, c_4]; done) | grind [harI] | (have hie : i = d 3 := (by omega); subst hie; grind [harI]))
set_option maxHeartbeats 4000000 in
theorem m_X0_dullness (l : Launch) (D : va_G) (ca : Nat → ClassId) (h : Nat) (a0 : Nat) (a1 : Nat) (tg : Nat) (a6 : Nat) (a8 : Nat) (tr : Nat) (a11 : Nat) (tpd : Nat) (ac : Nat) (lat : Int32) (t1 : Int32) (g : Nat) (lsq : Nat) (b3 : Nat) (b4 : Nat) (b5 : Nat) (b6 : Nat) (b8 : Nat) (b9 : Nat) (b10 : Nat) (b11 : Nat) (d : Nat → Nat) (fz : va_W) (q : Nat) (hd : dOK d) (hsq : SqL ca fz lsq d) (hq : q < d 2) (hcn : cntD d q = true) : Met l yX0_dullness (ws_ yX0_dullness cX0_dullness 4 (some .int)) (rmL 4) (PcR (KK D ca) D [.ref h, .int (nI q)] (([(h, .inr (0, [.ref a0, .ref a1, .int (nI tpd), .int lat, .ref g, .ref tg, .ref a6, .int (nI ac), .ref a8, .ref tr, .int t1, .ref a11])), (g, .inr (1, [.int (nI (d 0)), .int (nI (d 1)), .ref lsq, .ref b3, .ref b4, .ref b5, .ref b6, .int (nI (d 3)), .ref b8, .ref b9, .ref b10, .ref b11])), (b3, .inl (ca 0, 8, .inl (dv (shF d)))), (b6, .inl (ca 0, 8, .inl (seF d))), (b8, .inl (ca 0, 5, .inl (dv (caF d)))), (b9, .inl (ca 0, 5, .inl (dv (eaF d))))] : va_W) ++ fz)) (vp_Si (fun zr => zr = nI (apN d q))) 0 0 (fun _ => False) := by
  refine rd_head (by decide) (Nat.le_of_ble_eq_true rfl) ?_
  intro zp ze zs zm za zb zt zc ls zQ hx hb hml hr hlk hown hts hK hP hl hQ
  have hown : zs.vm.findClass RX0 = some zm.cls := hown
  have hl : lv_has ls 4 [(0, .ref h), (1, .int (nI q))] := hl
  have hF : CallFix zp zm zc cX0_dullness 4 zs za lw_all RX0 := ⟨hx, hb, hml, hown, hts⟩
  have hKK := hK
  have hK : K1 D ca zs := hKK.1
  have hd2 : d 2 ≤ 8 := hd.2.2.1
  have hd3 : d 3 ≤ 5 := hd.2.2.2.1
  have hd0 : d 0 ≤ 9 := hd.1
  have hd1 : d 1 ≤ 8 := hd.2.1
  refine lv_iconst (v := nI 0) hx hb dX0_dullness_0 rfl ?_
  refine lv_istore_n (lv' := [(2, .int (nI 0)), (0, .ref h), (1, .int (nI q))]) hx hb dX0_dullness_1 rfl hl (by decide) rfl (fun ls hl => ?_)
  refine lv_iconst (v := nI 0) hx hb dX0_dullness_2 rfl ?_
  refine lv_istore_n (lv' := [(3, .int (nI 0)), (2, .int (nI 0)), (0, .ref h), (1, .int (nI q))]) hx hb dX0_dullness_3 rfl hl (by decide) rfl (fun ls hl => ?_)
  have lp_4 : ∀ (zn : Nat) (i : Nat), (i ≤ d 3) →  (d 3 - i) < zn → ∀ (ls : Array Slot), lv_has ls 4 [(0, .ref h), (1, .int (nI q)), (2, .int (nI (i - wrC d q i) - nI (wrC d q i))), (3, .int (nI i))] → W zp l ze (rmL 4) zs zm za zb zt zc zs.heap [] 0 0 zQ (F0 zm 4 ls []) := by
    intro zn
    induction zn with
    | zero => intro i hi hmu_4; exact absurd hmu_4 (Nat.not_lt_zero _)
    | succ zn ih_4 =>
      intro i hi hmu_4 ls hl
      refine lv_iload_n hx hb dX0_dullness_4 rfl (lv_at hl 3 rfl) ?_
      refine lv_aload_n hx hb dX0_dullness_5 rfl (lv_at hl 0 rfl) ?_
      refine va_get (D := D) (ci := 0) (v := .ref g) (C := RX0) (T := TX0) (N := 12) hx hb hts in_X0 hown hK hP 0 rfl rfl 4 (by decide) (hts _ q260) (fun _ h9 => h9) rfl dX0_dullness_6 ?_
      refine va_get (D := D) (ci := 1) (v := .int (nI (d 3))) (C := RX1) (T := TX1) (N := 12) hx hb hts in_X1 hown hK hP 1 rfl rfl 7 (by decide) (hts _ q156) (fun _ h9 => h9) rfl dX0_dullness_9 ?_
      refine wn_ge (tgt := 49) hx hb (by omega) (by omega) dX0_dullness_12 (by decide) (fun c_12 => ?_) (fun c_12 => ?_)
      · have c_12n := Nat.not_lt.mpr c_12
        refine lv_iload_n hx hb dX0_dullness_49 rfl (lv_at hl 2 rfl) ?_
        refine va_mabs hx hb (hml.trans hl.1.symm) hown (hts _ q934) (hts _ q935) (hts _ q86) (hts _ q936) (by decide) (by decide) (Nat.zero_le _) (Nat.zero_le _) dX0_dullness_50 ?_
        exact rd_iret hx hb hr hlk hQ dX0_dullness_53 (by have hie : i = d 3 := (by omega); rw [hie]; exact du_e hd3)
      · have c_12n := Nat.not_le.mpr c_12
        refine lv_iload_n hx hb dX0_dullness_15 rfl (lv_at hl 2 rfl) ?_
        refine lv_aload_n hx hb dX0_dullness_16 rfl (lv_at hl 0 rfl) ?_
        refine va_get (D := D) (ci := 0) (v := .ref g) (C := RX0) (T := TX0) (N := 12) hx hb hts in_X0 hown hK hP 0 rfl rfl 4 (by decide) (hts _ q260) (fun _ h9 => h9) rfl dX0_dullness_17 ?_
        refine lv_iload_n hx hb dX0_dullness_20 rfl (lv_at hl 3 rfl) ?_
        refine lv_iload_n hx hb dX0_dullness_21 rfl (lv_at hl 1 rfl) ?_
        refine rd_callV hF (m_X1_clicks l D ca g lsq b3 b4 b5 b6 b8 b9 b10 b11 d fz i q (by assumption) (by assumption) (by first | assumption | omega) (by first | assumption | omega)) (cs_X1_clicks hts q932 ⟨by decide, by decide⟩) (KK_mv D ca) hKK (wp_tail hP [1, 2, 4, 5] rfl) (va_recv hK hP (ci := 1) (q0 := 1) rfl rfl) rfl hl.1 rfl (Nat.le_of_ble_eq_true rfl) dX0_dullness_22 ⟨Nat.zero_le _, Nat.zero_le _⟩ ?_
        refine lv_aload_n hx hb dX0_dullness_25 rfl (lv_at hl 0 rfl) ?_
        refine va_get (D := D) (ci := 0) (v := .ref g) (C := RX0) (T := TX0) (N := 12) hx hb hts in_X0 hown hK hP 0 rfl rfl 4 (by decide) (hts _ q260) (fun _ h9 => h9) rfl dX0_dullness_26 ?_
        refine lv_iload_n hx hb dX0_dullness_29 rfl (lv_at hl 1 rfl) ?_
        refine rd_callV hF (m_X1_isLamp l D ca g lsq b3 b4 b5 b6 b8 b9 b10 b11 d fz q (by assumption) (by assumption) (by first | assumption | omega)) (cs_X1_isLamp hts q933 ⟨by decide, by decide⟩) (KK_mv D ca) hKK (wp_tail hP [1, 2, 3] rfl) (va_recv hK hP (ci := 1) (q0 := 1) rfl rfl) rfl hl.1 rfl (Nat.le_of_ble_eq_true rfl) dX0_dullness_30 ⟨Nat.zero_le _, Nat.zero_le _⟩ ?_
        refine wb_ine (tgt := 40) hx hb dX0_dullness_33 (by decide) (fun c_33 => ?_) (fun c_33 => ?_)
        · refine lv_iconst (v := (-1)) hx hb dX0_dullness_40 rfl ?_
          refine lv_iadd hx hb dX0_dullness_41 ?_
          refine lv_istore_n (lv' := [(2, .int ((nI (i - wrC d q i) - nI (wrC d q i)) + ((-1)))), (0, .ref h), (1, .int (nI q)), (3, .int (nI i))]) hx hb dX0_dullness_42 rfl hl (by decide) rfl (fun ls hl => ?_)
          refine lv_iinc (v := nI (i + 1)) (lv' := [(3, .int (nI (i + 1))), (2, .int ((nI (i - wrC d q i) - nI (wrC d q i)) + ((-1)))), (0, .ref h), (1, .int (nI q))]) hx hb dX0_dullness_43 hl (k := 3) rfl (nI_add i 1) (by decide) rfl (fun ls hl => ?_)
          refine lv_goto (tgt := 4) hx hb dX0_dullness_46 (by decide) ?_
          have e_1 : (nI (i - wrC d q i) - nI (wrC d q i)) + ((-1)) = nI ((i + 1) - wrC d q (i + 1)) - nI (wrC d q (i + 1)) := by first | with_reducible rfl | (first | (have zz := du_t hcn c_33; exact zz) | (have zz := du_f hcn c_33; exact zz))
          have e_2 : i + 1 = (i + 1) := by first | with_reducible rfl | (first | (have zz := du_t hcn c_33; exact zz) | (have zz := du_f hcn c_33; exact zz))
          exact ih_4 (i + 1) (by omega) (by omega) ls (lv_to (lv_sub hl [2, 3, 1, 0] rfl) (Eq.trans (congrArg (fun x => ([(0, .ref h), (1, .int (nI q)), (2, .int x), (3, .int (nI (i + 1)))] : List (Nat × Value))) e_1) (congrArg (fun x => ([(0, .ref h), (1, .int (nI q)), (2, .int (nI ((i + 1) - wrC d q (i + 1)) - nI (wrC d q (i + 1)))), (3, .int (nI x))] : List (Nat × Value))) e_2)))
        · refine lv_iconst (v := nI 1) hx hb dX0_dullness_36 rfl ?_
          refine lv_goto (tgt := 41) hx hb dX0_dullness_37 (by decide) ?_
          refine lv_iadd hx hb dX0_dullness_41 ?_
          refine lv_istore_n (lv' := [(2, .int ((nI (i - wrC d q i) - nI (wrC d q i)) + (nI 1))), (0, .ref h), (1, .int (nI q)), (3, .int (nI i))]) hx hb dX0_dullness_42 rfl hl (by decide) rfl (fun ls hl => ?_)
          refine lv_iinc (v := nI (i + 1)) (lv' := [(3, .int (nI (i + 1))), (2, .int ((nI (i - wrC d q i) - nI (wrC d q i)) + (nI 1))), (0, .ref h), (1, .int (nI q))]) hx hb dX0_dullness_43 hl (k := 3) rfl (nI_add i 1) (by decide) rfl (fun ls hl => ?_)
          refine lv_goto (tgt := 4) hx hb dX0_dullness_46 (by decide) ?_
          have e_3 : (nI (i - wrC d q i) - nI (wrC d q i)) + (nI 1) = nI ((i + 1) - wrC d q (i + 1)) - nI (wrC d q (i + 1)) := by first | with_reducible rfl | (first | (have zz := du_t hcn c_33; exact zz) | (have zz := du_f hcn c_33; exact zz))
          have e_4 : i + 1 = (i + 1) := by first | with_reducible rfl | (first | (have zz := du_t hcn c_33; exact zz) | (have zz := du_f hcn c_33; exact zz))
          exact ih_4 (i + 1) (by omega) (by omega) ls (lv_to (lv_sub hl [2, 3, 1, 0] rfl) (Eq.trans (congrArg (fun x => ([(0, .ref h), (1, .int (nI q)), (2, .int x), (3, .int (nI (i + 1)))] : List (Nat × Value))) e_3) (congrArg (fun x => ([(0, .ref h), (1, .int (nI q)), (2, .int (nI ((i + 1) - wrC d q (i + 1)) - nI (wrC d q (i + 1)))), (3, .int (nI x))] : List (Nat × Value))) e_4)))
  have e_5 : nI 0 = nI (0 - wrC d q 0) - nI (wrC d q 0) := by first | with_reducible rfl | (show nI 0 = nI 0 - nI 0; decide)
  exact lp_4 ((d 3 - 0) + 1) 0 (by omega) (by omega) ls (lv_to (lv_sub hl [2, 3, 1, 0] rfl) (congrArg (fun x => ([(0, .ref h), (1, .int (nI q)), (2, .int x), (3, .int (nI 0))] : List (Nat × Value))) e_5))
theorem cs_X0_dullness {R : Room} {s : State} {args : Array Value} {own : String} {index : Nat} (hts : ∀ w ∈ lw_all, w.before args s = true) (hl : Cond.methodLink own index yX0_dullness ∈ lw_all) {rm : Room} {mc ms : Nat} (hR : rm.frames + 1 ≤ R.frames ∧ 8 + (4 + 11) + rm.locals ≤ R.locals) (hc : rm.cells = mc := by rfl) (hs : rm.slots = ms := by rfl) : CallW R s args own RX0 index yX0_dullness cX0_dullness 4 (some .int) (ws_ yX0_dullness cX0_dullness 4 (some .int)) rm mc ms 1 := cwV 1 hts (lw_V hl q930 qs25 q58 q931) rfl hc hs (by decide +kernel) hR
set_option maxHeartbeats 4000000 in
theorem m_X0_keen (l : Launch) (D : va_G) (ca : Nat → ClassId) (h : Nat) (a0 : Nat) (a1 : Nat) (tg : Nat) (a6 : Nat) (a8 : Nat) (tr : Nat) (a11 : Nat) (tpd : Nat) (ac : Nat) (lat : Int32) (t1 : Int32) (g : Nat) (lsq : Nat) (b3 : Nat) (b4 : Nat) (b5 : Nat) (b6 : Nat) (b8 : Nat) (b9 : Nat) (b10 : Nat) (b11 : Nat) (d : Nat → Nat) (fz : va_W) (w : Int32) (hd : dOK d) (hsq : SqL ca fz lsq d) : Met l yX0_keen (ws_ yX0_keen cX0_keen 4 (some .int)) (rmL 5) (PcR (KK D ca) D [.ref h, .int w] (([(h, .inr (0, [.ref a0, .ref a1, .int (nI tpd), .int lat, .ref g, .ref tg, .ref a6, .int (nI ac), .ref a8, .ref tr, .int t1, .ref a11])), (g, .inr (1, [.int (nI (d 0)), .int (nI (d 1)), .ref lsq, .ref b3, .ref b4, .ref b5, .ref b6, .int (nI (d 3)), .ref b8, .ref b9, .ref b10, .ref b11])), (b3, .inl (ca 0, 8, .inl (dv (shF d)))), (b6, .inl (ca 0, 8, .inl (seF d))), (b8, .inl (ca 0, 5, .inl (dv (caF d)))), (b9, .inl (ca 0, 5, .inl (dv (eaF d))))] : va_W) ++ fz)) (vp_Si (fun zr => zr = keeI d w)) 0 0 (fun _ => False) := by
  refine rd_head (by decide) (Nat.le_of_ble_eq_true rfl) ?_
  intro zp ze zs zm za zb zt zc ls zQ hx hb hml hr hlk hown hts hK hP hl hQ
  have hown : zs.vm.findClass RX0 = some zm.cls := hown
  have hl : lv_has ls 4 [(0, .ref h), (1, .int w)] := hl
  have hF : CallFix zp zm zc cX0_keen 4 zs za lw_all RX0 := ⟨hx, hb, hml, hown, hts⟩
  have hKK := hK
  have hK : K1 D ca zs := hKK.1
  have hd2 : d 2 ≤ 8 := hd.2.2.1
  have hd3 : d 3 ≤ 5 := hd.2.2.2.1
  have hd0 : d 0 ≤ 9 := hd.1
  have hd1 : d 1 ≤ 8 := hd.2.1
  have hp2 := pow_8 hd2
  have hp3 := pow_8 (show d 3 ≤ 8 by omega)
  refine lv_aload_n hx hb dX0_keen_0 rfl (lv_at hl 0 rfl) ?_
  refine rd_callV hF (m_X0_isDoor l D ca h a0 a1 tg a6 a8 tr a11 tpd ac lat t1 g lsq b3 b4 b5 b6 b8 b9 b10 b11 d fz (by assumption) (by assumption)) (cs_X0_isDoor hts q844 ⟨by decide, by decide⟩) (KK_mv D ca) hKK (wp_tail hP [0, 1] rfl) (va_recv hK hP (ci := 0) (q0 := 0) rfl rfl) rfl hl.1 rfl (Nat.le_of_ble_eq_true rfl) dX0_keen_1 ⟨Nat.zero_le _, Nat.zero_le _⟩ ?_
  refine wb_ne (tgt := 10) hx hb dX0_keen_4 (by decide) (fun c_4 => ?_) (fun c_4 => ?_)
  · refine lv_iload_n hx hb dX0_keen_10 rfl (lv_at hl 1 rfl) ?_
    refine rd_callS hF (m_X0_isHalf l D ca w ) (cs_X0_isHalf hts q906 ⟨by decide, by decide⟩) (K1_mv D ca) hK (hP.sub [] rfl) rfl hl.1 rfl (Nat.le_of_ble_eq_true rfl) dX0_keen_11 ⟨Nat.zero_le _, Nat.zero_le _⟩ ?_
    refine wb_ne (tgt := 20) hx hb dX0_keen_14 (by decide) (fun c_14 => ?_) (fun c_14 => ?_)
    · obtain ⟨k, hk, hxk⟩ := (ltB_iff (by omega)).mp c_14
      subst hxk
      have ix_k : ixO (nI k) 2 = some k := ixO_t hk (by omega)
      refine lv_ldc (v := (-1000000)) hx hb hown (hts _ q913) dX0_keen_20 ?_
      refine lv_istore_n (lv' := [(2, .int ((-1000000))), (0, .ref h), (1, .int (nI k))]) hx hb dX0_keen_22 rfl hl (by decide) rfl (fun ls hl => ?_)
      refine lv_iconst (v := nI 0) hx hb dX0_keen_23 rfl ?_
      refine lv_istore_n (lv' := [(3, .int (nI 0)), (2, .int ((-1000000))), (0, .ref h), (1, .int (nI k))]) hx hb dX0_keen_24 rfl hl (by decide) rfl (fun ls hl => ?_)
      have lp_25 : ∀ (zn : Nat) (i : Nat), (i ≤ d 2) →  (d 2 - i) < zn → ∀ (ls : Array Slot), lv_has ls 4 [(0, .ref h), (1, .int (nI k)), (2, .int (oI (keeN d i))), (3, .int (nI i))] → W zp l ze (rmL 5) zs zm za zb zt zc zs.heap [] 0 0 zQ (F0 zm 25 ls []) := by
        intro zn
        induction zn with
        | zero => intro i hi hmu_25; exact absurd hmu_25 (Nat.not_lt_zero _)
        | succ zn ih_25 =>
          intro i hi hmu_25 ls hl
          refine lv_iload_n hx hb dX0_keen_25 rfl (lv_at hl 3 rfl) ?_
          refine lv_aload_n hx hb dX0_keen_26 rfl (lv_at hl 0 rfl) ?_
          refine va_get (D := D) (ci := 0) (v := .ref g) (C := RX0) (T := TX0) (N := 12) hx hb hts in_X0 hown hK hP 0 rfl rfl 4 (by decide) (hts _ q260) (fun _ h9 => h9) rfl dX0_keen_27 ?_
          refine rd_callV hF (m_X1_many l D ca g lsq b3 b4 b5 b6 b8 b9 b10 b11 d fz (by assumption) (by assumption)) (cs_X1_many hts q715 ⟨by decide, by decide⟩) (KK_mv D ca) hKK (wp_tail hP [1] rfl) (va_recv hK hP (ci := 1) (q0 := 1) rfl rfl) rfl hl.1 rfl (Nat.le_of_ble_eq_true rfl) dX0_keen_30 ⟨Nat.zero_le _, Nat.zero_le _⟩ ?_
          refine wn_ge (tgt := 77) hx hb (by omega) (by omega) dX0_keen_33 (by decide) (fun c_33 => ?_) (fun c_33 => ?_)
          · have c_33n := Nat.not_lt.mpr c_33
            rcases hO_77 : keeN d i with _ | bs
            · rw [hO_77] at hl
              have hl : lv_has ls 4 [(0, .ref h), (1, .int (nI k)), (2, .int ((-1000000))), (3, .int (nI i))] := hl
              refine lv_iload_n hx hb dX0_keen_77 rfl (lv_at hl 2 rfl) ?_
              refine lv_ldc (v := (-1000000)) hx hb hown (hts _ q913) dX0_keen_78 ?_
              refine lv_icmp_eq (tgt := 87) hx hb dX0_keen_80 (by decide) (fun c_80 => ?_) (fun zh => by first | exact absurd rfl zh | exact absurd zh (by simp))
              refine lv_iload_n hx hb dX0_keen_87 rfl (lv_at hl 2 rfl) ?_
              refine lv_goto (tgt := 96) hx hb dX0_keen_88 (by decide) ?_
              exact rd_iret hx hb hr hlk hQ dX0_keen_96 (by first | (simp [keeI, oI, c_4, c_14, ix_k, c_33, c_33n, hO_77]; done) | (have hie : i = d 2 := (by omega); subst hie; simp [keeI, oI, c_4, c_14, ix_k, c_33, c_33n, hO_77]; done) | grind [keeI, oI])
            · rw [hO_77] at hl
              have hl : lv_has ls 4 [(0, .ref h), (1, .int (nI k)), (2, .int (nI bs)), (3, .int (nI i))] := hl
              have hbs : bs < i := keeN_lt (by assumption)
              have hab := apN_le d bs
              have hcb : cntD d bs = true := keeN_cnt (by assumption)
              refine lv_iload_n hx hb dX0_keen_77 rfl (lv_at hl 2 rfl) ?_
              refine lv_ldc (v := (-1000000)) hx hb hown (hts _ q913) dX0_keen_78 ?_
              refine lv_icmp_eq (tgt := 87) hx hb dX0_keen_80 (by decide) (fun zh => by exact absurd zh (nI_neN (by omega))) (fun c_80 => ?_)
              refine lv_iload_n hx hb dX0_keen_83 rfl (lv_at hl 1 rfl) ?_
              refine wn_ifne (tgt := 91) hx hb (by omega) dX0_keen_84 (by decide) (fun c_84 => ?_) (fun c_84 => ?_)
              · refine lv_aload_n hx hb dX0_keen_91 rfl (lv_at hl 0 rfl) ?_
                refine lv_iload_n hx hb dX0_keen_92 rfl (lv_at hl 2 rfl) ?_
                refine rd_callV hF (m_X0_dullness l D ca h a0 a1 tg a6 a8 tr a11 tpd ac lat t1 g lsq b3 b4 b5 b6 b8 b9 b10 b11 d fz bs (by assumption) (by assumption) (by first | assumption | omega) (by assumption)) (cs_X0_dullness hts q928 ⟨by decide, by decide⟩) (KK_mv D ca) hKK (wp_tail hP [0, 1, 2, 3, 4, 5] rfl) (va_recv hK hP (ci := 0) (q0 := 0) rfl rfl) rfl hl.1 rfl (Nat.le_of_ble_eq_true rfl) dX0_keen_93 ⟨Nat.zero_le _, Nat.zero_le _⟩ ?_
                exact rd_iret hx hb hr hlk hQ dX0_keen_96 (by first | (simp [keeI, oI, c_4, c_14, ix_k, c_33, c_33n, hO_77, c_84]; done) | (have hie : i = d 2 := (by omega); subst hie; simp [keeI, oI, c_4, c_14, ix_k, c_33, c_33n, hO_77, c_84]; done) | grind [keeI, oI])
              · refine lv_iload_n hx hb dX0_keen_87 rfl (lv_at hl 2 rfl) ?_
                refine lv_goto (tgt := 96) hx hb dX0_keen_88 (by decide) ?_
                exact rd_iret hx hb hr hlk hQ dX0_keen_96 (by first | (simp [keeI, oI, c_4, c_14, ix_k, c_33, c_33n, hO_77, c_84]; done) | (have hie : i = d 2 := (by omega); subst hie; simp [keeI, oI, c_4, c_14, ix_k, c_33, c_33n, hO_77, c_84]; done) | grind [keeI, oI])
          · have c_33n := Nat.not_le.mpr c_33
            refine lv_aload_n hx hb dX0_keen_36 rfl (lv_at hl 0 rfl) ?_
            refine va_get (D := D) (ci := 0) (v := .ref g) (C := RX0) (T := TX0) (N := 12) hx hb hts in_X0 hown hK hP 0 rfl rfl 4 (by decide) (hts _ q260) (fun _ h9 => h9) rfl dX0_keen_37 ?_
            refine lv_iload_n hx hb dX0_keen_40 rfl (lv_at hl 3 rfl) ?_
            refine rd_callV hF (m_X1_counts l D ca g lsq b3 b4 b5 b6 b8 b9 b10 b11 d fz i (by assumption) (by assumption) (by first | assumption | omega)) (cs_X1_counts hts q862 ⟨by decide, by decide⟩) (KK_mv D ca) hKK (wp_tail hP [1, 3] rfl) (va_recv hK hP (ci := 1) (q0 := 1) rfl rfl) rfl hl.1 rfl (Nat.le_of_ble_eq_true rfl) dX0_keen_41 ⟨Nat.zero_le _, Nat.zero_le _⟩ ?_
            refine wb_eq (tgt := 71) hx hb dX0_keen_44 (by decide) (fun c_44 => ?_) (fun c_44 => ?_)
            · have hk : keeN d (i + 1) = keeN d i := by first | exact keeN_n (Or.inl (by assumption)) | exact keeN_y (by assumption) (by rw [hO_47]; first | rfl | exact decide_eq_true (by assumption)) | exact (keeN_n (Or.inr (by rw [hO_47]; exact decide_eq_false (by assumption)))).trans hO_47
              refine lv_iinc (v := nI (i + 1)) (lv' := [(3, .int (nI (i + 1))), (0, .ref h), (1, .int (nI k)), (2, .int (oI (keeN d i)))]) hx hb dX0_keen_71 hl (k := 3) rfl (nI_add i 1) (by decide) rfl (fun ls hl => ?_)
              refine lv_goto (tgt := 25) hx hb dX0_keen_74 (by decide) ?_
              have e_1 : oI (keeN d i) = oI (keeN d (i + 1)) := by first | rfl | (first | (rw [hk]; done) | (rw [hk]; rfl) | (rw [hk, hO_47]; rfl))
              have e_2 : i + 1 = (i + 1) := by first | rfl | (first | (rw [hk]; done) | (rw [hk]; rfl) | (rw [hk, hO_47]; rfl))
              exact ih_25 (i + 1) (by omega) (by omega) ls (lv_to (lv_sub hl [1, 2, 3, 0] rfl) (Eq.trans (congrArg (fun x => ([(0, .ref h), (1, .int (nI k)), (2, .int x), (3, .int (nI (i + 1)))] : List (Nat × Value))) e_1) (congrArg (fun x => ([(0, .ref h), (1, .int (nI k)), (2, .int (oI (keeN d (i + 1)))), (3, .int (nI x))] : List (Nat × Value))) e_2)))
            · have hap := apN_le d i
              rcases hO_47 : keeN d i with _ | bs
              · rw [hO_47] at hl
                have hl : lv_has ls 4 [(0, .ref h), (1, .int (nI k)), (2, .int ((-1000000))), (3, .int (nI i))] := hl
                refine lv_iload_n hx hb dX0_keen_47 rfl (lv_at hl 2 rfl) ?_
                refine lv_ldc (v := (-1000000)) hx hb hown (hts _ q913) dX0_keen_48 ?_
                refine lv_icmp_eq (tgt := 69) hx hb dX0_keen_50 (by decide) (fun c_50 => ?_) (fun zh => by first | exact absurd rfl zh | exact absurd zh (by simp))
                refine lv_iload_n hx hb dX0_keen_69 rfl (lv_at hl 3 rfl) ?_
                refine lv_istore_n (lv' := [(2, .int (nI i)), (0, .ref h), (1, .int (nI k)), (3, .int (nI i))]) hx hb dX0_keen_70 rfl hl (by decide) rfl (fun ls hl => ?_)
                have hk : keeN d (i + 1) = some i := by first | exact keeN_n (Or.inl (by assumption)) | exact keeN_y (by assumption) (by rw [hO_47]; first | rfl | exact decide_eq_true (by assumption)) | exact (keeN_n (Or.inr (by rw [hO_47]; exact decide_eq_false (by assumption)))).trans hO_47
                refine lv_iinc (v := nI (i + 1)) (lv' := [(3, .int (nI (i + 1))), (2, .int (nI i)), (0, .ref h), (1, .int (nI k))]) hx hb dX0_keen_71 hl (k := 3) rfl (nI_add i 1) (by decide) rfl (fun ls hl => ?_)
                refine lv_goto (tgt := 25) hx hb dX0_keen_74 (by decide) ?_
                have e_3 : nI i = oI (keeN d (i + 1)) := by first | rfl | (first | (rw [hk]; done) | (rw [hk]; rfl) | (rw [hk, hO_47]; rfl))
                have e_4 : i + 1 = (i + 1) := by first | rfl | (first | (rw [hk]; done) | (rw [hk]; rfl) | (rw [hk, hO_47]; rfl))
                exact ih_25 (i + 1) (by omega) (by omega) ls (lv_to (lv_sub hl [2, 3, 1, 0] rfl) (Eq.trans (congrArg (fun x => ([(0, .ref h), (1, .int (nI k)), (2, .int x), (3, .int (nI (i + 1)))] : List (Nat × Value))) e_3) (congrArg (fun x => ([(0, .ref h), (1, .int (nI k)), (2, .int (oI (keeN d (i + 1)))), (3, .int (nI x))] : List (Nat × Value))) e_4)))
              · rw [hO_47] at hl
                have hl : lv_has ls 4 [(0, .ref h), (1, .int (nI k)), (2, .int (nI bs)), (3, .int (nI i))] := hl
                have hbs : bs < i := keeN_lt (by assumption)
                have hab := apN_le d bs
                have hcb : cntD d bs = true := keeN_cnt (by assumption)
                refine lv_iload_n hx hb dX0_keen_47 rfl (lv_at hl 2 rfl) ?_
                refine lv_ldc (v := (-1000000)) hx hb hown (hts _ q913) dX0_keen_48 ?_
                refine lv_icmp_eq (tgt := 69) hx hb dX0_keen_50 (by decide) (fun zh => by exact absurd zh (nI_neN (by omega))) (fun c_50 => ?_)
                refine lv_aload_n hx hb dX0_keen_53 rfl (lv_at hl 0 rfl) ?_
                refine lv_iload_n hx hb dX0_keen_54 rfl (lv_at hl 3 rfl) ?_
                refine rd_callV hF (m_X0_dullness l D ca h a0 a1 tg a6 a8 tr a11 tpd ac lat t1 g lsq b3 b4 b5 b6 b8 b9 b10 b11 d fz i (by assumption) (by assumption) (by first | assumption | omega) (by assumption)) (cs_X0_dullness hts q928 ⟨by decide, by decide⟩) (KK_mv D ca) hKK (wp_tail hP [0, 1, 2, 3, 4, 5] rfl) (va_recv hK hP (ci := 0) (q0 := 0) rfl rfl) rfl hl.1 rfl (Nat.le_of_ble_eq_true rfl) dX0_keen_55 ⟨Nat.zero_le _, Nat.zero_le _⟩ ?_
                refine lv_aload_n hx hb dX0_keen_58 rfl (lv_at hl 0 rfl) ?_
                refine lv_iload_n hx hb dX0_keen_59 rfl (lv_at hl 2 rfl) ?_
                refine rd_callV hF (m_X0_dullness l D ca h a0 a1 tg a6 a8 tr a11 tpd ac lat t1 g lsq b3 b4 b5 b6 b8 b9 b10 b11 d fz bs (by assumption) (by assumption) (by first | assumption | omega) (by assumption)) (cs_X0_dullness hts q928 ⟨by decide, by decide⟩) (KK_mv D ca) hKK (wp_tail hP [0, 1, 2, 3, 4, 5] rfl) (va_recv hK hP (ci := 0) (q0 := 0) rfl rfl) rfl hl.1 rfl (Nat.le_of_ble_eq_true rfl) dX0_keen_60 ⟨Nat.zero_le _, Nat.zero_le _⟩ ?_
                refine wn_lt (tgt := 69) hx hb (by omega) (by omega) dX0_keen_63 (by decide) (fun c_63 => ?_) (fun c_63 => ?_)
                · have c_63n := Nat.not_le.mpr c_63
                  refine lv_iload_n hx hb dX0_keen_69 rfl (lv_at hl 3 rfl) ?_
                  refine lv_istore_n (lv' := [(2, .int (nI i)), (0, .ref h), (1, .int (nI k)), (3, .int (nI i))]) hx hb dX0_keen_70 rfl hl (by decide) rfl (fun ls hl => ?_)
                  have hk : keeN d (i + 1) = some i := by first | exact keeN_n (Or.inl (by assumption)) | exact keeN_y (by assumption) (by rw [hO_47]; first | rfl | exact decide_eq_true (by assumption)) | exact (keeN_n (Or.inr (by rw [hO_47]; exact decide_eq_false (by assumption)))).trans hO_47
                  refine lv_iinc (v := nI (i + 1)) (lv' := [(3, .int (nI (i + 1))), (2, .int (nI i)), (0, .ref h), (1, .int (nI k))]) hx hb dX0_keen_71 hl (k := 3) rfl (nI_add i 1) (by decide) rfl (fun ls hl => ?_)
                  refine lv_goto (tgt := 25) hx hb dX0_keen_74 (by decide) ?_
                  have e_5 : nI i = oI (keeN d (i + 1)) := by first | rfl | (first | (rw [hk]; done) | (rw [hk]; rfl) | (rw [hk, hO_47]; rfl))
                  have e_6 : i + 1 = (i + 1) := by first | rfl | (first | (rw [hk]; done) | (rw [hk]; rfl) | (rw [hk, hO_47]; rfl))
                  exact ih_25 (i + 1) (by omega) (by omega) ls (lv_to (lv_sub hl [2, 3, 1, 0] rfl) (Eq.trans (congrArg (fun x => ([(0, .ref h), (1, .int (nI k)), (2, .int x), (3, .int (nI (i + 1)))] : List (Nat × Value))) e_5) (congrArg (fun x => ([(0, .ref h), (1, .int (nI k)), (2, .int (oI (keeN d (i + 1)))), (3, .int (nI x))] : List (Nat × Value))) e_6)))
                · have c_63n := Nat.not_lt.mpr c_63
                  refine lv_goto (tgt := 71) hx hb dX0_keen_66 (by decide) ?_
                  have hk : keeN d (i + 1) = some bs := by first | exact keeN_n (Or.inl (by assumption)) | exact keeN_y (by assumption) (by rw [hO_47]; first | rfl | exact decide_eq_true (by assumption)) | exact (keeN_n (Or.inr (by rw [hO_47]; exact decide_eq_false (by assumption)))).trans hO_47
                  refine lv_iinc (v := nI (i + 1)) (lv' := [(3, .int (nI (i + 1))), (0, .ref h), (1, .int (nI k)), (2, .int (nI bs))]) hx hb dX0_keen_71 hl (k := 3) rfl (nI_add i 1) (by decide) rfl (fun ls hl => ?_)
                  refine lv_goto (tgt := 25) hx hb dX0_keen_74 (by decide) ?_
                  have e_7 : nI bs = oI (keeN d (i + 1)) := by first | rfl | (first | (rw [hk]; done) | (rw [hk]; rfl) | (rw [hk, hO_47]; rfl))
                  have e_8 : i + 1 = (i + 1) := by first | rfl | (first | (rw [hk]; done) | (rw [hk]; rfl) | (rw [hk, hO_47]; rfl))
                  exact ih_25 (i + 1) (by omega) (by omega) ls (lv_to (lv_sub hl [1, 2, 3, 0] rfl) (Eq.trans (congrArg (fun x => ([(0, .ref h), (1, .int (nI k)), (2, .int x), (3, .int (nI (i + 1)))] : List (Nat × Value))) e_7) (congrArg (fun x => ([(0, .ref h), (1, .int (nI k)), (2, .int (oI (keeN d (i + 1)))), (3, .int (nI x))] : List (Nat × Value))) e_8)))
      have e_9 : (-1000000) = oI (keeN d 0) := by first | rfl | (rfl)
      exact lp_25 ((d 2 - 0) + 1) 0 (by omega) (by omega) ls (lv_to (lv_sub hl [2, 3, 1, 0] rfl) (congrArg (fun x => ([(0, .ref h), (1, .int (nI k)), (2, .int x), (3, .int (nI 0))] : List (Nat × Value))) e_9))
    · have ix_w : ixO w 2 = none := ixO_f c_14
      refine lv_ldc (v := (-1000001)) hx hb hown (hts _ q306) dX0_keen_17 ?_
      exact rd_iret hx hb hr hlk hQ dX0_keen_19 (by first | (simp [keeI, oI, c_4, c_14, ix_w]; done) | (have hie : i = d 2 := (by omega); subst hie; simp [keeI, oI, c_4, c_14, ix_w]; done) | grind [keeI, oI])
  · refine lv_ldc (v := (-1000002)) hx hb hown (hts _ q724) dX0_keen_7 ?_
    exact rd_iret hx hb hr hlk hQ dX0_keen_9 (by first | (simp [keeI, oI, c_4]; done) | (have hie : i = d 2 := (by omega); subst hie; simp [keeI, oI, c_4]; done) | grind [keeI, oI])
theorem cs_J16_signum {R : Room} {s : State} {args : Array Value} {own : String} {index : Nat} (hts : ∀ w ∈ lw_all, w.before args s = true) (hl : Cond.methodLink own index yJ16_signum ∈ lw_all) {rm : Room} {mc ms : Nat} (hR : rm.frames + 1 ≤ R.frames ∧ 8 + (1 + 11) + rm.locals ≤ R.locals) (hc : rm.cells = mc := by rfl) (hs : rm.slots = ms := by rfl) : CallB R s args own index yJ16_signum cJ16_signum 1 (some .int) (ws_ yJ16_signum cJ16_signum 1 (some .int)) rm mc ms 1 ∧ (Cond.static yJ16_signum).before args s = true := va_cwS 1 hts (lw_S hl q946 q89 q947) rfl hc hs (by decide +kernel) hR
set_option maxHeartbeats 4000000 in
theorem m_X0_learned (l : Launch) (D : va_G) (ca : Nat → ClassId) (h : Nat) (a0 : Nat) (a1 : Nat) (tg : Nat) (a6 : Nat) (a8 : Nat) (tr : Nat) (a11 : Nat) (tpd : Nat) (ac : Nat) (lat : Int32) (t1 : Int32) (g : Nat) (lsq : Nat) (b3 : Nat) (b4 : Nat) (b5 : Nat) (b6 : Nat) (b8 : Nat) (b9 : Nat) (b10 : Nat) (b11 : Nat) (d : Nat → Nat) (fz : va_W) (x : Int32) (hd : dOK d) (hsq : SqL ca fz lsq d) : Met l yX0_learned (ws_ yX0_learned cX0_learned 2 (some .int)) (rmL 3) (PcR (KK D ca) D [.ref h, .int x] (([(h, .inr (0, [.ref a0, .ref a1, .int (nI tpd), .int lat, .ref g, .ref tg, .ref a6, .int (nI ac), .ref a8, .ref tr, .int t1, .ref a11])), (g, .inr (1, [.int (nI (d 0)), .int (nI (d 1)), .ref lsq, .ref b3, .ref b4, .ref b5, .ref b6, .int (nI (d 3)), .ref b8, .ref b9, .ref b10, .ref b11])), (b4, .inl (ca 0, 8, .inl (dv (yeF d)))), (b5, .inl (ca 0, 8, .inl (dv (noF d))))] : va_W) ++ fz)) (vp_Si (fun zr => zr = lrnI d x)) 0 0 (fun _ => False) := by
  refine rd_head (by decide) (Nat.le_of_ble_eq_true rfl) ?_
  intro zp ze zs zm za zb zt zc ls zQ hx hb hml hr hlk hown hts hK hP hl hQ
  have hown : zs.vm.findClass RX0 = some zm.cls := hown
  have hl : lv_has ls 2 [(0, .ref h), (1, .int x)] := hl
  have hF : CallFix zp zm zc cX0_learned 2 zs za lw_all RX0 := ⟨hx, hb, hml, hown, hts⟩
  have hKK := hK
  have hK : K1 D ca zs := hKK.1
  have hd2 : d 2 ≤ 8 := hd.2.2.1
  have hd3 : d 3 ≤ 5 := hd.2.2.2.1
  have hd0 : d 0 ≤ 9 := hd.1
  have hd1 : d 1 ≤ 8 := hd.2.1
  have hp2 := pow_8 hd2
  have hp3 := pow_8 (show d 3 ≤ 8 by omega)
  refine lv_aload_n hx hb dX0_learned_0 rfl (lv_at hl 0 rfl) ?_
  refine lv_iload_n hx hb dX0_learned_1 rfl (lv_at hl 1 rfl) ?_
  refine rd_callV hF (m_X0_isSquare l D ca h a0 a1 tg a6 a8 tr a11 tpd ac lat t1 g lsq b3 b4 b5 b6 b8 b9 b10 b11 d fz x (by assumption) (by assumption)) (cs_X0_isSquare hts q853 ⟨by decide, by decide⟩) (KK_mv D ca) hKK (wp_tail hP [0, 1] rfl) (va_recv hK hP (ci := 0) (q0 := 0) rfl rfl) rfl hl.1 rfl (Nat.le_of_ble_eq_true rfl) dX0_learned_2 ⟨Nat.zero_le _, Nat.zero_le _⟩ ?_
  refine wb_eq (tgt := 35) hx hb dX0_learned_5 (by decide) (fun c_5 => ?_) (fun c_5 => ?_)
  · have ix_x : ixO x (d 2) = none := ixO_f c_5
    refine lv_ldc (v := (-1000001)) hx hb hown (hts _ q306) dX0_learned_35 ?_
    exact rd_iret hx hb hr hlk hQ dX0_learned_37 (by first | (simp [lrnI, c_5, ix_x]; done) | (have zz := sg_all (d (4 + 5 * s + 2)) (by omega) (d (4 + 5 * s + 3)) (by omega); simp only [lrnI, ix_s]; exact zz))
  · obtain ⟨s, hs, hxs⟩ := (ltB_iff (by omega)).mp c_5
    subst hxs
    have ix_s : ixO (nI s) (d 2) = some s := ixO_t hs (by omega)
    have hq_s := hd.2.2.2.2.1 s (by omega)
    refine lv_iconst (v := nI 1) hx hb dX0_learned_8 rfl ?_
    refine lv_aload_n hx hb dX0_learned_9 rfl (lv_at hl 0 rfl) ?_
    refine va_get (D := D) (ci := 0) (v := .ref g) (C := RX0) (T := TX0) (N := 12) hx hb hts in_X0 hown hK hP 0 rfl rfl 4 (by decide) (hts _ q260) (fun _ h9 => h9) rfl dX0_learned_10 ?_
    refine va_get (D := D) (ci := 1) (v := .ref b4) (C := RX1) (T := TX1) (N := 12) hx hb hts in_X1 hown hK hP 1 rfl rfl 4 (by decide) (hts _ q148) (fun _ h9 => h9) rfl dX0_learned_13 ?_
    refine lv_iload_n hx hb dX0_learned_16 rfl (lv_at hl 1 rfl) ?_
    refine wn_iald (v := nI (d (4 + 5 * s + 2))) hx hb hK hP 2 0 rfl rfl (by omega) (by decide) rfl dX0_learned_17 ?_
    refine lv_aload_n hx hb dX0_learned_18 rfl (lv_at hl 0 rfl) ?_
    refine va_get (D := D) (ci := 0) (v := .ref g) (C := RX0) (T := TX0) (N := 12) hx hb hts in_X0 hown hK hP 0 rfl rfl 4 (by decide) (hts _ q260) (fun _ h9 => h9) rfl dX0_learned_19 ?_
    refine va_get (D := D) (ci := 1) (v := .ref b5) (C := RX1) (T := TX1) (N := 12) hx hb hts in_X1 hown hK hP 1 rfl rfl 5 (by decide) (hts _ q150) (fun _ h9 => h9) rfl dX0_learned_22 ?_
    refine lv_iload_n hx hb dX0_learned_25 rfl (lv_at hl 1 rfl) ?_
    refine wn_iald (v := nI (d (4 + 5 * s + 3))) hx hb hK hP 3 0 rfl rfl (by omega) (by decide) rfl dX0_learned_26 ?_
    refine lv_isub hx hb dX0_learned_27 ?_
    refine rd_callS hF (m_J16_signum l D ca ((nI (d (4 + 5 * s + 2))) - (nI (d (4 + 5 * s + 3)))) ) (cs_J16_signum hts q945 ⟨by decide, by decide⟩) (K1_mv D ca) hK (hP.sub [] rfl) rfl hl.1 rfl (Nat.le_of_ble_eq_true rfl) dX0_learned_28 ⟨Nat.zero_le _, Nat.zero_le _⟩ ?_
    refine lv_iadd hx hb dX0_learned_31 ?_
    refine lv_goto (tgt := 37) hx hb dX0_learned_32 (by decide) ?_
    exact rd_iret hx hb hr hlk hQ dX0_learned_37 (by first | (simp [lrnI, c_5, ix_s]; done) | (have zz := sg_all (d (4 + 5 * s + 2)) (by omega) (d (4 + 5 * s + 3)) (by omega); simp only [lrnI, ix_s]; exact zz))
set_option maxHeartbeats 4000000 in
theorem m_X0_needs (l : Launch) (D : va_G) (ca : Nat → ClassId) (h : Nat) (a0 : Nat) (a1 : Nat) (tg : Nat) (a6 : Nat) (a8 : Nat) (tr : Nat) (a11 : Nat) (tpd : Nat) (ac : Nat) (lat : Int32) (t1 : Int32) (g : Nat) (lsq : Nat) (b3 : Nat) (b4 : Nat) (b5 : Nat) (b6 : Nat) (b8 : Nat) (b9 : Nat) (b10 : Nat) (b11 : Nat) (d : Nat → Nat) (fz : va_W) (x : Int32) (hd : dOK d) (hsq : SqL ca fz lsq d) : Met l yX0_needs (ws_ yX0_needs cX0_needs 3 (some .int)) (rmL 4) (PcR (KK D ca) D [.ref h, .int x] (([(h, .inr (0, [.ref a0, .ref a1, .int (nI tpd), .int lat, .ref g, .ref tg, .ref a6, .int (nI ac), .ref a8, .ref tr, .int t1, .ref a11])), (g, .inr (1, [.int (nI (d 0)), .int (nI (d 1)), .ref lsq, .ref b3, .ref b4, .ref b5, .ref b6, .int (nI (d 3)), .ref b8, .ref b9, .ref b10, .ref b11])), (b4, .inl (ca 0, 8, .inl (dv (yeF d)))), (b5, .inl (ca 0, 8, .inl (dv (noF d)))), (b6, .inl (ca 0, 8, .inl (seF d)))] : va_W) ++ fz)) (vp_Si (fun zr => zr = neeI d x)) 0 0 (fun _ => False) := by
  refine rd_head (by decide) (Nat.le_of_ble_eq_true rfl) ?_
  intro zp ze zs zm za zb zt zc ls zQ hx hb hml hr hlk hown hts hK hP hl hQ
  have hown : zs.vm.findClass RX0 = some zm.cls := hown
  have hl : lv_has ls 3 [(0, .ref h), (1, .int x)] := hl
  have hF : CallFix zp zm zc cX0_needs 3 zs za lw_all RX0 := ⟨hx, hb, hml, hown, hts⟩
  have hKK := hK
  have hK : K1 D ca zs := hKK.1
  have hd2 : d 2 ≤ 8 := hd.2.2.1
  have hd3 : d 3 ≤ 5 := hd.2.2.2.1
  have hd0 : d 0 ≤ 9 := hd.1
  have hd1 : d 1 ≤ 8 := hd.2.1
  have hp2 := pow_8 hd2
  have hp3 := pow_8 (show d 3 ≤ 8 by omega)
  refine lv_aload_n hx hb dX0_needs_0 rfl (lv_at hl 0 rfl) ?_
  refine lv_iload_n hx hb dX0_needs_1 rfl (lv_at hl 1 rfl) ?_
  refine rd_callV hF (m_X0_isSquare l D ca h a0 a1 tg a6 a8 tr a11 tpd ac lat t1 g lsq b3 b4 b5 b6 b8 b9 b10 b11 d fz x (by assumption) (by assumption)) (cs_X0_isSquare hts q853 ⟨by decide, by decide⟩) (KK_mv D ca) hKK (wp_tail hP [0, 1] rfl) (va_recv hK hP (ci := 0) (q0 := 0) rfl rfl) rfl hl.1 rfl (Nat.le_of_ble_eq_true rfl) dX0_needs_2 ⟨Nat.zero_le _, Nat.zero_le _⟩ ?_
  refine wb_ne (tgt := 11) hx hb dX0_needs_5 (by decide) (fun c_5 => ?_) (fun c_5 => ?_)
  · obtain ⟨s, hs, hxs⟩ := (ltB_iff (by omega)).mp c_5
    subst hxs
    have ix_s : ixO (nI s) (d 2) = some s := ixO_t hs (by omega)
    have hq_s := hd.2.2.2.2.1 s (by omega)
    refine lv_aload_n hx hb dX0_needs_11 rfl (lv_at hl 0 rfl) ?_
    refine va_get (D := D) (ci := 0) (v := .ref g) (C := RX0) (T := TX0) (N := 12) hx hb hts in_X0 hown hK hP 0 rfl rfl 4 (by decide) (hts _ q260) (fun _ h9 => h9) rfl dX0_needs_12 ?_
    refine lv_iload_n hx hb dX0_needs_15 rfl (lv_at hl 1 rfl) ?_
    refine rd_callV hF (m_X1_counts l D ca g lsq b3 b4 b5 b6 b8 b9 b10 b11 d fz s (by assumption) (by assumption) (by first | assumption | omega)) (cs_X1_counts hts q862 ⟨by decide, by decide⟩) (KK_mv D ca) hKK (wp_tail hP [1, 4] rfl) (va_recv hK hP (ci := 1) (q0 := 1) rfl rfl) rfl hl.1 rfl (Nat.le_of_ble_eq_true rfl) dX0_needs_16 ⟨Nat.zero_le _, Nat.zero_le _⟩ ?_
    refine wb_eq (tgt := 25) hx hb dX0_needs_19 (by decide) (fun c_19 => ?_) (fun c_19 => ?_)
    · refine lv_aload_n hx hb dX0_needs_25 rfl (lv_at hl 0 rfl) ?_
      refine va_get (D := D) (ci := 0) (v := .ref g) (C := RX0) (T := TX0) (N := 12) hx hb hts in_X0 hown hK hP 0 rfl rfl 4 (by decide) (hts _ q260) (fun _ h9 => h9) rfl dX0_needs_26 ?_
      refine va_get (D := D) (ci := 1) (v := .ref b4) (C := RX1) (T := TX1) (N := 12) hx hb hts in_X1 hown hK hP 1 rfl rfl 4 (by decide) (hts _ q148) (fun _ h9 => h9) rfl dX0_needs_29 ?_
      refine lv_iload_n hx hb dX0_needs_32 rfl (lv_at hl 1 rfl) ?_
      refine wn_iald (v := nI (d (4 + 5 * s + 2))) hx hb hK hP 2 0 rfl rfl (by omega) (by decide) rfl dX0_needs_33 ?_
      refine lv_aload_n hx hb dX0_needs_34 rfl (lv_at hl 0 rfl) ?_
      refine va_get (D := D) (ci := 0) (v := .ref g) (C := RX0) (T := TX0) (N := 12) hx hb hts in_X0 hown hK hP 0 rfl rfl 4 (by decide) (hts _ q260) (fun _ h9 => h9) rfl dX0_needs_35 ?_
      refine va_get (D := D) (ci := 1) (v := .ref b5) (C := RX1) (T := TX1) (N := 12) hx hb hts in_X1 hown hK hP 1 rfl rfl 5 (by decide) (hts _ q150) (fun _ h9 => h9) rfl dX0_needs_38 ?_
      refine lv_iload_n hx hb dX0_needs_41 rfl (lv_at hl 1 rfl) ?_
      refine wn_iald (v := nI (d (4 + 5 * s + 3))) hx hb hK hP 3 0 rfl rfl (by omega) (by decide) rfl dX0_needs_42 ?_
      refine lv_isub hx hb dX0_needs_43 ?_
      refine lv_istore_n (lv' := [(2, .int ((nI (d (4 + 5 * s + 2))) - (nI (d (4 + 5 * s + 3))))), (0, .ref h), (1, .int (nI s))]) hx hb dX0_needs_44 rfl hl (by decide) rfl (fun ls hl => ?_)
      refine lv_iload_n hx hb dX0_needs_45 rfl (lv_at hl 0 rfl) ?_
      refine lv_if_le (tgt := 53) hx hb dX0_needs_46 (by decide) (fun c_46 => ?_) (fun c_46 => ?_)
      · rw [sub_le0 (by omega) (by omega)] at c_46
        refine lv_iconst (v := nI 1) hx hb dX0_needs_53 rfl ?_
        refine lv_iload_n hx hb dX0_needs_54 rfl (lv_at hl 0 rfl) ?_
        refine lv_isub hx hb dX0_needs_55 ?_
        exact rd_iret hx hb hr hlk hQ dX0_needs_56 (by first | (simp [neeI, c_5, ix_s, c_19, c_46]; done) | (rw [one_sub_sub c_46]; simp [neeI, c_5, ix_s, c_19, c_46]; done) | (rw [pk_sub (by omega)]; simp [neeI, c_5, ix_s, c_19, c_46]; done))
      · rw [sub_le0 (by omega) (by omega)] at c_46
        refine lv_iload_n hx hb dX0_needs_49 rfl (lv_at hl 0 rfl) ?_
        refine lv_goto (tgt := 56) hx hb dX0_needs_50 (by decide) ?_
        exact rd_iret hx hb hr hlk hQ dX0_needs_56 (by first | (simp [neeI, c_5, ix_s, c_19, c_46]; done) | (rw [one_sub_sub c_46]; simp [neeI, c_5, ix_s, c_19, c_46]; done) | (rw [pk_sub (by omega)]; simp [neeI, c_5, ix_s, c_19, c_46]; done))
    · refine lv_ldc (v := (-1000002)) hx hb hown (hts _ q724) dX0_needs_22 ?_
      exact rd_iret hx hb hr hlk hQ dX0_needs_24 (by first | (simp [neeI, c_5, ix_s, c_19]; done) | (rw [one_sub_sub c_46]; simp [neeI, c_5, ix_s, c_19]; done) | (rw [pk_sub (by omega)]; simp [neeI, c_5, ix_s, c_19]; done))
  · have ix_x : ixO x (d 2) = none := ixO_f c_5
    refine lv_ldc (v := (-1000001)) hx hb hown (hts _ q306) dX0_needs_8 ?_
    exact rd_iret hx hb hr hlk hQ dX0_needs_10 (by first | (simp [neeI, c_5, ix_x]; done) | (rw [one_sub_sub c_46]; simp [neeI, c_5, ix_x]; done) | (rw [pk_sub (by omega)]; simp [neeI, c_5, ix_x]; done))
set_option maxHeartbeats 4000000 in
theorem m_X0_kind (l : Launch) (D : va_G) (ca : Nat → ClassId) (h : Nat) (a0 : Nat) (a1 : Nat) (tg : Nat) (a6 : Nat) (a8 : Nat) (tr : Nat) (a11 : Nat) (tpd : Nat) (ac : Nat) (lat : Int32) (t1 : Int32) (g : Nat) (lsq : Nat) (b3 : Nat) (b4 : Nat) (b5 : Nat) (b6 : Nat) (b8 : Nat) (b9 : Nat) (b10 : Nat) (b11 : Nat) (d : Nat → Nat) (fz : va_W) (x : Int32) (hd : dOK d) (hsq : SqL ca fz lsq d) : Met l yX0_kind (ws_ yX0_kind cX0_kind 2 (some .int)) (rmL 3) (PcR (KK D ca) D [.ref h, .int x] (([(h, .inr (0, [.ref a0, .ref a1, .int (nI tpd), .int lat, .ref g, .ref tg, .ref a6, .int (nI ac), .ref a8, .ref tr, .int t1, .ref a11])), (g, .inr (1, [.int (nI (d 0)), .int (nI (d 1)), .ref lsq, .ref b3, .ref b4, .ref b5, .ref b6, .int (nI (d 3)), .ref b8, .ref b9, .ref b10, .ref b11]))] : va_W) ++ fz)) (vp_Si (fun zr => zr = kinI d x)) 0 0 (fun _ => False) := by
  refine rd_head (by decide) (Nat.le_of_ble_eq_true rfl) ?_
  intro zp ze zs zm za zb zt zc ls zQ hx hb hml hr hlk hown hts hK hP hl hQ
  have hown : zs.vm.findClass RX0 = some zm.cls := hown
  have hl : lv_has ls 2 [(0, .ref h), (1, .int x)] := hl
  have hF : CallFix zp zm zc cX0_kind 2 zs za lw_all RX0 := ⟨hx, hb, hml, hown, hts⟩
  have hKK := hK
  have hK : K1 D ca zs := hKK.1
  have hd2 : d 2 ≤ 8 := hd.2.2.1
  have hd3 : d 3 ≤ 5 := hd.2.2.2.1
  have hd0 : d 0 ≤ 9 := hd.1
  have hd1 : d 1 ≤ 8 := hd.2.1
  have hp2 := pow_8 hd2
  have hp3 := pow_8 (show d 3 ≤ 8 by omega)
  refine lv_aload_n hx hb dX0_kind_0 rfl (lv_at hl 0 rfl) ?_
  refine lv_iload_n hx hb dX0_kind_1 rfl (lv_at hl 1 rfl) ?_
  refine rd_callV hF (m_X0_isSquare l D ca h a0 a1 tg a6 a8 tr a11 tpd ac lat t1 g lsq b3 b4 b5 b6 b8 b9 b10 b11 d fz x (by assumption) (by assumption)) (cs_X0_isSquare hts q853 ⟨by decide, by decide⟩) (KK_mv D ca) hKK (wp_tail hP [0, 1] rfl) (va_recv hK hP (ci := 0) (q0 := 0) rfl rfl) rfl hl.1 rfl (Nat.le_of_ble_eq_true rfl) dX0_kind_2 ⟨Nat.zero_le _, Nat.zero_le _⟩ ?_
  refine wb_eq (tgt := 30) hx hb dX0_kind_5 (by decide) (fun c_5 => ?_) (fun c_5 => ?_)
  · have ix_x : ixO x (d 2) = none := ixO_f c_5
    refine lv_ldc (v := (-1000001)) hx hb hown (hts _ q306) dX0_kind_30 ?_
    exact rd_iret hx hb hr hlk hQ dX0_kind_32 (by first | (simp [kinI, bI, nI1_1, nI_0, c_5, ix_x]; done) | (simp [kinI, bI, nI1_1, nI_0, c_5, ix_x]; omega) | grind [kinI, bI, nI1_1, nI_0])
  · obtain ⟨s, hs, hxs⟩ := (ltB_iff (by omega)).mp c_5
    subst hxs
    have ix_s : ixO (nI s) (d 2) = some s := ixO_t hs (by omega)
    have hq_s := hd.2.2.2.2.1 s (by omega)
    refine lv_aload_n hx hb dX0_kind_8 rfl (lv_at hl 0 rfl) ?_
    refine va_get (D := D) (ci := 0) (v := .ref g) (C := RX0) (T := TX0) (N := 12) hx hb hts in_X0 hown hK hP 0 rfl rfl 4 (by decide) (hts _ q260) (fun _ h9 => h9) rfl dX0_kind_9 ?_
    refine va_get (D := D) (ci := 1) (v := .ref lsq) (C := RX1) (T := TX1) (N := 12) hx hb hts in_X1 hown hK hP 1 rfl rfl 2 (by decide) (hts _ q142) (fun _ h9 => h9) rfl dX0_kind_12 ?_
    refine lv_iload_n hx hb dX0_kind_15 rfl (lv_at hl 1 rfl) ?_
    obtain ⟨mo_16, eo_16, na_16, fa_16, sa_16, hls_16, heo_16, hna_16, hnb_16, hfa_16, hsm_16⟩ := hsq.at (q := s) (by omega)
    have hk_16 : 1 ≤ d (4 + 5 * s + 0) ∧ d (4 + 5 * s + 0) ≤ 5 := ⟨hd.2.2.2.2.2.2 _ (by omega), (hd.2.2.2.2.1 _ (by omega)).1⟩
    refine li_get hF hKK hP (List.mem_append_right _ hls_16) (List.mem_append_right _ heo_16) hna_16 hnb_16 hfa_16 q967 (by decide) hl.1 rfl (Nat.le_of_ble_eq_true rfl) dX0_kind_16 ⟨Nat.zero_le _, Nat.zero_le _⟩ ?_
    refine sq_cast (k := (d (4 + 5 * s + 0))) hx hb hown (hts _ q209) hKK hP (List.mem_append_right _ hsm_16) hk_16 dX0_kind_21 ?_
    refine sq_kind (k := (d (4 + 5 * s + 0))) hF hKK hP (List.mem_append_right _ hsm_16) hk_16 q977 (by decide) hl.1 rfl (Nat.le_of_ble_eq_true rfl) dX0_kind_24 ⟨Nat.zero_le _, Nat.zero_le _⟩ ?_
    refine lv_goto (tgt := 32) hx hb dX0_kind_27 (by decide) ?_
    exact rd_iret hx hb hr hlk hQ dX0_kind_32 (by first | (simp [kinI, bI, nI1_1, nI_0, c_5, ix_s]; done) | (simp [kinI, bI, nI1_1, nI_0, c_5, ix_s]; omega) | grind [kinI, bI, nI1_1, nI_0])
set_option maxHeartbeats 4000000 in
theorem m_X0_fault (l : Launch) (D : va_G) (ca : Nat → ClassId) (h : Nat) (a0 : Nat) (a1 : Nat) (tg : Nat) (a6 : Nat) (a8 : Nat) (tr : Nat) (a11 : Nat) (tpd : Nat) (ac : Nat) (lat : Int32) (t1 : Int32) (g : Nat)  : Met l yX0_fault (ws_ yX0_fault cX0_fault 1 (some .int)) (rmL 0) (PcR (KK D ca) D [.ref h] [(h, .inr (0, [.ref a0, .ref a1, .int (nI tpd), .int lat, .ref g, .ref tg, .ref a6, .int (nI ac), .ref a8, .ref tr, .int t1, .ref a11]))]) (vp_Si (fun zr => zr = lat)) 0 0 (fun _ => False) := by
  refine rd_head (by decide) (Nat.le_of_ble_eq_true rfl) ?_
  intro zp ze zs zm za zb zt zc ls zQ hx hb hml hr hlk hown hts hK hP hl hQ
  have hown : zs.vm.findClass RX0 = some zm.cls := hown
  have hl : lv_has ls 1 [(0, .ref h)] := hl
  have hF : CallFix zp zm zc cX0_fault 1 zs za lw_all RX0 := ⟨hx, hb, hml, hown, hts⟩
  have hKK := hK
  have hK : K1 D ca zs := hKK.1
  refine lv_aload_n hx hb dX0_fault_0 rfl (lv_at hl 0 rfl) ?_
  refine va_get (D := D) (ci := 0) (v := .int lat) (C := RX0) (T := TX0) (N := 12) hx hb hts in_X0 hown hK hP 0 rfl rfl 3 (by decide) (hts _ q259) (fun _ h9 => h9) rfl dX0_fault_1 ?_
  exact rd_iret hx hb hr hlk hQ dX0_fault_4 (by rfl)
set_option maxHeartbeats 4000000 in
theorem m_X0_status (l : Launch) (D : va_G) (ca : Nat → ClassId) (h : Nat) (a0 : Nat) (a1 : Nat) (tg : Nat) (a6 : Nat) (a8 : Nat) (tr : Nat) (a11 : Nat) (tpd : Nat) (ac : Nat) (lat : Int32) (t1 : Int32) (g : Nat)  : Met l yX0_status (ws_ yX0_status cX0_status 1 (some .int)) (rmL 0) (PcR (KK D ca) D [.ref h] [(h, .inr (0, [.ref a0, .ref a1, .int (nI tpd), .int lat, .ref g, .ref tg, .ref a6, .int (nI ac), .ref a8, .ref tr, .int t1, .ref a11]))]) (vp_Si (fun zr => zr = t1)) 0 0 (fun _ => False) := by
  refine rd_head (by decide) (Nat.le_of_ble_eq_true rfl) ?_
  intro zp ze zs zm za zb zt zc ls zQ hx hb hml hr hlk hown hts hK hP hl hQ
  have hown : zs.vm.findClass RX0 = some zm.cls := hown
  have hl : lv_has ls 1 [(0, .ref h)] := hl
  have hF : CallFix zp zm zc cX0_status 1 zs za lw_all RX0 := ⟨hx, hb, hml, hown, hts⟩
  have hKK := hK
  have hK : K1 D ca zs := hKK.1
  refine lv_aload_n hx hb dX0_status_0 rfl (lv_at hl 0 rfl) ?_
  refine va_get (D := D) (ci := 0) (v := .int t1) (C := RX0) (T := TX0) (N := 12) hx hb hts in_X0 hown hK hP 0 rfl rfl 10 (by decide) (hts _ q266) (fun _ h9 => h9) rfl dX0_status_1 ?_
  exact rd_iret hx hb hr hlk hQ dX0_status_4 (by rfl)
set_option maxHeartbeats 4000000 in
theorem m_X0_trace (l : Launch) (D : va_G) (ca : Nat → ClassId) (h : Nat) (a0 : Nat) (a1 : Nat) (tg : Nat) (a6 : Nat) (a8 : Nat) (tr : Nat) (a11 : Nat) (tpd : Nat) (ac : Nat) (lat : Int32) (t1 : Int32) (g : Nat) (tb : Nat) (trd : Nat) (trc : Nat → Nat) (x : Int32) (htr : trd ≤ 16) : Met l yX0_trace (ws_ yX0_trace cX0_trace 2 (some .int)) (rmL 1) (PcR (KK D ca) D [.ref h, .int x] [(h, .inr (0, [.ref a0, .ref a1, .int (nI tpd), .int lat, .ref g, .ref tg, .ref a6, .int (nI ac), .ref a8, .ref tr, .int t1, .ref a11])), (tr, .inr (2, [.ref tb, .int (nI trd)])), (tb, .inl (ca 0, 16, .inl (dv trc)))]) (vp_Si (fun zr => zr = trcI trc trd x)) 0 0 (fun _ => False) := by
  refine rd_head (by decide) (Nat.le_of_ble_eq_true rfl) ?_
  intro zp ze zs zm za zb zt zc ls zQ hx hb hml hr hlk hown hts hK hP hl hQ
  have hown : zs.vm.findClass RX0 = some zm.cls := hown
  have hl : lv_has ls 2 [(0, .ref h), (1, .int x)] := hl
  have hF : CallFix zp zm zc cX0_trace 2 zs za lw_all RX0 := ⟨hx, hb, hml, hown, hts⟩
  have hKK := hK
  have hK : K1 D ca zs := hKK.1
  refine lv_iload_n hx hb dX0_trace_0 rfl (lv_at hl 1 rfl) ?_
  refine lv_i2l hx hb dX0_trace_1 rfl ?_
  refine lv_lconst (v := 0) hx hb dX0_trace_2 rfl ?_
  refine lv_aload_n hx hb dX0_trace_3 rfl (lv_at hl 0 rfl) ?_
  refine va_get (D := D) (ci := 0) (v := .ref tr) (C := RX0) (T := TX0) (N := 12) hx hb hts in_X0 hown hK hP 0 rfl rfl 9 (by decide) (hts _ q265) (fun _ h9 => h9) rfl dX0_trace_4 ?_
  refine va_getN (D := D) (ci := 2) (v := .int (nI trd)) (C := RX2) (T := TX2) (N := 2) hx hb hts in_X2 hown hK hP 1 rfl rfl 1 (by decide) (va_Nw.use rfl (hKK.2.1 _ q203 rfl)) (fun _ h9 => h9) rfl dX0_trace_7 ?_
  refine lv_iconst (v := nI 1) hx hb dX0_trace_10 rfl ?_
  refine lv_isub hx hb dX0_trace_11 ?_
  refine lv_i2l hx hb dX0_trace_12 rfl ?_
  refine rd_callS hF (m_X0_isIn l D ca x.toInt64 0 (((nI trd) - (nI 1)).toInt64) ) (cs_X0_isIn hts q302 ⟨by decide, by decide⟩) (K1_mv D ca) hK (hP.sub [] rfl) rfl hl.1 rfl (Nat.le_of_ble_eq_true rfl) dX0_trace_13 ⟨Nat.zero_le _, Nat.zero_le _⟩ ?_
  refine wb_eq (tgt := 31) hx hb dX0_trace_16 (by decide) (fun c_16 => ?_) (fun c_16 => ?_)
  · rw [inB_lt (by omega)] at c_16
    have ix_x : ixO x trd = none := ixO_f c_16
    refine lv_ldc (v := (-1000000)) hx hb hown (hts _ q913) dX0_trace_31 ?_
    exact rd_iret hx hb hr hlk hQ dX0_trace_33 (by first | (simp [trcI, bI, nI1_1, nI_0, c_16, ix_x]; done) | (simp [trcI, bI, nI1_1, nI_0, c_16, ix_x]; omega) | grind [trcI, bI, nI1_1, nI_0])
  · rw [inB_lt (by omega)] at c_16
    obtain ⟨i, hi, hxi⟩ := (ltB_iff (by omega)).mp c_16
    subst hxi
    have ix_i : ixO (nI i) trd = some i := ixO_t hi (by omega)
    refine lv_aload_n hx hb dX0_trace_19 rfl (lv_at hl 0 rfl) ?_
    refine va_get (D := D) (ci := 0) (v := .ref tr) (C := RX0) (T := TX0) (N := 12) hx hb hts in_X0 hown hK hP 0 rfl rfl 9 (by decide) (hts _ q265) (fun _ h9 => h9) rfl dX0_trace_20 ?_
    refine va_getN (D := D) (ci := 2) (v := .ref tb) (C := RX2) (T := TX2) (N := 2) hx hb hts in_X2 hown hK hP 1 rfl rfl 0 (by decide) (va_Nw.use rfl (hKK.2.1 _ q201 rfl)) (fun _ h9 => h9) rfl dX0_trace_23 ?_
    refine lv_iload_n hx hb dX0_trace_26 rfl (lv_at hl 1 rfl) ?_
    refine wn_iald (v := nI (trc i)) hx hb hK hP 2 0 rfl rfl (by omega) (by decide) rfl dX0_trace_27 ?_
    refine lv_goto (tgt := 33) hx hb dX0_trace_28 (by decide) ?_
    exact rd_iret hx hb hr hlk hQ dX0_trace_33 (by first | (simp [trcI, bI, nI1_1, nI_0, c_16, ix_i]; done) | (simp [trcI, bI, nI1_1, nI_0, c_16, ix_i]; omega) | grind [trcI, bI, nI1_1, nI_0])
set_option maxHeartbeats 4000000 in
theorem m_X0_tells (l : Launch) (D : va_G) (ca : Nat → ClassId) (h : Nat) (a0 : Nat) (a1 : Nat) (tg : Nat) (a6 : Nat) (a8 : Nat) (tr : Nat) (a11 : Nat) (tpd : Nat) (ac : Nat) (lat : Int32) (t1 : Int32) (g : Nat) (lsq : Nat) (b3 : Nat) (b4 : Nat) (b5 : Nat) (b6 : Nat) (b8 : Nat) (b9 : Nat) (b10 : Nat) (b11 : Nat) (d : Nat → Nat) (fz : va_W) (x : Int32) (w : Int32) (hd : dOK d) (hsq : SqL ca fz lsq d) : Met l yX0_tells (ws_ yX0_tells cX0_tells 8 (some .int)) (rmL 5) (PcR (KK D ca) D [.ref h, .int x, .int w] (([(h, .inr (0, [.ref a0, .ref a1, .int (nI tpd), .int lat, .ref g, .ref tg, .ref a6, .int (nI ac), .ref a8, .ref tr, .int t1, .ref a11])), (g, .inr (1, [.int (nI (d 0)), .int (nI (d 1)), .ref lsq, .ref b3, .ref b4, .ref b5, .ref b6, .int (nI (d 3)), .ref b8, .ref b9, .ref b10, .ref b11])), (b3, .inl (ca 0, 8, .inl (dv (shF d)))), (b8, .inl (ca 0, 5, .inl (dv (caF d)))), (b9, .inl (ca 0, 5, .inl (dv (eaF d))))] : va_W) ++ fz)) (vp_Si (fun zr => zr = telI d x w)) 0 0 (fun _ => False) := by
  refine rd_head (by decide) (Nat.le_of_ble_eq_true rfl) ?_
  intro zp ze zs zm za zb zt zc ls zQ hx hb hml hr hlk hown hts hK hP hl hQ
  have hown : zs.vm.findClass RX0 = some zm.cls := hown
  have hl : lv_has ls 8 [(0, .ref h), (1, .int x), (2, .int w)] := hl
  have hF : CallFix zp zm zc cX0_tells 8 zs za lw_all RX0 := ⟨hx, hb, hml, hown, hts⟩
  have hKK := hK
  have hK : K1 D ca zs := hKK.1
  have hd2 : d 2 ≤ 8 := hd.2.2.1
  have hd3 : d 3 ≤ 5 := hd.2.2.2.1
  have hd0 : d 0 ≤ 9 := hd.1
  have hd1 : d 1 ≤ 8 := hd.2.1
  have hp2 := pow_8 hd2
  have hp3 := pow_8 (show d 3 ≤ 8 by omega)
  refine lv_aload_n hx hb dX0_tells_0 rfl (lv_at hl 0 rfl) ?_
  refine rd_callV hF (m_X0_isDoor l D ca h a0 a1 tg a6 a8 tr a11 tpd ac lat t1 g lsq b3 b4 b5 b6 b8 b9 b10 b11 d fz (by assumption) (by assumption)) (cs_X0_isDoor hts q844 ⟨by decide, by decide⟩) (KK_mv D ca) hKK (wp_tail hP [0, 1] rfl) (va_recv hK hP (ci := 0) (q0 := 0) rfl rfl) rfl hl.1 rfl (Nat.le_of_ble_eq_true rfl) dX0_tells_1 ⟨Nat.zero_le _, Nat.zero_le _⟩ ?_
  refine wb_ne (tgt := 10) hx hb dX0_tells_4 (by decide) (fun c_4 => ?_) (fun c_4 => ?_)
  · refine lv_aload_n hx hb dX0_tells_10 rfl (lv_at hl 0 rfl) ?_
    refine lv_iload_n hx hb dX0_tells_11 rfl (lv_at hl 1 rfl) ?_
    refine rd_callV hF (m_X0_areSquares l D ca h a0 a1 tg a6 a8 tr a11 tpd ac lat t1 g lsq b3 b4 b5 b6 b8 b9 b10 b11 d fz x (by assumption) (by assumption)) (cs_X0_areSquares hts q733 ⟨by decide, by decide⟩) (KK_mv D ca) hKK (wp_tail hP [0, 1] rfl) (va_recv hK hP (ci := 0) (q0 := 0) rfl rfl) rfl hl.1 rfl (Nat.le_of_ble_eq_true rfl) dX0_tells_12 ⟨Nat.zero_le _, Nat.zero_le _⟩ ?_
    refine wb_eq (tgt := 25) hx hb dX0_tells_15 (by decide) (fun c_15 => ?_) (fun c_15 => ?_)
    · have ix_x : ixO x (2 ^ d 2) = none := ixO_f c_15
      refine lv_ldc (v := (-1000001)) hx hb hown (hts _ q306) dX0_tells_25 ?_
      exact rd_iret hx hb hr hlk hQ dX0_tells_27 (by first | (simp [telI, c_4, c_15, ix_x]; done) | (have hie : a_ = d 3 := (by omega); subst hie; unfold telI; rw [if_pos c_4, ix_s, ix_k]; dsimp only; rw [← nV_nA, ← fV_fA]; first | rw [if_pos c_151] | rw [if_neg c_151]))
    · obtain ⟨s, hs, hxs⟩ := (ltB_iff (by omega)).mp c_15
      subst hxs
      have ix_s : ixO (nI s) (2 ^ d 2) = some s := ixO_t hs (by omega)
      refine lv_iload_n hx hb dX0_tells_18 rfl (lv_at hl 2 rfl) ?_
      refine rd_callS hF (m_X0_isHalf l D ca w ) (cs_X0_isHalf hts q906 ⟨by decide, by decide⟩) (K1_mv D ca) hK (hP.sub [] rfl) rfl hl.1 rfl (Nat.le_of_ble_eq_true rfl) dX0_tells_19 ⟨Nat.zero_le _, Nat.zero_le _⟩ ?_
      refine wb_ne (tgt := 28) hx hb dX0_tells_22 (by decide) (fun c_22 => ?_) (fun c_22 => ?_)
      · obtain ⟨k, hk, hxk⟩ := (ltB_iff (by omega)).mp c_22
        subst hxk
        have ix_k : ixO (nI k) 2 = some k := ixO_t hk (by omega)
        refine lv_iconst (v := nI 0) hx hb dX0_tells_28 rfl ?_
        refine lv_istore_n (lv' := [(3, .int (nI 0)), (0, .ref h), (1, .int (nI s)), (2, .int (nI k))]) hx hb dX0_tells_29 rfl hl (by decide) rfl (fun ls hl => ?_)
        refine lv_ldc (v := (-1000000)) hx hb hown (hts _ q913) dX0_tells_30 ?_
        refine lv_istore (lv' := [(4, .int ((-1000000))), (3, .int (nI 0)), (0, .ref h), (1, .int (nI s)), (2, .int (nI k))]) hx hb dX0_tells_32 hl (by decide) rfl (fun ls hl => ?_)
        refine lv_iconst (v := nI 0) hx hb dX0_tells_34 rfl ?_
        refine lv_istore (lv' := [(5, .int (nI 0)), (4, .int ((-1000000))), (3, .int (nI 0)), (0, .ref h), (1, .int (nI s)), (2, .int (nI k))]) hx hb dX0_tells_35 hl (by decide) rfl (fun ls hl => ?_)
        have lp_37 : ∀ (zn : Nat) (a_ : Nat), (a_ ≤ d 3) →  (d 3 - a_) < zn → ∀ (ls : Array Slot), lv_has ls 8 [(0, .ref h), (1, .int (nI s)), (2, .int (nI k)), (3, .int (nI (nV (alkB d s) (d 3) a_))), (4, .int (oI (fV (alkB d s) (d 3) a_))), (5, .int (nI a_))] → W zp l ze (rmL 5) zs zm za zb zt zc zs.heap [] 0 0 zQ (F0 zm 37 ls []) := by
          intro zn
          induction zn with
          | zero => intro a_ ha_ hmu_37; exact absurd hmu_37 (Nat.not_lt_zero _)
          | succ zn ih_37 =>
            intro a_ ha_ hmu_37 ls hl
            refine lv_iload hx hb dX0_tells_37 (lv_at hl 5 rfl) ?_
            refine lv_aload_n hx hb dX0_tells_39 rfl (lv_at hl 0 rfl) ?_
            refine va_get (D := D) (ci := 0) (v := .ref g) (C := RX0) (T := TX0) (N := 12) hx hb hts in_X0 hown hK hP 0 rfl rfl 4 (by decide) (hts _ q260) (fun _ h9 => h9) rfl dX0_tells_40 ?_
            refine va_get (D := D) (ci := 1) (v := .int (nI (d 3))) (C := RX1) (T := TX1) (N := 12) hx hb hts in_X1 hown hK hP 1 rfl rfl 7 (by decide) (hts _ q156) (fun _ h9 => h9) rfl dX0_tells_43 ?_
            refine wn_ge (tgt := 150) hx hb (by omega) (by omega) dX0_tells_46 (by decide) (fun c_46 => ?_) (fun c_46 => ?_)
            · have c_46n := Nat.not_lt.mpr c_46
              refine lv_iload_n hx hb dX0_tells_150 rfl (lv_at hl 2 rfl) ?_
              refine wn_ifne (tgt := 158) hx hb (by omega) dX0_tells_151 (by decide) (fun c_151 => ?_) (fun c_151 => ?_)
              · refine lv_iload hx hb dX0_tells_158 (lv_at hl 4 rfl) ?_
                exact rd_iret hx hb hr hlk hQ dX0_tells_160 (by first | (simp [telI, c_4, c_15, ix_s, c_22, ix_k, c_46, c_46n, c_151]; done) | (have hie : a_ = d 3 := (by omega); subst hie; unfold telI; rw [if_pos c_4, ix_s, ix_k]; dsimp only; rw [← nV_nA, ← fV_fA]; first | rw [if_pos c_151] | rw [if_neg c_151]))
              · refine lv_iload_n hx hb dX0_tells_154 rfl (lv_at hl 3 rfl) ?_
                refine lv_goto (tgt := 160) hx hb dX0_tells_155 (by decide) ?_
                exact rd_iret hx hb hr hlk hQ dX0_tells_160 (by first | (simp [telI, c_4, c_15, ix_s, c_22, ix_k, c_46, c_46n, c_151]; done) | (have hie : a_ = d 3 := (by omega); subst hie; unfold telI; rw [if_pos c_4, ix_s, ix_k]; dsimp only; rw [← nV_nA, ← fV_fA]; first | rw [if_pos c_151] | rw [if_neg c_151]))
            · have c_46n := Nat.not_le.mpr c_46
              refine lv_iload hx hb dX0_tells_49 (lv_at hl 5 rfl) ?_
              refine lv_iconst (v := nI 1) hx hb dX0_tells_51 rfl ?_
              refine wn_add hx hb dX0_tells_52 ?_
              refine lv_istore (lv' := [(6, .int (nI (a_ + 1))), (0, .ref h), (1, .int (nI s)), (2, .int (nI k)), (3, .int (nI (nV (alkB d s) (d 3) a_))), (4, .int (oI (fV (alkB d s) (d 3) a_))), (5, .int (nI a_))]) hx hb dX0_tells_53 hl (by decide) rfl (fun ls hl => ?_)
              have lp_55 : ∀ (zn : Nat) (m_ : Nat), (a_ + 1 + m_ ≤ d 3) →  (d 3 - m_) < zn → ∀ (ls : Array Slot), lv_has ls 8 [(0, .ref h), (1, .int (nI s)), (2, .int (nI k)), (3, .int (nI (nV (alkB d s) (d 3) a_ + nU (alkB d s) a_ (a_ + 1) m_))), (4, .int (oI (fU (alkB d s) a_ (a_ + 1) (fV (alkB d s) (d 3) a_) m_))), (5, .int (nI a_)), (6, .int (nI (a_ + 1 + m_)))] → W zp l ze (rmL 5) zs zm za zb zt zc zs.heap [] 0 0 zQ (F0 zm 55 ls []) := by
                intro zn
                induction zn with
                | zero => intro m_ hm_ hmu_55; exact absurd hmu_55 (Nat.not_lt_zero _)
                | succ zn ih_55 =>
                  intro m_ hm_ hmu_55 ls hl
                  have hnu := nU_le (alkB d s) a_ (a_ + 1) m_
                  have hnv := nV_le (alkB d s) (d 3) a_
                  have hnv2 : d 3 * a_ ≤ 5 * 5 := Nat.mul_le_mul hd3 (by omega)
                  refine lv_iload hx hb dX0_tells_55 (lv_at hl 6 rfl) ?_
                  refine lv_aload_n hx hb dX0_tells_57 rfl (lv_at hl 0 rfl) ?_
                  refine va_get (D := D) (ci := 0) (v := .ref g) (C := RX0) (T := TX0) (N := 12) hx hb hts in_X0 hown hK hP 0 rfl rfl 4 (by decide) (hts _ q260) (fun _ h9 => h9) rfl dX0_tells_58 ?_
                  refine va_get (D := D) (ci := 1) (v := .int (nI (d 3))) (C := RX1) (T := TX1) (N := 12) hx hb hts in_X1 hown hK hP 1 rfl rfl 7 (by decide) (hts _ q156) (fun _ h9 => h9) rfl dX0_tells_61 ?_
                  refine wn_ge (tgt := 144) hx hb (by omega) (by omega) dX0_tells_64 (by decide) (fun c_64 => ?_) (fun c_64 => ?_)
                  · have c_64n := Nat.not_lt.mpr c_64
                    refine lv_iinc (v := nI (a_ + 1)) (lv' := [(5, .int (nI (a_ + 1))), (0, .ref h), (1, .int (nI s)), (2, .int (nI k)), (3, .int (nI (nV (alkB d s) (d 3) a_ + nU (alkB d s) a_ (a_ + 1) m_))), (4, .int (oI (fU (alkB d s) a_ (a_ + 1) (fV (alkB d s) (d 3) a_) m_))), (6, .int (nI (a_ + 1 + m_)))]) hx hb dX0_tells_144 hl (k := 5) rfl (nI_add a_ 1) (by decide) rfl (fun ls hl => ?_)
                    refine lv_goto (tgt := 37) hx hb dX0_tells_147 (by decide) ?_
                    have e_1 : nV (alkB d s) (d 3) a_ + nU (alkB d s) a_ (a_ + 1) m_ = nV (alkB d s) (d 3) (a_ + 1) := by first | with_reducible rfl | (have hme : m_ = d 3 - (a_ + 1) := (by omega); subst hme; rfl)
                    have e_2 : oI (fU (alkB d s) a_ (a_ + 1) (fV (alkB d s) (d 3) a_) m_) = oI (fV (alkB d s) (d 3) (a_ + 1)) := by first | with_reducible rfl | (have hme : m_ = d 3 - (a_ + 1) := (by omega); subst hme; rfl)
                    have e_3 : a_ + 1 = (a_ + 1) := by first | with_reducible rfl | (have hme : m_ = d 3 - (a_ + 1) := (by omega); subst hme; rfl)
                    exact ih_37 (a_ + 1) (by omega) (by omega) ls (lv_to (lv_sub hl [1, 2, 3, 4, 5, 0] rfl) (Eq.trans (congrArg (fun x => ([(0, .ref h), (1, .int (nI s)), (2, .int (nI k)), (3, .int (nI x)), (4, .int (oI (fU (alkB d s) a_ (a_ + 1) (fV (alkB d s) (d 3) a_) m_))), (5, .int (nI (a_ + 1)))] : List (Nat × Value))) e_1) (Eq.trans (congrArg (fun x => ([(0, .ref h), (1, .int (nI s)), (2, .int (nI k)), (3, .int (nI (nV (alkB d s) (d 3) (a_ + 1)))), (4, .int x), (5, .int (nI (a_ + 1)))] : List (Nat × Value))) e_2) (congrArg (fun x => ([(0, .ref h), (1, .int (nI s)), (2, .int (nI k)), (3, .int (nI (nV (alkB d s) (d 3) (a_ + 1)))), (4, .int (oI (fV (alkB d s) (d 3) (a_ + 1)))), (5, .int (nI x))] : List (Nat × Value))) e_3))))
                  · have c_64n := Nat.not_le.mpr c_64
                    refine lv_aload_n hx hb dX0_tells_67 rfl (lv_at hl 0 rfl) ?_
                    refine va_get (D := D) (ci := 0) (v := .ref g) (C := RX0) (T := TX0) (N := 12) hx hb hts in_X0 hown hK hP 0 rfl rfl 4 (by decide) (hts _ q260) (fun _ h9 => h9) rfl dX0_tells_68 ?_
                    refine lv_iload hx hb dX0_tells_71 (lv_at hl 5 rfl) ?_
                    refine rd_callV hF (m_X1_clicked l D ca g lsq b3 b4 b5 b6 b8 b9 b10 b11 d fz a_ (by assumption) (by assumption) (by first | assumption | omega)) (cs_X1_clicked hts q884 ⟨by decide, by decide⟩) (KK_mv D ca) hKK (wp_tail hP [1, 2, 3, 4] rfl) (va_recv hK hP (ci := 1) (q0 := 1) rfl rfl) rfl hl.1 rfl (Nat.le_of_ble_eq_true rfl) dX0_tells_73 ⟨Nat.zero_le _, Nat.zero_le _⟩ ?_
                    refine lv_aload_n hx hb dX0_tells_76 rfl (lv_at hl 0 rfl) ?_
                    refine va_get (D := D) (ci := 0) (v := .ref g) (C := RX0) (T := TX0) (N := 12) hx hb hts in_X0 hown hK hP 0 rfl rfl 4 (by decide) (hts _ q260) (fun _ h9 => h9) rfl dX0_tells_77 ?_
                    refine lv_iload hx hb dX0_tells_80 (lv_at hl 6 rfl) ?_
                    refine rd_callV hF (m_X1_clicked l D ca g lsq b3 b4 b5 b6 b8 b9 b10 b11 d fz (a_ + 1 + m_) (by assumption) (by assumption) (by first | assumption | omega)) (cs_X1_clicked hts q884 ⟨by decide, by decide⟩) (KK_mv D ca) hKK (wp_tail hP [1, 2, 3, 4] rfl) (va_recv hK hP (ci := 1) (q0 := 1) rfl rfl) rfl hl.1 rfl (Nat.le_of_ble_eq_true rfl) dX0_tells_82 ⟨Nat.zero_le _, Nat.zero_le _⟩ ?_
                    refine wn_xor hx hb dX0_tells_85 ?_
                    refine lv_iload_n hx hb dX0_tells_86 rfl (lv_at hl 1 rfl) ?_
                    refine wn_and hx hb dX0_tells_87 ?_
                    refine wn_ifne (tgt := 95) hx hb (by exact Nat.lt_of_le_of_lt Nat.and_le_right (by omega)) dX0_tells_88 (by decide) (fun c_88 => ?_) (fun c_88 => ?_)
                    · refine lv_iconst (v := nI 0) hx hb dX0_tells_95 rfl ?_
                      refine lv_istore (lv' := [(7, .int (nI 0)), (0, .ref h), (1, .int (nI s)), (2, .int (nI k)), (3, .int (nI (nV (alkB d s) (d 3) a_ + nU (alkB d s) a_ (a_ + 1) m_))), (4, .int (oI (fU (alkB d s) a_ (a_ + 1) (fV (alkB d s) (d 3) a_) m_))), (5, .int (nI a_)), (6, .int (nI (a_ + 1 + m_)))]) hx hb dX0_tells_96 hl (by decide) rfl (fun ls hl => ?_)
                      refine lv_iload hx hb dX0_tells_98 (lv_at hl 0 rfl) ?_
                      refine wn_ifeq (tgt := 121) hx hb (by omega) dX0_tells_100 (by decide) (fun c_100 => ?_) (fun zh => by first | exact absurd zh (by decide) | exact absurd rfl zh | omega)
                      refine lv_iload hx hb dX0_tells_121 (lv_at hl 5 rfl) ?_
                      refine lv_istore (lv' := [(4, .int (oI (fU (alkB d s) a_ (a_ + 1) (fV (alkB d s) (d 3) a_) m_))), (7, .int (nI 0)), (0, .ref h), (1, .int (nI s)), (2, .int (nI k)), (3, .int (nI (nV (alkB d s) (d 3) a_ + nU (alkB d s) a_ (a_ + 1) m_))), (5, .int (nI a_)), (6, .int (nI (a_ + 1 + m_)))]) hx hb dX0_tells_123 hl (by decide) rfl (fun ls hl => ?_)
                      refine lv_iload_n hx hb dX0_tells_125 rfl (lv_at hl 5 rfl) ?_
                      refine lv_iload hx hb dX0_tells_126 (lv_at hl 1 rfl) ?_
                      refine wn_ifeq (tgt := 135) hx hb (by omega) dX0_tells_128 (by decide) (fun c_128 => ?_) (fun zh => by first | exact absurd zh (by decide) | exact absurd rfl zh | omega)
                      refine lv_iconst (v := nI 1) hx hb dX0_tells_135 rfl ?_
                      refine wn_add hx hb dX0_tells_136 ?_
                      refine lv_istore_n (lv' := [(3, .int (nI ((nV (alkB d s) (d 3) a_ + nU (alkB d s) a_ (a_ + 1) m_) + 1))), (4, .int (oI (fU (alkB d s) a_ (a_ + 1) (fV (alkB d s) (d 3) a_) m_))), (7, .int (nI 0)), (0, .ref h), (1, .int (nI s)), (2, .int (nI k)), (5, .int (nI a_)), (6, .int (nI (a_ + 1 + m_)))]) hx hb dX0_tells_137 rfl hl (by decide) rfl (fun ls hl => ?_)
                      refine lv_iinc (v := nI (a_ + 1 + m_ + 1)) (lv' := [(6, .int (nI (a_ + 1 + m_ + 1))), (3, .int (nI ((nV (alkB d s) (d 3) a_ + nU (alkB d s) a_ (a_ + 1) m_) + 1))), (4, .int (oI (fU (alkB d s) a_ (a_ + 1) (fV (alkB d s) (d 3) a_) m_))), (7, .int (nI 0)), (0, .ref h), (1, .int (nI s)), (2, .int (nI k)), (5, .int (nI a_))]) hx hb dX0_tells_138 hl (k := 7) rfl (nI_add (a_ + 1 + m_) 1) (by decide) rfl (fun ls hl => ?_)
                      refine lv_goto (tgt := 55) hx hb dX0_tells_141 (by decide) ?_
                      have e_4 : (nV (alkB d s) (d 3) a_ + nU (alkB d s) a_ (a_ + 1) m_) + 1 = nV (alkB d s) (d 3) a_ + nU (alkB d s) a_ (a_ + 1) (m_ + 1) := by first | with_reducible rfl | (first | (have hal : alkB d s a_ (a_ + 1 + m_) = true := decide_eq_true (by assumption); simp [nU, fU, hal, oI, hO_103]; done) | (have hal : alkB d s a_ (a_ + 1 + m_) = true := decide_eq_true (by assumption); simp [nU, fU, hal, oI, hO_103]; omega) | (have hal : alkB d s a_ (a_ + 1 + m_) = false := decide_eq_false (by assumption); simp [nU, fU, hal]; done) | (have hal : alkB d s a_ (a_ + 1 + m_) = false := decide_eq_false (by assumption); simp [nU, fU, hal]; omega) | (show _ = _; omega))
                      have e_5 : oI (fU (alkB d s) a_ (a_ + 1) (fV (alkB d s) (d 3) a_) m_) = oI (fU (alkB d s) a_ (a_ + 1) (fV (alkB d s) (d 3) a_) (m_ + 1)) := by first | with_reducible rfl | (first | (have hal : alkB d s a_ (a_ + 1 + m_) = true := decide_eq_true (by assumption); simp [nU, fU, hal, oI, hO_103]; done) | (have hal : alkB d s a_ (a_ + 1 + m_) = true := decide_eq_true (by assumption); simp [nU, fU, hal, oI, hO_103]; omega) | (have hal : alkB d s a_ (a_ + 1 + m_) = false := decide_eq_false (by assumption); simp [nU, fU, hal]; done) | (have hal : alkB d s a_ (a_ + 1 + m_) = false := decide_eq_false (by assumption); simp [nU, fU, hal]; omega) | (show _ = _; omega))
                      have e_6 : a_ + 1 + m_ + 1 = a_ + 1 + (m_ + 1) := by first | with_reducible rfl | (first | (have hal : alkB d s a_ (a_ + 1 + m_) = true := decide_eq_true (by assumption); simp [nU, fU, hal, oI, hO_103]; done) | (have hal : alkB d s a_ (a_ + 1 + m_) = true := decide_eq_true (by assumption); simp [nU, fU, hal, oI, hO_103]; omega) | (have hal : alkB d s a_ (a_ + 1 + m_) = false := decide_eq_false (by assumption); simp [nU, fU, hal]; done) | (have hal : alkB d s a_ (a_ + 1 + m_) = false := decide_eq_false (by assumption); simp [nU, fU, hal]; omega) | (show _ = _; omega))
                      exact ih_55 (m_ + 1) (by omega) (by omega) ls (lv_to (lv_sub hl [4, 5, 6, 1, 2, 7, 0] rfl) (Eq.trans (congrArg (fun x => ([(0, .ref h), (1, .int (nI s)), (2, .int (nI k)), (3, .int (nI x)), (4, .int (oI (fU (alkB d s) a_ (a_ + 1) (fV (alkB d s) (d 3) a_) m_))), (5, .int (nI a_)), (6, .int (nI (a_ + 1 + m_ + 1)))] : List (Nat × Value))) e_4) (Eq.trans (congrArg (fun x => ([(0, .ref h), (1, .int (nI s)), (2, .int (nI k)), (3, .int (nI (nV (alkB d s) (d 3) a_ + nU (alkB d s) a_ (a_ + 1) (m_ + 1)))), (4, .int x), (5, .int (nI a_)), (6, .int (nI (a_ + 1 + m_ + 1)))] : List (Nat × Value))) e_5) (congrArg (fun x => ([(0, .ref h), (1, .int (nI s)), (2, .int (nI k)), (3, .int (nI (nV (alkB d s) (d 3) a_ + nU (alkB d s) a_ (a_ + 1) (m_ + 1)))), (4, .int (oI (fU (alkB d s) a_ (a_ + 1) (fV (alkB d s) (d 3) a_) (m_ + 1)))), (5, .int (nI a_)), (6, .int (nI x))] : List (Nat × Value))) e_6))))
                    · refine lv_iconst (v := nI 1) hx hb dX0_tells_91 rfl ?_
                      refine lv_goto (tgt := 96) hx hb dX0_tells_92 (by decide) ?_
                      refine lv_istore (lv' := [(7, .int (nI 1)), (0, .ref h), (1, .int (nI s)), (2, .int (nI k)), (3, .int (nI (nV (alkB d s) (d 3) a_ + nU (alkB d s) a_ (a_ + 1) m_))), (4, .int (oI (fU (alkB d s) a_ (a_ + 1) (fV (alkB d s) (d 3) a_) m_))), (5, .int (nI a_)), (6, .int (nI (a_ + 1 + m_)))]) hx hb dX0_tells_96 hl (by decide) rfl (fun ls hl => ?_)
                      refine lv_iload hx hb dX0_tells_98 (lv_at hl 0 rfl) ?_
                      refine wn_ifeq (tgt := 121) hx hb (by omega) dX0_tells_100 (by decide) (fun zh => by first | exact absurd zh (by decide) | exact absurd rfl zh | omega) (fun c_100 => ?_)
                      rcases hO_103 : fU (alkB d s) a_ (a_ + 1) (fV (alkB d s) (d 3) a_) m_ with _ | bs
                      · rw [hO_103] at hl
                        have hl : lv_has ls 8 [(7, .int (nI 1)), (0, .ref h), (1, .int (nI s)), (2, .int (nI k)), (3, .int (nI (nV (alkB d s) (d 3) a_ + nU (alkB d s) a_ (a_ + 1) m_))), (4, .int ((-1000000))), (5, .int (nI a_)), (6, .int (nI (a_ + 1 + m_)))] := hl
                        refine lv_iload hx hb dX0_tells_103 (lv_at hl 5 rfl) ?_
                        refine lv_ldc (v := (-1000000)) hx hb hown (hts _ q913) dX0_tells_105 ?_
                        refine lv_icmp_ne (tgt := 121) hx hb dX0_tells_107 (by decide) (fun zh => by first | exact absurd rfl zh | exact absurd zh (by simp)) (fun c_107 => ?_)
                        refine lv_bipush (v := nI 10) hx hb dX0_tells_110 rfl ?_
                        refine lv_iload hx hb dX0_tells_112 (lv_at hl 6 rfl) ?_
                        refine wn_mul hx hb dX0_tells_114 ?_
                        refine lv_iload hx hb dX0_tells_115 (lv_at hl 7 rfl) ?_
                        refine wn_add hx hb dX0_tells_117 ?_
                        refine lv_goto (tgt := 123) hx hb dX0_tells_118 (by decide) ?_
                        refine lv_istore (lv' := [(4, .int (nI ((10 * a_) + (a_ + 1 + m_)))), (7, .int (nI 1)), (0, .ref h), (1, .int (nI s)), (2, .int (nI k)), (3, .int (nI (nV (alkB d s) (d 3) a_ + nU (alkB d s) a_ (a_ + 1) m_))), (5, .int (nI a_)), (6, .int (nI (a_ + 1 + m_)))]) hx hb dX0_tells_123 hl (by decide) rfl (fun ls hl => ?_)
                        refine lv_iload_n hx hb dX0_tells_125 rfl (lv_at hl 5 rfl) ?_
                        refine lv_iload hx hb dX0_tells_126 (lv_at hl 1 rfl) ?_
                        refine wn_ifeq (tgt := 135) hx hb (by omega) dX0_tells_128 (by decide) (fun zh => by first | exact absurd zh (by decide) | exact absurd rfl zh | omega) (fun c_128 => ?_)
                        refine lv_iconst (v := nI 0) hx hb dX0_tells_131 rfl ?_
                        refine lv_goto (tgt := 136) hx hb dX0_tells_132 (by decide) ?_
                        refine wn_add hx hb dX0_tells_136 ?_
                        refine lv_istore_n (lv' := [(3, .int (nI ((nV (alkB d s) (d 3) a_ + nU (alkB d s) a_ (a_ + 1) m_) + 0))), (4, .int (nI ((10 * a_) + (a_ + 1 + m_)))), (7, .int (nI 1)), (0, .ref h), (1, .int (nI s)), (2, .int (nI k)), (5, .int (nI a_)), (6, .int (nI (a_ + 1 + m_)))]) hx hb dX0_tells_137 rfl hl (by decide) rfl (fun ls hl => ?_)
                        refine lv_iinc (v := nI (a_ + 1 + m_ + 1)) (lv' := [(6, .int (nI (a_ + 1 + m_ + 1))), (3, .int (nI ((nV (alkB d s) (d 3) a_ + nU (alkB d s) a_ (a_ + 1) m_) + 0))), (4, .int (nI ((10 * a_) + (a_ + 1 + m_)))), (7, .int (nI 1)), (0, .ref h), (1, .int (nI s)), (2, .int (nI k)), (5, .int (nI a_))]) hx hb dX0_tells_138 hl (k := 7) rfl (nI_add (a_ + 1 + m_) 1) (by decide) rfl (fun ls hl => ?_)
                        refine lv_goto (tgt := 55) hx hb dX0_tells_141 (by decide) ?_
                        have e_7 : (nV (alkB d s) (d 3) a_ + nU (alkB d s) a_ (a_ + 1) m_) + 0 = nV (alkB d s) (d 3) a_ + nU (alkB d s) a_ (a_ + 1) (m_ + 1) := by first | with_reducible rfl | (first | (have hal : alkB d s a_ (a_ + 1 + m_) = true := decide_eq_true (by assumption); simp [nU, fU, hal, oI, hO_103]; done) | (have hal : alkB d s a_ (a_ + 1 + m_) = true := decide_eq_true (by assumption); simp [nU, fU, hal, oI, hO_103]; omega) | (have hal : alkB d s a_ (a_ + 1 + m_) = false := decide_eq_false (by assumption); simp [nU, fU, hal]; done) | (have hal : alkB d s a_ (a_ + 1 + m_) = false := decide_eq_false (by assumption); simp [nU, fU, hal]; omega) | (show _ = _; omega))
                        have e_8 : nI ((10 * a_) + (a_ + 1 + m_)) = oI (fU (alkB d s) a_ (a_ + 1) (fV (alkB d s) (d 3) a_) (m_ + 1)) := by first | with_reducible rfl | (first | (have hal : alkB d s a_ (a_ + 1 + m_) = true := decide_eq_true (by assumption); simp [nU, fU, hal, oI, hO_103]; done) | (have hal : alkB d s a_ (a_ + 1 + m_) = true := decide_eq_true (by assumption); simp [nU, fU, hal, oI, hO_103]; omega) | (have hal : alkB d s a_ (a_ + 1 + m_) = false := decide_eq_false (by assumption); simp [nU, fU, hal]; done) | (have hal : alkB d s a_ (a_ + 1 + m_) = false := decide_eq_false (by assumption); simp [nU, fU, hal]; omega) | (show _ = _; omega))
                        have e_9 : a_ + 1 + m_ + 1 = a_ + 1 + (m_ + 1) := by first | with_reducible rfl | (first | (have hal : alkB d s a_ (a_ + 1 + m_) = true := decide_eq_true (by assumption); simp [nU, fU, hal, oI, hO_103]; done) | (have hal : alkB d s a_ (a_ + 1 + m_) = true := decide_eq_true (by assumption); simp [nU, fU, hal, oI, hO_103]; omega) | (have hal : alkB d s a_ (a_ + 1 + m_) = false := decide_eq_false (by assumption); simp [nU, fU, hal]; done) | (have hal : alkB d s a_ (a_ + 1 + m_) = false := decide_eq_false (by assumption); simp [nU, fU, hal]; omega) | (show _ = _; omega))
                        exact ih_55 (m_ + 1) (by omega) (by omega) ls (lv_to (lv_sub hl [4, 5, 6, 1, 2, 7, 0] rfl) (Eq.trans (congrArg (fun x => ([(0, .ref h), (1, .int (nI s)), (2, .int (nI k)), (3, .int (nI x)), (4, .int (nI ((10 * a_) + (a_ + 1 + m_)))), (5, .int (nI a_)), (6, .int (nI (a_ + 1 + m_ + 1)))] : List (Nat × Value))) e_7) (Eq.trans (congrArg (fun x => ([(0, .ref h), (1, .int (nI s)), (2, .int (nI k)), (3, .int (nI (nV (alkB d s) (d 3) a_ + nU (alkB d s) a_ (a_ + 1) (m_ + 1)))), (4, .int x), (5, .int (nI a_)), (6, .int (nI (a_ + 1 + m_ + 1)))] : List (Nat × Value))) e_8) (congrArg (fun x => ([(0, .ref h), (1, .int (nI s)), (2, .int (nI k)), (3, .int (nI (nV (alkB d s) (d 3) a_ + nU (alkB d s) a_ (a_ + 1) (m_ + 1)))), (4, .int (oI (fU (alkB d s) a_ (a_ + 1) (fV (alkB d s) (d 3) a_) (m_ + 1)))), (5, .int (nI a_)), (6, .int (nI x))] : List (Nat × Value))) e_9))))
                      · rw [hO_103] at hl
                        have hl : lv_has ls 8 [(7, .int (nI 1)), (0, .ref h), (1, .int (nI s)), (2, .int (nI k)), (3, .int (nI (nV (alkB d s) (d 3) a_ + nU (alkB d s) a_ (a_ + 1) m_))), (4, .int (nI bs)), (5, .int (nI a_)), (6, .int (nI (a_ + 1 + m_)))] := hl
                        have hbs := fU_lt hO_103 (fun y hy => fV_lt hd3 a_ (by omega) y hy) (by omega) (by omega)
                        refine lv_iload hx hb dX0_tells_103 (lv_at hl 5 rfl) ?_
                        refine lv_ldc (v := (-1000000)) hx hb hown (hts _ q913) dX0_tells_105 ?_
                        refine lv_icmp_ne (tgt := 121) hx hb dX0_tells_107 (by decide) (fun c_107 => ?_) (fun zh => by exact absurd zh (nI_neN (by omega)))
                        refine lv_iload hx hb dX0_tells_121 (lv_at hl 5 rfl) ?_
                        refine lv_istore (lv' := [(4, .int (nI bs)), (7, .int (nI 1)), (0, .ref h), (1, .int (nI s)), (2, .int (nI k)), (3, .int (nI (nV (alkB d s) (d 3) a_ + nU (alkB d s) a_ (a_ + 1) m_))), (5, .int (nI a_)), (6, .int (nI (a_ + 1 + m_)))]) hx hb dX0_tells_123 hl (by decide) rfl (fun ls hl => ?_)
                        refine lv_iload_n hx hb dX0_tells_125 rfl (lv_at hl 5 rfl) ?_
                        refine lv_iload hx hb dX0_tells_126 (lv_at hl 1 rfl) ?_
                        refine wn_ifeq (tgt := 135) hx hb (by omega) dX0_tells_128 (by decide) (fun zh => by first | exact absurd zh (by decide) | exact absurd rfl zh | omega) (fun c_128 => ?_)
                        refine lv_iconst (v := nI 0) hx hb dX0_tells_131 rfl ?_
                        refine lv_goto (tgt := 136) hx hb dX0_tells_132 (by decide) ?_
                        refine wn_add hx hb dX0_tells_136 ?_
                        refine lv_istore_n (lv' := [(3, .int (nI ((nV (alkB d s) (d 3) a_ + nU (alkB d s) a_ (a_ + 1) m_) + 0))), (4, .int (nI bs)), (7, .int (nI 1)), (0, .ref h), (1, .int (nI s)), (2, .int (nI k)), (5, .int (nI a_)), (6, .int (nI (a_ + 1 + m_)))]) hx hb dX0_tells_137 rfl hl (by decide) rfl (fun ls hl => ?_)
                        refine lv_iinc (v := nI (a_ + 1 + m_ + 1)) (lv' := [(6, .int (nI (a_ + 1 + m_ + 1))), (3, .int (nI ((nV (alkB d s) (d 3) a_ + nU (alkB d s) a_ (a_ + 1) m_) + 0))), (4, .int (nI bs)), (7, .int (nI 1)), (0, .ref h), (1, .int (nI s)), (2, .int (nI k)), (5, .int (nI a_))]) hx hb dX0_tells_138 hl (k := 7) rfl (nI_add (a_ + 1 + m_) 1) (by decide) rfl (fun ls hl => ?_)
                        refine lv_goto (tgt := 55) hx hb dX0_tells_141 (by decide) ?_
                        have e_10 : (nV (alkB d s) (d 3) a_ + nU (alkB d s) a_ (a_ + 1) m_) + 0 = nV (alkB d s) (d 3) a_ + nU (alkB d s) a_ (a_ + 1) (m_ + 1) := by first | with_reducible rfl | (first | (have hal : alkB d s a_ (a_ + 1 + m_) = true := decide_eq_true (by assumption); simp [nU, fU, hal, oI, hO_103]; done) | (have hal : alkB d s a_ (a_ + 1 + m_) = true := decide_eq_true (by assumption); simp [nU, fU, hal, oI, hO_103]; omega) | (have hal : alkB d s a_ (a_ + 1 + m_) = false := decide_eq_false (by assumption); simp [nU, fU, hal]; done) | (have hal : alkB d s a_ (a_ + 1 + m_) = false := decide_eq_false (by assumption); simp [nU, fU, hal]; omega) | (show _ = _; omega))
                        have e_11 : nI bs = oI (fU (alkB d s) a_ (a_ + 1) (fV (alkB d s) (d 3) a_) (m_ + 1)) := by first | with_reducible rfl | (first | (have hal : alkB d s a_ (a_ + 1 + m_) = true := decide_eq_true (by assumption); simp [nU, fU, hal, oI, hO_103]; done) | (have hal : alkB d s a_ (a_ + 1 + m_) = true := decide_eq_true (by assumption); simp [nU, fU, hal, oI, hO_103]; omega) | (have hal : alkB d s a_ (a_ + 1 + m_) = false := decide_eq_false (by assumption); simp [nU, fU, hal]; done) | (have hal : alkB d s a_ (a_ + 1 + m_) = false := decide_eq_false (by assumption); simp [nU, fU, hal]; omega) | (show _ = _; omega))
                        have e_12 : a_ + 1 + m_ + 1 = a_ + 1 + (m_ + 1) := by first | with_reducible rfl | (first | (have hal : alkB d s a_ (a_ + 1 + m_) = true := decide_eq_true (by assumption); simp [nU, fU, hal, oI, hO_103]; done) | (have hal : alkB d s a_ (a_ + 1 + m_) = true := decide_eq_true (by assumption); simp [nU, fU, hal, oI, hO_103]; omega) | (have hal : alkB d s a_ (a_ + 1 + m_) = false := decide_eq_false (by assumption); simp [nU, fU, hal]; done) | (have hal : alkB d s a_ (a_ + 1 + m_) = false := decide_eq_false (by assumption); simp [nU, fU, hal]; omega) | (show _ = _; omega))
                        exact ih_55 (m_ + 1) (by omega) (by omega) ls (lv_to (lv_sub hl [4, 5, 6, 1, 2, 7, 0] rfl) (Eq.trans (congrArg (fun x => ([(0, .ref h), (1, .int (nI s)), (2, .int (nI k)), (3, .int (nI x)), (4, .int (nI bs)), (5, .int (nI a_)), (6, .int (nI (a_ + 1 + m_ + 1)))] : List (Nat × Value))) e_10) (Eq.trans (congrArg (fun x => ([(0, .ref h), (1, .int (nI s)), (2, .int (nI k)), (3, .int (nI (nV (alkB d s) (d 3) a_ + nU (alkB d s) a_ (a_ + 1) (m_ + 1)))), (4, .int x), (5, .int (nI a_)), (6, .int (nI (a_ + 1 + m_ + 1)))] : List (Nat × Value))) e_11) (congrArg (fun x => ([(0, .ref h), (1, .int (nI s)), (2, .int (nI k)), (3, .int (nI (nV (alkB d s) (d 3) a_ + nU (alkB d s) a_ (a_ + 1) (m_ + 1)))), (4, .int (oI (fU (alkB d s) a_ (a_ + 1) (fV (alkB d s) (d 3) a_) (m_ + 1)))), (5, .int (nI a_)), (6, .int (nI x))] : List (Nat × Value))) e_12))))
              have e_13 : nV (alkB d s) (d 3) a_ = nV (alkB d s) (d 3) a_ + nU (alkB d s) a_ (a_ + 1) 0 := by first | with_reducible rfl | (rfl)
              have e_14 : oI (fV (alkB d s) (d 3) a_) = oI (fU (alkB d s) a_ (a_ + 1) (fV (alkB d s) (d 3) a_) 0) := by first | with_reducible rfl | (rfl)
              have e_15 : a_ + 1 = a_ + 1 + 0 := by first | with_reducible rfl | (rfl)
              exact lp_55 ((d 3 - 0) + 1) 0 (by omega) (by omega) ls (lv_to (lv_sub hl [1, 2, 3, 4, 5, 6, 0] rfl) (Eq.trans (congrArg (fun x => ([(0, .ref h), (1, .int (nI s)), (2, .int (nI k)), (3, .int (nI x)), (4, .int (oI (fV (alkB d s) (d 3) a_))), (5, .int (nI a_)), (6, .int (nI (a_ + 1)))] : List (Nat × Value))) e_13) (Eq.trans (congrArg (fun x => ([(0, .ref h), (1, .int (nI s)), (2, .int (nI k)), (3, .int (nI (nV (alkB d s) (d 3) a_ + nU (alkB d s) a_ (a_ + 1) 0))), (4, .int x), (5, .int (nI a_)), (6, .int (nI (a_ + 1)))] : List (Nat × Value))) e_14) (congrArg (fun x => ([(0, .ref h), (1, .int (nI s)), (2, .int (nI k)), (3, .int (nI (nV (alkB d s) (d 3) a_ + nU (alkB d s) a_ (a_ + 1) 0))), (4, .int (oI (fU (alkB d s) a_ (a_ + 1) (fV (alkB d s) (d 3) a_) 0))), (5, .int (nI a_)), (6, .int (nI x))] : List (Nat × Value))) e_15))))
        have e_16 : 0 = nV (alkB d s) (d 3) 0 := by first | with_reducible rfl | (rfl)
        have e_17 : (-1000000) = oI (fV (alkB d s) (d 3) 0) := by first | with_reducible rfl | (rfl)
        exact lp_37 ((d 3 - 0) + 1) 0 (by omega) (by omega) ls (lv_to (lv_sub hl [3, 4, 5, 2, 1, 0] rfl) (Eq.trans (congrArg (fun x => ([(0, .ref h), (1, .int (nI s)), (2, .int (nI k)), (3, .int (nI x)), (4, .int ((-1000000))), (5, .int (nI 0))] : List (Nat × Value))) e_16) (congrArg (fun x => ([(0, .ref h), (1, .int (nI s)), (2, .int (nI k)), (3, .int (nI (nV (alkB d s) (d 3) 0))), (4, .int x), (5, .int (nI 0))] : List (Nat × Value))) e_17)))
      · have ix_w : ixO w 2 = none := ixO_f c_22
        refine lv_ldc (v := (-1000001)) hx hb hown (hts _ q306) dX0_tells_25 ?_
        exact rd_iret hx hb hr hlk hQ dX0_tells_27 (by first | (simp [telI, c_4, c_15, ix_s, c_22, ix_w]; done) | (have hie : a_ = d 3 := (by omega); subst hie; unfold telI; rw [if_pos c_4, ix_s, ix_k]; dsimp only; rw [← nV_nA, ← fV_fA]; first | rw [if_pos c_151] | rw [if_neg c_151]))
  · refine lv_ldc (v := (-1000002)) hx hb hown (hts _ q724) dX0_tells_7 ?_
    exact rd_iret hx hb hr hlk hQ dX0_tells_9 (by first | (simp [telI, c_4]; done) | (have hie : a_ = d 3 := (by omega); subst hie; unfold telI; rw [if_pos c_4, ix_s, ix_k]; dsimp only; rw [← nV_nA, ← fV_fA]; first | rw [if_pos c_151] | rw [if_neg c_151]))
theorem cs_X1_allVotes {R : Room} {s : State} {args : Array Value} {own : String} {index : Nat} (hts : ∀ w ∈ lw_all, w.before args s = true) (hl : Cond.methodLink own index yX1_allVotes ∈ lw_all) {rm : Room} {mc ms : Nat} (hR : rm.frames + 1 ≤ R.frames ∧ 8 + (3 + 11) + rm.locals ≤ R.locals) (hc : rm.cells = mc := by rfl) (hs : rm.slots = ms := by rfl) : CallW R s args own RX1 index yX1_allVotes cX1_allVotes 3 (some .int) (ws_ yX1_allVotes cX1_allVotes 3 (some .int)) rm mc ms 0 := cwV 0 hts (lw_V hl q1027 q1028 q59 q1029) rfl hc hs (by decide +kernel) hR
set_option maxHeartbeats 4000000 in
theorem m_X0_count (l : Launch) (D : va_G) (ca : Nat → ClassId) (h : Nat) (a0 : Nat) (a1 : Nat) (tg : Nat) (a6 : Nat) (a8 : Nat) (tr : Nat) (a11 : Nat) (tpd : Nat) (ac : Nat) (lat : Int32) (t1 : Int32) (g : Nat) (lsq : Nat) (b3 : Nat) (b4 : Nat) (b5 : Nat) (b6 : Nat) (b8 : Nat) (b9 : Nat) (b10 : Nat) (b11 : Nat) (d : Nat → Nat) (fz : va_W) (la : Nat → Int32) (rox : Nat → Option Nat) (w : Int32) (hd : dOK d) (hsq : SqL ca fz lsq d) (hlr : ∀ r, r < 8 → (la r < 0 ↔ rox r = none)) : Met l yX0_count (ws_ yX0_count cX0_count 4 (some .int)) (rmL 5) (PcR (KK D ca) D [.ref h, .int w] (([(h, .inr (0, [.ref a0, .ref a1, .int (nI tpd), .int lat, .ref g, .ref tg, .ref a6, .int (nI ac), .ref a8, .ref tr, .int t1, .ref a11])), (g, .inr (1, [.int (nI (d 0)), .int (nI (d 1)), .ref lsq, .ref b3, .ref b4, .ref b5, .ref b6, .int (nI (d 3)), .ref b8, .ref b9, .ref b10, .ref b11])), (b3, .inl (ca 0, 8, .inl (dv (shF d)))), (b4, .inl (ca 0, 8, .inl (dv (yeF d)))), (b5, .inl (ca 0, 8, .inl (dv (noF d)))), (b6, .inl (ca 0, 8, .inl (seF d))), (b8, .inl (ca 0, 5, .inl (dv (caF d)))), (b9, .inl (ca 0, 5, .inl (dv (eaF d)))), (b10, .inl (ca 0, 5, .inl (dv (poF d)))), (b11, .inl (ca 0, 5, .inl (dv (leF d)))), (a0, .inl (ca 4, 8, .inr (.inr (.inr (.inr rox)))))] : va_W) ++ fz)) (vp_Si (fun zr => zr = cntI d la ac tpd w)) 0 0 (fun _ => False) := by
  refine rd_head (by decide) (Nat.le_of_ble_eq_true rfl) ?_
  intro zp ze zs zm za zb zt zc ls zQ hx hb hml hr hlk hown hts hK hP hl hQ
  have hown : zs.vm.findClass RX0 = some zm.cls := hown
  have hl : lv_has ls 4 [(0, .ref h), (1, .int w)] := hl
  have hF : CallFix zp zm zc cX0_count 4 zs za lw_all RX0 := ⟨hx, hb, hml, hown, hts⟩
  have hKK := hK
  have hK : K1 D ca zs := hKK.1
  have hd2 : d 2 ≤ 8 := hd.2.2.1
  have hd3 : d 3 ≤ 5 := hd.2.2.2.1
  have hd0 : d 0 ≤ 9 := hd.1
  have hd1 : d 1 ≤ 8 := hd.2.1
  have hp2 := pow_8 hd2
  have hp3 := pow_8 (show d 3 ≤ 8 by omega)
  refine lv_iconst (v := nI 0) hx hb dX0_count_0 rfl ?_
  refine lv_istore_n (lv' := [(2, .int (nI 0)), (0, .ref h), (1, .int w)]) hx hb dX0_count_1 rfl hl (by decide) rfl (fun ls hl => ?_)
  refine lv_iload_n hx hb dX0_count_2 rfl (lv_at hl 2 rfl) ?_
  rcases sw_split w 7 (by decide) with c_3 | ⟨j_3, hj_3, c_3⟩
  · have iw_3 : ixO w 8 = none := ixO_out c_3
    refine lv_tableOut (tgt := 131) hx hb dX0_count_3 c_3 (by decide) ?_
    refine lv_ldc (v := (-1000001)) hx hb hown (hts _ q306) dX0_count_131 ?_
    exact rd_iret hx hb hr hlk hQ dX0_count_133 (by first | (simp [cntI, c_3, iw_3]; done) | (have hie : i = 8 := (by omega); subst hie; simp [cntI, c_3, iw_3]; done))
  · rcases (show j_3 = 0 ∨ j_3 = 1 ∨ j_3 = 2 ∨ j_3 = 3 ∨ j_3 = 4 ∨ j_3 = 5 ∨ j_3 = 6 ∨ j_3 = 7 by omega) with rfl | rfl | rfl | rfl | rfl | rfl | rfl | rfl
    · have iw_3 : ixO w 8 = some 0 := by rw [c_3]; exact ixO_t (by decide) (by decide)
      refine lv_tableIn (off := 45) (tgt := 48) hx hb dX0_count_3 (by rw [c_3]; decide) (by rw [c_3]; decide) (by rw [c_3]; rfl) (by decide) ?_
      refine lv_iconst (v := nI 0) hx hb dX0_count_48 rfl ?_
      refine lv_istore_n (lv' := [(3, .int (nI 0)), (2, .int (nI 0)), (0, .ref h), (1, .int w)]) hx hb dX0_count_49 rfl hl (by decide) rfl (fun ls hl => ?_)
      have lp_50 : ∀ (zn : Nat) (i : Nat), (i ≤ 8) →  (8 - i) < zn → ∀ (ls : Array Slot), lv_has ls 4 [(0, .ref h), (1, .int w), (2, .int (nI (lanN la i))), (3, .int (nI i))] → W zp l ze (rmL 5) zs zm za zb zt zc zs.heap [] 0 0 zQ (F0 zm 50 ls []) := by
        intro zn
        induction zn with
        | zero => intro i hi hmu_50; exact absurd hmu_50 (Nat.not_lt_zero _)
        | succ zn ih_50 =>
          intro i hi hmu_50 ls hl
          refine lv_iload_n hx hb dX0_count_50 rfl (lv_at hl 3 rfl) ?_
          refine lv_bipush (v := nI 8) hx hb dX0_count_51 rfl ?_
          refine wn_ge (tgt := 79) hx hb (by omega) (by omega) dX0_count_53 (by decide) (fun c_53 => ?_) (fun c_53 => ?_)
          · have c_53n := Nat.not_lt.mpr c_53
            refine lv_iload_n hx hb dX0_count_79 rfl (lv_at hl 2 rfl) ?_
            exact rd_iret hx hb hr hlk hQ dX0_count_80 (by first | (simp [cntI, iw_3, c_53, c_53n]; done) | (have hie : i = 8 := (by omega); subst hie; simp [cntI, iw_3, c_53, c_53n]; done))
          · have c_53n := Nat.not_le.mpr c_53
            refine lv_iload_n hx hb dX0_count_56 rfl (lv_at hl 2 rfl) ?_
            refine lv_aload_n hx hb dX0_count_57 rfl (lv_at hl 0 rfl) ?_
            refine va_get (D := D) (ci := 0) (v := .ref a0) (C := RX0) (T := TX0) (N := 12) hx hb hts in_X0 hown hK hP 0 rfl rfl 0 (by decide) (hts _ q256) (fun _ h9 => h9) rfl dX0_count_58 ?_
            refine lv_iload_n hx hb dX0_count_61 rfl (lv_at hl 3 rfl) ?_
            refine wn_aald (v := va_rf (rox i)) hx hb hK hP 10 4 rfl rfl (by omega) (by first | decide | omega) (rfl) dX0_count_62 ?_
            rcases hN_63 : rox i with _ | ra_63
            · refine lv_ifnonnullN hx hb dX0_count_63 ?_
              refine lv_iconst (v := nI 0) hx hb dX0_count_66 rfl ?_
              refine lv_goto (tgt := 71) hx hb dX0_count_67 (by decide) ?_
              refine wn_add hx hb dX0_count_71 ?_
              refine lv_istore_n (lv' := [(2, .int (nI ((lanN la i) + 0))), (0, .ref h), (1, .int w), (3, .int (nI i))]) hx hb dX0_count_72 rfl hl (by decide) rfl (fun ls hl => ?_)
              refine lv_iinc (v := nI (i + 1)) (lv' := [(3, .int (nI (i + 1))), (2, .int (nI ((lanN la i) + 0))), (0, .ref h), (1, .int w)]) hx hb dX0_count_73 hl (k := 3) rfl (nI_add i 1) (by decide) rfl (fun ls hl => ?_)
              refine lv_goto (tgt := 50) hx hb dX0_count_76 (by decide) ?_
              have e_1 : (lanN la i) + 0 = lanN la (i + 1) := by first | rfl | (first | (have hz := (hlr i (by omega)).mpr hN_63; simp [lanN, hz]; done) | (have hz : ¬ la i < 0 := fun zq => (by rw [(hlr i (by omega)).mp zq] at hN_63; cases hN_63); simp [lanN, hz]; done))
              have e_2 : i + 1 = (i + 1) := by first | rfl | (first | (have hz := (hlr i (by omega)).mpr hN_63; simp [lanN, hz]; done) | (have hz : ¬ la i < 0 := fun zq => (by rw [(hlr i (by omega)).mp zq] at hN_63; cases hN_63); simp [lanN, hz]; done))
              exact ih_50 (i + 1) (by omega) (by omega) ls (lv_to (lv_sub hl [2, 3, 1, 0] rfl) (Eq.trans (congrArg (fun x => ([(0, .ref h), (1, .int w), (2, .int (nI x)), (3, .int (nI (i + 1)))] : List (Nat × Value))) e_1) (congrArg (fun x => ([(0, .ref h), (1, .int w), (2, .int (nI (lanN la (i + 1)))), (3, .int (nI x))] : List (Nat × Value))) e_2)))
            · refine lv_ifnonnull (tgt := 70) hx hb dX0_count_63 (by decide) ?_
              refine lv_iconst (v := nI 1) hx hb dX0_count_70 rfl ?_
              refine wn_add hx hb dX0_count_71 ?_
              refine lv_istore_n (lv' := [(2, .int (nI ((lanN la i) + 1))), (0, .ref h), (1, .int w), (3, .int (nI i))]) hx hb dX0_count_72 rfl hl (by decide) rfl (fun ls hl => ?_)
              refine lv_iinc (v := nI (i + 1)) (lv' := [(3, .int (nI (i + 1))), (2, .int (nI ((lanN la i) + 1))), (0, .ref h), (1, .int w)]) hx hb dX0_count_73 hl (k := 3) rfl (nI_add i 1) (by decide) rfl (fun ls hl => ?_)
              refine lv_goto (tgt := 50) hx hb dX0_count_76 (by decide) ?_
              have e_3 : (lanN la i) + 1 = lanN la (i + 1) := by first | rfl | (first | (have hz := (hlr i (by omega)).mpr hN_63; simp [lanN, hz]; done) | (have hz : ¬ la i < 0 := fun zq => (by rw [(hlr i (by omega)).mp zq] at hN_63; cases hN_63); simp [lanN, hz]; done))
              have e_4 : i + 1 = (i + 1) := by first | rfl | (first | (have hz := (hlr i (by omega)).mpr hN_63; simp [lanN, hz]; done) | (have hz : ¬ la i < 0 := fun zq => (by rw [(hlr i (by omega)).mp zq] at hN_63; cases hN_63); simp [lanN, hz]; done))
              exact ih_50 (i + 1) (by omega) (by omega) ls (lv_to (lv_sub hl [2, 3, 1, 0] rfl) (Eq.trans (congrArg (fun x => ([(0, .ref h), (1, .int w), (2, .int (nI x)), (3, .int (nI (i + 1)))] : List (Nat × Value))) e_3) (congrArg (fun x => ([(0, .ref h), (1, .int w), (2, .int (nI (lanN la (i + 1)))), (3, .int (nI x))] : List (Nat × Value))) e_4)))
      have e_5 : 0 = lanN la 0 := by first | rfl | (rfl)
      exact lp_50 ((8 - 0) + 1) 0 (by omega) (by omega) ls (lv_to (lv_sub hl [2, 3, 1, 0] rfl) (congrArg (fun x => ([(0, .ref h), (1, .int w), (2, .int (nI x)), (3, .int (nI 0))] : List (Nat × Value))) e_5))
    · have iw_3 : ixO w 8 = some 1 := by rw [c_3]; exact ixO_t (by decide) (by decide)
      refine lv_tableIn (off := 78) (tgt := 81) hx hb dX0_count_3 (by rw [c_3]; decide) (by rw [c_3]; decide) (by rw [c_3]; rfl) (by decide) ?_
      refine lv_aload_n hx hb dX0_count_81 rfl (lv_at hl 1 rfl) ?_
      refine va_get (D := D) (ci := 0) (v := .ref g) (C := RX0) (T := TX0) (N := 12) hx hb hts in_X0 hown hK hP 0 rfl rfl 4 (by decide) (hts _ q260) (fun _ h9 => h9) rfl dX0_count_82 ?_
      refine rd_callV hF (m_X1_many l D ca g lsq b3 b4 b5 b6 b8 b9 b10 b11 d fz (by assumption) (by assumption)) (cs_X1_many hts q715 ⟨by decide, by decide⟩) (KK_mv D ca) hKK (wp_tail hP [1] rfl) (va_recv hK hP (ci := 1) (q0 := 1) rfl rfl) rfl hl.1 rfl (Nat.le_of_ble_eq_true rfl) dX0_count_85 ⟨Nat.zero_le _, Nat.zero_le _⟩ ?_
      exact rd_iret hx hb hr hlk hQ dX0_count_88 (by first | (simp [cntI, iw_3]; done) | (have hie : i = 8 := (by omega); subst hie; simp [cntI, iw_3]; done))
    · have iw_3 : ixO w 8 = some 2 := by rw [c_3]; exact ixO_t (by decide) (by decide)
      refine lv_tableIn (off := 86) (tgt := 89) hx hb dX0_count_3 (by rw [c_3]; decide) (by rw [c_3]; decide) (by rw [c_3]; rfl) (by decide) ?_
      refine lv_aload_n hx hb dX0_count_89 rfl (lv_at hl 1 rfl) ?_
      refine va_get (D := D) (ci := 0) (v := .ref g) (C := RX0) (T := TX0) (N := 12) hx hb hts in_X0 hown hK hP 0 rfl rfl 4 (by decide) (hts _ q260) (fun _ h9 => h9) rfl dX0_count_90 ?_
      refine va_get (D := D) (ci := 1) (v := .int (nI (d 3))) (C := RX1) (T := TX1) (N := 12) hx hb hts in_X1 hown hK hP 1 rfl rfl 7 (by decide) (hts _ q156) (fun _ h9 => h9) rfl dX0_count_93 ?_
      exact rd_iret hx hb hr hlk hQ dX0_count_96 (by first | (simp [cntI, iw_3]; done) | (have hie : i = 8 := (by omega); subst hie; simp [cntI, iw_3]; done))
    · have iw_3 : ixO w 8 = some 3 := by rw [c_3]; exact ixO_t (by decide) (by decide)
      refine lv_tableIn (off := 94) (tgt := 97) hx hb dX0_count_3 (by rw [c_3]; decide) (by rw [c_3]; decide) (by rw [c_3]; rfl) (by decide) ?_
      refine lv_aload_n hx hb dX0_count_97 rfl (lv_at hl 1 rfl) ?_
      refine va_get (D := D) (ci := 0) (v := .ref g) (C := RX0) (T := TX0) (N := 12) hx hb hts in_X0 hown hK hP 0 rfl rfl 4 (by decide) (hts _ q260) (fun _ h9 => h9) rfl dX0_count_98 ?_
      refine va_get (D := D) (ci := 1) (v := .int (nI (d 1))) (C := RX1) (T := TX1) (N := 12) hx hb hts in_X1 hown hK hP 1 rfl rfl 1 (by decide) (hts _ q139) (fun _ h9 => h9) rfl dX0_count_101 ?_
      exact rd_iret hx hb hr hlk hQ dX0_count_104 (by first | (simp [cntI, iw_3]; done) | (have hie : i = 8 := (by omega); subst hie; simp [cntI, iw_3]; done))
    · have iw_3 : ixO w 8 = some 4 := by rw [c_3]; exact ixO_t (by decide) (by decide)
      refine lv_tableIn (off := 102) (tgt := 105) hx hb dX0_count_3 (by rw [c_3]; decide) (by rw [c_3]; decide) (by rw [c_3]; rfl) (by decide) ?_
      refine lv_aload_n hx hb dX0_count_105 rfl (lv_at hl 1 rfl) ?_
      refine va_get (D := D) (ci := 0) (v := .ref g) (C := RX0) (T := TX0) (N := 12) hx hb hts in_X0 hown hK hP 0 rfl rfl 4 (by decide) (hts _ q260) (fun _ h9 => h9) rfl dX0_count_106 ?_
      refine rd_callV hF (m_X1_counting l D ca g lsq b3 b4 b5 b6 b8 b9 b10 b11 d fz (by assumption) (by assumption)) (cs_X1_counting hts q1013 ⟨by decide, by decide⟩) (KK_mv D ca) hKK (wp_tail hP [1, 5] rfl) (va_recv hK hP (ci := 1) (q0 := 1) rfl rfl) rfl hl.1 rfl (Nat.le_of_ble_eq_true rfl) dX0_count_109 ⟨Nat.zero_le _, Nat.zero_le _⟩ ?_
      exact rd_iret hx hb hr hlk hQ dX0_count_112 (by first | (simp [cntI, iw_3]; done) | (have hie : i = 8 := (by omega); subst hie; simp [cntI, iw_3]; done))
    · have iw_3 : ixO w 8 = some 5 := by rw [c_3]; exact ixO_t (by decide) (by decide)
      refine lv_tableIn (off := 110) (tgt := 113) hx hb dX0_count_3 (by rw [c_3]; decide) (by rw [c_3]; decide) (by rw [c_3]; rfl) (by decide) ?_
      refine lv_aload_n hx hb dX0_count_113 rfl (lv_at hl 1 rfl) ?_
      refine va_get (D := D) (ci := 0) (v := .ref g) (C := RX0) (T := TX0) (N := 12) hx hb hts in_X0 hown hK hP 0 rfl rfl 4 (by decide) (hts _ q260) (fun _ h9 => h9) rfl dX0_count_114 ?_
      refine rd_callV hF (m_X1_allVotes l D ca g lsq b3 b4 b5 b6 b8 b9 b10 b11 d fz (by assumption) (by assumption)) (cs_X1_allVotes hts q1026 ⟨by decide, by decide⟩) (KK_mv D ca) hKK (wp_tail hP [1, 3, 4] rfl) (va_recv hK hP (ci := 1) (q0 := 1) rfl rfl) rfl hl.1 rfl (Nat.le_of_ble_eq_true rfl) dX0_count_117 ⟨Nat.zero_le _, Nat.zero_le _⟩ ?_
      exact rd_iret hx hb hr hlk hQ dX0_count_120 (by first | (simp [cntI, iw_3]; done) | (have hie : i = 8 := (by omega); subst hie; simp [cntI, iw_3]; done))
    · have iw_3 : ixO w 8 = some 6 := by rw [c_3]; exact ixO_t (by decide) (by decide)
      refine lv_tableIn (off := 118) (tgt := 121) hx hb dX0_count_3 (by rw [c_3]; decide) (by rw [c_3]; decide) (by rw [c_3]; rfl) (by decide) ?_
      refine lv_aload_n hx hb dX0_count_121 rfl (lv_at hl 1 rfl) ?_
      refine va_get (D := D) (ci := 0) (v := .int (nI ac)) (C := RX0) (T := TX0) (N := 12) hx hb hts in_X0 hown hK hP 0 rfl rfl 7 (by decide) (hts _ q263) (fun _ h9 => h9) rfl dX0_count_122 ?_
      exact rd_iret hx hb hr hlk hQ dX0_count_125 (by first | (simp [cntI, iw_3]; done) | (have hie : i = 8 := (by omega); subst hie; simp [cntI, iw_3]; done))
    · have iw_3 : ixO w 8 = some 7 := by rw [c_3]; exact ixO_t (by decide) (by decide)
      refine lv_tableIn (off := 123) (tgt := 126) hx hb dX0_count_3 (by rw [c_3]; decide) (by rw [c_3]; decide) (by rw [c_3]; rfl) (by decide) ?_
      refine lv_aload_n hx hb dX0_count_126 rfl (lv_at hl 1 rfl) ?_
      refine va_get (D := D) (ci := 0) (v := .int (nI tpd)) (C := RX0) (T := TX0) (N := 12) hx hb hts in_X0 hown hK hP 0 rfl rfl 2 (by decide) (hts _ q258) (fun _ h9 => h9) rfl dX0_count_127 ?_
      exact rd_iret hx hb hr hlk hQ dX0_count_130 (by first | (simp [cntI, iw_3]; done) | (have hie : i = 8 := (by omega); subst hie; simp [cntI, iw_3]; done))
