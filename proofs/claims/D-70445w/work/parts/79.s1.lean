set_option maxRecDepth 100000
theorem cs_X0_clicksBy {R : Room} {s : State} {args : Array Value} {own : String} {index : Nat} (hts : ∀ w ∈ lw_all, w.before args s = true) (hl : Cond.methodLink own index yX0_clicksBy ∈ lw_all) {rm : Room} {mc ms : Nat} (hR : rm.frames + 1 ≤ R.frames ∧ 8 + (4 + 11) + rm.locals ≤ R.locals) (hc : rm.cells = mc := by rfl) (hs : rm.slots = ms := by rfl) : CallB R s args own index yX0_clicksBy cX0_clicksBy 4 (some .boolean) (ws_ yX0_clicksBy cX0_clicksBy 4 (some .boolean)) rm mc ms 4 ∧ (Cond.static yX0_clicksBy).before args s = true := va_cwS 4 hts (lw_S hl q777 q58 q778) rfl hc hs (by decide +kernel) hR
set_option maxHeartbeats 4000000 in
theorem m_X0_isClickedSo (l : Launch) (D : va_G) (ca : Nat → ClassId) (h : Nat) (a0 : Nat) (a1 : Nat) (tg : Nat) (a6 : Nat) (a8 : Nat) (tr : Nat) (a11 : Nat) (tpd : Nat) (ac : Nat) (lat : Int32) (t1 : Int32) (g : Nat) (lsq : Nat) (b3 : Nat) (b4 : Nat) (b5 : Nat) (b6 : Nat) (b8 : Nat) (b9 : Nat) (b10 : Nat) (b11 : Nat) (d : Nat → Nat) (fz : va_W) (sa : Nat) (k : Nat) (v : Int32) (sh : Nat) (rA : Nat) (f : Nat → Int32) (hd : dOK d) (hsq : SqL ca fz lsq d) (hm : (sa, .inr (2 + k, [.int v])) ∈ fz) (hk : 1 ≤ k ∧ k ≤ 5) (h1 : sh ≤ 9) : Met l yX0_isClickedSo (ws_ yX0_isClickedSo cX0_isClickedSo 6 (some .boolean)) (rmL 3) (PcR (KK D ca) D [.ref h, .ref sa, .int (nI sh), .ref rA] (([(h, .inr (0, [.ref a0, .ref a1, .int (nI tpd), .int lat, .ref g, .ref tg, .ref a6, .int (nI ac), .ref a8, .ref tr, .int t1, .ref a11])), (g, .inr (1, [.int (nI (d 0)), .int (nI (d 1)), .ref lsq, .ref b3, .ref b4, .ref b5, .ref b6, .int (nI (d 3)), .ref b8, .ref b9, .ref b10, .ref b11])), (b8, .inl (ca 0, 5, .inl (dv (caF d)))), (b9, .inl (ca 0, 5, .inl (dv (eaF d)))), (rA, .inl (ca 0, d 3, .inl f))] : va_W) ++ fz)) (vp_Si (fun zr => zr = bI (allR (fun z => clkB k sh (d (44 + 4 * z + 0)) (d (44 + 4 * z + 1))) f (d 3)))) 0 0 (fun _ => False) := by
  refine rd_head (by decide) (Nat.le_of_ble_eq_true rfl) ?_
  intro zp ze zs zm za zb zt zc ls zQ hx hb hml hr hlk hown hts hK hP hl hQ
  have hown : zs.vm.findClass RX0 = some zm.cls := hown
  have hl : lv_has ls 6 [(0, .ref h), (1, .ref sa), (2, .int (nI sh)), (3, .ref rA)] := hl
  have hF : CallFix zp zm zc cX0_isClickedSo 6 zs za lw_all RX0 := ⟨hx, hb, hml, hown, hts⟩
  have hKK := hK
  have hK : K1 D ca zs := hKK.1
  have hd2 : d 2 ≤ 8 := hd.2.2.1
  have hd3 : d 3 ≤ 5 := hd.2.2.2.1
  have hd0 : d 0 ≤ 9 := hd.1
  have hd1 : d 1 ≤ 8 := hd.2.1
  refine lv_iconst (v := nI 1) hx hb dX0_isClickedSo_0 rfl ?_
  refine lv_istore (lv' := [(4, .int (nI 1)), (0, .ref h), (1, .ref sa), (2, .int (nI sh)), (3, .ref rA)]) hx hb dX0_isClickedSo_1 hl (by decide) rfl (fun ls hl => ?_)
  refine lv_iconst (v := nI 0) hx hb dX0_isClickedSo_3 rfl ?_
  refine lv_istore (lv' := [(5, .int (nI 0)), (4, .int (nI 1)), (0, .ref h), (1, .ref sa), (2, .int (nI sh)), (3, .ref rA)]) hx hb dX0_isClickedSo_4 hl (by decide) rfl (fun ls hl => ?_)
  have lp_6 : ∀ (zn : Nat) (i : Nat), (i ≤ d 3) →  (d 3 - i) < zn → ∀ (ls : Array Slot), lv_has ls 6 [(0, .ref h), (1, .ref sa), (2, .int (nI sh)), (3, .ref rA), (4, .int (bI (allR (fun z => clkB k sh (d (44 + 4 * z + 0)) (d (44 + 4 * z + 1))) f i))), (5, .int (nI i))] → W zp l ze (rmL 3) zs zm za zb zt zc zs.heap [] 0 0 zQ (F0 zm 6 ls []) := by
    intro zn
    induction zn with
    | zero => intro i hi hmu_6; exact absurd hmu_6 (Nat.not_lt_zero _)
    | succ zn ih_6 =>
      intro i hi hmu_6 ls hl
      refine lv_iload hx hb dX0_isClickedSo_6 (lv_at hl 5 rfl) ?_
      refine lv_aload_n hx hb dX0_isClickedSo_8 rfl (lv_at hl 3 rfl) ?_
      refine va_alen (v := nI (d 3)) hx hb hK hP 4 0 rfl rfl rfl dX0_isClickedSo_9 ?_
      refine wn_ge (tgt := 69) hx hb (by omega) (by omega) dX0_isClickedSo_10 (by decide) (fun c_10 => ?_) (fun c_10 => ?_)
      · have c_10n := Nat.not_lt.mpr c_10
        refine lv_iload hx hb dX0_isClickedSo_69 (lv_at hl 4 rfl) ?_
        exact rd_zret hx hb hr hlk hQ dX0_isClickedSo_71 (by have hie : i = d 3 := (by omega); rw [hie])
      · have c_10n := Nat.not_le.mpr c_10
        have hv_ := hd.2.2.2.2.2.1 i (by omega)
        refine lv_iload hx hb dX0_isClickedSo_13 (lv_at hl 4 rfl) ?_
        refine lv_aload_n hx hb dX0_isClickedSo_15 rfl (lv_at hl 3 rfl) ?_
        refine lv_iload hx hb dX0_isClickedSo_16 (lv_at hl 5 rfl) ?_
        refine wn_iald (v := f i) hx hb hK hP 4 0 rfl rfl (by omega) (by omega) rfl dX0_isClickedSo_18 ?_
        refine lv_aload_n hx hb dX0_isClickedSo_19 rfl (lv_at hl 1 rfl) ?_
        refine lv_iload_n hx hb dX0_isClickedSo_20 rfl (lv_at hl 2 rfl) ?_
        refine lv_aload_n hx hb dX0_isClickedSo_21 rfl (lv_at hl 0 rfl) ?_
        refine va_get (D := D) (ci := 0) (v := .ref g) (C := RX0) (T := TX0) (N := 12) hx hb hts in_X0 hown hK hP 0 rfl rfl 4 (by decide) (hts _ q260) (fun _ h9 => h9) rfl dX0_isClickedSo_22 ?_
        refine va_get (D := D) (ci := 1) (v := .ref b8) (C := RX1) (T := TX1) (N := 12) hx hb hts in_X1 hown hK hP 1 rfl rfl 8 (by decide) (hts _ q159) (fun _ h9 => h9) rfl dX0_isClickedSo_25 ?_
        refine lv_iload hx hb dX0_isClickedSo_28 (lv_at hl 5 rfl) ?_
        refine wn_iald (v := nI (d (44 + 4 * i + 0))) hx hb hK hP 2 0 rfl rfl (by omega) (by decide) rfl dX0_isClickedSo_30 ?_
        refine lv_aload_n hx hb dX0_isClickedSo_31 rfl (lv_at hl 0 rfl) ?_
        refine va_get (D := D) (ci := 0) (v := .ref g) (C := RX0) (T := TX0) (N := 12) hx hb hts in_X0 hown hK hP 0 rfl rfl 4 (by decide) (hts _ q260) (fun _ h9 => h9) rfl dX0_isClickedSo_32 ?_
        refine va_get (D := D) (ci := 1) (v := .ref b9) (C := RX1) (T := TX1) (N := 12) hx hb hts in_X1 hown hK hP 1 rfl rfl 9 (by decide) (hts _ q162) (fun _ h9 => h9) rfl dX0_isClickedSo_35 ?_
        refine lv_iload hx hb dX0_isClickedSo_38 (lv_at hl 5 rfl) ?_
        refine wn_iald (v := nI (d (44 + 4 * i + 1))) hx hb hK hP 3 0 rfl rfl (by omega) (by decide) rfl dX0_isClickedSo_40 ?_
        refine rd_callS hF (m_X0_clicksBy l D ca sa k _ sh (d (44 + 4 * i + 0)) (d (44 + 4 * i + 1)) fz (by exact hm) (by exact hk) (by first | assumption | omega) (by first | assumption | omega) (by first | assumption | omega)) (cs_X0_clicksBy hts q972 ⟨by decide, by decide⟩) (KK_mv D ca) hKK (wp_tail hP [] rfl) rfl hl.1 rfl (Nat.le_of_ble_eq_true rfl) dX0_isClickedSo_41 ⟨Nat.zero_le _, Nat.zero_le _⟩ ?_
        refine wb_eq (tgt := 51) hx hb dX0_isClickedSo_44 (by decide) (fun c_44 => ?_) (fun c_44 => ?_)
        · refine lv_iconst (v := nI 0) hx hb dX0_isClickedSo_51 rfl ?_
          refine lv_icmp_ne (tgt := 59) hx hb dX0_isClickedSo_52 (by decide) (fun c_52 => ?_) (fun c_52 => ?_)
          · refine lv_iconst (v := nI 0) hx hb dX0_isClickedSo_59 rfl ?_
            refine lv_iand hx hb dX0_isClickedSo_60 ?_
            refine lv_istore (lv' := [(4, .int ((bI (allR (fun z => clkB k sh (d (44 + 4 * z + 0)) (d (44 + 4 * z + 1))) f i)) &&& (nI 0))), (0, .ref h), (1, .ref sa), (2, .int (nI sh)), (3, .ref rA), (5, .int (nI i))]) hx hb dX0_isClickedSo_61 hl (by decide) rfl (fun ls hl => ?_)
            refine lv_iinc (v := nI (i + 1)) (lv' := [(5, .int (nI (i + 1))), (4, .int ((bI (allR (fun z => clkB k sh (d (44 + 4 * z + 0)) (d (44 + 4 * z + 1))) f i)) &&& (nI 0))), (0, .ref h), (1, .ref sa), (2, .int (nI sh)), (3, .ref rA)]) hx hb dX0_isClickedSo_63 hl (k := 5) rfl (nI_add i 1) (by decide) rfl (fun ls hl => ?_)
            refine lv_goto (tgt := 6) hx hb dX0_isClickedSo_66 (by decide) ?_
            have e_1 : (bI (allR (fun z => clkB k sh (d (44 + 4 * z + 0)) (d (44 + 4 * z + 1))) f i)) &&& (nI 0) = bI (allR (fun z => clkB k sh (d (44 + 4 * z + 0)) (d (44 + 4 * z + 1))) f (i + 1)) := by first | with_reducible rfl | (first | exact al1 (p := (fun z => clkB k sh (d (44 + 4 * z + 0)) (d (44 + 4 * z + 1)))) c_44 (by simpa using c_52) | exact al2 (p := (fun z => clkB k sh (d (44 + 4 * z + 0)) (d (44 + 4 * z + 1)))) c_44 (by simpa using c_52) | exact al3 (p := (fun z => clkB k sh (d (44 + 4 * z + 0)) (d (44 + 4 * z + 1)))) c_44 (by simpa using c_52) | exact al4 (p := (fun z => clkB k sh (d (44 + 4 * z + 0)) (d (44 + 4 * z + 1)))) c_44 (by simpa using c_52))
            have e_2 : i + 1 = (i + 1) := by first | with_reducible rfl | (first | exact al1 (p := (fun z => clkB k sh (d (44 + 4 * z + 0)) (d (44 + 4 * z + 1)))) c_44 (by simpa using c_52) | exact al2 (p := (fun z => clkB k sh (d (44 + 4 * z + 0)) (d (44 + 4 * z + 1)))) c_44 (by simpa using c_52) | exact al3 (p := (fun z => clkB k sh (d (44 + 4 * z + 0)) (d (44 + 4 * z + 1)))) c_44 (by simpa using c_52) | exact al4 (p := (fun z => clkB k sh (d (44 + 4 * z + 0)) (d (44 + 4 * z + 1)))) c_44 (by simpa using c_52))
            exact ih_6 (i + 1) (by omega) (by omega) ls (lv_to (lv_sub hl [2, 3, 4, 5, 1, 0] rfl) (Eq.trans (congrArg (fun x => ([(0, .ref h), (1, .ref sa), (2, .int (nI sh)), (3, .ref rA), (4, .int x), (5, .int (nI (i + 1)))] : List (Nat × Value))) e_1) (congrArg (fun x => ([(0, .ref h), (1, .ref sa), (2, .int (nI sh)), (3, .ref rA), (4, .int (bI (allR (fun z => clkB k sh (d (44 + 4 * z + 0)) (d (44 + 4 * z + 1))) f (i + 1)))), (5, .int (nI x))] : List (Nat × Value))) e_2)))
          · refine lv_iconst (v := nI 1) hx hb dX0_isClickedSo_55 rfl ?_
            refine lv_goto (tgt := 60) hx hb dX0_isClickedSo_56 (by decide) ?_
            refine lv_iand hx hb dX0_isClickedSo_60 ?_
            refine lv_istore (lv' := [(4, .int ((bI (allR (fun z => clkB k sh (d (44 + 4 * z + 0)) (d (44 + 4 * z + 1))) f i)) &&& (nI 1))), (0, .ref h), (1, .ref sa), (2, .int (nI sh)), (3, .ref rA), (5, .int (nI i))]) hx hb dX0_isClickedSo_61 hl (by decide) rfl (fun ls hl => ?_)
            refine lv_iinc (v := nI (i + 1)) (lv' := [(5, .int (nI (i + 1))), (4, .int ((bI (allR (fun z => clkB k sh (d (44 + 4 * z + 0)) (d (44 + 4 * z + 1))) f i)) &&& (nI 1))), (0, .ref h), (1, .ref sa), (2, .int (nI sh)), (3, .ref rA)]) hx hb dX0_isClickedSo_63 hl (k := 5) rfl (nI_add i 1) (by decide) rfl (fun ls hl => ?_)
            refine lv_goto (tgt := 6) hx hb dX0_isClickedSo_66 (by decide) ?_
            have e_3 : (bI (allR (fun z => clkB k sh (d (44 + 4 * z + 0)) (d (44 + 4 * z + 1))) f i)) &&& (nI 1) = bI (allR (fun z => clkB k sh (d (44 + 4 * z + 0)) (d (44 + 4 * z + 1))) f (i + 1)) := by first | with_reducible rfl | (first | exact al1 (p := (fun z => clkB k sh (d (44 + 4 * z + 0)) (d (44 + 4 * z + 1)))) c_44 (by simpa using c_52) | exact al2 (p := (fun z => clkB k sh (d (44 + 4 * z + 0)) (d (44 + 4 * z + 1)))) c_44 (by simpa using c_52) | exact al3 (p := (fun z => clkB k sh (d (44 + 4 * z + 0)) (d (44 + 4 * z + 1)))) c_44 (by simpa using c_52) | exact al4 (p := (fun z => clkB k sh (d (44 + 4 * z + 0)) (d (44 + 4 * z + 1)))) c_44 (by simpa using c_52))
            have e_4 : i + 1 = (i + 1) := by first | with_reducible rfl | (first | exact al1 (p := (fun z => clkB k sh (d (44 + 4 * z + 0)) (d (44 + 4 * z + 1)))) c_44 (by simpa using c_52) | exact al2 (p := (fun z => clkB k sh (d (44 + 4 * z + 0)) (d (44 + 4 * z + 1)))) c_44 (by simpa using c_52) | exact al3 (p := (fun z => clkB k sh (d (44 + 4 * z + 0)) (d (44 + 4 * z + 1)))) c_44 (by simpa using c_52) | exact al4 (p := (fun z => clkB k sh (d (44 + 4 * z + 0)) (d (44 + 4 * z + 1)))) c_44 (by simpa using c_52))
            exact ih_6 (i + 1) (by omega) (by omega) ls (lv_to (lv_sub hl [2, 3, 4, 5, 1, 0] rfl) (Eq.trans (congrArg (fun x => ([(0, .ref h), (1, .ref sa), (2, .int (nI sh)), (3, .ref rA), (4, .int x), (5, .int (nI (i + 1)))] : List (Nat × Value))) e_3) (congrArg (fun x => ([(0, .ref h), (1, .ref sa), (2, .int (nI sh)), (3, .ref rA), (4, .int (bI (allR (fun z => clkB k sh (d (44 + 4 * z + 0)) (d (44 + 4 * z + 1))) f (i + 1)))), (5, .int (nI x))] : List (Nat × Value))) e_4)))
        · refine lv_iconst (v := nI 1) hx hb dX0_isClickedSo_47 rfl ?_
          refine lv_goto (tgt := 52) hx hb dX0_isClickedSo_48 (by decide) ?_
          refine lv_icmp_ne (tgt := 59) hx hb dX0_isClickedSo_52 (by decide) (fun c_52 => ?_) (fun c_52 => ?_)
          · refine lv_iconst (v := nI 0) hx hb dX0_isClickedSo_59 rfl ?_
            refine lv_iand hx hb dX0_isClickedSo_60 ?_
            refine lv_istore (lv' := [(4, .int ((bI (allR (fun z => clkB k sh (d (44 + 4 * z + 0)) (d (44 + 4 * z + 1))) f i)) &&& (nI 0))), (0, .ref h), (1, .ref sa), (2, .int (nI sh)), (3, .ref rA), (5, .int (nI i))]) hx hb dX0_isClickedSo_61 hl (by decide) rfl (fun ls hl => ?_)
            refine lv_iinc (v := nI (i + 1)) (lv' := [(5, .int (nI (i + 1))), (4, .int ((bI (allR (fun z => clkB k sh (d (44 + 4 * z + 0)) (d (44 + 4 * z + 1))) f i)) &&& (nI 0))), (0, .ref h), (1, .ref sa), (2, .int (nI sh)), (3, .ref rA)]) hx hb dX0_isClickedSo_63 hl (k := 5) rfl (nI_add i 1) (by decide) rfl (fun ls hl => ?_)
            refine lv_goto (tgt := 6) hx hb dX0_isClickedSo_66 (by decide) ?_
            have e_5 : (bI (allR (fun z => clkB k sh (d (44 + 4 * z + 0)) (d (44 + 4 * z + 1))) f i)) &&& (nI 0) = bI (allR (fun z => clkB k sh (d (44 + 4 * z + 0)) (d (44 + 4 * z + 1))) f (i + 1)) := by first | with_reducible rfl | (first | exact al1 (p := (fun z => clkB k sh (d (44 + 4 * z + 0)) (d (44 + 4 * z + 1)))) c_44 (by simpa using c_52) | exact al2 (p := (fun z => clkB k sh (d (44 + 4 * z + 0)) (d (44 + 4 * z + 1)))) c_44 (by simpa using c_52) | exact al3 (p := (fun z => clkB k sh (d (44 + 4 * z + 0)) (d (44 + 4 * z + 1)))) c_44 (by simpa using c_52) | exact al4 (p := (fun z => clkB k sh (d (44 + 4 * z + 0)) (d (44 + 4 * z + 1)))) c_44 (by simpa using c_52))
            have e_6 : i + 1 = (i + 1) := by first | with_reducible rfl | (first | exact al1 (p := (fun z => clkB k sh (d (44 + 4 * z + 0)) (d (44 + 4 * z + 1)))) c_44 (by simpa using c_52) | exact al2 (p := (fun z => clkB k sh (d (44 + 4 * z + 0)) (d (44 + 4 * z + 1)))) c_44 (by simpa using c_52) | exact al3 (p := (fun z => clkB k sh (d (44 + 4 * z + 0)) (d (44 + 4 * z + 1)))) c_44 (by simpa using c_52) | exact al4 (p := (fun z => clkB k sh (d (44 + 4 * z + 0)) (d (44 + 4 * z + 1)))) c_44 (by simpa using c_52))
            exact ih_6 (i + 1) (by omega) (by omega) ls (lv_to (lv_sub hl [2, 3, 4, 5, 1, 0] rfl) (Eq.trans (congrArg (fun x => ([(0, .ref h), (1, .ref sa), (2, .int (nI sh)), (3, .ref rA), (4, .int x), (5, .int (nI (i + 1)))] : List (Nat × Value))) e_5) (congrArg (fun x => ([(0, .ref h), (1, .ref sa), (2, .int (nI sh)), (3, .ref rA), (4, .int (bI (allR (fun z => clkB k sh (d (44 + 4 * z + 0)) (d (44 + 4 * z + 1))) f (i + 1)))), (5, .int (nI x))] : List (Nat × Value))) e_6)))
          · refine lv_iconst (v := nI 1) hx hb dX0_isClickedSo_55 rfl ?_
            refine lv_goto (tgt := 60) hx hb dX0_isClickedSo_56 (by decide) ?_
            refine lv_iand hx hb dX0_isClickedSo_60 ?_
            refine lv_istore (lv' := [(4, .int ((bI (allR (fun z => clkB k sh (d (44 + 4 * z + 0)) (d (44 + 4 * z + 1))) f i)) &&& (nI 1))), (0, .ref h), (1, .ref sa), (2, .int (nI sh)), (3, .ref rA), (5, .int (nI i))]) hx hb dX0_isClickedSo_61 hl (by decide) rfl (fun ls hl => ?_)
            refine lv_iinc (v := nI (i + 1)) (lv' := [(5, .int (nI (i + 1))), (4, .int ((bI (allR (fun z => clkB k sh (d (44 + 4 * z + 0)) (d (44 + 4 * z + 1))) f i)) &&& (nI 1))), (0, .ref h), (1, .ref sa), (2, .int (nI sh)), (3, .ref rA)]) hx hb dX0_isClickedSo_63 hl (k := 5) rfl (nI_add i 1) (by decide) rfl (fun ls hl => ?_)
            refine lv_goto (tgt := 6) hx hb dX0_isClickedSo_66 (by decide) ?_
            have e_7 : (bI (allR (fun z => clkB k sh (d (44 + 4 * z + 0)) (d (44 + 4 * z + 1))) f i)) &&& (nI 1) = bI (allR (fun z => clkB k sh (d (44 + 4 * z + 0)) (d (44 + 4 * z + 1))) f (i + 1)) := by first | with_reducible rfl | (first | exact al1 (p := (fun z => clkB k sh (d (44 + 4 * z + 0)) (d (44 + 4 * z + 1)))) c_44 (by simpa using c_52) | exact al2 (p := (fun z => clkB k sh (d (44 + 4 * z + 0)) (d (44 + 4 * z + 1)))) c_44 (by simpa using c_52) | exact al3 (p := (fun z => clkB k sh (d (44 + 4 * z + 0)) (d (44 + 4 * z + 1)))) c_44 (by simpa using c_52) | exact al4 (p := (fun z => clkB k sh (d (44 + 4 * z + 0)) (d (44 + 4 * z + 1)))) c_44 (by simpa using c_52))
            have e_8 : i + 1 = (i + 1) := by first | with_reducible rfl | (first | exact al1 (p := (fun z => clkB k sh (d (44 + 4 * z + 0)) (d (44 + 4 * z + 1)))) c_44 (by simpa using c_52) | exact al2 (p := (fun z => clkB k sh (d (44 + 4 * z + 0)) (d (44 + 4 * z + 1)))) c_44 (by simpa using c_52) | exact al3 (p := (fun z => clkB k sh (d (44 + 4 * z + 0)) (d (44 + 4 * z + 1)))) c_44 (by simpa using c_52) | exact al4 (p := (fun z => clkB k sh (d (44 + 4 * z + 0)) (d (44 + 4 * z + 1)))) c_44 (by simpa using c_52))
            exact ih_6 (i + 1) (by omega) (by omega) ls (lv_to (lv_sub hl [2, 3, 4, 5, 1, 0] rfl) (Eq.trans (congrArg (fun x => ([(0, .ref h), (1, .ref sa), (2, .int (nI sh)), (3, .ref rA), (4, .int x), (5, .int (nI (i + 1)))] : List (Nat × Value))) e_7) (congrArg (fun x => ([(0, .ref h), (1, .ref sa), (2, .int (nI sh)), (3, .ref rA), (4, .int (bI (allR (fun z => clkB k sh (d (44 + 4 * z + 0)) (d (44 + 4 * z + 1))) f (i + 1)))), (5, .int (nI x))] : List (Nat × Value))) e_8)))
  have e_9 : true = allR (fun z => clkB k sh (d (44 + 4 * z + 0)) (d (44 + 4 * z + 1))) f 0 := by first | with_reducible rfl | (rfl)
  exact lp_6 ((d 3 - 0) + 1) 0 (by omega) (by omega) ls (lv_to (lv_sub hl [2, 3, 4, 5, 1, 0] rfl) (congrArg (fun x => ([(0, .ref h), (1, .ref sa), (2, .int (nI sh)), (3, .ref rA), (4, .int (bI x)), (5, .int (nI 0))] : List (Nat × Value))) e_9))
set_option maxHeartbeats 4000000 in
theorem m_X0_clicksSo (l : Launch) (D : va_G) (ca : Nat → ClassId) (h : Nat) (a0 : Nat) (a1 : Nat) (tg : Nat) (a6 : Nat) (a8 : Nat) (tr : Nat) (a11 : Nat) (tpd : Nat) (ac : Nat) (lat : Int32) (t1 : Int32) (g : Nat) (lsq : Nat) (b3 : Nat) (b4 : Nat) (b5 : Nat) (b6 : Nat) (b8 : Nat) (b9 : Nat) (b10 : Nat) (b11 : Nat) (d : Nat → Nat) (fz : va_W) (cr : Nat) (ea : Nat) (rA : Nat) (f : Nat → Int32) (hd : dOK d) (hsq : SqL ca fz lsq d) (h1 : cr ≤ 9) (h2 : ea ≤ 9) : Met l yX0_clicksSo (ws_ yX0_clicksSo cX0_clicksSo 6 (some .boolean)) (rmL 3) (PcR (KK D ca) D [.ref h, .int (nI cr), .int (nI ea), .ref rA] (([(h, .inr (0, [.ref a0, .ref a1, .int (nI tpd), .int lat, .ref g, .ref tg, .ref a6, .int (nI ac), .ref a8, .ref tr, .int t1, .ref a11])), (g, .inr (1, [.int (nI (d 0)), .int (nI (d 1)), .ref lsq, .ref b3, .ref b4, .ref b5, .ref b6, .int (nI (d 3)), .ref b8, .ref b9, .ref b10, .ref b11])), (b3, .inl (ca 0, 8, .inl (dv (shF d)))), (rA, .inl (ca 0, d 2, .inl f))] : va_W) ++ fz)) (vp_Si (fun zr => zr = bI (allR (fun z => clkB (d (4 + 5 * z + 0)) (d (4 + 5 * z + 1)) cr ea) f (d 2)))) 0 0 (fun _ => False) := by
  refine rd_head (by decide) (Nat.le_of_ble_eq_true rfl) ?_
  intro zp ze zs zm za zb zt zc ls zQ hx hb hml hr hlk hown hts hK hP hl hQ
  have hown : zs.vm.findClass RX0 = some zm.cls := hown
  have hl : lv_has ls 6 [(0, .ref h), (1, .int (nI cr)), (2, .int (nI ea)), (3, .ref rA)] := hl
  have hF : CallFix zp zm zc cX0_clicksSo 6 zs za lw_all RX0 := ⟨hx, hb, hml, hown, hts⟩
  have hKK := hK
  have hK : K1 D ca zs := hKK.1
  have hd2 : d 2 ≤ 8 := hd.2.2.1
  have hd3 : d 3 ≤ 5 := hd.2.2.2.1
  have hd0 : d 0 ≤ 9 := hd.1
  have hd1 : d 1 ≤ 8 := hd.2.1
  refine lv_iconst (v := nI 1) hx hb dX0_clicksSo_0 rfl ?_
  refine lv_istore (lv' := [(4, .int (nI 1)), (0, .ref h), (1, .int (nI cr)), (2, .int (nI ea)), (3, .ref rA)]) hx hb dX0_clicksSo_1 hl (by decide) rfl (fun ls hl => ?_)
  refine lv_iconst (v := nI 0) hx hb dX0_clicksSo_3 rfl ?_
  refine lv_istore (lv' := [(5, .int (nI 0)), (4, .int (nI 1)), (0, .ref h), (1, .int (nI cr)), (2, .int (nI ea)), (3, .ref rA)]) hx hb dX0_clicksSo_4 hl (by decide) rfl (fun ls hl => ?_)
  have lp_6 : ∀ (zn : Nat) (i : Nat), (i ≤ d 2) →  (d 2 - i) < zn → ∀ (ls : Array Slot), lv_has ls 6 [(0, .ref h), (1, .int (nI cr)), (2, .int (nI ea)), (3, .ref rA), (4, .int (bI (allR (fun z => clkB (d (4 + 5 * z + 0)) (d (4 + 5 * z + 1)) cr ea) f i))), (5, .int (nI i))] → W zp l ze (rmL 3) zs zm za zb zt zc zs.heap [] 0 0 zQ (F0 zm 6 ls []) := by
    intro zn
    induction zn with
    | zero => intro i hi hmu_6; exact absurd hmu_6 (Nat.not_lt_zero _)
    | succ zn ih_6 =>
      intro i hi hmu_6 ls hl
      refine lv_iload hx hb dX0_clicksSo_6 (lv_at hl 5 rfl) ?_
      refine lv_aload_n hx hb dX0_clicksSo_8 rfl (lv_at hl 3 rfl) ?_
      refine va_alen (v := nI (d 2)) hx hb hK hP 3 0 rfl rfl rfl dX0_clicksSo_9 ?_
      refine wn_ge (tgt := 76) hx hb (by omega) (by omega) dX0_clicksSo_10 (by decide) (fun c_10 => ?_) (fun c_10 => ?_)
      · have c_10n := Nat.not_lt.mpr c_10
        refine lv_iload hx hb dX0_clicksSo_76 (lv_at hl 4 rfl) ?_
        exact rd_zret hx hb hr hlk hQ dX0_clicksSo_78 (by have hie : i = d 2 := (by omega); rw [hie])
      · have c_10n := Nat.not_le.mpr c_10
        have hv_ := hd.2.2.2.2.1 i (by omega)
        refine lv_iload hx hb dX0_clicksSo_13 (lv_at hl 4 rfl) ?_
        refine lv_aload_n hx hb dX0_clicksSo_15 rfl (lv_at hl 3 rfl) ?_
        refine lv_iload hx hb dX0_clicksSo_16 (lv_at hl 5 rfl) ?_
        refine wn_iald (v := f i) hx hb hK hP 3 0 rfl rfl (by omega) (by omega) rfl dX0_clicksSo_18 ?_
        refine lv_aload_n hx hb dX0_clicksSo_19 rfl (lv_at hl 0 rfl) ?_
        refine va_get (D := D) (ci := 0) (v := .ref g) (C := RX0) (T := TX0) (N := 12) hx hb hts in_X0 hown hK hP 0 rfl rfl 4 (by decide) (hts _ q260) (fun _ h9 => h9) rfl dX0_clicksSo_20 ?_
        refine va_get (D := D) (ci := 1) (v := .ref lsq) (C := RX1) (T := TX1) (N := 12) hx hb hts in_X1 hown hK hP 1 rfl rfl 2 (by decide) (hts _ q142) (fun _ h9 => h9) rfl dX0_clicksSo_23 ?_
        refine lv_iload hx hb dX0_clicksSo_26 (lv_at hl 5 rfl) ?_
        obtain ⟨mo_28, eo_28, na_28, fa_28, sa_28, hls_28, heo_28, hna_28, hnb_28, hfa_28, hsm_28⟩ := hsq.at (q := i) (by omega)
        have hk_28 : 1 ≤ d (4 + 5 * i + 0) ∧ d (4 + 5 * i + 0) ≤ 5 := ⟨hd.2.2.2.2.2.2 _ (by omega), (hd.2.2.2.2.1 _ (by omega)).1⟩
        refine li_get hF hKK hP (List.mem_append_right _ hls_28) (List.mem_append_right _ heo_28) hna_28 hnb_28 hfa_28 q967 (by decide) hl.1 rfl (Nat.le_of_ble_eq_true rfl) dX0_clicksSo_28 ⟨Nat.zero_le _, Nat.zero_le _⟩ ?_
        refine sq_cast (k := (d (4 + 5 * i + 0))) hx hb hown (hts _ q209) hKK hP (List.mem_append_right _ hsm_28) hk_28 dX0_clicksSo_33 ?_
        refine lv_aload_n hx hb dX0_clicksSo_36 rfl (lv_at hl 0 rfl) ?_
        refine va_get (D := D) (ci := 0) (v := .ref g) (C := RX0) (T := TX0) (N := 12) hx hb hts in_X0 hown hK hP 0 rfl rfl 4 (by decide) (hts _ q260) (fun _ h9 => h9) rfl dX0_clicksSo_37 ?_
        refine va_get (D := D) (ci := 1) (v := .ref b3) (C := RX1) (T := TX1) (N := 12) hx hb hts in_X1 hown hK hP 1 rfl rfl 3 (by decide) (hts _ q146) (fun _ h9 => h9) rfl dX0_clicksSo_40 ?_
        refine lv_iload hx hb dX0_clicksSo_43 (lv_at hl 5 rfl) ?_
        refine wn_iald (v := nI (d (4 + 5 * i + 1))) hx hb hK hP 2 0 rfl rfl (by omega) (by decide) rfl dX0_clicksSo_45 ?_
        refine lv_iload_n hx hb dX0_clicksSo_46 rfl (lv_at hl 1 rfl) ?_
        refine lv_iload_n hx hb dX0_clicksSo_47 rfl (lv_at hl 2 rfl) ?_
        refine rd_callS hF (m_X0_clicksBy l D ca sa_28 ((d (4 + 5 * i + 0))) (nI i) (d (4 + 5 * i + 1)) cr ea fz (by exact hsm_28) (by exact hk_28) (by first | assumption | omega) (by first | assumption | omega) (by first | assumption | omega)) (cs_X0_clicksBy hts q972 ⟨by decide, by decide⟩) (KK_mv D ca) hKK (wp_tail hP [] rfl) rfl hl.1 rfl (Nat.le_of_ble_eq_true rfl) dX0_clicksSo_48 ⟨Nat.zero_le _, Nat.zero_le _⟩ ?_
        refine wb_eq (tgt := 58) hx hb dX0_clicksSo_51 (by decide) (fun c_51 => ?_) (fun c_51 => ?_)
        · refine lv_iconst (v := nI 0) hx hb dX0_clicksSo_58 rfl ?_
          refine lv_icmp_ne (tgt := 66) hx hb dX0_clicksSo_59 (by decide) (fun c_59 => ?_) (fun c_59 => ?_)
          · refine lv_iconst (v := nI 0) hx hb dX0_clicksSo_66 rfl ?_
            refine lv_iand hx hb dX0_clicksSo_67 ?_
            refine lv_istore (lv' := [(4, .int ((bI (allR (fun z => clkB (d (4 + 5 * z + 0)) (d (4 + 5 * z + 1)) cr ea) f i)) &&& (nI 0))), (0, .ref h), (1, .int (nI cr)), (2, .int (nI ea)), (3, .ref rA), (5, .int (nI i))]) hx hb dX0_clicksSo_68 hl (by decide) rfl (fun ls hl => ?_)
            refine lv_iinc (v := nI (i + 1)) (lv' := [(5, .int (nI (i + 1))), (4, .int ((bI (allR (fun z => clkB (d (4 + 5 * z + 0)) (d (4 + 5 * z + 1)) cr ea) f i)) &&& (nI 0))), (0, .ref h), (1, .int (nI cr)), (2, .int (nI ea)), (3, .ref rA)]) hx hb dX0_clicksSo_70 hl (k := 5) rfl (nI_add i 1) (by decide) rfl (fun ls hl => ?_)
            refine lv_goto (tgt := 6) hx hb dX0_clicksSo_73 (by decide) ?_
            have e_1 : (bI (allR (fun z => clkB (d (4 + 5 * z + 0)) (d (4 + 5 * z + 1)) cr ea) f i)) &&& (nI 0) = bI (allR (fun z => clkB (d (4 + 5 * z + 0)) (d (4 + 5 * z + 1)) cr ea) f (i + 1)) := by first | with_reducible rfl | (first | exact al1 (p := (fun z => clkB (d (4 + 5 * z + 0)) (d (4 + 5 * z + 1)) cr ea)) c_51 (by simpa using c_59) | exact al2 (p := (fun z => clkB (d (4 + 5 * z + 0)) (d (4 + 5 * z + 1)) cr ea)) c_51 (by simpa using c_59) | exact al3 (p := (fun z => clkB (d (4 + 5 * z + 0)) (d (4 + 5 * z + 1)) cr ea)) c_51 (by simpa using c_59) | exact al4 (p := (fun z => clkB (d (4 + 5 * z + 0)) (d (4 + 5 * z + 1)) cr ea)) c_51 (by simpa using c_59))
            have e_2 : i + 1 = (i + 1) := by first | with_reducible rfl | (first | exact al1 (p := (fun z => clkB (d (4 + 5 * z + 0)) (d (4 + 5 * z + 1)) cr ea)) c_51 (by simpa using c_59) | exact al2 (p := (fun z => clkB (d (4 + 5 * z + 0)) (d (4 + 5 * z + 1)) cr ea)) c_51 (by simpa using c_59) | exact al3 (p := (fun z => clkB (d (4 + 5 * z + 0)) (d (4 + 5 * z + 1)) cr ea)) c_51 (by simpa using c_59) | exact al4 (p := (fun z => clkB (d (4 + 5 * z + 0)) (d (4 + 5 * z + 1)) cr ea)) c_51 (by simpa using c_59))
            exact ih_6 (i + 1) (by omega) (by omega) ls (lv_to (lv_sub hl [2, 3, 4, 5, 1, 0] rfl) (Eq.trans (congrArg (fun x => ([(0, .ref h), (1, .int (nI cr)), (2, .int (nI ea)), (3, .ref rA), (4, .int x), (5, .int (nI (i + 1)))] : List (Nat × Value))) e_1) (congrArg (fun x => ([(0, .ref h), (1, .int (nI cr)), (2, .int (nI ea)), (3, .ref rA), (4, .int (bI (allR (fun z => clkB (d (4 + 5 * z + 0)) (d (4 + 5 * z + 1)) cr ea) f (i + 1)))), (5, .int (nI x))] : List (Nat × Value))) e_2)))
          · refine lv_iconst (v := nI 1) hx hb dX0_clicksSo_62 rfl ?_
            refine lv_goto (tgt := 67) hx hb dX0_clicksSo_63 (by decide) ?_
            refine lv_iand hx hb dX0_clicksSo_67 ?_
            refine lv_istore (lv' := [(4, .int ((bI (allR (fun z => clkB (d (4 + 5 * z + 0)) (d (4 + 5 * z + 1)) cr ea) f i)) &&& (nI 1))), (0, .ref h), (1, .int (nI cr)), (2, .int (nI ea)), (3, .ref rA), (5, .int (nI i))]) hx hb dX0_clicksSo_68 hl (by decide) rfl (fun ls hl => ?_)
            refine lv_iinc (v := nI (i + 1)) (lv' := [(5, .int (nI (i + 1))), (4, .int ((bI (allR (fun z => clkB (d (4 + 5 * z + 0)) (d (4 + 5 * z + 1)) cr ea) f i)) &&& (nI 1))), (0, .ref h), (1, .int (nI cr)), (2, .int (nI ea)), (3, .ref rA)]) hx hb dX0_clicksSo_70 hl (k := 5) rfl (nI_add i 1) (by decide) rfl (fun ls hl => ?_)
            refine lv_goto (tgt := 6) hx hb dX0_clicksSo_73 (by decide) ?_
            have e_3 : (bI (allR (fun z => clkB (d (4 + 5 * z + 0)) (d (4 + 5 * z + 1)) cr ea) f i)) &&& (nI 1) = bI (allR (fun z => clkB (d (4 + 5 * z + 0)) (d (4 + 5 * z + 1)) cr ea) f (i + 1)) := by first | with_reducible rfl | (first | exact al1 (p := (fun z => clkB (d (4 + 5 * z + 0)) (d (4 + 5 * z + 1)) cr ea)) c_51 (by simpa using c_59) | exact al2 (p := (fun z => clkB (d (4 + 5 * z + 0)) (d (4 + 5 * z + 1)) cr ea)) c_51 (by simpa using c_59) | exact al3 (p := (fun z => clkB (d (4 + 5 * z + 0)) (d (4 + 5 * z + 1)) cr ea)) c_51 (by simpa using c_59) | exact al4 (p := (fun z => clkB (d (4 + 5 * z + 0)) (d (4 + 5 * z + 1)) cr ea)) c_51 (by simpa using c_59))
            have e_4 : i + 1 = (i + 1) := by first | with_reducible rfl | (first | exact al1 (p := (fun z => clkB (d (4 + 5 * z + 0)) (d (4 + 5 * z + 1)) cr ea)) c_51 (by simpa using c_59) | exact al2 (p := (fun z => clkB (d (4 + 5 * z + 0)) (d (4 + 5 * z + 1)) cr ea)) c_51 (by simpa using c_59) | exact al3 (p := (fun z => clkB (d (4 + 5 * z + 0)) (d (4 + 5 * z + 1)) cr ea)) c_51 (by simpa using c_59) | exact al4 (p := (fun z => clkB (d (4 + 5 * z + 0)) (d (4 + 5 * z + 1)) cr ea)) c_51 (by simpa using c_59))
            exact ih_6 (i + 1) (by omega) (by omega) ls (lv_to (lv_sub hl [2, 3, 4, 5, 1, 0] rfl) (Eq.trans (congrArg (fun x => ([(0, .ref h), (1, .int (nI cr)), (2, .int (nI ea)), (3, .ref rA), (4, .int x), (5, .int (nI (i + 1)))] : List (Nat × Value))) e_3) (congrArg (fun x => ([(0, .ref h), (1, .int (nI cr)), (2, .int (nI ea)), (3, .ref rA), (4, .int (bI (allR (fun z => clkB (d (4 + 5 * z + 0)) (d (4 + 5 * z + 1)) cr ea) f (i + 1)))), (5, .int (nI x))] : List (Nat × Value))) e_4)))
        · refine lv_iconst (v := nI 1) hx hb dX0_clicksSo_54 rfl ?_
          refine lv_goto (tgt := 59) hx hb dX0_clicksSo_55 (by decide) ?_
          refine lv_icmp_ne (tgt := 66) hx hb dX0_clicksSo_59 (by decide) (fun c_59 => ?_) (fun c_59 => ?_)
          · refine lv_iconst (v := nI 0) hx hb dX0_clicksSo_66 rfl ?_
            refine lv_iand hx hb dX0_clicksSo_67 ?_
            refine lv_istore (lv' := [(4, .int ((bI (allR (fun z => clkB (d (4 + 5 * z + 0)) (d (4 + 5 * z + 1)) cr ea) f i)) &&& (nI 0))), (0, .ref h), (1, .int (nI cr)), (2, .int (nI ea)), (3, .ref rA), (5, .int (nI i))]) hx hb dX0_clicksSo_68 hl (by decide) rfl (fun ls hl => ?_)
            refine lv_iinc (v := nI (i + 1)) (lv' := [(5, .int (nI (i + 1))), (4, .int ((bI (allR (fun z => clkB (d (4 + 5 * z + 0)) (d (4 + 5 * z + 1)) cr ea) f i)) &&& (nI 0))), (0, .ref h), (1, .int (nI cr)), (2, .int (nI ea)), (3, .ref rA)]) hx hb dX0_clicksSo_70 hl (k := 5) rfl (nI_add i 1) (by decide) rfl (fun ls hl => ?_)
            refine lv_goto (tgt := 6) hx hb dX0_clicksSo_73 (by decide) ?_
            have e_5 : (bI (allR (fun z => clkB (d (4 + 5 * z + 0)) (d (4 + 5 * z + 1)) cr ea) f i)) &&& (nI 0) = bI (allR (fun z => clkB (d (4 + 5 * z + 0)) (d (4 + 5 * z + 1)) cr ea) f (i + 1)) := by first | with_reducible rfl | (first | exact al1 (p := (fun z => clkB (d (4 + 5 * z + 0)) (d (4 + 5 * z + 1)) cr ea)) c_51 (by simpa using c_59) | exact al2 (p := (fun z => clkB (d (4 + 5 * z + 0)) (d (4 + 5 * z + 1)) cr ea)) c_51 (by simpa using c_59) | exact al3 (p := (fun z => clkB (d (4 + 5 * z + 0)) (d (4 + 5 * z + 1)) cr ea)) c_51 (by simpa using c_59) | exact al4 (p := (fun z => clkB (d (4 + 5 * z + 0)) (d (4 + 5 * z + 1)) cr ea)) c_51 (by simpa using c_59))
            have e_6 : i + 1 = (i + 1) := by first | with_reducible rfl | (first | exact al1 (p := (fun z => clkB (d (4 + 5 * z + 0)) (d (4 + 5 * z + 1)) cr ea)) c_51 (by simpa using c_59) | exact al2 (p := (fun z => clkB (d (4 + 5 * z + 0)) (d (4 + 5 * z + 1)) cr ea)) c_51 (by simpa using c_59) | exact al3 (p := (fun z => clkB (d (4 + 5 * z + 0)) (d (4 + 5 * z + 1)) cr ea)) c_51 (by simpa using c_59) | exact al4 (p := (fun z => clkB (d (4 + 5 * z + 0)) (d (4 + 5 * z + 1)) cr ea)) c_51 (by simpa using c_59))
            exact ih_6 (i + 1) (by omega) (by omega) ls (lv_to (lv_sub hl [2, 3, 4, 5, 1, 0] rfl) (Eq.trans (congrArg (fun x => ([(0, .ref h), (1, .int (nI cr)), (2, .int (nI ea)), (3, .ref rA), (4, .int x), (5, .int (nI (i + 1)))] : List (Nat × Value))) e_5) (congrArg (fun x => ([(0, .ref h), (1, .int (nI cr)), (2, .int (nI ea)), (3, .ref rA), (4, .int (bI (allR (fun z => clkB (d (4 + 5 * z + 0)) (d (4 + 5 * z + 1)) cr ea) f (i + 1)))), (5, .int (nI x))] : List (Nat × Value))) e_6)))
          · refine lv_iconst (v := nI 1) hx hb dX0_clicksSo_62 rfl ?_
            refine lv_goto (tgt := 67) hx hb dX0_clicksSo_63 (by decide) ?_
            refine lv_iand hx hb dX0_clicksSo_67 ?_
            refine lv_istore (lv' := [(4, .int ((bI (allR (fun z => clkB (d (4 + 5 * z + 0)) (d (4 + 5 * z + 1)) cr ea) f i)) &&& (nI 1))), (0, .ref h), (1, .int (nI cr)), (2, .int (nI ea)), (3, .ref rA), (5, .int (nI i))]) hx hb dX0_clicksSo_68 hl (by decide) rfl (fun ls hl => ?_)
            refine lv_iinc (v := nI (i + 1)) (lv' := [(5, .int (nI (i + 1))), (4, .int ((bI (allR (fun z => clkB (d (4 + 5 * z + 0)) (d (4 + 5 * z + 1)) cr ea) f i)) &&& (nI 1))), (0, .ref h), (1, .int (nI cr)), (2, .int (nI ea)), (3, .ref rA)]) hx hb dX0_clicksSo_70 hl (k := 5) rfl (nI_add i 1) (by decide) rfl (fun ls hl => ?_)
            refine lv_goto (tgt := 6) hx hb dX0_clicksSo_73 (by decide) ?_
            have e_7 : (bI (allR (fun z => clkB (d (4 + 5 * z + 0)) (d (4 + 5 * z + 1)) cr ea) f i)) &&& (nI 1) = bI (allR (fun z => clkB (d (4 + 5 * z + 0)) (d (4 + 5 * z + 1)) cr ea) f (i + 1)) := by first | with_reducible rfl | (first | exact al1 (p := (fun z => clkB (d (4 + 5 * z + 0)) (d (4 + 5 * z + 1)) cr ea)) c_51 (by simpa using c_59) | exact al2 (p := (fun z => clkB (d (4 + 5 * z + 0)) (d (4 + 5 * z + 1)) cr ea)) c_51 (by simpa using c_59) | exact al3 (p := (fun z => clkB (d (4 + 5 * z + 0)) (d (4 + 5 * z + 1)) cr ea)) c_51 (by simpa using c_59) | exact al4 (p := (fun z => clkB (d (4 + 5 * z + 0)) (d (4 + 5 * z + 1)) cr ea)) c_51 (by simpa using c_59))
            have e_8 : i + 1 = (i + 1) := by first | with_reducible rfl | (first | exact al1 (p := (fun z => clkB (d (4 + 5 * z + 0)) (d (4 + 5 * z + 1)) cr ea)) c_51 (by simpa using c_59) | exact al2 (p := (fun z => clkB (d (4 + 5 * z + 0)) (d (4 + 5 * z + 1)) cr ea)) c_51 (by simpa using c_59) | exact al3 (p := (fun z => clkB (d (4 + 5 * z + 0)) (d (4 + 5 * z + 1)) cr ea)) c_51 (by simpa using c_59) | exact al4 (p := (fun z => clkB (d (4 + 5 * z + 0)) (d (4 + 5 * z + 1)) cr ea)) c_51 (by simpa using c_59))
            exact ih_6 (i + 1) (by omega) (by omega) ls (lv_to (lv_sub hl [2, 3, 4, 5, 1, 0] rfl) (Eq.trans (congrArg (fun x => ([(0, .ref h), (1, .int (nI cr)), (2, .int (nI ea)), (3, .ref rA), (4, .int x), (5, .int (nI (i + 1)))] : List (Nat × Value))) e_7) (congrArg (fun x => ([(0, .ref h), (1, .int (nI cr)), (2, .int (nI ea)), (3, .ref rA), (4, .int (bI (allR (fun z => clkB (d (4 + 5 * z + 0)) (d (4 + 5 * z + 1)) cr ea) f (i + 1)))), (5, .int (nI x))] : List (Nat × Value))) e_8)))
  have e_9 : true = allR (fun z => clkB (d (4 + 5 * z + 0)) (d (4 + 5 * z + 1)) cr ea) f 0 := by first | with_reducible rfl | (rfl)
  exact lp_6 ((d 2 - 0) + 1) 0 (by omega) (by omega) ls (lv_to (lv_sub hl [2, 3, 4, 5, 1, 0] rfl) (congrArg (fun x => ([(0, .ref h), (1, .int (nI cr)), (2, .int (nI ea)), (3, .ref rA), (4, .int (bI x)), (5, .int (nI 0))] : List (Nat × Value))) e_9))
