set_option maxRecDepth 100000
set_option maxHeartbeats 4000000 in
theorem m_X12_look_y (l : Launch) (D : va_G) (ca : Nat → ClassId) (r : Nat) (a1 : Nat) (tpd : Nat) (mg : Nat) (tp : Nat → Nat) (c : Nat) (x3 : Int32) (x4 : Int32) (x5 : Int32) (htp : tpd ≤ 120) (htv : ∀ j, tp j < 256) (hc : c < tpd) : Met l yX12_look (ws_ yX12_look cX12_look 1 (some .int)) (rmL 0) (PcR (KK D ca) D [.ref r] [(r, .inr (11, [.ref a1, .int (nI tpd), .int (nI c), .int x3, .int x4, .int x5, .ref mg])), (a1, .inl (ca 1, 120, .inl (btF tp)))]) (vp_Si (fun zr => zr = nI (tp c))) 0 0 (fun _ => False) := by
  refine rd_head (by decide) (Nat.le_of_ble_eq_true rfl) ?_
  intro zp ze zs zm za zb zt zc ls zQ hx hb hml hr hlk hown hts hK hP hl hQ
  have hown : zs.vm.findClass RX12 = some zm.cls := hown
  have hl : lv_has ls 1 [(0, .ref r)] := hl
  have hF : CallFix zp zm zc cX12_look 1 zs za lw_all RX12 := ⟨hx, hb, hml, hown, hts⟩
  have hKK := hK
  have hK : K1 D ca zs := hKK.1
  refine lv_aload_n hx hb dX12_look_0 rfl (lv_at hl 0 rfl) ?_
  refine va_get (D := D) (ci := 11) (v := .int (nI c)) (C := RX12) (T := TX12) (N := 7) hx hb hts in_X12 hown hK hP 0 rfl rfl 2 (by decide) (hts _ q476) (fun _ h9 => h9) rfl dX12_look_1 ?_
  refine lv_aload_n hx hb dX12_look_4 rfl (lv_at hl 0 rfl) ?_
  refine va_get (D := D) (ci := 11) (v := .int (nI tpd)) (C := RX12) (T := TX12) (N := 7) hx hb hts in_X12 hown hK hP 0 rfl rfl 1 (by decide) (hts _ q475) (fun _ h9 => h9) rfl dX12_look_5 ?_
  refine wn_ge (tgt := 27) hx hb (by omega) (by omega) dX12_look_8 (by decide) (fun zh => by omega) (fun c_8 => ?_)
  refine lv_aload_n hx hb dX12_look_11 rfl (lv_at hl 0 rfl) ?_
  refine va_get (D := D) (ci := 11) (v := .ref a1) (C := RX12) (T := TX12) (N := 7) hx hb hts in_X12 hown hK hP 0 rfl rfl 0 (by decide) (hts _ q474) (fun _ h9 => h9) rfl dX12_look_12 ?_
  refine lv_aload_n hx hb dX12_look_15 rfl (lv_at hl 0 rfl) ?_
  refine va_get (D := D) (ci := 11) (v := .int (nI c)) (C := RX12) (T := TX12) (N := 7) hx hb hts in_X12 hown hK hP 0 rfl rfl 2 (by decide) (hts _ q476) (fun _ h9 => h9) rfl dX12_look_16 ?_
  refine wn_bald (v := (btF tp) c) hx hb hK hP 1 1 rfl rfl (by omega) (by decide) rfl dX12_look_19 ?_
  refine lv_sipush (v := nI 255) hx hb dX12_look_20 rfl ?_
  refine lv_iand hx hb dX12_look_23 ?_
  refine lv_goto (tgt := 29) hx hb dX12_look_24 (by decide) ?_
  exact rd_iret hx hb hr hlk hQ dX12_look_29 (by show (nI (tp c)).toInt8.toInt32 &&& nI 255 = _; exact bt_and _ (htv c))
set_option maxHeartbeats 4000000 in
theorem m_X12_look_n (l : Launch) (D : va_G) (ca : Nat → ClassId) (r : Nat) (a1 : Nat) (tpd : Nat) (mg : Nat) (tp : Nat → Nat) (c : Nat) (x3 : Int32) (x4 : Int32) (x5 : Int32) (htp : tpd ≤ 120) (hc : ¬ c < tpd) (hc2 : c ≤ 120) : Met l yX12_look (ws_ yX12_look cX12_look 1 (some .int)) (rmL 0) (PcR (KK D ca) D [.ref r] [(r, .inr (11, [.ref a1, .int (nI tpd), .int (nI c), .int x3, .int x4, .int x5, .ref mg])), (a1, .inl (ca 1, 120, .inl (btF tp)))]) (vp_Si (fun zr => zr = (-1000000))) 0 0 (fun _ => False) := by
  refine rd_head (by decide) (Nat.le_of_ble_eq_true rfl) ?_
  intro zp ze zs zm za zb zt zc ls zQ hx hb hml hr hlk hown hts hK hP hl hQ
  have hown : zs.vm.findClass RX12 = some zm.cls := hown
  have hl : lv_has ls 1 [(0, .ref r)] := hl
  have hF : CallFix zp zm zc cX12_look 1 zs za lw_all RX12 := ⟨hx, hb, hml, hown, hts⟩
  have hKK := hK
  have hK : K1 D ca zs := hKK.1
  refine lv_aload_n hx hb dX12_look_0 rfl (lv_at hl 0 rfl) ?_
  refine va_get (D := D) (ci := 11) (v := .int (nI c)) (C := RX12) (T := TX12) (N := 7) hx hb hts in_X12 hown hK hP 0 rfl rfl 2 (by decide) (hts _ q476) (fun _ h9 => h9) rfl dX12_look_1 ?_
  refine lv_aload_n hx hb dX12_look_4 rfl (lv_at hl 0 rfl) ?_
  refine va_get (D := D) (ci := 11) (v := .int (nI tpd)) (C := RX12) (T := TX12) (N := 7) hx hb hts in_X12 hown hK hP 0 rfl rfl 1 (by decide) (hts _ q475) (fun _ h9 => h9) rfl dX12_look_5 ?_
  refine wn_ge (tgt := 27) hx hb (by omega) (by omega) dX12_look_8 (by decide) (fun c_8 => ?_) (fun zh => by omega)
  refine lv_ldc (v := (-1000000)) hx hb hown (hts _ q509) dX12_look_27 ?_
  exact rd_iret hx hb hr hlk hQ dX12_look_29 (by rfl)
theorem cs_X12_look {R : Room} {s : State} {args : Array Value} {own : String} {index : Nat} (hts : ∀ w ∈ lw_all, w.before args s = true) (hl : Cond.methodLink own index yX12_look ∈ lw_all) {rm : Room} {mc ms : Nat} (hR : rm.frames + 1 ≤ R.frames ∧ 8 + (1 + 11) + rm.locals ≤ R.locals) (hc : rm.cells = mc := by rfl) (hs : rm.slots = ms := by rfl) : CallW R s args own RX12 index yX12_look cX12_look 1 (some .int) (ws_ yX12_look cX12_look 1 (some .int)) rm mc ms 0 := cwV 0 hts (lw_V hl q507 qs5 q80 q508) rfl hc hs (by decide +kernel) hR
theorem cn_X0_isIn {R : Room} {s : State} {args : Array Value} {own : String} {index : Nat} {D : va_G} {ca : Nat → ClassId} (hts : ∀ w ∈ lw_all, w.before args s = true) (hKK : KK D ca s) (hl : Cond.methodLinkNest own index yX0_isIn "LampSquares" ∈ lw_tbl) {rm : Room} {mc ms : Nat} (hR : rm.frames + 1 ≤ R.frames ∧ 8 + (6 + 11) + rm.locals ≤ R.locals) (hc : rm.cells = mc := by rfl) (hs : rm.slots = ms := by rfl) : va_CN R s args own index yX0_isIn "LampSquares" cX0_isIn 6 (some .boolean) (ws_ yX0_isIn cX0_isIn 6 (some .boolean)) rm mc ms 3 ∧ (Cond.static yX0_isIn).before args s = true ∧ True := ⟨va_cnB 3 hts (lw_meth q304) rfl hc hs (hKK.2.1 _ hl rfl) (hts _ q58) (by decide +kernel) hR, hts _ q303, trivial⟩
set_option maxHeartbeats 4000000 in
theorem m_X12_next (l : Launch) (D : va_G) (ca : Nat → ClassId) (r : Nat) (a1 : Nat) (tpd : Nat) (mg : Nat) (tp : Nat → Nat) (S : PS) (sz : Nat) (htp : tpd ≤ 120) (htv : ∀ j, tp j < 256) (hSc : S.1 ≤ tpd) : Met l yX12_next (ws_ yX12_next cX12_next 2 none) (rmL 1) (PcA (KK D ca) D [.ref r] [(r, .inr (11, [.ref a1, .int (nI tpd), .int (nI S.1), .int (nI (ctk S)), .int (nI S.2.1), .int S.2.2.2.1, .ref mg])), (a1, .inl (ca 1, 120, .inl (btF tp)))] sz) (QvA D (fun  (_ : Unit) => True) (fun _ => [(r, .inr (11, [.ref a1, .int (nI tpd), .int (nI ((psNext tp tpd S).1)), .int (nI (ctk (psNext tp tpd S))), .int (nI ((psNext tp tpd S).2.1)), .int ((psNext tp tpd S).2.2.2.1), .ref mg])), (a1, .inl (ca 1, 120, .inl (btF tp)))]) (va_A [(r, .inr (11, [.ref a1, .int (nI tpd), .int (nI S.1), .int (nI (ctk S)), .int (nI S.2.1), .int S.2.2.2.1, .ref mg])), (a1, .inl (ca 1, 120, .inl (btF tp)))] sz)) 0 0 (va_A [(r, .inr (11, [.ref a1, .int (nI tpd), .int (nI S.1), .int (nI (ctk S)), .int (nI S.2.1), .int S.2.2.2.1, .ref mg])), (a1, .inl (ca 1, 120, .inl (btF tp)))] sz) := by
  refine wr_head (y := yX12_next) (n := 2) (av := [.ref r]) (Qc := fun A => (QvA D (fun  (_ : Unit) => True) (fun _ => [(r, .inr (11, [.ref a1, .int (nI tpd), .int (nI ((psNext tp tpd S).1)), .int (nI (ctk (psNext tp tpd S))), .int (nI ((psNext tp tpd S).2.1)), .int ((psNext tp tpd S).2.2.2.1), .ref mg])), (a1, .inl (ca 1, 120, .inl (btF tp)))]) A)) (by decide) (Nat.le_of_ble_eq_true rfl) ?_
  intro zp ze zs zm za zb zt zc ls zQ A H locs hx hb hml hr hlk hown hts hnm hK hP hD hS hA hl hQ
  have hown : zs.vm.findClass RX12 = some zm.cls := hown
  have hl : lv_has ls 2 [(0, .ref r)] := hl
  have hF : CallFix zp zm zc cX12_next 2 zs za lw_all RX12 := ⟨hx, hb, hml, hown, hts⟩
  have hKK := hK
  have hK : K1 D ca zs := hKK.1
  by_cases hsl : S.1 < tpd
  · refine lv_aload_n hx hb dX12_next_0 rfl (lv_at hl 0 rfl) ?_
    refine lv_aload_n hx hb dX12_next_1 rfl (lv_at hl 0 rfl) ?_
    refine va_get (D := D) (ci := 11) (v := .int (nI S.1)) (C := RX12) (T := TX12) (N := 7) hx hb hts in_X12 hown hK hP 0 rfl rfl 2 (by decide) (hts _ q476) (fun _ h9 => h9) rfl dX12_next_2 ?_
    refine va_put (D := D) (ci := 11) (v := .int (nI S.1)) (ty := .int) (C := RX12) (T := TX12) (N := 7) hx hb hts in_X12 tyX12 tyX12_ok nmX12 hown hK hP hD hS 0 rfl rfl 4 (by decide) (hts _ q478) (fun _ h9 => h9) rfl (tyX12_ok 4 (by decide)) rfl rfl (Nat.le_of_ble_eq_true rfl) dX12_next_5 (fun H locs hP hD hS => ?_)
    have hP : va_P D vwCl [(r, .inr (11, [.ref a1, .int (nI tpd), .int (nI S.1), .int (nI (ctk S)), .int (nI S.1), .int S.2.2.2.1, .ref mg])), (a1, .inl (ca 1, 120, .inl (btF tp)))] H := hP
    have hD : va_D A [(r, .inr (11, [.ref a1, .int (nI tpd), .int (nI S.1), .int (nI (ctk S)), .int (nI S.1), .int S.2.2.2.1, .ref mg])), (a1, .inl (ca 1, 120, .inl (btF tp)))] := hD
    refine lv_aload_n hx hb dX12_next_8 rfl (lv_at hl 0 rfl) ?_
    refine rd_callV hF (m_X12_look_y l D ca r a1 tpd mg tp S.1 (nI (ctk S)) (nI S.1) S.2.2.2.1 (by first | assumption | omega) (by assumption) (by first | assumption | omega)) (cs_X12_look hts q505 ⟨by decide, by decide⟩) (KK_mv D ca) hKK (hP.sub [0, 1] rfl) (va_recv hK hP (ci := 11) (q0 := 0) rfl rfl) rfl hl.1 rfl (Nat.le_of_ble_eq_true rfl) dX12_next_9 ⟨Nat.zero_le _, Nat.zero_le _⟩ ?_
    refine lv_istore_n (lv' := [(1, .int (nI (tp S.1))), (0, .ref r)]) hx hb dX12_next_12 rfl hl (by decide) rfl (fun ls hl => ?_)
    refine lv_aload_n hx hb dX12_next_13 rfl (lv_at hl 1 rfl) ?_
    refine lv_iload_n hx hb dX12_next_14 rfl (lv_at hl 0 rfl) ?_
    refine va_put (D := D) (ci := 11) (v := .int (nI (tp S.1))) (ty := .int) (C := RX12) (T := TX12) (N := 7) hx hb hts in_X12 tyX12 tyX12_ok nmX12 hown hK hP hD hS 0 rfl rfl 5 (by decide) (hts _ q479) (fun _ h9 => h9) rfl (tyX12_ok 5 (by decide)) rfl rfl (Nat.le_of_ble_eq_true rfl) dX12_next_15 (fun H locs hP hD hS => ?_)
    have hP : va_P D vwCl [(r, .inr (11, [.ref a1, .int (nI tpd), .int (nI S.1), .int (nI (ctk S)), .int (nI S.1), .int (nI (tp S.1)), .ref mg])), (a1, .inl (ca 1, 120, .inl (btF tp)))] H := hP
    have hD : va_D A [(r, .inr (11, [.ref a1, .int (nI tpd), .int (nI S.1), .int (nI (ctk S)), .int (nI S.1), .int (nI (tp S.1)), .ref mg])), (a1, .inl (ca 1, 120, .inl (btF tp)))] := hD
    refine lv_iload_n hx hb dX12_next_18 rfl (lv_at hl 0 rfl) ?_
    refine lv_ldc (v := (-1000000)) hx hb hown (hts _ q509) dX12_next_19 ?_
    refine lv_icmp_ne (tgt := 32) hx hb dX12_next_21 (by decide) (fun c_21 => ?_) (fun zh => by exact absurd zh (nI_neN (by have := htv S.1; omega)))
    have hv1 := htv S.1
    refine lv_iload_n hx hb dX12_next_32 rfl (lv_at hl 0 rfl) ?_
    refine lv_i2l hx hb dX12_next_33 rfl ?_
    refine lv_ldc2 (v := 48) hx hb hown (hts _ q510) dX12_next_34 ?_
    refine lv_ldc2 (v := 57) hx hb hown (hts _ q511) dX12_next_37 ?_
    refine rd_callSN hF (m_X0_isIn l D ca ((nI (tp S.1)).toInt64) 48 57 ) (cn_X0_isIn hts hKK q512 ⟨by decide, by decide⟩) (K1_mv D ca) hK (hP.sub [] rfl) rfl hl.1 rfl (Nat.le_of_ble_eq_true rfl) dX12_next_40 ⟨Nat.zero_le _, Nat.zero_le _⟩ ?_
    refine wb_eq (tgt := 145) hx hb dX12_next_43 (by decide) (fun c_43 => ?_) (fun c_43 => ?_)
    · rw [inB_nn (a := 48) (b := 57) (by have := htv S.1; omega) (by decide) (by decide)] at c_43
      have hdg : dgB (tp S.1) = false := c_43
      refine lv_aload_n hx hb dX12_next_145 rfl (lv_at hl 1 rfl) ?_
      refine lv_dup hx hb dX12_next_146 rfl ?_
      refine va_get (D := D) (ci := 11) (v := .int (nI S.1)) (C := RX12) (T := TX12) (N := 7) hx hb hts in_X12 hown hK hP 0 rfl rfl 2 (by decide) (hts _ q476) (fun _ h9 => h9) rfl dX12_next_147 ?_
      refine lv_iconst (v := nI 1) hx hb dX12_next_150 rfl ?_
      refine wn_add hx hb dX12_next_151 ?_
      refine va_put (D := D) (ci := 11) (v := .int (nI (S.1 + 1))) (ty := .int) (C := RX12) (T := TX12) (N := 7) hx hb hts in_X12 tyX12 tyX12_ok nmX12 hown hK hP hD hS 0 rfl rfl 2 (by decide) (hts _ q476) (fun _ h9 => h9) rfl (tyX12_ok 2 (by decide)) rfl rfl (Nat.le_of_ble_eq_true rfl) dX12_next_152 (fun H locs hP hD hS => ?_)
      have hP : va_P D vwCl [(r, .inr (11, [.ref a1, .int (nI tpd), .int (nI (S.1 + 1)), .int (nI (ctk S)), .int (nI S.1), .int (nI (tp S.1)), .ref mg])), (a1, .inl (ca 1, 120, .inl (btF tp)))] H := hP
      have hD : va_D A [(r, .inr (11, [.ref a1, .int (nI tpd), .int (nI (S.1 + 1)), .int (nI (ctk S)), .int (nI S.1), .int (nI (tp S.1)), .ref mg])), (a1, .inl (ca 1, 120, .inl (btF tp)))] := hD
      refine lv_aload_n hx hb dX12_next_155 rfl (lv_at hl 1 rfl) ?_
      refine lv_iload_n hx hb dX12_next_156 rfl (lv_at hl 0 rfl) ?_
      refine lv_i2l hx hb dX12_next_157 rfl ?_
      refine lv_ldc2 (v := 97) hx hb hown (hts _ q513) dX12_next_158 ?_
      refine lv_ldc2 (v := 122) hx hb hown (hts _ q514) dX12_next_161 ?_
      refine rd_callSN hF (m_X0_isIn l D ca ((nI (tp S.1)).toInt64) 97 122 ) (cn_X0_isIn hts hKK q512 ⟨by decide, by decide⟩) (K1_mv D ca) hK (hP.sub [] rfl) rfl hl.1 rfl (Nat.le_of_ble_eq_true rfl) dX12_next_164 ⟨Nat.zero_le _, Nat.zero_le _⟩ ?_
      refine wb_eq (tgt := 174) hx hb dX12_next_167 (by decide) (fun c_167 => ?_) (fun c_167 => ?_)
      · rw [inB_nn (a := 97) (b := 122) (by have := htv S.1; omega) (by decide) (by decide)] at c_167
        have hlt : ltrB (tp S.1) = false := c_167
        refine lv_iload_n hx hb dX12_next_174 rfl (lv_at hl 0 rfl) ?_
        refine lv_bipush (v := nI 44) hx hb dX12_next_175 rfl ?_
        refine wn_ne (tgt := 184) hx hb (by omega) (by omega) dX12_next_177 (by decide) (fun c_177 => ?_) (fun c_177 => ?_)
        · refine lv_iload_n hx hb dX12_next_184 rfl (lv_at hl 0 rfl) ?_
          refine lv_bipush (v := nI 59) hx hb dX12_next_185 rfl ?_
          refine wn_ne (tgt := 194) hx hb (by omega) (by omega) dX12_next_187 (by decide) (fun c_187 => ?_) (fun c_187 => ?_)
          · refine lv_iconst (v := nI 5) hx hb dX12_next_194 rfl ?_
            refine va_put (D := D) (ci := 11) (v := .int (nI 5)) (ty := .int) (C := RX12) (T := TX12) (N := 7) hx hb hts in_X12 tyX12 tyX12_ok nmX12 hown hK hP hD hS 0 rfl rfl 3 (by decide) (hts _ q477) (fun _ h9 => h9) rfl (tyX12_ok 3 (by decide)) rfl rfl (Nat.le_of_ble_eq_true rfl) dX12_next_195 (fun H locs hP hD hS => ?_)
            have hP : va_P D vwCl [(r, .inr (11, [.ref a1, .int (nI tpd), .int (nI (S.1 + 1)), .int (nI 5), .int (nI S.1), .int (nI (tp S.1)), .ref mg])), (a1, .inl (ca 1, 120, .inl (btF tp)))] H := hP
            have hD : va_D A [(r, .inr (11, [.ref a1, .int (nI tpd), .int (nI (S.1 + 1)), .int (nI 5), .int (nI S.1), .int (nI (tp S.1)), .ref mg])), (a1, .inl (ca 1, 120, .inl (btF tp)))] := hD
            obtain ⟨k1, k2, k3⟩ := tk_str (show S.1 < tpd by omega) hlt hdg (by assumption) (by assumption)
            have k3o := k3
            have w_1 : S.1 + 1 = (psNext tp tpd S).1 := by first | with_reducible rfl | (first | exact psNx_2 | exact k1.symm | exact k3.symm | exact k3o.symm | exact hce | (rw [nmW_V hcg]; exact k3.symm) | (rw [ctk_n k2 k3]; first | rfl | decide))
            have w_2 : 5 = ctk (psNext tp tpd S) := by first | with_reducible rfl | (first | exact psNx_2 | exact k1.symm | exact k3.symm | exact k3o.symm | exact hce | (rw [nmW_V hcg]; exact k3.symm) | (rw [ctk_n k2 k3]; first | rfl | decide))
            have w_3 : S.1 = (psNext tp tpd S).2.1 := by first | with_reducible rfl | (first | exact psNx_2 | exact k1.symm | exact k3.symm | exact k3o.symm | exact hce | (rw [nmW_V hcg]; exact k3.symm) | (rw [ctk_n k2 k3]; first | rfl | decide))
            have w_4 : nI (tp S.1) = (psNext tp tpd S).2.2.2.1 := by first | with_reducible rfl | (first | exact psNx_2 | exact k1.symm | exact k3.symm | exact k3o.symm | exact hce | (rw [nmW_V hcg]; exact k3.symm) | (rw [ctk_n k2 k3]; first | rfl | decide))
            exact wr_vret () hx hb hr hlk hQ dX12_next_198 (wp_to (hP.sub [0, 1] rfl) (Eq.trans (congrArg (fun zx => ([(r, .inr (11, [.ref a1, .int (nI tpd), .int (nI zx), .int (nI 5), .int (nI S.1), .int (nI (tp S.1)), .ref mg])), (a1, .inl (ca 1, 120, .inl (btF tp)))] : va_W)) w_1) (Eq.trans (congrArg (fun zx => ([(r, .inr (11, [.ref a1, .int (nI tpd), .int (nI ((psNext tp tpd S).1)), .int (nI zx), .int (nI S.1), .int (nI (tp S.1)), .ref mg])), (a1, .inl (ca 1, 120, .inl (btF tp)))] : va_W)) w_2) (Eq.trans (congrArg (fun zx => ([(r, .inr (11, [.ref a1, .int (nI tpd), .int (nI ((psNext tp tpd S).1)), .int (nI (ctk (psNext tp tpd S))), .int (nI zx), .int (nI (tp S.1)), .ref mg])), (a1, .inl (ca 1, 120, .inl (btF tp)))] : va_W)) w_3) (congrArg (fun zx => ([(r, .inr (11, [.ref a1, .int (nI tpd), .int (nI ((psNext tp tpd S).1)), .int (nI (ctk (psNext tp tpd S))), .int (nI ((psNext tp tpd S).2.1)), .int zx, .ref mg])), (a1, .inl (ca 1, 120, .inl (btF tp)))] : va_W)) w_4))))) (wd_to (hD.sub [0, 1] (by decide) rfl) (Eq.trans (congrArg (fun zx => ([(r, .inr (11, [.ref a1, .int (nI tpd), .int (nI zx), .int (nI 5), .int (nI S.1), .int (nI (tp S.1)), .ref mg])), (a1, .inl (ca 1, 120, .inl (btF tp)))] : va_W)) w_1) (Eq.trans (congrArg (fun zx => ([(r, .inr (11, [.ref a1, .int (nI tpd), .int (nI ((psNext tp tpd S).1)), .int (nI zx), .int (nI S.1), .int (nI (tp S.1)), .ref mg])), (a1, .inl (ca 1, 120, .inl (btF tp)))] : va_W)) w_2) (Eq.trans (congrArg (fun zx => ([(r, .inr (11, [.ref a1, .int (nI tpd), .int (nI ((psNext tp tpd S).1)), .int (nI (ctk (psNext tp tpd S))), .int (nI zx), .int (nI (tp S.1)), .ref mg])), (a1, .inl (ca 1, 120, .inl (btF tp)))] : va_W)) w_3) (congrArg (fun zx => ([(r, .inr (11, [.ref a1, .int (nI tpd), .int (nI ((psNext tp tpd S).1)), .int (nI (ctk (psNext tp tpd S))), .int (nI ((psNext tp tpd S).2.1)), .int zx, .ref mg])), (a1, .inl (ca 1, 120, .inl (btF tp)))] : va_W)) w_4))))) hS (Nat.le_refl _) (Nat.le_refl _) trivial
          · refine lv_iconst (v := nI 4) hx hb dX12_next_190 rfl ?_
            refine lv_goto (tgt := 195) hx hb dX12_next_191 (by decide) ?_
            refine va_put (D := D) (ci := 11) (v := .int (nI 4)) (ty := .int) (C := RX12) (T := TX12) (N := 7) hx hb hts in_X12 tyX12 tyX12_ok nmX12 hown hK hP hD hS 0 rfl rfl 3 (by decide) (hts _ q477) (fun _ h9 => h9) rfl (tyX12_ok 3 (by decide)) rfl rfl (Nat.le_of_ble_eq_true rfl) dX12_next_195 (fun H locs hP hD hS => ?_)
            have hP : va_P D vwCl [(r, .inr (11, [.ref a1, .int (nI tpd), .int (nI (S.1 + 1)), .int (nI 4), .int (nI S.1), .int (nI (tp S.1)), .ref mg])), (a1, .inl (ca 1, 120, .inl (btF tp)))] H := hP
            have hD : va_D A [(r, .inr (11, [.ref a1, .int (nI tpd), .int (nI (S.1 + 1)), .int (nI 4), .int (nI S.1), .int (nI (tp S.1)), .ref mg])), (a1, .inl (ca 1, 120, .inl (btF tp)))] := hD
            obtain ⟨k1, k2, k3⟩ := tk_sgn (show S.1 < tpd by omega) hlt hdg (Or.inr c_187)
            have k3o := k3
            rw [c_187] at k3
            have w_5 : S.1 + 1 = (psNext tp tpd S).1 := by first | with_reducible rfl | (first | exact psNx_2 | exact k1.symm | exact k3.symm | exact k3o.symm | exact hce | (rw [nmW_V hcg]; exact k3.symm) | (rw [ctk_n k2 k3]; first | rfl | decide))
            have w_6 : 4 = ctk (psNext tp tpd S) := by first | with_reducible rfl | (first | exact psNx_2 | exact k1.symm | exact k3.symm | exact k3o.symm | exact hce | (rw [nmW_V hcg]; exact k3.symm) | (rw [ctk_n k2 k3]; first | rfl | decide))
            have w_7 : S.1 = (psNext tp tpd S).2.1 := by first | with_reducible rfl | (first | exact psNx_2 | exact k1.symm | exact k3.symm | exact k3o.symm | exact hce | (rw [nmW_V hcg]; exact k3.symm) | (rw [ctk_n k2 k3]; first | rfl | decide))
            have w_8 : nI (tp S.1) = (psNext tp tpd S).2.2.2.1 := by first | with_reducible rfl | (first | exact psNx_2 | exact k1.symm | exact k3.symm | exact k3o.symm | exact hce | (rw [nmW_V hcg]; exact k3.symm) | (rw [ctk_n k2 k3]; first | rfl | decide))
            exact wr_vret () hx hb hr hlk hQ dX12_next_198 (wp_to (hP.sub [0, 1] rfl) (Eq.trans (congrArg (fun zx => ([(r, .inr (11, [.ref a1, .int (nI tpd), .int (nI zx), .int (nI 4), .int (nI S.1), .int (nI (tp S.1)), .ref mg])), (a1, .inl (ca 1, 120, .inl (btF tp)))] : va_W)) w_5) (Eq.trans (congrArg (fun zx => ([(r, .inr (11, [.ref a1, .int (nI tpd), .int (nI ((psNext tp tpd S).1)), .int (nI zx), .int (nI S.1), .int (nI (tp S.1)), .ref mg])), (a1, .inl (ca 1, 120, .inl (btF tp)))] : va_W)) w_6) (Eq.trans (congrArg (fun zx => ([(r, .inr (11, [.ref a1, .int (nI tpd), .int (nI ((psNext tp tpd S).1)), .int (nI (ctk (psNext tp tpd S))), .int (nI zx), .int (nI (tp S.1)), .ref mg])), (a1, .inl (ca 1, 120, .inl (btF tp)))] : va_W)) w_7) (congrArg (fun zx => ([(r, .inr (11, [.ref a1, .int (nI tpd), .int (nI ((psNext tp tpd S).1)), .int (nI (ctk (psNext tp tpd S))), .int (nI ((psNext tp tpd S).2.1)), .int zx, .ref mg])), (a1, .inl (ca 1, 120, .inl (btF tp)))] : va_W)) w_8))))) (wd_to (hD.sub [0, 1] (by decide) rfl) (Eq.trans (congrArg (fun zx => ([(r, .inr (11, [.ref a1, .int (nI tpd), .int (nI zx), .int (nI 4), .int (nI S.1), .int (nI (tp S.1)), .ref mg])), (a1, .inl (ca 1, 120, .inl (btF tp)))] : va_W)) w_5) (Eq.trans (congrArg (fun zx => ([(r, .inr (11, [.ref a1, .int (nI tpd), .int (nI ((psNext tp tpd S).1)), .int (nI zx), .int (nI S.1), .int (nI (tp S.1)), .ref mg])), (a1, .inl (ca 1, 120, .inl (btF tp)))] : va_W)) w_6) (Eq.trans (congrArg (fun zx => ([(r, .inr (11, [.ref a1, .int (nI tpd), .int (nI ((psNext tp tpd S).1)), .int (nI (ctk (psNext tp tpd S))), .int (nI zx), .int (nI (tp S.1)), .ref mg])), (a1, .inl (ca 1, 120, .inl (btF tp)))] : va_W)) w_7) (congrArg (fun zx => ([(r, .inr (11, [.ref a1, .int (nI tpd), .int (nI ((psNext tp tpd S).1)), .int (nI (ctk (psNext tp tpd S))), .int (nI ((psNext tp tpd S).2.1)), .int zx, .ref mg])), (a1, .inl (ca 1, 120, .inl (btF tp)))] : va_W)) w_8))))) hS (Nat.le_refl _) (Nat.le_refl _) trivial
        · refine lv_iconst (v := nI 3) hx hb dX12_next_180 rfl ?_
          refine lv_goto (tgt := 195) hx hb dX12_next_181 (by decide) ?_
          refine va_put (D := D) (ci := 11) (v := .int (nI 3)) (ty := .int) (C := RX12) (T := TX12) (N := 7) hx hb hts in_X12 tyX12 tyX12_ok nmX12 hown hK hP hD hS 0 rfl rfl 3 (by decide) (hts _ q477) (fun _ h9 => h9) rfl (tyX12_ok 3 (by decide)) rfl rfl (Nat.le_of_ble_eq_true rfl) dX12_next_195 (fun H locs hP hD hS => ?_)
          have hP : va_P D vwCl [(r, .inr (11, [.ref a1, .int (nI tpd), .int (nI (S.1 + 1)), .int (nI 3), .int (nI S.1), .int (nI (tp S.1)), .ref mg])), (a1, .inl (ca 1, 120, .inl (btF tp)))] H := hP
          have hD : va_D A [(r, .inr (11, [.ref a1, .int (nI tpd), .int (nI (S.1 + 1)), .int (nI 3), .int (nI S.1), .int (nI (tp S.1)), .ref mg])), (a1, .inl (ca 1, 120, .inl (btF tp)))] := hD
          obtain ⟨k1, k2, k3⟩ := tk_sgn (show S.1 < tpd by omega) hlt hdg (Or.inl c_177)
          have k3o := k3
          rw [c_177] at k3
          have w_9 : S.1 + 1 = (psNext tp tpd S).1 := by first | with_reducible rfl | (first | exact psNx_2 | exact k1.symm | exact k3.symm | exact k3o.symm | exact hce | (rw [nmW_V hcg]; exact k3.symm) | (rw [ctk_n k2 k3]; first | rfl | decide))
          have w_10 : 3 = ctk (psNext tp tpd S) := by first | with_reducible rfl | (first | exact psNx_2 | exact k1.symm | exact k3.symm | exact k3o.symm | exact hce | (rw [nmW_V hcg]; exact k3.symm) | (rw [ctk_n k2 k3]; first | rfl | decide))
          have w_11 : S.1 = (psNext tp tpd S).2.1 := by first | with_reducible rfl | (first | exact psNx_2 | exact k1.symm | exact k3.symm | exact k3o.symm | exact hce | (rw [nmW_V hcg]; exact k3.symm) | (rw [ctk_n k2 k3]; first | rfl | decide))
          have w_12 : nI (tp S.1) = (psNext tp tpd S).2.2.2.1 := by first | with_reducible rfl | (first | exact psNx_2 | exact k1.symm | exact k3.symm | exact k3o.symm | exact hce | (rw [nmW_V hcg]; exact k3.symm) | (rw [ctk_n k2 k3]; first | rfl | decide))
          exact wr_vret () hx hb hr hlk hQ dX12_next_198 (wp_to (hP.sub [0, 1] rfl) (Eq.trans (congrArg (fun zx => ([(r, .inr (11, [.ref a1, .int (nI tpd), .int (nI zx), .int (nI 3), .int (nI S.1), .int (nI (tp S.1)), .ref mg])), (a1, .inl (ca 1, 120, .inl (btF tp)))] : va_W)) w_9) (Eq.trans (congrArg (fun zx => ([(r, .inr (11, [.ref a1, .int (nI tpd), .int (nI ((psNext tp tpd S).1)), .int (nI zx), .int (nI S.1), .int (nI (tp S.1)), .ref mg])), (a1, .inl (ca 1, 120, .inl (btF tp)))] : va_W)) w_10) (Eq.trans (congrArg (fun zx => ([(r, .inr (11, [.ref a1, .int (nI tpd), .int (nI ((psNext tp tpd S).1)), .int (nI (ctk (psNext tp tpd S))), .int (nI zx), .int (nI (tp S.1)), .ref mg])), (a1, .inl (ca 1, 120, .inl (btF tp)))] : va_W)) w_11) (congrArg (fun zx => ([(r, .inr (11, [.ref a1, .int (nI tpd), .int (nI ((psNext tp tpd S).1)), .int (nI (ctk (psNext tp tpd S))), .int (nI ((psNext tp tpd S).2.1)), .int zx, .ref mg])), (a1, .inl (ca 1, 120, .inl (btF tp)))] : va_W)) w_12))))) (wd_to (hD.sub [0, 1] (by decide) rfl) (Eq.trans (congrArg (fun zx => ([(r, .inr (11, [.ref a1, .int (nI tpd), .int (nI zx), .int (nI 3), .int (nI S.1), .int (nI (tp S.1)), .ref mg])), (a1, .inl (ca 1, 120, .inl (btF tp)))] : va_W)) w_9) (Eq.trans (congrArg (fun zx => ([(r, .inr (11, [.ref a1, .int (nI tpd), .int (nI ((psNext tp tpd S).1)), .int (nI zx), .int (nI S.1), .int (nI (tp S.1)), .ref mg])), (a1, .inl (ca 1, 120, .inl (btF tp)))] : va_W)) w_10) (Eq.trans (congrArg (fun zx => ([(r, .inr (11, [.ref a1, .int (nI tpd), .int (nI ((psNext tp tpd S).1)), .int (nI (ctk (psNext tp tpd S))), .int (nI zx), .int (nI (tp S.1)), .ref mg])), (a1, .inl (ca 1, 120, .inl (btF tp)))] : va_W)) w_11) (congrArg (fun zx => ([(r, .inr (11, [.ref a1, .int (nI tpd), .int (nI ((psNext tp tpd S).1)), .int (nI (ctk (psNext tp tpd S))), .int (nI ((psNext tp tpd S).2.1)), .int zx, .ref mg])), (a1, .inl (ca 1, 120, .inl (btF tp)))] : va_W)) w_12))))) hS (Nat.le_refl _) (Nat.le_refl _) trivial
      · rw [inB_nn (a := 97) (b := 122) (by have := htv S.1; omega) (by decide) (by decide)] at c_167
        have hlt : ltrB (tp S.1) = true := c_167
        refine lv_iconst (v := nI 1) hx hb dX12_next_170 rfl ?_
        refine lv_goto (tgt := 195) hx hb dX12_next_171 (by decide) ?_
        refine va_put (D := D) (ci := 11) (v := .int (nI 1)) (ty := .int) (C := RX12) (T := TX12) (N := 7) hx hb hts in_X12 tyX12 tyX12_ok nmX12 hown hK hP hD hS 0 rfl rfl 3 (by decide) (hts _ q477) (fun _ h9 => h9) rfl (tyX12_ok 3 (by decide)) rfl rfl (Nat.le_of_ble_eq_true rfl) dX12_next_195 (fun H locs hP hD hS => ?_)
        have hP : va_P D vwCl [(r, .inr (11, [.ref a1, .int (nI tpd), .int (nI (S.1 + 1)), .int (nI 1), .int (nI S.1), .int (nI (tp S.1)), .ref mg])), (a1, .inl (ca 1, 120, .inl (btF tp)))] H := hP
        have hD : va_D A [(r, .inr (11, [.ref a1, .int (nI tpd), .int (nI (S.1 + 1)), .int (nI 1), .int (nI S.1), .int (nI (tp S.1)), .ref mg])), (a1, .inl (ca 1, 120, .inl (btF tp)))] := hD
        obtain ⟨k1, k2, k3⟩ := tk_let (show S.1 < tpd by omega) hlt
        have k3o := k3
        have w_13 : S.1 + 1 = (psNext tp tpd S).1 := by first | with_reducible rfl | (first | exact psNx_2 | exact k1.symm | exact k3.symm | exact k3o.symm | exact hce | (rw [nmW_V hcg]; exact k3.symm) | (rw [ctk_n k2 k3]; first | rfl | decide))
        have w_14 : 1 = ctk (psNext tp tpd S) := by first | with_reducible rfl | (first | exact psNx_2 | exact k1.symm | exact k3.symm | exact k3o.symm | exact hce | (rw [nmW_V hcg]; exact k3.symm) | (rw [ctk_n k2 k3]; first | rfl | decide))
        have w_15 : S.1 = (psNext tp tpd S).2.1 := by first | with_reducible rfl | (first | exact psNx_2 | exact k1.symm | exact k3.symm | exact k3o.symm | exact hce | (rw [nmW_V hcg]; exact k3.symm) | (rw [ctk_n k2 k3]; first | rfl | decide))
        have w_16 : nI (tp S.1) = (psNext tp tpd S).2.2.2.1 := by first | with_reducible rfl | (first | exact psNx_2 | exact k1.symm | exact k3.symm | exact k3o.symm | exact hce | (rw [nmW_V hcg]; exact k3.symm) | (rw [ctk_n k2 k3]; first | rfl | decide))
        exact wr_vret () hx hb hr hlk hQ dX12_next_198 (wp_to (hP.sub [0, 1] rfl) (Eq.trans (congrArg (fun zx => ([(r, .inr (11, [.ref a1, .int (nI tpd), .int (nI zx), .int (nI 1), .int (nI S.1), .int (nI (tp S.1)), .ref mg])), (a1, .inl (ca 1, 120, .inl (btF tp)))] : va_W)) w_13) (Eq.trans (congrArg (fun zx => ([(r, .inr (11, [.ref a1, .int (nI tpd), .int (nI ((psNext tp tpd S).1)), .int (nI zx), .int (nI S.1), .int (nI (tp S.1)), .ref mg])), (a1, .inl (ca 1, 120, .inl (btF tp)))] : va_W)) w_14) (Eq.trans (congrArg (fun zx => ([(r, .inr (11, [.ref a1, .int (nI tpd), .int (nI ((psNext tp tpd S).1)), .int (nI (ctk (psNext tp tpd S))), .int (nI zx), .int (nI (tp S.1)), .ref mg])), (a1, .inl (ca 1, 120, .inl (btF tp)))] : va_W)) w_15) (congrArg (fun zx => ([(r, .inr (11, [.ref a1, .int (nI tpd), .int (nI ((psNext tp tpd S).1)), .int (nI (ctk (psNext tp tpd S))), .int (nI ((psNext tp tpd S).2.1)), .int zx, .ref mg])), (a1, .inl (ca 1, 120, .inl (btF tp)))] : va_W)) w_16))))) (wd_to (hD.sub [0, 1] (by decide) rfl) (Eq.trans (congrArg (fun zx => ([(r, .inr (11, [.ref a1, .int (nI tpd), .int (nI zx), .int (nI 1), .int (nI S.1), .int (nI (tp S.1)), .ref mg])), (a1, .inl (ca 1, 120, .inl (btF tp)))] : va_W)) w_13) (Eq.trans (congrArg (fun zx => ([(r, .inr (11, [.ref a1, .int (nI tpd), .int (nI ((psNext tp tpd S).1)), .int (nI zx), .int (nI S.1), .int (nI (tp S.1)), .ref mg])), (a1, .inl (ca 1, 120, .inl (btF tp)))] : va_W)) w_14) (Eq.trans (congrArg (fun zx => ([(r, .inr (11, [.ref a1, .int (nI tpd), .int (nI ((psNext tp tpd S).1)), .int (nI (ctk (psNext tp tpd S))), .int (nI zx), .int (nI (tp S.1)), .ref mg])), (a1, .inl (ca 1, 120, .inl (btF tp)))] : va_W)) w_15) (congrArg (fun zx => ([(r, .inr (11, [.ref a1, .int (nI tpd), .int (nI ((psNext tp tpd S).1)), .int (nI (ctk (psNext tp tpd S))), .int (nI ((psNext tp tpd S).2.1)), .int zx, .ref mg])), (a1, .inl (ca 1, 120, .inl (btF tp)))] : va_W)) w_16))))) hS (Nat.le_refl _) (Nat.le_refl _) trivial
    · rw [inB_nn (a := 48) (b := 57) (by have := htv S.1; omega) (by decide) (by decide)] at c_43
      have hdg : dgB (tp S.1) = true := c_43
      have hdi := dg_in hdg
      have hlt : ltrB (tp S.1) = false := decide_eq_false (by omega)
      refine lv_aload_n hx hb dX12_next_46 rfl (lv_at hl 1 rfl) ?_
      refine lv_iconst (v := nI 0) hx hb dX12_next_47 rfl ?_
      refine va_put (D := D) (ci := 11) (v := .int (nI 0)) (ty := .int) (C := RX12) (T := TX12) (N := 7) hx hb hts in_X12 tyX12 tyX12_ok nmX12 hown hK hP hD hS 0 rfl rfl 5 (by decide) (hts _ q479) (fun _ h9 => h9) rfl (tyX12_ok 5 (by decide)) rfl rfl (Nat.le_of_ble_eq_true rfl) dX12_next_48 (fun H locs hP hD hS => ?_)
      have hP : va_P D vwCl [(r, .inr (11, [.ref a1, .int (nI tpd), .int (nI S.1), .int (nI (ctk S)), .int (nI S.1), .int (nI 0), .ref mg])), (a1, .inl (ca 1, 120, .inl (btF tp)))] H := hP
      have hD : va_D A [(r, .inr (11, [.ref a1, .int (nI tpd), .int (nI S.1), .int (nI (ctk S)), .int (nI S.1), .int (nI 0), .ref mg])), (a1, .inl (ca 1, 120, .inl (btF tp)))] := hD
      have lp_51 : ∀ (zn : Nat) (c_ : Nat), (S.1 ≤ c_) → (c_ ≤ tpd) → (rnC tp tpd (tpd - c_) c_ = tkC tp tpd S.1) →  (tpd - c_) < zn → ∀ (H : Heap) (locs : List Loc), va_P D vwCl [(r, .inr (11, [.ref a1, .int (nI tpd), .int (nI c_), .int (nI (ctk S)), .int (nI S.1), .int (nI (nmW tp S.1 c_)), .ref mg])), (a1, .inl (ca 1, 120, .inl (btF tp)))] H → va_D A [(r, .inr (11, [.ref a1, .int (nI tpd), .int (nI c_), .int (nI (ctk S)), .int (nI S.1), .int (nI (nmW tp S.1 c_)), .ref mg])), (a1, .inl (ca 1, 120, .inl (btF tp)))] → va_S A zs.heap H locs → ∀ (ls : Array Slot), lv_has ls 2 [(0, .ref r)] → W zp l ze (rmL 1) zs zm za zb zt zc H locs 0 0 zQ (F0 zm 51 ls []) := by
        intro zn
        induction zn with
        | zero => intro c_ hc1 hc2 hcE hmu_51; exact absurd hmu_51 (Nat.not_lt_zero _)
        | succ zn ih_51 =>
          intro c_ hc1 hc2 hcE hmu_51 H locs hP hD hS ls hl
          refine lv_aload_n hx hb dX12_next_51 rfl (lv_at hl 0 rfl) ?_
          by_cases hcl : c_ < tpd
          · refine rd_callV hF (m_X12_look_y l D ca r a1 tpd mg tp c_ (nI (ctk S)) (nI S.1) (nI (nmW tp S.1 c_)) (by first | assumption | omega) (by assumption) (by first | assumption | omega)) (cs_X12_look hts q505 ⟨by decide, by decide⟩) (KK_mv D ca) hKK (hP.sub [0, 1] rfl) (va_recv hK hP (ci := 11) (q0 := 0) rfl rfl) rfl hl.1 rfl (Nat.le_of_ble_eq_true rfl) dX12_next_52 ⟨Nat.zero_le _, Nat.zero_le _⟩ ?_
            refine lv_i2l hx hb dX12_next_55 rfl ?_
            refine lv_ldc2 (v := 48) hx hb hown (hts _ q510) dX12_next_56 ?_
            refine lv_ldc2 (v := 57) hx hb hown (hts _ q511) dX12_next_59 ?_
            refine rd_callSN hF (m_X0_isIn l D ca ((nI (tp c_)).toInt64) 48 57 ) (cn_X0_isIn hts hKK q512 ⟨by decide, by decide⟩) (K1_mv D ca) hK (hP.sub [] rfl) rfl hl.1 rfl (Nat.le_of_ble_eq_true rfl) dX12_next_62 ⟨Nat.zero_le _, Nat.zero_le _⟩ ?_
            refine wb_eq (tgt := 120) hx hb dX12_next_65 (by decide) (fun c_65 => ?_) (fun c_65 => ?_)
            · rw [inB_nn (a := 48) (b := 57) (by have := htv c_; omega) (by decide) (by decide)] at c_65
              have hdc : dgB (tp c_) = false := c_65
              have hce : c_ = tkC tp tpd S.1 := by rw [← hcE]; exact (rn_ex (Or.inr hdc)).symm
              have hcg : S.1 < c_ := by rw [hce]; exact tkC_gt (by omega)
              refine lv_aload_n hx hb dX12_next_120 rfl (lv_at hl 0 rfl) ?_
              refine lv_aload_n hx hb dX12_next_121 rfl (lv_at hl 0 rfl) ?_
              refine va_get (D := D) (ci := 11) (v := .int (nI c_)) (C := RX12) (T := TX12) (N := 7) hx hb hts in_X12 hown hK hP 0 rfl rfl 2 (by decide) (hts _ q476) (fun _ h9 => h9) rfl dX12_next_122 ?_
              refine lv_aload_n hx hb dX12_next_125 rfl (lv_at hl 0 rfl) ?_
              refine va_get (D := D) (ci := 11) (v := .int (nI S.1)) (C := RX12) (T := TX12) (N := 7) hx hb hts in_X12 hown hK hP 0 rfl rfl 4 (by decide) (hts _ q478) (fun _ h9 => h9) rfl dX12_next_126 ?_
              refine wn_sub hx hb (by omega) dX12_next_129 ?_
              refine lv_iconst (v := nI 2) hx hb dX12_next_130 rfl ?_
              refine wn_gt (tgt := 138) hx hb (by omega) (by omega) dX12_next_131 (by decide) (fun c_131 => ?_) (fun c_131 => ?_)
              · have c_131n := Nat.not_le.mpr c_131
                refine lv_iconst (v := nI 5) hx hb dX12_next_138 rfl ?_
                refine va_put (D := D) (ci := 11) (v := .int (nI 5)) (ty := .int) (C := RX12) (T := TX12) (N := 7) hx hb hts in_X12 tyX12 tyX12_ok nmX12 hown hK hP hD hS 0 rfl rfl 3 (by decide) (hts _ q477) (fun _ h9 => h9) rfl (tyX12_ok 3 (by decide)) rfl rfl (Nat.le_of_ble_eq_true rfl) dX12_next_139 (fun H locs hP hD hS => ?_)
                have hP : va_P D vwCl [(r, .inr (11, [.ref a1, .int (nI tpd), .int (nI c_), .int (nI 5), .int (nI S.1), .int (nI (nmW tp S.1 c_)), .ref mg])), (a1, .inl (ca 1, 120, .inl (btF tp)))] H := hP
                have hD : va_D A [(r, .inr (11, [.ref a1, .int (nI tpd), .int (nI c_), .int (nI 5), .int (nI S.1), .int (nI (nmW tp S.1 c_)), .ref mg])), (a1, .inl (ca 1, 120, .inl (btF tp)))] := hD
                refine lv_goto (tgt := 198) hx hb dX12_next_142 (by decide) ?_
                obtain ⟨k1, k2, k3⟩ := tk_num (show S.1 < tpd by omega) hlt hdg
                have k3o := k3
                rw [← hce] at k2 k3; first | rw [if_pos (by omega)] at k2 | rw [if_neg (by omega)] at k2
                have w_17 : c_ = (psNext tp tpd S).1 := by first | with_reducible rfl | (first | exact psNx_2 | exact k1.symm | exact k3.symm | exact k3o.symm | exact hce | (rw [nmW_V hcg]; exact k3.symm) | (rw [ctk_n k2 k3]; first | rfl | decide))
                have w_18 : 5 = ctk (psNext tp tpd S) := by first | with_reducible rfl | (first | exact psNx_2 | exact k1.symm | exact k3.symm | exact k3o.symm | exact hce | (rw [nmW_V hcg]; exact k3.symm) | (rw [ctk_n k2 k3]; first | rfl | decide))
                have w_19 : S.1 = (psNext tp tpd S).2.1 := by first | with_reducible rfl | (first | exact psNx_2 | exact k1.symm | exact k3.symm | exact k3o.symm | exact hce | (rw [nmW_V hcg]; exact k3.symm) | (rw [ctk_n k2 k3]; first | rfl | decide))
                have w_20 : nI (nmW tp S.1 c_) = (psNext tp tpd S).2.2.2.1 := by first | with_reducible rfl | (first | exact psNx_2 | exact k1.symm | exact k3.symm | exact k3o.symm | exact hce | (rw [nmW_V hcg]; exact k3.symm) | (rw [ctk_n k2 k3]; first | rfl | decide))
                exact wr_vret () hx hb hr hlk hQ dX12_next_198 (wp_to (hP.sub [0, 1] rfl) (Eq.trans (congrArg (fun zx => ([(r, .inr (11, [.ref a1, .int (nI tpd), .int (nI zx), .int (nI 5), .int (nI S.1), .int (nI (nmW tp S.1 c_)), .ref mg])), (a1, .inl (ca 1, 120, .inl (btF tp)))] : va_W)) w_17) (Eq.trans (congrArg (fun zx => ([(r, .inr (11, [.ref a1, .int (nI tpd), .int (nI ((psNext tp tpd S).1)), .int (nI zx), .int (nI S.1), .int (nI (nmW tp S.1 c_)), .ref mg])), (a1, .inl (ca 1, 120, .inl (btF tp)))] : va_W)) w_18) (Eq.trans (congrArg (fun zx => ([(r, .inr (11, [.ref a1, .int (nI tpd), .int (nI ((psNext tp tpd S).1)), .int (nI (ctk (psNext tp tpd S))), .int (nI zx), .int (nI (nmW tp S.1 c_)), .ref mg])), (a1, .inl (ca 1, 120, .inl (btF tp)))] : va_W)) w_19) (congrArg (fun zx => ([(r, .inr (11, [.ref a1, .int (nI tpd), .int (nI ((psNext tp tpd S).1)), .int (nI (ctk (psNext tp tpd S))), .int (nI ((psNext tp tpd S).2.1)), .int zx, .ref mg])), (a1, .inl (ca 1, 120, .inl (btF tp)))] : va_W)) w_20))))) (wd_to (hD.sub [0, 1] (by decide) rfl) (Eq.trans (congrArg (fun zx => ([(r, .inr (11, [.ref a1, .int (nI tpd), .int (nI zx), .int (nI 5), .int (nI S.1), .int (nI (nmW tp S.1 c_)), .ref mg])), (a1, .inl (ca 1, 120, .inl (btF tp)))] : va_W)) w_17) (Eq.trans (congrArg (fun zx => ([(r, .inr (11, [.ref a1, .int (nI tpd), .int (nI ((psNext tp tpd S).1)), .int (nI zx), .int (nI S.1), .int (nI (nmW tp S.1 c_)), .ref mg])), (a1, .inl (ca 1, 120, .inl (btF tp)))] : va_W)) w_18) (Eq.trans (congrArg (fun zx => ([(r, .inr (11, [.ref a1, .int (nI tpd), .int (nI ((psNext tp tpd S).1)), .int (nI (ctk (psNext tp tpd S))), .int (nI zx), .int (nI (nmW tp S.1 c_)), .ref mg])), (a1, .inl (ca 1, 120, .inl (btF tp)))] : va_W)) w_19) (congrArg (fun zx => ([(r, .inr (11, [.ref a1, .int (nI tpd), .int (nI ((psNext tp tpd S).1)), .int (nI (ctk (psNext tp tpd S))), .int (nI ((psNext tp tpd S).2.1)), .int zx, .ref mg])), (a1, .inl (ca 1, 120, .inl (btF tp)))] : va_W)) w_20))))) hS (Nat.le_refl _) (Nat.le_refl _) trivial
              · have c_131n := Nat.not_lt.mpr c_131
                refine lv_iconst (v := nI 2) hx hb dX12_next_134 rfl ?_
                refine lv_goto (tgt := 139) hx hb dX12_next_135 (by decide) ?_
                refine va_put (D := D) (ci := 11) (v := .int (nI 2)) (ty := .int) (C := RX12) (T := TX12) (N := 7) hx hb hts in_X12 tyX12 tyX12_ok nmX12 hown hK hP hD hS 0 rfl rfl 3 (by decide) (hts _ q477) (fun _ h9 => h9) rfl (tyX12_ok 3 (by decide)) rfl rfl (Nat.le_of_ble_eq_true rfl) dX12_next_139 (fun H locs hP hD hS => ?_)
                have hP : va_P D vwCl [(r, .inr (11, [.ref a1, .int (nI tpd), .int (nI c_), .int (nI 2), .int (nI S.1), .int (nI (nmW tp S.1 c_)), .ref mg])), (a1, .inl (ca 1, 120, .inl (btF tp)))] H := hP
                have hD : va_D A [(r, .inr (11, [.ref a1, .int (nI tpd), .int (nI c_), .int (nI 2), .int (nI S.1), .int (nI (nmW tp S.1 c_)), .ref mg])), (a1, .inl (ca 1, 120, .inl (btF tp)))] := hD
                refine lv_goto (tgt := 198) hx hb dX12_next_142 (by decide) ?_
                obtain ⟨k1, k2, k3⟩ := tk_num (show S.1 < tpd by omega) hlt hdg
                have k3o := k3
                rw [← hce] at k2 k3; first | rw [if_pos (by omega)] at k2 | rw [if_neg (by omega)] at k2
                have w_21 : c_ = (psNext tp tpd S).1 := by first | with_reducible rfl | (first | exact psNx_2 | exact k1.symm | exact k3.symm | exact k3o.symm | exact hce | (rw [nmW_V hcg]; exact k3.symm) | (rw [ctk_n k2 k3]; first | rfl | decide))
                have w_22 : 2 = ctk (psNext tp tpd S) := by first | with_reducible rfl | (first | exact psNx_2 | exact k1.symm | exact k3.symm | exact k3o.symm | exact hce | (rw [nmW_V hcg]; exact k3.symm) | (rw [ctk_n k2 k3]; first | rfl | decide))
                have w_23 : S.1 = (psNext tp tpd S).2.1 := by first | with_reducible rfl | (first | exact psNx_2 | exact k1.symm | exact k3.symm | exact k3o.symm | exact hce | (rw [nmW_V hcg]; exact k3.symm) | (rw [ctk_n k2 k3]; first | rfl | decide))
                have w_24 : nI (nmW tp S.1 c_) = (psNext tp tpd S).2.2.2.1 := by first | with_reducible rfl | (first | exact psNx_2 | exact k1.symm | exact k3.symm | exact k3o.symm | exact hce | (rw [nmW_V hcg]; exact k3.symm) | (rw [ctk_n k2 k3]; first | rfl | decide))
                exact wr_vret () hx hb hr hlk hQ dX12_next_198 (wp_to (hP.sub [0, 1] rfl) (Eq.trans (congrArg (fun zx => ([(r, .inr (11, [.ref a1, .int (nI tpd), .int (nI zx), .int (nI 2), .int (nI S.1), .int (nI (nmW tp S.1 c_)), .ref mg])), (a1, .inl (ca 1, 120, .inl (btF tp)))] : va_W)) w_21) (Eq.trans (congrArg (fun zx => ([(r, .inr (11, [.ref a1, .int (nI tpd), .int (nI ((psNext tp tpd S).1)), .int (nI zx), .int (nI S.1), .int (nI (nmW tp S.1 c_)), .ref mg])), (a1, .inl (ca 1, 120, .inl (btF tp)))] : va_W)) w_22) (Eq.trans (congrArg (fun zx => ([(r, .inr (11, [.ref a1, .int (nI tpd), .int (nI ((psNext tp tpd S).1)), .int (nI (ctk (psNext tp tpd S))), .int (nI zx), .int (nI (nmW tp S.1 c_)), .ref mg])), (a1, .inl (ca 1, 120, .inl (btF tp)))] : va_W)) w_23) (congrArg (fun zx => ([(r, .inr (11, [.ref a1, .int (nI tpd), .int (nI ((psNext tp tpd S).1)), .int (nI (ctk (psNext tp tpd S))), .int (nI ((psNext tp tpd S).2.1)), .int zx, .ref mg])), (a1, .inl (ca 1, 120, .inl (btF tp)))] : va_W)) w_24))))) (wd_to (hD.sub [0, 1] (by decide) rfl) (Eq.trans (congrArg (fun zx => ([(r, .inr (11, [.ref a1, .int (nI tpd), .int (nI zx), .int (nI 2), .int (nI S.1), .int (nI (nmW tp S.1 c_)), .ref mg])), (a1, .inl (ca 1, 120, .inl (btF tp)))] : va_W)) w_21) (Eq.trans (congrArg (fun zx => ([(r, .inr (11, [.ref a1, .int (nI tpd), .int (nI ((psNext tp tpd S).1)), .int (nI zx), .int (nI S.1), .int (nI (nmW tp S.1 c_)), .ref mg])), (a1, .inl (ca 1, 120, .inl (btF tp)))] : va_W)) w_22) (Eq.trans (congrArg (fun zx => ([(r, .inr (11, [.ref a1, .int (nI tpd), .int (nI ((psNext tp tpd S).1)), .int (nI (ctk (psNext tp tpd S))), .int (nI zx), .int (nI (nmW tp S.1 c_)), .ref mg])), (a1, .inl (ca 1, 120, .inl (btF tp)))] : va_W)) w_23) (congrArg (fun zx => ([(r, .inr (11, [.ref a1, .int (nI tpd), .int (nI ((psNext tp tpd S).1)), .int (nI (ctk (psNext tp tpd S))), .int (nI ((psNext tp tpd S).2.1)), .int zx, .ref mg])), (a1, .inl (ca 1, 120, .inl (btF tp)))] : va_W)) w_24))))) hS (Nat.le_refl _) (Nat.le_refl _) trivial
            · rw [inB_nn (a := 48) (b := 57) (by have := htv c_; omega) (by decide) (by decide)] at c_65
              have hdc : dgB (tp c_) = true := c_65
              have hdi2 := dg_in hdc
              have hnl := nmW_le (c := S.1) (e := c_) htv
              refine lv_aload_n hx hb dX12_next_68 rfl (lv_at hl 0 rfl) ?_
              refine lv_aload_n hx hb dX12_next_69 rfl (lv_at hl 0 rfl) ?_
              refine va_get (D := D) (ci := 11) (v := .int (nI c_)) (C := RX12) (T := TX12) (N := 7) hx hb hts in_X12 hown hK hP 0 rfl rfl 2 (by decide) (hts _ q476) (fun _ h9 => h9) rfl dX12_next_70 ?_
              refine lv_aload_n hx hb dX12_next_73 rfl (lv_at hl 0 rfl) ?_
              refine va_get (D := D) (ci := 11) (v := .int (nI S.1)) (C := RX12) (T := TX12) (N := 7) hx hb hts in_X12 hown hK hP 0 rfl rfl 4 (by decide) (hts _ q478) (fun _ h9 => h9) rfl dX12_next_74 ?_
              refine wn_sub hx hb (by omega) dX12_next_77 ?_
              refine lv_iconst (v := nI 2) hx hb dX12_next_78 rfl ?_
              refine wn_ge (tgt := 100) hx hb (by omega) (by omega) dX12_next_79 (by decide) (fun c_79 => ?_) (fun c_79 => ?_)
              · have c_79n := Nat.not_lt.mpr c_79
                refine lv_aload_n hx hb dX12_next_100 rfl (lv_at hl 0 rfl) ?_
                refine va_get (D := D) (ci := 11) (v := .int (nI (nmW tp S.1 c_))) (C := RX12) (T := TX12) (N := 7) hx hb hts in_X12 hown hK hP 0 rfl rfl 5 (by decide) (hts _ q479) (fun _ h9 => h9) rfl dX12_next_101 ?_
                refine va_put (D := D) (ci := 11) (v := .int (nI (nmW tp S.1 c_))) (ty := .int) (C := RX12) (T := TX12) (N := 7) hx hb hts in_X12 tyX12 tyX12_ok nmX12 hown hK hP hD hS 0 rfl rfl 5 (by decide) (hts _ q479) (fun _ h9 => h9) rfl (tyX12_ok 5 (by decide)) rfl rfl (Nat.le_of_ble_eq_true rfl) dX12_next_104 (fun H locs hP hD hS => ?_)
                have hP : va_P D vwCl [(r, .inr (11, [.ref a1, .int (nI tpd), .int (nI c_), .int (nI (ctk S)), .int (nI S.1), .int (nI (nmW tp S.1 c_)), .ref mg])), (a1, .inl (ca 1, 120, .inl (btF tp)))] H := hP
                have hD : va_D A [(r, .inr (11, [.ref a1, .int (nI tpd), .int (nI c_), .int (nI (ctk S)), .int (nI S.1), .int (nI (nmW tp S.1 c_)), .ref mg])), (a1, .inl (ca 1, 120, .inl (btF tp)))] := hD
                refine lv_aload_n hx hb dX12_next_107 rfl (lv_at hl 0 rfl) ?_
                refine lv_dup hx hb dX12_next_108 rfl ?_
                refine va_get (D := D) (ci := 11) (v := .int (nI c_)) (C := RX12) (T := TX12) (N := 7) hx hb hts in_X12 hown hK hP 0 rfl rfl 2 (by decide) (hts _ q476) (fun _ h9 => h9) rfl dX12_next_109 ?_
                refine lv_iconst (v := nI 1) hx hb dX12_next_112 rfl ?_
                refine wn_add hx hb dX12_next_113 ?_
                refine va_put (D := D) (ci := 11) (v := .int (nI (c_ + 1))) (ty := .int) (C := RX12) (T := TX12) (N := 7) hx hb hts in_X12 tyX12 tyX12_ok nmX12 hown hK hP hD hS 0 rfl rfl 2 (by decide) (hts _ q476) (fun _ h9 => h9) rfl (tyX12_ok 2 (by decide)) rfl rfl (Nat.le_of_ble_eq_true rfl) dX12_next_114 (fun H locs hP hD hS => ?_)
                have hP : va_P D vwCl [(r, .inr (11, [.ref a1, .int (nI tpd), .int (nI (c_ + 1)), .int (nI (ctk S)), .int (nI S.1), .int (nI (nmW tp S.1 c_)), .ref mg])), (a1, .inl (ca 1, 120, .inl (btF tp)))] H := hP
                have hD : va_D A [(r, .inr (11, [.ref a1, .int (nI tpd), .int (nI (c_ + 1)), .int (nI (ctk S)), .int (nI S.1), .int (nI (nmW tp S.1 c_)), .ref mg])), (a1, .inl (ca 1, 120, .inl (btF tp)))] := hD
                refine lv_goto (tgt := 51) hx hb dX12_next_117 (by decide) ?_
                have w_25 : c_ + 1 = (c_ + 1) := by first | with_reducible rfl | (first | exact nmW_t hc1 (by omega) hdi2.1 | exact nmW_f hc1 (by omega))
                have w_26 : nmW tp S.1 c_ = nmW tp S.1 (c_ + 1) := by first | with_reducible rfl | (first | exact nmW_t hc1 (by omega) hdi2.1 | exact nmW_f hc1 (by omega))
                exact ih_51 (c_ + 1) (by omega) (by omega) (by first | (rw [← rn_st (by assumption) (by assumption)]; assumption) | (rw [rn_st hsl hdg]; exact (tk_num hsl hlt hdg).1.symm)) (by omega) H locs (wp_to (hP.sub [0, 1] rfl) (Eq.trans (congrArg (fun zx => ([(r, .inr (11, [.ref a1, .int (nI tpd), .int (nI zx), .int (nI (ctk S)), .int (nI S.1), .int (nI (nmW tp S.1 c_)), .ref mg])), (a1, .inl (ca 1, 120, .inl (btF tp)))] : va_W)) w_25) (congrArg (fun zx => ([(r, .inr (11, [.ref a1, .int (nI tpd), .int (nI ((c_ + 1))), .int (nI (ctk S)), .int (nI S.1), .int (nI zx), .ref mg])), (a1, .inl (ca 1, 120, .inl (btF tp)))] : va_W)) w_26))) (wd_to (hD.sub [0, 1] (by decide) rfl) (Eq.trans (congrArg (fun zx => ([(r, .inr (11, [.ref a1, .int (nI tpd), .int (nI zx), .int (nI (ctk S)), .int (nI S.1), .int (nI (nmW tp S.1 c_)), .ref mg])), (a1, .inl (ca 1, 120, .inl (btF tp)))] : va_W)) w_25) (congrArg (fun zx => ([(r, .inr (11, [.ref a1, .int (nI tpd), .int (nI ((c_ + 1))), .int (nI (ctk S)), .int (nI S.1), .int (nI zx), .ref mg])), (a1, .inl (ca 1, 120, .inl (btF tp)))] : va_W)) w_26))) hS ls (lv_to (lv_sub hl [0] rfl) rfl)
              · have c_79n := Nat.not_le.mpr c_79
                refine lv_bipush (v := nI 10) hx hb dX12_next_82 rfl ?_
                refine lv_aload_n hx hb dX12_next_84 rfl (lv_at hl 0 rfl) ?_
                refine va_get (D := D) (ci := 11) (v := .int (nI (nmW tp S.1 c_))) (C := RX12) (T := TX12) (N := 7) hx hb hts in_X12 hown hK hP 0 rfl rfl 5 (by decide) (hts _ q479) (fun _ h9 => h9) rfl dX12_next_85 ?_
                refine wn_mul hx hb dX12_next_88 ?_
                refine lv_aload_n hx hb dX12_next_89 rfl (lv_at hl 0 rfl) ?_
                refine rd_callV hF (m_X12_look_y l D ca r a1 tpd mg tp c_ (nI (ctk S)) (nI S.1) (nI (nmW tp S.1 c_)) (by first | assumption | omega) (by assumption) (by first | assumption | omega)) (cs_X12_look hts q505 ⟨by decide, by decide⟩) (KK_mv D ca) hKK (hP.sub [0, 1] rfl) (va_recv hK hP (ci := 11) (q0 := 0) rfl rfl) rfl hl.1 rfl (Nat.le_of_ble_eq_true rfl) dX12_next_90 ⟨Nat.zero_le _, Nat.zero_le _⟩ ?_
                refine wn_add hx hb dX12_next_93 ?_
                refine lv_bipush (v := nI 48) hx hb dX12_next_94 rfl ?_
                refine wn_sub hx hb (by omega) dX12_next_96 ?_
                refine lv_goto (tgt := 104) hx hb dX12_next_97 (by decide) ?_
                refine va_put (D := D) (ci := 11) (v := .int (nI (((10 * (nmW tp S.1 c_)) + (tp c_)) - 48))) (ty := .int) (C := RX12) (T := TX12) (N := 7) hx hb hts in_X12 tyX12 tyX12_ok nmX12 hown hK hP hD hS 0 rfl rfl 5 (by decide) (hts _ q479) (fun _ h9 => h9) rfl (tyX12_ok 5 (by decide)) rfl rfl (Nat.le_of_ble_eq_true rfl) dX12_next_104 (fun H locs hP hD hS => ?_)
                have hP : va_P D vwCl [(r, .inr (11, [.ref a1, .int (nI tpd), .int (nI c_), .int (nI (ctk S)), .int (nI S.1), .int (nI (((10 * (nmW tp S.1 c_)) + (tp c_)) - 48)), .ref mg])), (a1, .inl (ca 1, 120, .inl (btF tp)))] H := hP
                have hD : va_D A [(r, .inr (11, [.ref a1, .int (nI tpd), .int (nI c_), .int (nI (ctk S)), .int (nI S.1), .int (nI (((10 * (nmW tp S.1 c_)) + (tp c_)) - 48)), .ref mg])), (a1, .inl (ca 1, 120, .inl (btF tp)))] := hD
                refine lv_aload_n hx hb dX12_next_107 rfl (lv_at hl 0 rfl) ?_
                refine lv_dup hx hb dX12_next_108 rfl ?_
                refine va_get (D := D) (ci := 11) (v := .int (nI c_)) (C := RX12) (T := TX12) (N := 7) hx hb hts in_X12 hown hK hP 0 rfl rfl 2 (by decide) (hts _ q476) (fun _ h9 => h9) rfl dX12_next_109 ?_
                refine lv_iconst (v := nI 1) hx hb dX12_next_112 rfl ?_
                refine wn_add hx hb dX12_next_113 ?_
                refine va_put (D := D) (ci := 11) (v := .int (nI (c_ + 1))) (ty := .int) (C := RX12) (T := TX12) (N := 7) hx hb hts in_X12 tyX12 tyX12_ok nmX12 hown hK hP hD hS 0 rfl rfl 2 (by decide) (hts _ q476) (fun _ h9 => h9) rfl (tyX12_ok 2 (by decide)) rfl rfl (Nat.le_of_ble_eq_true rfl) dX12_next_114 (fun H locs hP hD hS => ?_)
                have hP : va_P D vwCl [(r, .inr (11, [.ref a1, .int (nI tpd), .int (nI (c_ + 1)), .int (nI (ctk S)), .int (nI S.1), .int (nI (((10 * (nmW tp S.1 c_)) + (tp c_)) - 48)), .ref mg])), (a1, .inl (ca 1, 120, .inl (btF tp)))] H := hP
                have hD : va_D A [(r, .inr (11, [.ref a1, .int (nI tpd), .int (nI (c_ + 1)), .int (nI (ctk S)), .int (nI S.1), .int (nI (((10 * (nmW tp S.1 c_)) + (tp c_)) - 48)), .ref mg])), (a1, .inl (ca 1, 120, .inl (btF tp)))] := hD
                refine lv_goto (tgt := 51) hx hb dX12_next_117 (by decide) ?_
                have w_27 : c_ + 1 = (c_ + 1) := by first | with_reducible rfl | (first | exact nmW_t hc1 (by omega) hdi2.1 | exact nmW_f hc1 (by omega))
                have w_28 : ((10 * (nmW tp S.1 c_)) + (tp c_)) - 48 = nmW tp S.1 (c_ + 1) := by first | with_reducible rfl | (first | exact nmW_t hc1 (by omega) hdi2.1 | exact nmW_f hc1 (by omega))
                exact ih_51 (c_ + 1) (by omega) (by omega) (by first | (rw [← rn_st (by assumption) (by assumption)]; assumption) | (rw [rn_st hsl hdg]; exact (tk_num hsl hlt hdg).1.symm)) (by omega) H locs (wp_to (hP.sub [0, 1] rfl) (Eq.trans (congrArg (fun zx => ([(r, .inr (11, [.ref a1, .int (nI tpd), .int (nI zx), .int (nI (ctk S)), .int (nI S.1), .int (nI (((10 * (nmW tp S.1 c_)) + (tp c_)) - 48)), .ref mg])), (a1, .inl (ca 1, 120, .inl (btF tp)))] : va_W)) w_27) (congrArg (fun zx => ([(r, .inr (11, [.ref a1, .int (nI tpd), .int (nI ((c_ + 1))), .int (nI (ctk S)), .int (nI S.1), .int (nI zx), .ref mg])), (a1, .inl (ca 1, 120, .inl (btF tp)))] : va_W)) w_28))) (wd_to (hD.sub [0, 1] (by decide) rfl) (Eq.trans (congrArg (fun zx => ([(r, .inr (11, [.ref a1, .int (nI tpd), .int (nI zx), .int (nI (ctk S)), .int (nI S.1), .int (nI (((10 * (nmW tp S.1 c_)) + (tp c_)) - 48)), .ref mg])), (a1, .inl (ca 1, 120, .inl (btF tp)))] : va_W)) w_27) (congrArg (fun zx => ([(r, .inr (11, [.ref a1, .int (nI tpd), .int (nI ((c_ + 1))), .int (nI (ctk S)), .int (nI S.1), .int (nI zx), .ref mg])), (a1, .inl (ca 1, 120, .inl (btF tp)))] : va_W)) w_28))) hS ls (lv_to (lv_sub hl [0] rfl) rfl)
          · refine rd_callV hF (m_X12_look_n l D ca r a1 tpd mg tp c_ (nI (ctk S)) (nI S.1) (nI (nmW tp S.1 c_)) (by first | assumption | omega) (by first | assumption | omega) (by omega)) (cs_X12_look hts q505 ⟨by decide, by decide⟩) (KK_mv D ca) hKK (hP.sub [0, 1] rfl) (va_recv hK hP (ci := 11) (q0 := 0) rfl rfl) rfl hl.1 rfl (Nat.le_of_ble_eq_true rfl) dX12_next_52 ⟨Nat.zero_le _, Nat.zero_le _⟩ ?_
            refine lv_i2l hx hb dX12_next_55 rfl ?_
            refine lv_ldc2 (v := 48) hx hb hown (hts _ q510) dX12_next_56 ?_
            refine lv_ldc2 (v := 57) hx hb hown (hts _ q511) dX12_next_59 ?_
            refine rd_callSN hF (m_X0_isIn l D ca (((-1000000)).toInt64) 48 57 ) (cn_X0_isIn hts hKK q512 ⟨by decide, by decide⟩) (K1_mv D ca) hK (hP.sub [] rfl) rfl hl.1 rfl (Nat.le_of_ble_eq_true rfl) dX12_next_62 ⟨Nat.zero_le _, Nat.zero_le _⟩ ?_
            refine wb_eq (tgt := 120) hx hb dX12_next_65 (by decide) (fun c_65 => ?_) (fun zh => by exact absurd zh (by decide))
            have hce : c_ = tkC tp tpd S.1 := by rw [← hcE]; exact (rn_ex (Or.inl (by omega))).symm
            have hcg : S.1 < c_ := by rw [hce]; exact tkC_gt (by omega)
            refine lv_aload_n hx hb dX12_next_120 rfl (lv_at hl 0 rfl) ?_
            refine lv_aload_n hx hb dX12_next_121 rfl (lv_at hl 0 rfl) ?_
            refine va_get (D := D) (ci := 11) (v := .int (nI c_)) (C := RX12) (T := TX12) (N := 7) hx hb hts in_X12 hown hK hP 0 rfl rfl 2 (by decide) (hts _ q476) (fun _ h9 => h9) rfl dX12_next_122 ?_
            refine lv_aload_n hx hb dX12_next_125 rfl (lv_at hl 0 rfl) ?_
            refine va_get (D := D) (ci := 11) (v := .int (nI S.1)) (C := RX12) (T := TX12) (N := 7) hx hb hts in_X12 hown hK hP 0 rfl rfl 4 (by decide) (hts _ q478) (fun _ h9 => h9) rfl dX12_next_126 ?_
            refine wn_sub hx hb (by omega) dX12_next_129 ?_
            refine lv_iconst (v := nI 2) hx hb dX12_next_130 rfl ?_
            refine wn_gt (tgt := 138) hx hb (by omega) (by omega) dX12_next_131 (by decide) (fun c_131 => ?_) (fun c_131 => ?_)
            · have c_131n := Nat.not_le.mpr c_131
              refine lv_iconst (v := nI 5) hx hb dX12_next_138 rfl ?_
              refine va_put (D := D) (ci := 11) (v := .int (nI 5)) (ty := .int) (C := RX12) (T := TX12) (N := 7) hx hb hts in_X12 tyX12 tyX12_ok nmX12 hown hK hP hD hS 0 rfl rfl 3 (by decide) (hts _ q477) (fun _ h9 => h9) rfl (tyX12_ok 3 (by decide)) rfl rfl (Nat.le_of_ble_eq_true rfl) dX12_next_139 (fun H locs hP hD hS => ?_)
              have hP : va_P D vwCl [(r, .inr (11, [.ref a1, .int (nI tpd), .int (nI c_), .int (nI 5), .int (nI S.1), .int (nI (nmW tp S.1 c_)), .ref mg])), (a1, .inl (ca 1, 120, .inl (btF tp)))] H := hP
              have hD : va_D A [(r, .inr (11, [.ref a1, .int (nI tpd), .int (nI c_), .int (nI 5), .int (nI S.1), .int (nI (nmW tp S.1 c_)), .ref mg])), (a1, .inl (ca 1, 120, .inl (btF tp)))] := hD
              refine lv_goto (tgt := 198) hx hb dX12_next_142 (by decide) ?_
              obtain ⟨k1, k2, k3⟩ := tk_num (show S.1 < tpd by omega) hlt hdg
              have k3o := k3
              rw [← hce] at k2 k3; first | rw [if_pos (by omega)] at k2 | rw [if_neg (by omega)] at k2
              have w_29 : c_ = (psNext tp tpd S).1 := by first | with_reducible rfl | (first | exact psNx_2 | exact k1.symm | exact k3.symm | exact k3o.symm | exact hce | (rw [nmW_V hcg]; exact k3.symm) | (rw [ctk_n k2 k3]; first | rfl | decide))
              have w_30 : 5 = ctk (psNext tp tpd S) := by first | with_reducible rfl | (first | exact psNx_2 | exact k1.symm | exact k3.symm | exact k3o.symm | exact hce | (rw [nmW_V hcg]; exact k3.symm) | (rw [ctk_n k2 k3]; first | rfl | decide))
              have w_31 : S.1 = (psNext tp tpd S).2.1 := by first | with_reducible rfl | (first | exact psNx_2 | exact k1.symm | exact k3.symm | exact k3o.symm | exact hce | (rw [nmW_V hcg]; exact k3.symm) | (rw [ctk_n k2 k3]; first | rfl | decide))
              have w_32 : nI (nmW tp S.1 c_) = (psNext tp tpd S).2.2.2.1 := by first | with_reducible rfl | (first | exact psNx_2 | exact k1.symm | exact k3.symm | exact k3o.symm | exact hce | (rw [nmW_V hcg]; exact k3.symm) | (rw [ctk_n k2 k3]; first | rfl | decide))
              exact wr_vret () hx hb hr hlk hQ dX12_next_198 (wp_to (hP.sub [0, 1] rfl) (Eq.trans (congrArg (fun zx => ([(r, .inr (11, [.ref a1, .int (nI tpd), .int (nI zx), .int (nI 5), .int (nI S.1), .int (nI (nmW tp S.1 c_)), .ref mg])), (a1, .inl (ca 1, 120, .inl (btF tp)))] : va_W)) w_29) (Eq.trans (congrArg (fun zx => ([(r, .inr (11, [.ref a1, .int (nI tpd), .int (nI ((psNext tp tpd S).1)), .int (nI zx), .int (nI S.1), .int (nI (nmW tp S.1 c_)), .ref mg])), (a1, .inl (ca 1, 120, .inl (btF tp)))] : va_W)) w_30) (Eq.trans (congrArg (fun zx => ([(r, .inr (11, [.ref a1, .int (nI tpd), .int (nI ((psNext tp tpd S).1)), .int (nI (ctk (psNext tp tpd S))), .int (nI zx), .int (nI (nmW tp S.1 c_)), .ref mg])), (a1, .inl (ca 1, 120, .inl (btF tp)))] : va_W)) w_31) (congrArg (fun zx => ([(r, .inr (11, [.ref a1, .int (nI tpd), .int (nI ((psNext tp tpd S).1)), .int (nI (ctk (psNext tp tpd S))), .int (nI ((psNext tp tpd S).2.1)), .int zx, .ref mg])), (a1, .inl (ca 1, 120, .inl (btF tp)))] : va_W)) w_32))))) (wd_to (hD.sub [0, 1] (by decide) rfl) (Eq.trans (congrArg (fun zx => ([(r, .inr (11, [.ref a1, .int (nI tpd), .int (nI zx), .int (nI 5), .int (nI S.1), .int (nI (nmW tp S.1 c_)), .ref mg])), (a1, .inl (ca 1, 120, .inl (btF tp)))] : va_W)) w_29) (Eq.trans (congrArg (fun zx => ([(r, .inr (11, [.ref a1, .int (nI tpd), .int (nI ((psNext tp tpd S).1)), .int (nI zx), .int (nI S.1), .int (nI (nmW tp S.1 c_)), .ref mg])), (a1, .inl (ca 1, 120, .inl (btF tp)))] : va_W)) w_30) (Eq.trans (congrArg (fun zx => ([(r, .inr (11, [.ref a1, .int (nI tpd), .int (nI ((psNext tp tpd S).1)), .int (nI (ctk (psNext tp tpd S))), .int (nI zx), .int (nI (nmW tp S.1 c_)), .ref mg])), (a1, .inl (ca 1, 120, .inl (btF tp)))] : va_W)) w_31) (congrArg (fun zx => ([(r, .inr (11, [.ref a1, .int (nI tpd), .int (nI ((psNext tp tpd S).1)), .int (nI (ctk (psNext tp tpd S))), .int (nI ((psNext tp tpd S).2.1)), .int zx, .ref mg])), (a1, .inl (ca 1, 120, .inl (btF tp)))] : va_W)) w_32))))) hS (Nat.le_refl _) (Nat.le_refl _) trivial
            · have c_131n := Nat.not_lt.mpr c_131
              refine lv_iconst (v := nI 2) hx hb dX12_next_134 rfl ?_
              refine lv_goto (tgt := 139) hx hb dX12_next_135 (by decide) ?_
              refine va_put (D := D) (ci := 11) (v := .int (nI 2)) (ty := .int) (C := RX12) (T := TX12) (N := 7) hx hb hts in_X12 tyX12 tyX12_ok nmX12 hown hK hP hD hS 0 rfl rfl 3 (by decide) (hts _ q477) (fun _ h9 => h9) rfl (tyX12_ok 3 (by decide)) rfl rfl (Nat.le_of_ble_eq_true rfl) dX12_next_139 (fun H locs hP hD hS => ?_)
              have hP : va_P D vwCl [(r, .inr (11, [.ref a1, .int (nI tpd), .int (nI c_), .int (nI 2), .int (nI S.1), .int (nI (nmW tp S.1 c_)), .ref mg])), (a1, .inl (ca 1, 120, .inl (btF tp)))] H := hP
              have hD : va_D A [(r, .inr (11, [.ref a1, .int (nI tpd), .int (nI c_), .int (nI 2), .int (nI S.1), .int (nI (nmW tp S.1 c_)), .ref mg])), (a1, .inl (ca 1, 120, .inl (btF tp)))] := hD
              refine lv_goto (tgt := 198) hx hb dX12_next_142 (by decide) ?_
              obtain ⟨k1, k2, k3⟩ := tk_num (show S.1 < tpd by omega) hlt hdg
              have k3o := k3
              rw [← hce] at k2 k3; first | rw [if_pos (by omega)] at k2 | rw [if_neg (by omega)] at k2
              have w_33 : c_ = (psNext tp tpd S).1 := by first | with_reducible rfl | (first | exact psNx_2 | exact k1.symm | exact k3.symm | exact k3o.symm | exact hce | (rw [nmW_V hcg]; exact k3.symm) | (rw [ctk_n k2 k3]; first | rfl | decide))
              have w_34 : 2 = ctk (psNext tp tpd S) := by first | with_reducible rfl | (first | exact psNx_2 | exact k1.symm | exact k3.symm | exact k3o.symm | exact hce | (rw [nmW_V hcg]; exact k3.symm) | (rw [ctk_n k2 k3]; first | rfl | decide))
              have w_35 : S.1 = (psNext tp tpd S).2.1 := by first | with_reducible rfl | (first | exact psNx_2 | exact k1.symm | exact k3.symm | exact k3o.symm | exact hce | (rw [nmW_V hcg]; exact k3.symm) | (rw [ctk_n k2 k3]; first | rfl | decide))
              have w_36 : nI (nmW tp S.1 c_) = (psNext tp tpd S).2.2.2.1 := by first | with_reducible rfl | (first | exact psNx_2 | exact k1.symm | exact k3.symm | exact k3o.symm | exact hce | (rw [nmW_V hcg]; exact k3.symm) | (rw [ctk_n k2 k3]; first | rfl | decide))
              exact wr_vret () hx hb hr hlk hQ dX12_next_198 (wp_to (hP.sub [0, 1] rfl) (Eq.trans (congrArg (fun zx => ([(r, .inr (11, [.ref a1, .int (nI tpd), .int (nI zx), .int (nI 2), .int (nI S.1), .int (nI (nmW tp S.1 c_)), .ref mg])), (a1, .inl (ca 1, 120, .inl (btF tp)))] : va_W)) w_33) (Eq.trans (congrArg (fun zx => ([(r, .inr (11, [.ref a1, .int (nI tpd), .int (nI ((psNext tp tpd S).1)), .int (nI zx), .int (nI S.1), .int (nI (nmW tp S.1 c_)), .ref mg])), (a1, .inl (ca 1, 120, .inl (btF tp)))] : va_W)) w_34) (Eq.trans (congrArg (fun zx => ([(r, .inr (11, [.ref a1, .int (nI tpd), .int (nI ((psNext tp tpd S).1)), .int (nI (ctk (psNext tp tpd S))), .int (nI zx), .int (nI (nmW tp S.1 c_)), .ref mg])), (a1, .inl (ca 1, 120, .inl (btF tp)))] : va_W)) w_35) (congrArg (fun zx => ([(r, .inr (11, [.ref a1, .int (nI tpd), .int (nI ((psNext tp tpd S).1)), .int (nI (ctk (psNext tp tpd S))), .int (nI ((psNext tp tpd S).2.1)), .int zx, .ref mg])), (a1, .inl (ca 1, 120, .inl (btF tp)))] : va_W)) w_36))))) (wd_to (hD.sub [0, 1] (by decide) rfl) (Eq.trans (congrArg (fun zx => ([(r, .inr (11, [.ref a1, .int (nI tpd), .int (nI zx), .int (nI 2), .int (nI S.1), .int (nI (nmW tp S.1 c_)), .ref mg])), (a1, .inl (ca 1, 120, .inl (btF tp)))] : va_W)) w_33) (Eq.trans (congrArg (fun zx => ([(r, .inr (11, [.ref a1, .int (nI tpd), .int (nI ((psNext tp tpd S).1)), .int (nI zx), .int (nI S.1), .int (nI (nmW tp S.1 c_)), .ref mg])), (a1, .inl (ca 1, 120, .inl (btF tp)))] : va_W)) w_34) (Eq.trans (congrArg (fun zx => ([(r, .inr (11, [.ref a1, .int (nI tpd), .int (nI ((psNext tp tpd S).1)), .int (nI (ctk (psNext tp tpd S))), .int (nI zx), .int (nI (nmW tp S.1 c_)), .ref mg])), (a1, .inl (ca 1, 120, .inl (btF tp)))] : va_W)) w_35) (congrArg (fun zx => ([(r, .inr (11, [.ref a1, .int (nI tpd), .int (nI ((psNext tp tpd S).1)), .int (nI (ctk (psNext tp tpd S))), .int (nI ((psNext tp tpd S).2.1)), .int zx, .ref mg])), (a1, .inl (ca 1, 120, .inl (btF tp)))] : va_W)) w_36))))) hS (Nat.le_refl _) (Nat.le_refl _) trivial
      have w_37 : 0 = nmW tp S.1 S.1 := by first | with_reducible rfl | (exact nmW_0)
      exact lp_51 ((tpd - S.1) + 1) S.1 (by omega) (by omega) (by first | (rw [← rn_st (by assumption) (by assumption)]; assumption) | (rw [rn_st hsl hdg]; exact (tk_num hsl hlt hdg).1.symm)) (by omega) H locs (wp_to (hP.sub [0, 1] rfl) (congrArg (fun zx => ([(r, .inr (11, [.ref a1, .int (nI tpd), .int (nI S.1), .int (nI (ctk S)), .int (nI S.1), .int (nI zx), .ref mg])), (a1, .inl (ca 1, 120, .inl (btF tp)))] : va_W)) w_37)) (wd_to (hD.sub [0, 1] (by decide) rfl) (congrArg (fun zx => ([(r, .inr (11, [.ref a1, .int (nI tpd), .int (nI S.1), .int (nI (ctk S)), .int (nI S.1), .int (nI zx), .ref mg])), (a1, .inl (ca 1, 120, .inl (btF tp)))] : va_W)) w_37)) hS ls (lv_to (lv_sub hl [1] rfl) rfl)
  · refine lv_aload_n hx hb dX12_next_0 rfl (lv_at hl 0 rfl) ?_
    refine lv_aload_n hx hb dX12_next_1 rfl (lv_at hl 0 rfl) ?_
    refine va_get (D := D) (ci := 11) (v := .int (nI S.1)) (C := RX12) (T := TX12) (N := 7) hx hb hts in_X12 hown hK hP 0 rfl rfl 2 (by decide) (hts _ q476) (fun _ h9 => h9) rfl dX12_next_2 ?_
    refine va_put (D := D) (ci := 11) (v := .int (nI S.1)) (ty := .int) (C := RX12) (T := TX12) (N := 7) hx hb hts in_X12 tyX12 tyX12_ok nmX12 hown hK hP hD hS 0 rfl rfl 4 (by decide) (hts _ q478) (fun _ h9 => h9) rfl (tyX12_ok 4 (by decide)) rfl rfl (Nat.le_of_ble_eq_true rfl) dX12_next_5 (fun H locs hP hD hS => ?_)
    have hP : va_P D vwCl [(r, .inr (11, [.ref a1, .int (nI tpd), .int (nI S.1), .int (nI (ctk S)), .int (nI S.1), .int S.2.2.2.1, .ref mg])), (a1, .inl (ca 1, 120, .inl (btF tp)))] H := hP
    have hD : va_D A [(r, .inr (11, [.ref a1, .int (nI tpd), .int (nI S.1), .int (nI (ctk S)), .int (nI S.1), .int S.2.2.2.1, .ref mg])), (a1, .inl (ca 1, 120, .inl (btF tp)))] := hD
    refine lv_aload_n hx hb dX12_next_8 rfl (lv_at hl 0 rfl) ?_
    refine rd_callV hF (m_X12_look_n l D ca r a1 tpd mg tp S.1 (nI (ctk S)) (nI S.1) S.2.2.2.1 (by first | assumption | omega) (by first | assumption | omega) (by omega)) (cs_X12_look hts q505 ⟨by decide, by decide⟩) (KK_mv D ca) hKK (hP.sub [0, 1] rfl) (va_recv hK hP (ci := 11) (q0 := 0) rfl rfl) rfl hl.1 rfl (Nat.le_of_ble_eq_true rfl) dX12_next_9 ⟨Nat.zero_le _, Nat.zero_le _⟩ ?_
    refine lv_istore_n (lv' := [(1, .int ((-1000000))), (0, .ref r)]) hx hb dX12_next_12 rfl hl (by decide) rfl (fun ls hl => ?_)
    refine lv_aload_n hx hb dX12_next_13 rfl (lv_at hl 1 rfl) ?_
    refine lv_iload_n hx hb dX12_next_14 rfl (lv_at hl 0 rfl) ?_
    refine va_put (D := D) (ci := 11) (v := .int ((-1000000))) (ty := .int) (C := RX12) (T := TX12) (N := 7) hx hb hts in_X12 tyX12 tyX12_ok nmX12 hown hK hP hD hS 0 rfl rfl 5 (by decide) (hts _ q479) (fun _ h9 => h9) rfl (tyX12_ok 5 (by decide)) rfl rfl (Nat.le_of_ble_eq_true rfl) dX12_next_15 (fun H locs hP hD hS => ?_)
    have hP : va_P D vwCl [(r, .inr (11, [.ref a1, .int (nI tpd), .int (nI S.1), .int (nI (ctk S)), .int (nI S.1), .int ((-1000000)), .ref mg])), (a1, .inl (ca 1, 120, .inl (btF tp)))] H := hP
    have hD : va_D A [(r, .inr (11, [.ref a1, .int (nI tpd), .int (nI S.1), .int (nI (ctk S)), .int (nI S.1), .int ((-1000000)), .ref mg])), (a1, .inl (ca 1, 120, .inl (btF tp)))] := hD
    refine lv_iload_n hx hb dX12_next_18 rfl (lv_at hl 0 rfl) ?_
    refine lv_ldc (v := (-1000000)) hx hb hown (hts _ q509) dX12_next_19 ?_
    refine lv_icmp_ne (tgt := 32) hx hb dX12_next_21 (by decide) (fun zh => by first | exact absurd rfl zh | exact absurd zh (by simp)) (fun c_21 => ?_)
    refine lv_aload_n hx hb dX12_next_24 rfl (lv_at hl 1 rfl) ?_
    refine lv_iconst (v := nI 0) hx hb dX12_next_25 rfl ?_
    refine va_put (D := D) (ci := 11) (v := .int (nI 0)) (ty := .int) (C := RX12) (T := TX12) (N := 7) hx hb hts in_X12 tyX12 tyX12_ok nmX12 hown hK hP hD hS 0 rfl rfl 3 (by decide) (hts _ q477) (fun _ h9 => h9) rfl (tyX12_ok 3 (by decide)) rfl rfl (Nat.le_of_ble_eq_true rfl) dX12_next_26 (fun H locs hP hD hS => ?_)
    have hP : va_P D vwCl [(r, .inr (11, [.ref a1, .int (nI tpd), .int (nI S.1), .int (nI 0), .int (nI S.1), .int ((-1000000)), .ref mg])), (a1, .inl (ca 1, 120, .inl (btF tp)))] H := hP
    have hD : va_D A [(r, .inr (11, [.ref a1, .int (nI tpd), .int (nI S.1), .int (nI 0), .int (nI S.1), .int ((-1000000)), .ref mg])), (a1, .inl (ca 1, 120, .inl (btF tp)))] := hD
    refine lv_goto (tgt := 198) hx hb dX12_next_29 (by decide) ?_
    obtain ⟨k1, k2, k3⟩ := tk_end (tp := tp) (show tpd ≤ S.1 by omega)
    have k3o := k3
    have w_38 : S.1 = (psNext tp tpd S).1 := by first | with_reducible rfl | (first | exact psNx_2 | exact k1.symm | exact k3.symm | exact k3o.symm | exact hce | (rw [nmW_V hcg]; exact k3.symm) | (rw [ctk_n k2 k3]; first | rfl | decide))
    have w_39 : 0 = ctk (psNext tp tpd S) := by first | with_reducible rfl | (first | exact psNx_2 | exact k1.symm | exact k3.symm | exact k3o.symm | exact hce | (rw [nmW_V hcg]; exact k3.symm) | (rw [ctk_n k2 k3]; first | rfl | decide))
    have w_40 : S.1 = (psNext tp tpd S).2.1 := by first | with_reducible rfl | (first | exact psNx_2 | exact k1.symm | exact k3.symm | exact k3o.symm | exact hce | (rw [nmW_V hcg]; exact k3.symm) | (rw [ctk_n k2 k3]; first | rfl | decide))
    have w_41 : (-1000000) = (psNext tp tpd S).2.2.2.1 := by first | with_reducible rfl | (first | exact psNx_2 | exact k1.symm | exact k3.symm | exact k3o.symm | exact hce | (rw [nmW_V hcg]; exact k3.symm) | (rw [ctk_n k2 k3]; first | rfl | decide))
    exact wr_vret () hx hb hr hlk hQ dX12_next_198 (wp_to (hP.sub [0, 1] rfl) (Eq.trans (congrArg (fun zx => ([(r, .inr (11, [.ref a1, .int (nI tpd), .int (nI zx), .int (nI 0), .int (nI S.1), .int ((-1000000)), .ref mg])), (a1, .inl (ca 1, 120, .inl (btF tp)))] : va_W)) w_38) (Eq.trans (congrArg (fun zx => ([(r, .inr (11, [.ref a1, .int (nI tpd), .int (nI ((psNext tp tpd S).1)), .int (nI zx), .int (nI S.1), .int ((-1000000)), .ref mg])), (a1, .inl (ca 1, 120, .inl (btF tp)))] : va_W)) w_39) (Eq.trans (congrArg (fun zx => ([(r, .inr (11, [.ref a1, .int (nI tpd), .int (nI ((psNext tp tpd S).1)), .int (nI (ctk (psNext tp tpd S))), .int (nI zx), .int ((-1000000)), .ref mg])), (a1, .inl (ca 1, 120, .inl (btF tp)))] : va_W)) w_40) (congrArg (fun zx => ([(r, .inr (11, [.ref a1, .int (nI tpd), .int (nI ((psNext tp tpd S).1)), .int (nI (ctk (psNext tp tpd S))), .int (nI ((psNext tp tpd S).2.1)), .int zx, .ref mg])), (a1, .inl (ca 1, 120, .inl (btF tp)))] : va_W)) w_41))))) (wd_to (hD.sub [0, 1] (by decide) rfl) (Eq.trans (congrArg (fun zx => ([(r, .inr (11, [.ref a1, .int (nI tpd), .int (nI zx), .int (nI 0), .int (nI S.1), .int ((-1000000)), .ref mg])), (a1, .inl (ca 1, 120, .inl (btF tp)))] : va_W)) w_38) (Eq.trans (congrArg (fun zx => ([(r, .inr (11, [.ref a1, .int (nI tpd), .int (nI ((psNext tp tpd S).1)), .int (nI zx), .int (nI S.1), .int ((-1000000)), .ref mg])), (a1, .inl (ca 1, 120, .inl (btF tp)))] : va_W)) w_39) (Eq.trans (congrArg (fun zx => ([(r, .inr (11, [.ref a1, .int (nI tpd), .int (nI ((psNext tp tpd S).1)), .int (nI (ctk (psNext tp tpd S))), .int (nI zx), .int ((-1000000)), .ref mg])), (a1, .inl (ca 1, 120, .inl (btF tp)))] : va_W)) w_40) (congrArg (fun zx => ([(r, .inr (11, [.ref a1, .int (nI tpd), .int (nI ((psNext tp tpd S).1)), .int (nI (ctk (psNext tp tpd S))), .int (nI ((psNext tp tpd S).2.1)), .int zx, .ref mg])), (a1, .inl (ca 1, 120, .inl (btF tp)))] : va_W)) w_41))))) hS (Nat.le_refl _) (Nat.le_refl _) trivial
