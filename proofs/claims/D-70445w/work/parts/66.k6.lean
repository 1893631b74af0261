set_option maxRecDepth 100000
set_option maxHeartbeats 4000000 in
theorem m_X2_init (l : Launch) (D : va_G) (ca : Nat → ClassId) (tr : Nat) (sz : Nat)  : Met l yX2_init (ws_ yX2_init cX2_init 1 none) (rmC 1 1 16) (PcA (KK D ca) D [.ref tr] [(tr, .inr (2, [.null, .int (nI 0)]))] sz) (QvA D (fun (zu : Nat) => True) (fun zu => [(tr, .inr (2, [.ref zu, .int (nI 0)])), (zu, .inl (ca 0, 16, .inl (dv (fun _ => 0))))]) (va_A [(tr, .inr (2, [.null, .int (nI 0)]))] sz)) 1 16 (va_A [(tr, .inr (2, [.null, .int (nI 0)]))] sz) := by
  refine wr_head (y := yX2_init) (n := 1) (av := [.ref tr]) (Qc := fun A => (QvA D (fun (zu : Nat) => True) (fun zu => [(tr, .inr (2, [.ref zu, .int (nI 0)])), (zu, .inl (ca 0, 16, .inl (dv (fun _ => 0))))]) A)) (by decide) (Nat.le_of_ble_eq_true rfl) ?_
  intro zp ze zs zm za zb zt zc ls zQ A H locs hx hb hml hr hlk hown hts hnm hK hP hD hS hA hl hQ
  have hown : zs.vm.findClass RX2 = some zm.cls := hown
  have hl : lv_has ls 1 [(0, .ref tr)] := hl
  have hF : CallFix zp zm zc cX2_init 1 zs za lw_all RX2 := ⟨hx, hb, hml, hown, hts⟩
  have hKK := hK
  have hK : K1 D ca zs := hKK.1
  refine lv_aload_n hx hb dX2_init_0 rfl (lv_at hl 0 rfl) ?_
  refine W.objInit hx hb hown (hts _ q199) (hts _ q97) (hts _ q98) rfl (hl.1.trans hml.symm) rfl dX2_init_1 (by decide) (Nat.le_of_ble_eq_true rfl) ?_
  refine W.eq (g2 := F0 zm 4 ls []) rfl ?_
  refine lv_aload_n hx hb dX2_init_4 rfl (lv_at hl 0 rfl) ?_
  refine lv_bipush (v := nI 16) hx hb dX2_init_5 rfl ?_
  have hca0 : zs.vm.findClass ("[" ++ FieldType.int.toString) = some (ca 0) := (hK.2 0 (ca 0, .int) rfl).2
  refine mk_newa (ca := ca) (atype := .int) (ty := .int) (t0 := 0) (N := 16) (a0 := (16, .inl (dv (fun _ => 0)))) hx hb (hts _ q192) rfl hca0 hP hD hS hA (nw_int _ _) (by first | decide | omega) (by first | decide | (show _ * 4 ≤ _; omega)) (by first | decide | (show _ ≤ _; simp only [rmC]; omega)) (by first | decide | (show _ ≤ _; simp only [rmC]; omega)) dX2_init_7 (fun nw_7 H hP hD hS => ?_)
  have hP : va_P D vwCl [(tr, .inr (2, [.null, .int (nI 0)])), (nw_7, .inl (ca 0, 16, .inl (dv (fun _ => 0))))] H := hP
  have hD : va_D A [(tr, .inr (2, [.null, .int (nI 0)])), (nw_7, .inl (ca 0, 16, .inl (dv (fun _ => 0))))] := hD
  refine va_putF (D := D) (ci := 2) (v := .ref nw_7) (ty := tyX2 0) (C := RX2) (T := TX2) (N := 2) hx hb hts in_X2 tyX2 tyX2_ok nmX2 hown hK hP hD hS 0 rfl rfl 0 (by decide) (hts _ q200) (fun _ h9 => h9) rfl hnm rfl (tyX2_ok 0 (by decide)) rfl rfl (Nat.le_of_ble_eq_true rfl) dX2_init_9 (fun H locs hP hD hS => ?_)
  have hP : va_P D vwCl [(tr, .inr (2, [.ref nw_7, .int (nI 0)])), (nw_7, .inl (ca 0, 16, .inl (dv (fun _ => 0))))] H := hP
  have hD : va_D A [(tr, .inr (2, [.ref nw_7, .int (nI 0)])), (nw_7, .inl (ca 0, 16, .inl (dv (fun _ => 0))))] := hD
  exact wr_vret (nw_7) hx hb hr hlk hQ dX2_init_12 (wp_to (hP.sub [0, 1] rfl) rfl) (wd_to (hD.sub [0, 1] (by decide) rfl) rfl) hS (by first | decide | omega) (by first | decide | omega) trivial
