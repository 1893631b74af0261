set_option maxRecDepth 100000
set_option maxHeartbeats 4000000 in
theorem m_X3_init_X4 (l : Launch) (D : va_G) (ca : Nat → ClassId) (h : Nat) (n : Int32) (sz : Nat)  : Met l yX3_init (ws_ yX3_init cX3_init 2 none) (rmL 1) (PcA (KK D ca) D [.ref h, .int n] [(h, .inr (3, [.int (nI 0)]))] sz) (QvA D (fun  (_ : Unit) => True) (fun _ => [(h, .inr (3, [.int n]))]) (va_A [(h, .inr (3, [.int (nI 0)]))] sz)) 0 0 (va_A [(h, .inr (3, [.int (nI 0)]))] sz) := by
  refine wr_head (y := yX3_init) (n := 2) (av := [.ref h, .int n]) (Qc := fun A => (QvA D (fun  (_ : Unit) => True) (fun _ => [(h, .inr (3, [.int n]))]) A)) (by decide) (Nat.le_of_ble_eq_true rfl) ?_
  intro zp ze zs zm za zb zt zc ls zQ A H locs hx hb hml hr hlk hown hts hnm hK hP hD hS hA hl hQ
  have hown : zs.vm.findClass RX3 = some zm.cls := hown
  have hl : lv_has ls 2 [(0, .ref h), (1, .int n)] := hl
  have hF : CallFix zp zm zc cX3_init 2 zs za lw_all RX3 := ⟨hx, hb, hml, hown, hts⟩
  have hKK := hK
  have hK : K1 D ca zs := hKK.1
  refine lv_aload_n hx hb dX3_init_0 rfl (lv_at hl 0 rfl) ?_
  refine W.objInit hx hb hown (hts _ q219) (hts _ q97) (hts _ q98) rfl (hl.1.trans hml.symm) rfl dX3_init_1 (by decide) (Nat.le_of_ble_eq_true rfl) ?_
  refine W.eq (g2 := F0 zm 4 ls []) rfl ?_
  refine lv_aload_n hx hb dX3_init_4 rfl (lv_at hl 0 rfl) ?_
  refine lv_iload_n hx hb dX3_init_5 rfl (lv_at hl 1 rfl) ?_
  refine va_putF (D := D) (ci := 3) (v := .int n) (ty := .int) (C := RX4) (T := TX4) (N := 1) hx hb hts in_X4 tyX4 tyX4_ok nmX4 hown hK hP hD hS 0 rfl rfl 0 (by decide) (hts _ q220) (fun _ h9 => h9) rfl hnm rfl (tyX4_ok 0 (by decide)) rfl rfl (Nat.le_of_ble_eq_true rfl) dX3_init_6 (fun H locs hP hD hS => ?_)
  have hP : va_P D vwCl [(h, .inr (3, [.int n]))] H := hP
  have hD : va_D A [(h, .inr (3, [.int n]))] := hD
  exact wr_vret () hx hb hr hlk hQ dX3_init_9 (wp_to (hP.sub [0] rfl) rfl) (wd_to (hD.sub [0] (by decide) rfl) rfl) hS (Nat.le_refl _) (Nat.le_refl _) trivial
set_option maxHeartbeats 4000000 in
theorem m_X3_init_X5 (l : Launch) (D : va_G) (ca : Nat → ClassId) (h : Nat) (n : Int32) (sz : Nat)  : Met l yX3_init (ws_ yX3_init cX3_init 2 none) (rmL 1) (PcA (KK D ca) D [.ref h, .int n] [(h, .inr (4, [.int (nI 0)]))] sz) (QvA D (fun  (_ : Unit) => True) (fun _ => [(h, .inr (4, [.int n]))]) (va_A [(h, .inr (4, [.int (nI 0)]))] sz)) 0 0 (va_A [(h, .inr (4, [.int (nI 0)]))] sz) := by
  refine wr_head (y := yX3_init) (n := 2) (av := [.ref h, .int n]) (Qc := fun A => (QvA D (fun  (_ : Unit) => True) (fun _ => [(h, .inr (4, [.int n]))]) A)) (by decide) (Nat.le_of_ble_eq_true rfl) ?_
  intro zp ze zs zm za zb zt zc ls zQ A H locs hx hb hml hr hlk hown hts hnm hK hP hD hS hA hl hQ
  have hown : zs.vm.findClass RX3 = some zm.cls := hown
  have hl : lv_has ls 2 [(0, .ref h), (1, .int n)] := hl
  have hF : CallFix zp zm zc cX3_init 2 zs za lw_all RX3 := ⟨hx, hb, hml, hown, hts⟩
  have hKK := hK
  have hK : K1 D ca zs := hKK.1
  refine lv_aload_n hx hb dX3_init_0 rfl (lv_at hl 0 rfl) ?_
  refine W.objInit hx hb hown (hts _ q219) (hts _ q97) (hts _ q98) rfl (hl.1.trans hml.symm) rfl dX3_init_1 (by decide) (Nat.le_of_ble_eq_true rfl) ?_
  refine W.eq (g2 := F0 zm 4 ls []) rfl ?_
  refine lv_aload_n hx hb dX3_init_4 rfl (lv_at hl 0 rfl) ?_
  refine lv_iload_n hx hb dX3_init_5 rfl (lv_at hl 1 rfl) ?_
  refine va_putF (D := D) (ci := 4) (v := .int n) (ty := .int) (C := RX5) (T := TX5) (N := 1) hx hb hts in_X5 tyX5 tyX5_ok nmX5 hown hK hP hD hS 0 rfl rfl 0 (by decide) (hts _ q220) (fun _ h9 => h9) rfl hnm rfl (tyX5_ok 0 (by decide)) rfl rfl (Nat.le_of_ble_eq_true rfl) dX3_init_6 (fun H locs hP hD hS => ?_)
  have hP : va_P D vwCl [(h, .inr (4, [.int n]))] H := hP
  have hD : va_D A [(h, .inr (4, [.int n]))] := hD
  exact wr_vret () hx hb hr hlk hQ dX3_init_9 (wp_to (hP.sub [0] rfl) rfl) (wd_to (hD.sub [0] (by decide) rfl) rfl) hS (Nat.le_refl _) (Nat.le_refl _) trivial
set_option maxHeartbeats 4000000 in
theorem m_X3_init_X6 (l : Launch) (D : va_G) (ca : Nat → ClassId) (h : Nat) (n : Int32) (sz : Nat)  : Met l yX3_init (ws_ yX3_init cX3_init 2 none) (rmL 1) (PcA (KK D ca) D [.ref h, .int n] [(h, .inr (5, [.int (nI 0)]))] sz) (QvA D (fun  (_ : Unit) => True) (fun _ => [(h, .inr (5, [.int n]))]) (va_A [(h, .inr (5, [.int (nI 0)]))] sz)) 0 0 (va_A [(h, .inr (5, [.int (nI 0)]))] sz) := by
  refine wr_head (y := yX3_init) (n := 2) (av := [.ref h, .int n]) (Qc := fun A => (QvA D (fun  (_ : Unit) => True) (fun _ => [(h, .inr (5, [.int n]))]) A)) (by decide) (Nat.le_of_ble_eq_true rfl) ?_
  intro zp ze zs zm za zb zt zc ls zQ A H locs hx hb hml hr hlk hown hts hnm hK hP hD hS hA hl hQ
  have hown : zs.vm.findClass RX3 = some zm.cls := hown
  have hl : lv_has ls 2 [(0, .ref h), (1, .int n)] := hl
  have hF : CallFix zp zm zc cX3_init 2 zs za lw_all RX3 := ⟨hx, hb, hml, hown, hts⟩
  have hKK := hK
  have hK : K1 D ca zs := hKK.1
  refine lv_aload_n hx hb dX3_init_0 rfl (lv_at hl 0 rfl) ?_
  refine W.objInit hx hb hown (hts _ q219) (hts _ q97) (hts _ q98) rfl (hl.1.trans hml.symm) rfl dX3_init_1 (by decide) (Nat.le_of_ble_eq_true rfl) ?_
  refine W.eq (g2 := F0 zm 4 ls []) rfl ?_
  refine lv_aload_n hx hb dX3_init_4 rfl (lv_at hl 0 rfl) ?_
  refine lv_iload_n hx hb dX3_init_5 rfl (lv_at hl 1 rfl) ?_
  refine va_putF (D := D) (ci := 5) (v := .int n) (ty := .int) (C := RX6) (T := TX6) (N := 1) hx hb hts in_X6 tyX6 tyX6_ok nmX6 hown hK hP hD hS 0 rfl rfl 0 (by decide) (hts _ q220) (fun _ h9 => h9) rfl hnm rfl (tyX6_ok 0 (by decide)) rfl rfl (Nat.le_of_ble_eq_true rfl) dX3_init_6 (fun H locs hP hD hS => ?_)
  have hP : va_P D vwCl [(h, .inr (5, [.int n]))] H := hP
  have hD : va_D A [(h, .inr (5, [.int n]))] := hD
  exact wr_vret () hx hb hr hlk hQ dX3_init_9 (wp_to (hP.sub [0] rfl) rfl) (wd_to (hD.sub [0] (by decide) rfl) rfl) hS (Nat.le_refl _) (Nat.le_refl _) trivial
set_option maxHeartbeats 4000000 in
theorem m_X3_init_X7 (l : Launch) (D : va_G) (ca : Nat → ClassId) (h : Nat) (n : Int32) (sz : Nat)  : Met l yX3_init (ws_ yX3_init cX3_init 2 none) (rmL 1) (PcA (KK D ca) D [.ref h, .int n] [(h, .inr (6, [.int (nI 0)]))] sz) (QvA D (fun  (_ : Unit) => True) (fun _ => [(h, .inr (6, [.int n]))]) (va_A [(h, .inr (6, [.int (nI 0)]))] sz)) 0 0 (va_A [(h, .inr (6, [.int (nI 0)]))] sz) := by
  refine wr_head (y := yX3_init) (n := 2) (av := [.ref h, .int n]) (Qc := fun A => (QvA D (fun  (_ : Unit) => True) (fun _ => [(h, .inr (6, [.int n]))]) A)) (by decide) (Nat.le_of_ble_eq_true rfl) ?_
  intro zp ze zs zm za zb zt zc ls zQ A H locs hx hb hml hr hlk hown hts hnm hK hP hD hS hA hl hQ
  have hown : zs.vm.findClass RX3 = some zm.cls := hown
  have hl : lv_has ls 2 [(0, .ref h), (1, .int n)] := hl
  have hF : CallFix zp zm zc cX3_init 2 zs za lw_all RX3 := ⟨hx, hb, hml, hown, hts⟩
  have hKK := hK
  have hK : K1 D ca zs := hKK.1
  refine lv_aload_n hx hb dX3_init_0 rfl (lv_at hl 0 rfl) ?_
  refine W.objInit hx hb hown (hts _ q219) (hts _ q97) (hts _ q98) rfl (hl.1.trans hml.symm) rfl dX3_init_1 (by decide) (Nat.le_of_ble_eq_true rfl) ?_
  refine W.eq (g2 := F0 zm 4 ls []) rfl ?_
  refine lv_aload_n hx hb dX3_init_4 rfl (lv_at hl 0 rfl) ?_
  refine lv_iload_n hx hb dX3_init_5 rfl (lv_at hl 1 rfl) ?_
  refine va_putF (D := D) (ci := 6) (v := .int n) (ty := .int) (C := RX7) (T := TX7) (N := 1) hx hb hts in_X7 tyX7 tyX7_ok nmX7 hown hK hP hD hS 0 rfl rfl 0 (by decide) (hts _ q220) (fun _ h9 => h9) rfl hnm rfl (tyX7_ok 0 (by decide)) rfl rfl (Nat.le_of_ble_eq_true rfl) dX3_init_6 (fun H locs hP hD hS => ?_)
  have hP : va_P D vwCl [(h, .inr (6, [.int n]))] H := hP
  have hD : va_D A [(h, .inr (6, [.int n]))] := hD
  exact wr_vret () hx hb hr hlk hQ dX3_init_9 (wp_to (hP.sub [0] rfl) rfl) (wd_to (hD.sub [0] (by decide) rfl) rfl) hS (Nat.le_refl _) (Nat.le_refl _) trivial
set_option maxHeartbeats 4000000 in
theorem m_X3_init_X8 (l : Launch) (D : va_G) (ca : Nat → ClassId) (h : Nat) (n : Int32) (sz : Nat)  : Met l yX3_init (ws_ yX3_init cX3_init 2 none) (rmL 1) (PcA (KK D ca) D [.ref h, .int n] [(h, .inr (7, [.int (nI 0)]))] sz) (QvA D (fun  (_ : Unit) => True) (fun _ => [(h, .inr (7, [.int n]))]) (va_A [(h, .inr (7, [.int (nI 0)]))] sz)) 0 0 (va_A [(h, .inr (7, [.int (nI 0)]))] sz) := by
  refine wr_head (y := yX3_init) (n := 2) (av := [.ref h, .int n]) (Qc := fun A => (QvA D (fun  (_ : Unit) => True) (fun _ => [(h, .inr (7, [.int n]))]) A)) (by decide) (Nat.le_of_ble_eq_true rfl) ?_
  intro zp ze zs zm za zb zt zc ls zQ A H locs hx hb hml hr hlk hown hts hnm hK hP hD hS hA hl hQ
  have hown : zs.vm.findClass RX3 = some zm.cls := hown
  have hl : lv_has ls 2 [(0, .ref h), (1, .int n)] := hl
  have hF : CallFix zp zm zc cX3_init 2 zs za lw_all RX3 := ⟨hx, hb, hml, hown, hts⟩
  have hKK := hK
  have hK : K1 D ca zs := hKK.1
  refine lv_aload_n hx hb dX3_init_0 rfl (lv_at hl 0 rfl) ?_
  refine W.objInit hx hb hown (hts _ q219) (hts _ q97) (hts _ q98) rfl (hl.1.trans hml.symm) rfl dX3_init_1 (by decide) (Nat.le_of_ble_eq_true rfl) ?_
  refine W.eq (g2 := F0 zm 4 ls []) rfl ?_
  refine lv_aload_n hx hb dX3_init_4 rfl (lv_at hl 0 rfl) ?_
  refine lv_iload_n hx hb dX3_init_5 rfl (lv_at hl 1 rfl) ?_
  refine va_putF (D := D) (ci := 7) (v := .int n) (ty := .int) (C := RX8) (T := TX8) (N := 1) hx hb hts in_X8 tyX8 tyX8_ok nmX8 hown hK hP hD hS 0 rfl rfl 0 (by decide) (hts _ q220) (fun _ h9 => h9) rfl hnm rfl (tyX8_ok 0 (by decide)) rfl rfl (Nat.le_of_ble_eq_true rfl) dX3_init_6 (fun H locs hP hD hS => ?_)
  have hP : va_P D vwCl [(h, .inr (7, [.int n]))] H := hP
  have hD : va_D A [(h, .inr (7, [.int n]))] := hD
  exact wr_vret () hx hb hr hlk hQ dX3_init_9 (wp_to (hP.sub [0] rfl) rfl) (wd_to (hD.sub [0] (by decide) rfl) rfl) hS (Nat.le_refl _) (Nat.le_refl _) trivial
theorem cs_X3_init {R : Room} {s : State} {args : Array Value} {own : String} {index : Nat} (hts : ∀ w ∈ lw_all, w.before args s = true) (hl : Cond.methodLink own index yX3_init ∈ lw_all) {rm : Room} {mc ms : Nat} (hR : rm.frames + 1 ≤ R.frames ∧ 8 + (2 + 11) + rm.locals ≤ R.locals) (hc : rm.cells = mc := by rfl) (hs : rm.slots = ms := by rfl) : CallB R s args own index yX3_init cX3_init 2 none (ws_ yX3_init cX3_init 2 none) rm mc ms 1 ∧ yX3_init.name = "<init>" ∧ (Cond.instanceMethod yX3_init).before args s = true := cwI 1 hts (lw_meth q218) rfl hc hs (hts _ q64) (hts _ hl) (hts _ q217) rfl (by decide +kernel) hR
set_option maxHeartbeats 4000000 in
theorem m_X4_init_X4 (l : Launch) (D : va_G) (ca : Nat → ClassId) (h : Nat) (n : Int32) (sz : Nat)  : Met l yX4_init (ws_ yX4_init cX4_init 2 none) (rmL 2) (PcA (KK D ca) D [.ref h, .int n] [(h, .inr (3, [.int (nI 0)]))] sz) (QvA D (fun  (_ : Unit) => True) (fun _ => [(h, .inr (3, [.int n]))]) (va_A [(h, .inr (3, [.int (nI 0)]))] sz)) 0 0 (va_A [(h, .inr (3, [.int (nI 0)]))] sz) := by
  refine wr_head (y := yX4_init) (n := 2) (av := [.ref h, .int n]) (Qc := fun A => (QvA D (fun  (_ : Unit) => True) (fun _ => [(h, .inr (3, [.int n]))]) A)) (by decide) (Nat.le_of_ble_eq_true rfl) ?_
  intro zp ze zs zm za zb zt zc ls zQ A H locs hx hb hml hr hlk hown hts hnm hK hP hD hS hA hl hQ
  have hown : zs.vm.findClass RX4 = some zm.cls := hown
  have hl : lv_has ls 2 [(0, .ref h), (1, .int n)] := hl
  have hF : CallFix zp zm zc cX4_init 2 zs za lw_all RX4 := ⟨hx, hb, hml, hown, hts⟩
  have hKK := hK
  have hK : K1 D ca zs := hKK.1
  refine lv_aload_n hx hb dX4_init_0 rfl (lv_at hl 0 rfl) ?_
  refine lv_iload_n hx hb dX4_init_1 rfl (lv_at hl 1 rfl) ?_
  have hpm : ([(h, .inr (3, [.int (nI 0)]))] : va_W).Perm ([(h, .inr (3, [.int (nI 0)]))] ++ []) := wpermN [(h, .inr (3, [.int (nI 0)]))] _ 1 [0] rfl (by decide) rfl
  refine mk_v (va_runI (b := h) (As := [.int n]) hF (m_X3_init_X4 l D ca h n H.size ) (cs_X3_init hts q216 ⟨by decide, by decide⟩) (ps_A (KK_mv D ca) hKK hP hD hpm) rfl rfl hl.1 rfl (lv_room (Nat.le_of_ble_eq_true rfl)) dX4_init_2 ⟨Nat.zero_le _, Nat.zero_le _⟩) hP hD hS hA hpm (fun zu H locs hpo hP hD hS => ?_)
  have hP : va_P D vwCl [(h, .inr (3, [.int n]))] H := hP
  have hD : va_D A [(h, .inr (3, [.int n]))] := hD
  exact wr_vret () hx hb hr hlk hQ dX4_init_5 (wp_to (hP.sub [0] rfl) rfl) (wd_to (hD.sub [0] (by decide) rfl) rfl) hS (Nat.le_refl _) (Nat.le_refl _) trivial
set_option maxHeartbeats 4000000 in
theorem m_X4_init_X5 (l : Launch) (D : va_G) (ca : Nat → ClassId) (h : Nat) (n : Int32) (sz : Nat)  : Met l yX4_init (ws_ yX4_init cX4_init 2 none) (rmL 2) (PcA (KK D ca) D [.ref h, .int n] [(h, .inr (4, [.int (nI 0)]))] sz) (QvA D (fun  (_ : Unit) => True) (fun _ => [(h, .inr (4, [.int n]))]) (va_A [(h, .inr (4, [.int (nI 0)]))] sz)) 0 0 (va_A [(h, .inr (4, [.int (nI 0)]))] sz) := by
  refine wr_head (y := yX4_init) (n := 2) (av := [.ref h, .int n]) (Qc := fun A => (QvA D (fun  (_ : Unit) => True) (fun _ => [(h, .inr (4, [.int n]))]) A)) (by decide) (Nat.le_of_ble_eq_true rfl) ?_
  intro zp ze zs zm za zb zt zc ls zQ A H locs hx hb hml hr hlk hown hts hnm hK hP hD hS hA hl hQ
  have hown : zs.vm.findClass RX4 = some zm.cls := hown
  have hl : lv_has ls 2 [(0, .ref h), (1, .int n)] := hl
  have hF : CallFix zp zm zc cX4_init 2 zs za lw_all RX4 := ⟨hx, hb, hml, hown, hts⟩
  have hKK := hK
  have hK : K1 D ca zs := hKK.1
  refine lv_aload_n hx hb dX4_init_0 rfl (lv_at hl 0 rfl) ?_
  refine lv_iload_n hx hb dX4_init_1 rfl (lv_at hl 1 rfl) ?_
  have hpm : ([(h, .inr (4, [.int (nI 0)]))] : va_W).Perm ([(h, .inr (4, [.int (nI 0)]))] ++ []) := wpermN [(h, .inr (4, [.int (nI 0)]))] _ 1 [0] rfl (by decide) rfl
  refine mk_v (va_runI (b := h) (As := [.int n]) hF (m_X3_init_X5 l D ca h n H.size ) (cs_X3_init hts q216 ⟨by decide, by decide⟩) (ps_A (KK_mv D ca) hKK hP hD hpm) rfl rfl hl.1 rfl (lv_room (Nat.le_of_ble_eq_true rfl)) dX4_init_2 ⟨Nat.zero_le _, Nat.zero_le _⟩) hP hD hS hA hpm (fun zu H locs hpo hP hD hS => ?_)
  have hP : va_P D vwCl [(h, .inr (4, [.int n]))] H := hP
  have hD : va_D A [(h, .inr (4, [.int n]))] := hD
  exact wr_vret () hx hb hr hlk hQ dX4_init_5 (wp_to (hP.sub [0] rfl) rfl) (wd_to (hD.sub [0] (by decide) rfl) rfl) hS (Nat.le_refl _) (Nat.le_refl _) trivial
set_option maxHeartbeats 4000000 in
theorem m_X4_init_X6 (l : Launch) (D : va_G) (ca : Nat → ClassId) (h : Nat) (n : Int32) (sz : Nat)  : Met l yX4_init (ws_ yX4_init cX4_init 2 none) (rmL 2) (PcA (KK D ca) D [.ref h, .int n] [(h, .inr (5, [.int (nI 0)]))] sz) (QvA D (fun  (_ : Unit) => True) (fun _ => [(h, .inr (5, [.int n]))]) (va_A [(h, .inr (5, [.int (nI 0)]))] sz)) 0 0 (va_A [(h, .inr (5, [.int (nI 0)]))] sz) := by
  refine wr_head (y := yX4_init) (n := 2) (av := [.ref h, .int n]) (Qc := fun A => (QvA D (fun  (_ : Unit) => True) (fun _ => [(h, .inr (5, [.int n]))]) A)) (by decide) (Nat.le_of_ble_eq_true rfl) ?_
  intro zp ze zs zm za zb zt zc ls zQ A H locs hx hb hml hr hlk hown hts hnm hK hP hD hS hA hl hQ
  have hown : zs.vm.findClass RX4 = some zm.cls := hown
  have hl : lv_has ls 2 [(0, .ref h), (1, .int n)] := hl
  have hF : CallFix zp zm zc cX4_init 2 zs za lw_all RX4 := ⟨hx, hb, hml, hown, hts⟩
  have hKK := hK
  have hK : K1 D ca zs := hKK.1
  refine lv_aload_n hx hb dX4_init_0 rfl (lv_at hl 0 rfl) ?_
  refine lv_iload_n hx hb dX4_init_1 rfl (lv_at hl 1 rfl) ?_
  have hpm : ([(h, .inr (5, [.int (nI 0)]))] : va_W).Perm ([(h, .inr (5, [.int (nI 0)]))] ++ []) := wpermN [(h, .inr (5, [.int (nI 0)]))] _ 1 [0] rfl (by decide) rfl
  refine mk_v (va_runI (b := h) (As := [.int n]) hF (m_X3_init_X6 l D ca h n H.size ) (cs_X3_init hts q216 ⟨by decide, by decide⟩) (ps_A (KK_mv D ca) hKK hP hD hpm) rfl rfl hl.1 rfl (lv_room (Nat.le_of_ble_eq_true rfl)) dX4_init_2 ⟨Nat.zero_le _, Nat.zero_le _⟩) hP hD hS hA hpm (fun zu H locs hpo hP hD hS => ?_)
  have hP : va_P D vwCl [(h, .inr (5, [.int n]))] H := hP
  have hD : va_D A [(h, .inr (5, [.int n]))] := hD
  exact wr_vret () hx hb hr hlk hQ dX4_init_5 (wp_to (hP.sub [0] rfl) rfl) (wd_to (hD.sub [0] (by decide) rfl) rfl) hS (Nat.le_refl _) (Nat.le_refl _) trivial
set_option maxHeartbeats 4000000 in
theorem m_X7_init_X7 (l : Launch) (D : va_G) (ca : Nat → ClassId) (h : Nat) (n : Int32) (sz : Nat)  : Met l yX7_init (ws_ yX7_init cX7_init 2 none) (rmL 2) (PcA (KK D ca) D [.ref h, .int n] [(h, .inr (6, [.int (nI 0)]))] sz) (QvA D (fun  (_ : Unit) => True) (fun _ => [(h, .inr (6, [.int n]))]) (va_A [(h, .inr (6, [.int (nI 0)]))] sz)) 0 0 (va_A [(h, .inr (6, [.int (nI 0)]))] sz) := by
  refine wr_head (y := yX7_init) (n := 2) (av := [.ref h, .int n]) (Qc := fun A => (QvA D (fun  (_ : Unit) => True) (fun _ => [(h, .inr (6, [.int n]))]) A)) (by decide) (Nat.le_of_ble_eq_true rfl) ?_
  intro zp ze zs zm za zb zt zc ls zQ A H locs hx hb hml hr hlk hown hts hnm hK hP hD hS hA hl hQ
  have hown : zs.vm.findClass RX7 = some zm.cls := hown
  have hl : lv_has ls 2 [(0, .ref h), (1, .int n)] := hl
  have hF : CallFix zp zm zc cX7_init 2 zs za lw_all RX7 := ⟨hx, hb, hml, hown, hts⟩
  have hKK := hK
  have hK : K1 D ca zs := hKK.1
  refine lv_aload_n hx hb dX7_init_0 rfl (lv_at hl 0 rfl) ?_
  refine lv_iload_n hx hb dX7_init_1 rfl (lv_at hl 1 rfl) ?_
  have hpm : ([(h, .inr (6, [.int (nI 0)]))] : va_W).Perm ([(h, .inr (6, [.int (nI 0)]))] ++ []) := wpermN [(h, .inr (6, [.int (nI 0)]))] _ 1 [0] rfl (by decide) rfl
  refine mk_v (va_runI (b := h) (As := [.int n]) hF (m_X3_init_X7 l D ca h n H.size ) (cs_X3_init hts q245 ⟨by decide, by decide⟩) (ps_A (KK_mv D ca) hKK hP hD hpm) rfl rfl hl.1 rfl (lv_room (Nat.le_of_ble_eq_true rfl)) dX7_init_2 ⟨Nat.zero_le _, Nat.zero_le _⟩) hP hD hS hA hpm (fun zu H locs hpo hP hD hS => ?_)
  have hP : va_P D vwCl [(h, .inr (6, [.int n]))] H := hP
  have hD : va_D A [(h, .inr (6, [.int n]))] := hD
  exact wr_vret () hx hb hr hlk hQ dX7_init_5 (wp_to (hP.sub [0] rfl) rfl) (wd_to (hD.sub [0] (by decide) rfl) rfl) hS (Nat.le_refl _) (Nat.le_refl _) trivial
set_option maxHeartbeats 4000000 in
theorem m_X7_init_X8 (l : Launch) (D : va_G) (ca : Nat → ClassId) (h : Nat) (n : Int32) (sz : Nat)  : Met l yX7_init (ws_ yX7_init cX7_init 2 none) (rmL 2) (PcA (KK D ca) D [.ref h, .int n] [(h, .inr (7, [.int (nI 0)]))] sz) (QvA D (fun  (_ : Unit) => True) (fun _ => [(h, .inr (7, [.int n]))]) (va_A [(h, .inr (7, [.int (nI 0)]))] sz)) 0 0 (va_A [(h, .inr (7, [.int (nI 0)]))] sz) := by
  refine wr_head (y := yX7_init) (n := 2) (av := [.ref h, .int n]) (Qc := fun A => (QvA D (fun  (_ : Unit) => True) (fun _ => [(h, .inr (7, [.int n]))]) A)) (by decide) (Nat.le_of_ble_eq_true rfl) ?_
  intro zp ze zs zm za zb zt zc ls zQ A H locs hx hb hml hr hlk hown hts hnm hK hP hD hS hA hl hQ
  have hown : zs.vm.findClass RX7 = some zm.cls := hown
  have hl : lv_has ls 2 [(0, .ref h), (1, .int n)] := hl
  have hF : CallFix zp zm zc cX7_init 2 zs za lw_all RX7 := ⟨hx, hb, hml, hown, hts⟩
  have hKK := hK
  have hK : K1 D ca zs := hKK.1
  refine lv_aload_n hx hb dX7_init_0 rfl (lv_at hl 0 rfl) ?_
  refine lv_iload_n hx hb dX7_init_1 rfl (lv_at hl 1 rfl) ?_
  have hpm : ([(h, .inr (7, [.int (nI 0)]))] : va_W).Perm ([(h, .inr (7, [.int (nI 0)]))] ++ []) := wpermN [(h, .inr (7, [.int (nI 0)]))] _ 1 [0] rfl (by decide) rfl
  refine mk_v (va_runI (b := h) (As := [.int n]) hF (m_X3_init_X8 l D ca h n H.size ) (cs_X3_init hts q245 ⟨by decide, by decide⟩) (ps_A (KK_mv D ca) hKK hP hD hpm) rfl rfl hl.1 rfl (lv_room (Nat.le_of_ble_eq_true rfl)) dX7_init_2 ⟨Nat.zero_le _, Nat.zero_le _⟩) hP hD hS hA hpm (fun zu H locs hpo hP hD hS => ?_)
  have hP : va_P D vwCl [(h, .inr (7, [.int n]))] H := hP
  have hD : va_D A [(h, .inr (7, [.int n]))] := hD
  exact wr_vret () hx hb hr hlk hQ dX7_init_5 (wp_to (hP.sub [0] rfl) rfl) (wd_to (hD.sub [0] (by decide) rfl) rfl) hS (Nat.le_refl _) (Nat.le_refl _) trivial
theorem cs_X4_init {R : Room} {s : State} {args : Array Value} {own : String} {index : Nat} (hts : ∀ w ∈ lw_all, w.before args s = true) (hl : Cond.methodLink own index yX4_init ∈ lw_all) {rm : Room} {mc ms : Nat} (hR : rm.frames + 1 ≤ R.frames ∧ 8 + (2 + 11) + rm.locals ≤ R.locals) (hc : rm.cells = mc := by rfl) (hs : rm.slots = ms := by rfl) : CallB R s args own index yX4_init cX4_init 2 none (ws_ yX4_init cX4_init 2 none) rm mc ms 1 ∧ yX4_init.name = "<init>" ∧ (Cond.instanceMethod yX4_init).before args s = true := cwI 1 hts (lw_meth q215) rfl hc hs (hts _ q65) (hts _ hl) (hts _ q214) rfl (by decide +kernel) hR
set_option maxHeartbeats 4000000 in
theorem m_X5_init_X5 (l : Launch) (D : va_G) (ca : Nat → ClassId) (h : Nat) (n : Int32) (sz : Nat)  : Met l yX5_init (ws_ yX5_init cX5_init 2 none) (rmL 3) (PcA (KK D ca) D [.ref h, .int n] [(h, .inr (4, [.int (nI 0)]))] sz) (QvA D (fun  (_ : Unit) => True) (fun _ => [(h, .inr (4, [.int n]))]) (va_A [(h, .inr (4, [.int (nI 0)]))] sz)) 0 0 (va_A [(h, .inr (4, [.int (nI 0)]))] sz) := by
  refine wr_head (y := yX5_init) (n := 2) (av := [.ref h, .int n]) (Qc := fun A => (QvA D (fun  (_ : Unit) => True) (fun _ => [(h, .inr (4, [.int n]))]) A)) (by decide) (Nat.le_of_ble_eq_true rfl) ?_
  intro zp ze zs zm za zb zt zc ls zQ A H locs hx hb hml hr hlk hown hts hnm hK hP hD hS hA hl hQ
  have hown : zs.vm.findClass RX5 = some zm.cls := hown
  have hl : lv_has ls 2 [(0, .ref h), (1, .int n)] := hl
  have hF : CallFix zp zm zc cX5_init 2 zs za lw_all RX5 := ⟨hx, hb, hml, hown, hts⟩
  have hKK := hK
  have hK : K1 D ca zs := hKK.1
  refine lv_aload_n hx hb dX5_init_0 rfl (lv_at hl 0 rfl) ?_
  refine lv_iload_n hx hb dX5_init_1 rfl (lv_at hl 1 rfl) ?_
  have hpm : ([(h, .inr (4, [.int (nI 0)]))] : va_W).Perm ([(h, .inr (4, [.int (nI 0)]))] ++ []) := wpermN [(h, .inr (4, [.int (nI 0)]))] _ 1 [0] rfl (by decide) rfl
  refine mk_v (va_runI (b := h) (As := [.int n]) hF (m_X4_init_X5 l D ca h n H.size ) (cs_X4_init hts q229 ⟨by decide, by decide⟩) (ps_A (KK_mv D ca) hKK hP hD hpm) rfl rfl hl.1 rfl (lv_room (Nat.le_of_ble_eq_true rfl)) dX5_init_2 ⟨Nat.zero_le _, Nat.zero_le _⟩) hP hD hS hA hpm (fun zu H locs hpo hP hD hS => ?_)
  have hP : va_P D vwCl [(h, .inr (4, [.int n]))] H := hP
  have hD : va_D A [(h, .inr (4, [.int n]))] := hD
  exact wr_vret () hx hb hr hlk hQ dX5_init_5 (wp_to (hP.sub [0] rfl) rfl) (wd_to (hD.sub [0] (by decide) rfl) rfl) hS (Nat.le_refl _) (Nat.le_refl _) trivial
set_option maxHeartbeats 4000000 in
theorem m_X6_init_X6 (l : Launch) (D : va_G) (ca : Nat → ClassId) (h : Nat) (n : Int32) (sz : Nat)  : Met l yX6_init (ws_ yX6_init cX6_init 2 none) (rmL 3) (PcA (KK D ca) D [.ref h, .int n] [(h, .inr (5, [.int (nI 0)]))] sz) (QvA D (fun  (_ : Unit) => True) (fun _ => [(h, .inr (5, [.int n]))]) (va_A [(h, .inr (5, [.int (nI 0)]))] sz)) 0 0 (va_A [(h, .inr (5, [.int (nI 0)]))] sz) := by
  refine wr_head (y := yX6_init) (n := 2) (av := [.ref h, .int n]) (Qc := fun A => (QvA D (fun  (_ : Unit) => True) (fun _ => [(h, .inr (5, [.int n]))]) A)) (by decide) (Nat.le_of_ble_eq_true rfl) ?_
  intro zp ze zs zm za zb zt zc ls zQ A H locs hx hb hml hr hlk hown hts hnm hK hP hD hS hA hl hQ
  have hown : zs.vm.findClass RX6 = some zm.cls := hown
  have hl : lv_has ls 2 [(0, .ref h), (1, .int n)] := hl
  have hF : CallFix zp zm zc cX6_init 2 zs za lw_all RX6 := ⟨hx, hb, hml, hown, hts⟩
  have hKK := hK
  have hK : K1 D ca zs := hKK.1
  refine lv_aload_n hx hb dX6_init_0 rfl (lv_at hl 0 rfl) ?_
  refine lv_iload_n hx hb dX6_init_1 rfl (lv_at hl 1 rfl) ?_
  have hpm : ([(h, .inr (5, [.int (nI 0)]))] : va_W).Perm ([(h, .inr (5, [.int (nI 0)]))] ++ []) := wpermN [(h, .inr (5, [.int (nI 0)]))] _ 1 [0] rfl (by decide) rfl
  refine mk_v (va_runI (b := h) (As := [.int n]) hF (m_X4_init_X6 l D ca h n H.size ) (cs_X4_init hts q237 ⟨by decide, by decide⟩) (ps_A (KK_mv D ca) hKK hP hD hpm) rfl rfl hl.1 rfl (lv_room (Nat.le_of_ble_eq_true rfl)) dX6_init_2 ⟨Nat.zero_le _, Nat.zero_le _⟩) hP hD hS hA hpm (fun zu H locs hpo hP hD hS => ?_)
  have hP : va_P D vwCl [(h, .inr (5, [.int n]))] H := hP
  have hD : va_D A [(h, .inr (5, [.int n]))] := hD
  exact wr_vret () hx hb hr hlk hQ dX6_init_5 (wp_to (hP.sub [0] rfl) rfl) (wd_to (hD.sub [0] (by decide) rfl) rfl) hS (Nat.le_refl _) (Nat.le_refl _) trivial
theorem cs_X7_init {R : Room} {s : State} {args : Array Value} {own : String} {index : Nat} (hts : ∀ w ∈ lw_all, w.before args s = true) (hl : Cond.methodLink own index yX7_init ∈ lw_all) {rm : Room} {mc ms : Nat} (hR : rm.frames + 1 ≤ R.frames ∧ 8 + (2 + 11) + rm.locals ≤ R.locals) (hc : rm.cells = mc := by rfl) (hs : rm.slots = ms := by rfl) : CallB R s args own index yX7_init cX7_init 2 none (ws_ yX7_init cX7_init 2 none) rm mc ms 1 ∧ yX7_init.name = "<init>" ∧ (Cond.instanceMethod yX7_init).before args s = true := cwI 1 hts (lw_meth q244) rfl hc hs (hts _ q68) (hts _ hl) (hts _ q243) rfl (by decide +kernel) hR
set_option maxHeartbeats 4000000 in
theorem m_X8_init_X8 (l : Launch) (D : va_G) (ca : Nat → ClassId) (h : Nat) (n : Int32) (sz : Nat)  : Met l yX8_init (ws_ yX8_init cX8_init 2 none) (rmL 3) (PcA (KK D ca) D [.ref h, .int n] [(h, .inr (7, [.int (nI 0)]))] sz) (QvA D (fun  (_ : Unit) => True) (fun _ => [(h, .inr (7, [.int n]))]) (va_A [(h, .inr (7, [.int (nI 0)]))] sz)) 0 0 (va_A [(h, .inr (7, [.int (nI 0)]))] sz) := by
  refine wr_head (y := yX8_init) (n := 2) (av := [.ref h, .int n]) (Qc := fun A => (QvA D (fun  (_ : Unit) => True) (fun _ => [(h, .inr (7, [.int n]))]) A)) (by decide) (Nat.le_of_ble_eq_true rfl) ?_
  intro zp ze zs zm za zb zt zc ls zQ A H locs hx hb hml hr hlk hown hts hnm hK hP hD hS hA hl hQ
  have hown : zs.vm.findClass RX8 = some zm.cls := hown
  have hl : lv_has ls 2 [(0, .ref h), (1, .int n)] := hl
  have hF : CallFix zp zm zc cX8_init 2 zs za lw_all RX8 := ⟨hx, hb, hml, hown, hts⟩
  have hKK := hK
  have hK : K1 D ca zs := hKK.1
  refine lv_aload_n hx hb dX8_init_0 rfl (lv_at hl 0 rfl) ?_
  refine lv_iload_n hx hb dX8_init_1 rfl (lv_at hl 1 rfl) ?_
  have hpm : ([(h, .inr (7, [.int (nI 0)]))] : va_W).Perm ([(h, .inr (7, [.int (nI 0)]))] ++ []) := wpermN [(h, .inr (7, [.int (nI 0)]))] _ 1 [0] rfl (by decide) rfl
  refine mk_v (va_runI (b := h) (As := [.int n]) hF (m_X7_init_X8 l D ca h n H.size ) (cs_X7_init hts q253 ⟨by decide, by decide⟩) (ps_A (KK_mv D ca) hKK hP hD hpm) rfl rfl hl.1 rfl (lv_room (Nat.le_of_ble_eq_true rfl)) dX8_init_2 ⟨Nat.zero_le _, Nat.zero_le _⟩) hP hD hS hA hpm (fun zu H locs hpo hP hD hS => ?_)
  have hP : va_P D vwCl [(h, .inr (7, [.int n]))] H := hP
  have hD : va_D A [(h, .inr (7, [.int n]))] := hD
  exact wr_vret () hx hb hr hlk hQ dX8_init_5 (wp_to (hP.sub [0] rfl) rfl) (wd_to (hD.sub [0] (by decide) rfl) rfl) hS (Nat.le_refl _) (Nat.le_refl _) trivial
