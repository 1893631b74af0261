set_option maxRecDepth 100000
set_option maxHeartbeats 4000000 in
theorem m_J0_init (l : Launch) (D : va_G) (ca : Nat → ClassId) (h : Nat) (sz : Nat)  : Met l yJ0_init (ws_ yJ0_init cJ0_init 1 none) (rmL 1) (PcA (KK D ca) D [.ref h] [] sz) (QvA D (fun  (_ : Unit) => True) (fun _ => []) (va_A [] sz)) 0 0 (va_A [] sz) := by
  refine wr_head (y := yJ0_init) (n := 1) (av := [.ref h]) (Qc := fun A => (QvA D (fun  (_ : Unit) => True) (fun _ => []) A)) (by decide) (Nat.le_of_ble_eq_true rfl) ?_
  intro zp ze zs zm za zb zt zc ls zQ A H locs hx hb hml hr hlk hown hts hnm hK hP hD hS hA hl hQ
  have hown : zs.vm.findClass RJ0 = some zm.cls := hown
  have hl : lv_has ls 1 [(0, .ref h)] := hl
  have hF : CallFix zp zm zc cJ0_init 1 zs za lw_all RJ0 := ⟨hx, hb, hml, hown, hts⟩
  have hKK := hK
  have hK : K1 D ca zs := hKK.1
  refine lv_aload_n hx hb dJ0_init_0 rfl (lv_at hl 0 rfl) ?_
  refine W.objInit hx hb hown (hts _ q118) (hts _ q97) (hts _ q98) rfl (hl.1.trans hml.symm) rfl dJ0_init_1 (by decide) (Nat.le_of_ble_eq_true rfl) ?_
  refine W.eq (g2 := F0 zm 4 ls []) rfl ?_
  exact wr_vret () hx hb hr hlk hQ dJ0_init_4 (wp_to (hP.sub [] rfl) rfl) (wd_to (hD.sub [] (by decide) rfl) rfl) hS (Nat.le_refl _) (Nat.le_refl _) trivial
theorem cs_J0_init {R : Room} {s : State} {args : Array Value} {own : String} {index : Nat} (hts : ∀ w ∈ lw_all, w.before args s = true) (hl : Cond.methodLink own index yJ0_init ∈ lw_all) {rm : Room} {mc ms : Nat} (hR : rm.frames + 1 ≤ R.frames ∧ 8 + (1 + 11) + rm.locals ≤ R.locals) (hc : rm.cells = mc := by rfl) (hs : rm.slots = ms := by rfl) : CallB R s args own index yJ0_init cJ0_init 1 none (ws_ yJ0_init cJ0_init 1 none) rm mc ms 0 ∧ yJ0_init.name = "<init>" ∧ (Cond.instanceMethod yJ0_init).before args s = true := cwI 0 hts (lw_meth q117) rfl hc hs (hts _ q60) (hts _ hl) (hts _ q116) rfl (by decide +kernel) hR
set_option maxHeartbeats 4000000 in
theorem m_J1_init (l : Launch) (D : va_G) (ca : Nat → ClassId) (h : Nat) (sz : Nat)  : Met l yJ1_init (ws_ yJ1_init cJ1_init 1 none) (rmL 2) (PcA (KK D ca) D [.ref h] [(h, .inr (13, [.int (nI 0), .null, .int (nI 0)]))] sz) (QvA D (fun  (_ : Unit) => True) (fun _ => [(h, .inr (13, [.int (nI 0), .null, .int (nI 0)]))]) (va_A [(h, .inr (13, [.int (nI 0), .null, .int (nI 0)]))] sz)) 0 0 (va_A [(h, .inr (13, [.int (nI 0), .null, .int (nI 0)]))] sz) := by
  refine wr_head (y := yJ1_init) (n := 1) (av := [.ref h]) (Qc := fun A => (QvA D (fun  (_ : Unit) => True) (fun _ => [(h, .inr (13, [.int (nI 0), .null, .int (nI 0)]))]) A)) (by decide) (Nat.le_of_ble_eq_true rfl) ?_
  intro zp ze zs zm za zb zt zc ls zQ A H locs hx hb hml hr hlk hown hts hnm hK hP hD hS hA hl hQ
  have hown : zs.vm.findClass RJ1 = some zm.cls := hown
  have hl : lv_has ls 1 [(0, .ref h)] := hl
  have hF : CallFix zp zm zc cJ1_init 1 zs za lw_all RJ1 := ⟨hx, hb, hml, hown, hts⟩
  have hKK := hK
  have hK : K1 D ca zs := hKK.1
  refine lv_aload_n hx hb dJ1_init_0 rfl (lv_at hl 0 rfl) ?_
  have hpm : ([(h, .inr (13, [.int (nI 0), .null, .int (nI 0)]))] : va_W).Perm ([] ++ [(h, .inr (13, [.int (nI 0), .null, .int (nI 0)]))]) := wpermN [(h, .inr (13, [.int (nI 0), .null, .int (nI 0)]))] _ 1 [0] rfl (by decide) rfl
  refine mk_v (va_runI (b := h) (As := []) hF (m_J0_init l D ca h H.size ) (cs_J0_init hts q115 ⟨by decide, by decide⟩) (ps_A (KK_mv D ca) hKK hP hD hpm) rfl rfl hl.1 rfl (lv_room (Nat.le_of_ble_eq_true rfl)) dJ1_init_1 ⟨Nat.zero_le _, Nat.zero_le _⟩) hP hD hS hA hpm (fun zu H locs hpo hP hD hS => ?_)
  have hP : va_P D vwCl [(h, .inr (13, [.int (nI 0), .null, .int (nI 0)]))] H := hP
  have hD : va_D A [(h, .inr (13, [.int (nI 0), .null, .int (nI 0)]))] := hD
  refine lv_aload_n hx hb dJ1_init_4 rfl (lv_at hl 0 rfl) ?_
  refine lv_iconst (v := nI 0) hx hb dJ1_init_5 rfl ?_
  refine va_put (D := D) (ci := 13) (v := .int (nI 0)) (ty := .int) (C := RJ2) (T := TJ2) (N := 3) hx hb hts in_J2 tyJ2 tyJ2_ok nmJ2 hown hK hP hD hS 0 rfl rfl 0 (by decide) (hts _ q123) (fun _ h9 => h9) rfl (tyJ2_ok 0 (by decide)) rfl rfl (Nat.le_of_ble_eq_true rfl) dJ1_init_6 (fun H locs hP hD hS => ?_)
  have hP : va_P D vwCl [(h, .inr (13, [.int (nI 0), .null, .int (nI 0)]))] H := hP
  have hD : va_D A [(h, .inr (13, [.int (nI 0), .null, .int (nI 0)]))] := hD
  exact wr_vret () hx hb hr hlk hQ dJ1_init_9 (wp_to (hP.sub [0] rfl) rfl) (wd_to (hD.sub [0] (by decide) rfl) rfl) hS (Nat.le_refl _) (Nat.le_refl _) trivial
theorem cs_J1_init {R : Room} {s : State} {args : Array Value} {own : String} {index : Nat} (hts : ∀ w ∈ lw_all, w.before args s = true) (hl : Cond.methodLink own index yJ1_init ∈ lw_all) {rm : Room} {mc ms : Nat} (hR : rm.frames + 1 ≤ R.frames ∧ 8 + (1 + 11) + rm.locals ≤ R.locals) (hc : rm.cells = mc := by rfl) (hs : rm.slots = ms := by rfl) : CallB R s args own index yJ1_init cJ1_init 1 none (ws_ yJ1_init cJ1_init 1 none) rm mc ms 0 ∧ yJ1_init.name = "<init>" ∧ (Cond.instanceMethod yJ1_init).before args s = true := cwI 0 hts (lw_meth q114) rfl hc hs (hts _ q61) (hts _ hl) (hts _ q113) rfl (by decide +kernel) hR
set_option maxHeartbeats 4000000 in
theorem m_J2_init (l : Launch) (D : va_G) (ca : Nat → ClassId) (h : Nat) (zv : Nat → Option Nat) (sz : Nat)  : Met l yJ2_init (ws_ yJ2_init cJ2_init 1 none) (rmL 3) (PcZ (KK D ca) (ZZ zv) D [.ref h] [(h, .inr (13, [.int (nI 0), .null, .int (nI 0)]))] sz) (QvA D (fun  (_ : Unit) => True) (fun _ => [(h, .inr (13, [.int (nI 0), va_rf (zv 0), .int (nI 0)]))]) (va_A [(h, .inr (13, [.int (nI 0), .null, .int (nI 0)]))] sz)) 0 0 (va_A [(h, .inr (13, [.int (nI 0), .null, .int (nI 0)]))] sz) := by
  refine wz_head (y := yJ2_init) (n := 1) (av := [.ref h]) (Qc := fun A => (QvA D (fun  (_ : Unit) => True) (fun _ => [(h, .inr (13, [.int (nI 0), va_rf (zv 0), .int (nI 0)]))]) A)) (by decide) (Nat.le_of_ble_eq_true rfl) ?_
  intro zp ze zs zm za zb zt zc ls zQ A H locs hx hb hml hr hlk hown hts hnm hK hZ hP hD hS hA hl hQ
  have hown : zs.vm.findClass RJ2 = some zm.cls := hown
  have hl : lv_has ls 1 [(0, .ref h)] := hl
  have hF : CallFix zp zm zc cJ2_init 1 zs za lw_all RJ2 := ⟨hx, hb, hml, hown, hts⟩
  have hKK := hK
  have hK : K1 D ca zs := hKK.1
  refine lv_aload_n hx hb dJ2_init_0 rfl (lv_at hl 0 rfl) ?_
  have hpm : ([(h, .inr (13, [.int (nI 0), .null, .int (nI 0)]))] : va_W).Perm ([(h, .inr (13, [.int (nI 0), .null, .int (nI 0)]))] ++ []) := wpermN [(h, .inr (13, [.int (nI 0), .null, .int (nI 0)]))] _ 1 [0] rfl (by decide) rfl
  refine mk_v (va_runI (b := h) (As := []) hF (m_J1_init l D ca h H.size ) (cs_J1_init hts q112 ⟨by decide, by decide⟩) (ps_A (KK_mv D ca) hKK hP hD hpm) rfl rfl hl.1 rfl (lv_room (Nat.le_of_ble_eq_true rfl)) dJ2_init_1 ⟨Nat.zero_le _, Nat.zero_le _⟩) hP hD hS hA hpm (fun zu H locs hpo hP hD hS => ?_)
  have hP : va_P D vwCl [(h, .inr (13, [.int (nI 0), .null, .int (nI 0)]))] H := hP
  have hD : va_D A [(h, .inr (13, [.int (nI 0), .null, .int (nI 0)]))] := hD
  refine lv_aload_n hx hb dJ2_init_4 rfl (lv_at hl 0 rfl) ?_
  refine va_gets (v := va_rf (zv 0)) hx hb (hZ.1) hS hown (hts _ q119) (fun _ h9 => h9) dJ2_init_5 ?_
  refine va_put (D := D) (ci := 13) (v := va_rf (zv 0)) (ty := tyJ2 1) (C := RJ2) (T := TJ2) (N := 3) hx hb hts in_J2 tyJ2 tyJ2_ok nmJ2 hown hK hP hD hS 0 rfl rfl 1 (by decide) (hts _ q121) (fun _ h9 => h9) rfl (tyJ2_ok 1 (by decide)) (by rcases (zv 0) with _ | _ <;> rfl) (by rcases (zv 0) with _ | _ <;> rfl) (Nat.le_of_ble_eq_true rfl) dJ2_init_8 (fun H locs hP hD hS => ?_)
  have hP : va_P D vwCl [(h, .inr (13, [.int (nI 0), va_rf (zv 0), .int (nI 0)]))] H := hP
  have hD : va_D A [(h, .inr (13, [.int (nI 0), va_rf (zv 0), .int (nI 0)]))] := hD
  exact wr_vret () hx hb hr hlk hQ dJ2_init_11 (wp_to (hP.sub [0] rfl) rfl) (wd_to (hD.sub [0] (by decide) rfl) rfl) hS (Nat.le_refl _) (Nat.le_refl _) trivial
