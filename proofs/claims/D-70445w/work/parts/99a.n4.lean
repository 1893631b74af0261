set_option maxRecDepth 100000
theorem cs_X8_init {R : Room} {s : State} {args : Array Value} {own : String} {index : Nat} (hts : ∀ w ∈ lw_all, w.before args s = true) (hl : Cond.methodLink own index yX8_init ∈ lw_all) {rm : Room} {mc ms : Nat} (hR : rm.frames + 1 ≤ R.frames ∧ 8 + (2 + 11) + rm.locals ≤ R.locals) (hc : rm.cells = mc := by rfl) (hs : rm.slots = ms := by rfl) : CallB R s args own index yX8_init cX8_init 2 none (ws_ yX8_init cX8_init 2 none) rm mc ms 1 ∧ yX8_init.name = "<init>" ∧ (Cond.instanceMethod yX8_init).before args s = true := cwI 1 hts (lw_meth q252) rfl hc hs (hts _ q69) (hts _ hl) (hts _ q251) rfl (by decide +kernel) hR
theorem cs_X5_init {R : Room} {s : State} {args : Array Value} {own : String} {index : Nat} (hts : ∀ w ∈ lw_all, w.before args s = true) (hl : Cond.methodLink own index yX5_init ∈ lw_all) {rm : Room} {mc ms : Nat} (hR : rm.frames + 1 ≤ R.frames ∧ 8 + (2 + 11) + rm.locals ≤ R.locals) (hc : rm.cells = mc := by rfl) (hs : rm.slots = ms := by rfl) : CallB R s args own index yX5_init cX5_init 2 none (ws_ yX5_init cX5_init 2 none) rm mc ms 1 ∧ yX5_init.name = "<init>" ∧ (Cond.instanceMethod yX5_init).before args s = true := cwI 1 hts (lw_meth q228) rfl hc hs (hts _ q66) (hts _ hl) (hts _ q227) rfl (by decide +kernel) hR
theorem cs_X6_init {R : Room} {s : State} {args : Array Value} {own : String} {index : Nat} (hts : ∀ w ∈ lw_all, w.before args s = true) (hl : Cond.methodLink own index yX6_init ∈ lw_all) {rm : Room} {mc ms : Nat} (hR : rm.frames + 1 ≤ R.frames ∧ 8 + (2 + 11) + rm.locals ≤ R.locals) (hc : rm.cells = mc := by rfl) (hs : rm.slots = ms := by rfl) : CallB R s args own index yX6_init cX6_init 2 none (ws_ yX6_init cX6_init 2 none) rm mc ms 1 ∧ yX6_init.name = "<init>" ∧ (Cond.instanceMethod yX6_init).before args s = true := cwI 1 hts (lw_meth q236) rfl hc hs (hts _ q67) (hts _ hl) (hts _ q235) rfl (by decide +kernel) hR
set_option maxHeartbeats 4000000 in
theorem m_X0_squareBy (l : Launch) (D : va_G) (ca : Nat → ClassId) (kd : Nat) (q : Nat) (sz : Nat) (hkd : 1 ≤ kd ∧ kd ≤ 5) : Met l yX0_squareBy (ws_ yX0_squareBy cX0_squareBy 2 (some (.object "LampSquares$Square"))) (rmC 4 1 1) (PcA (KK D ca) D [.int (nI (kd - 1)), .int (nI q)] [] sz) (QrA D (fun ra (zu : Unit) => True) (fun zu ra => [(ra, .inr (2 + kd, [.int (nI q)]))]) (va_A [] sz)) 1 1 (va_A [] sz) := by
  refine wr_head (y := yX0_squareBy) (n := 2) (av := [.int (nI (kd - 1)), .int (nI q)]) (Qc := fun A => (QrA D (fun ra (zu : Unit) => True) (fun zu ra => [(ra, .inr (2 + kd, [.int (nI q)]))]) A)) (by decide) (Nat.le_of_ble_eq_true rfl) ?_
  intro zp ze zs zm za zb zt zc ls zQ A H locs hx hb hml hr hlk hown hts hnm hK hP hD hS hA hl hQ
  have hown : zs.vm.findClass RX0 = some zm.cls := hown
  have hl : lv_has ls 2 [(0, .int (nI (kd - 1))), (1, .int (nI q))] := hl
  have hF : CallFix zp zm zc cX0_squareBy 2 zs za lw_all RX0 := ⟨hx, hb, hml, hown, hts⟩
  have hKK := hK
  have hK : K1 D ca zs := hKK.1
  obtain ⟨hk1, hk5⟩ := hkd
  refine lv_iload_n hx hb dX0_squareBy_0 rfl (lv_at hl 0 rfl) ?_
  rcases (show (kd - 1 < 0 ∨ 3 < kd - 1) ∨ kd - 1 = 0 ∨ kd - 1 = 1 ∨ kd - 1 = 2 ∨ kd - 1 = 3 by omega) with c_1 | c_1 | c_1 | c_1 | c_1
  · refine lv_tableOut (tgt := 68) hx hb dX0_squareBy_1 (by rw [nI_toInt (by omega)]; omega) (by decide) ?_
    obtain rfl : kd = 5 := (by omega)
    refine va_new (D := D) (ci := 7) (fs := [.int (nI 0)]) (C := RX8) (T := TX8) (N := 1) hx hb hts in_X8 tyX8 tyX8_ok hown (hts _ q248) (hts _ q249) (hts _ q69) hK hP hD hS hA rfl (fun j hj => by rcases (show j = 0 by omega) with rfl <;> rfl) (by decide) (by decide) dX0_squareBy_68 (fun nw_68 H hP hD hS => ?_)
    have hP : va_P D vwCl [(nw_68, .inr (7, [.int (nI 0)]))] H := hP
    have hD : va_D A [(nw_68, .inr (7, [.int (nI 0)]))] := hD
    refine lv_dup hx hb dX0_squareBy_71 rfl ?_
    refine lv_iload_n hx hb dX0_squareBy_72 rfl (lv_at hl 1 rfl) ?_
    have hpm : ([(nw_68, .inr (7, [.int (nI 0)]))] : va_W).Perm ([(nw_68, .inr (7, [.int (nI 0)]))] ++ []) := wpermN [(nw_68, .inr (7, [.int (nI 0)]))] _ 1 [0] rfl (by decide) rfl
    refine mk_v (va_runI (b := nw_68) (As := [.int (nI q)]) hF (m_X8_init_X8 l D ca nw_68 (nI q) H.size ) (cs_X8_init hts q250 ⟨by decide, by decide⟩) (ps_A (KK_mv D ca) hKK hP hD hpm) rfl rfl hl.1 rfl (lv_room (Nat.le_of_ble_eq_true rfl)) dX0_squareBy_73 ⟨by first | decide | (show _ ≤ _; simp only [rmC]; omega), by first | decide | (show _ ≤ _; simp only [rmC]; omega)⟩) hP hD hS hA hpm (fun zu H locs hpo hP hD hS => ?_)
    have hP : va_P D vwCl [(nw_68, .inr (7, [.int ((nI q))]))] H := hP
    have hD : va_D A [(nw_68, .inr (7, [.int ((nI q))]))] := hD
    have w_1 : ((nw_68, .inr (7, [.int ((nI q))])) : Nat × va_E) = (nw_68, .inr (2 + 5, [.int (nI q)])) := by first | with_reducible rfl | (rfl)
    exact wr_aret () hx hb hr (by first | exact Or.inl ⟨_, rfl⟩ | exact Or.inr ⟨_, rfl⟩) hlk hQ dX0_squareBy_76 (wp_to (hP.sub [0] rfl) (congrArg (fun zx => ([zx] : va_W)) w_1)) (wd_to (hD.sub [0] (by decide) rfl) (congrArg (fun zx => ([zx] : va_W)) w_1)) hS (by first | decide | omega) (by first | decide | omega) (by first | trivial | rfl)
  · refine lv_tableIn (off := 31) (tgt := 32) hx hb dX0_squareBy_1 (by rw [nI_toInt (by omega)]; omega) (by rw [nI_toInt (by omega)]; omega) (by rw [c_1]; rfl) (by decide) ?_
    obtain rfl : kd = 1 := (by omega)
    refine va_new (D := D) (ci := 3) (fs := [.int (nI 0)]) (C := RX4) (T := TX4) (N := 1) hx hb hts in_X4 tyX4 tyX4_ok hown (hts _ q211) (hts _ q212) (hts _ q65) hK hP hD hS hA rfl (fun j hj => by rcases (show j = 0 by omega) with rfl <;> rfl) (by decide) (by decide) dX0_squareBy_32 (fun nw_32 H hP hD hS => ?_)
    have hP : va_P D vwCl [(nw_32, .inr (3, [.int (nI 0)]))] H := hP
    have hD : va_D A [(nw_32, .inr (3, [.int (nI 0)]))] := hD
    refine lv_dup hx hb dX0_squareBy_35 rfl ?_
    refine lv_iload_n hx hb dX0_squareBy_36 rfl (lv_at hl 1 rfl) ?_
    have hpm : ([(nw_32, .inr (3, [.int (nI 0)]))] : va_W).Perm ([(nw_32, .inr (3, [.int (nI 0)]))] ++ []) := wpermN [(nw_32, .inr (3, [.int (nI 0)]))] _ 1 [0] rfl (by decide) rfl
    refine mk_v (va_runI (b := nw_32) (As := [.int (nI q)]) hF (m_X4_init_X4 l D ca nw_32 (nI q) H.size ) (cs_X4_init hts q213 ⟨by decide, by decide⟩) (ps_A (KK_mv D ca) hKK hP hD hpm) rfl rfl hl.1 rfl (lv_room (Nat.le_of_ble_eq_true rfl)) dX0_squareBy_37 ⟨by first | decide | (show _ ≤ _; simp only [rmC]; omega), by first | decide | (show _ ≤ _; simp only [rmC]; omega)⟩) hP hD hS hA hpm (fun zu H locs hpo hP hD hS => ?_)
    have hP : va_P D vwCl [(nw_32, .inr (3, [.int ((nI q))]))] H := hP
    have hD : va_D A [(nw_32, .inr (3, [.int ((nI q))]))] := hD
    have w_2 : ((nw_32, .inr (3, [.int ((nI q))])) : Nat × va_E) = (nw_32, .inr (2 + 1, [.int (nI q)])) := by first | with_reducible rfl | (rfl)
    exact wr_aret () hx hb hr (by first | exact Or.inl ⟨_, rfl⟩ | exact Or.inr ⟨_, rfl⟩) hlk hQ dX0_squareBy_40 (wp_to (hP.sub [0] rfl) (congrArg (fun zx => ([zx] : va_W)) w_2)) (wd_to (hD.sub [0] (by decide) rfl) (congrArg (fun zx => ([zx] : va_W)) w_2)) hS (by first | decide | omega) (by first | decide | omega) (by first | trivial | rfl)
  · refine lv_tableIn (off := 40) (tgt := 41) hx hb dX0_squareBy_1 (by rw [nI_toInt (by omega)]; omega) (by rw [nI_toInt (by omega)]; omega) (by rw [c_1]; rfl) (by decide) ?_
    obtain rfl : kd = 2 := (by omega)
    refine va_new (D := D) (ci := 4) (fs := [.int (nI 0)]) (C := RX5) (T := TX5) (N := 1) hx hb hts in_X5 tyX5 tyX5_ok hown (hts _ q224) (hts _ q225) (hts _ q66) hK hP hD hS hA rfl (fun j hj => by rcases (show j = 0 by omega) with rfl <;> rfl) (by decide) (by decide) dX0_squareBy_41 (fun nw_41 H hP hD hS => ?_)
    have hP : va_P D vwCl [(nw_41, .inr (4, [.int (nI 0)]))] H := hP
    have hD : va_D A [(nw_41, .inr (4, [.int (nI 0)]))] := hD
    refine lv_dup hx hb dX0_squareBy_44 rfl ?_
    refine lv_iload_n hx hb dX0_squareBy_45 rfl (lv_at hl 1 rfl) ?_
    have hpm : ([(nw_41, .inr (4, [.int (nI 0)]))] : va_W).Perm ([(nw_41, .inr (4, [.int (nI 0)]))] ++ []) := wpermN [(nw_41, .inr (4, [.int (nI 0)]))] _ 1 [0] rfl (by decide) rfl
    refine mk_v (va_runI (b := nw_41) (As := [.int (nI q)]) hF (m_X5_init_X5 l D ca nw_41 (nI q) H.size ) (cs_X5_init hts q226 ⟨by decide, by decide⟩) (ps_A (KK_mv D ca) hKK hP hD hpm) rfl rfl hl.1 rfl (lv_room (Nat.le_of_ble_eq_true rfl)) dX0_squareBy_46 ⟨by first | decide | (show _ ≤ _; simp only [rmC]; omega), by first | decide | (show _ ≤ _; simp only [rmC]; omega)⟩) hP hD hS hA hpm (fun zu H locs hpo hP hD hS => ?_)
    have hP : va_P D vwCl [(nw_41, .inr (4, [.int ((nI q))]))] H := hP
    have hD : va_D A [(nw_41, .inr (4, [.int ((nI q))]))] := hD
    have w_3 : ((nw_41, .inr (4, [.int ((nI q))])) : Nat × va_E) = (nw_41, .inr (2 + 2, [.int (nI q)])) := by first | with_reducible rfl | (rfl)
    exact wr_aret () hx hb hr (by first | exact Or.inl ⟨_, rfl⟩ | exact Or.inr ⟨_, rfl⟩) hlk hQ dX0_squareBy_49 (wp_to (hP.sub [0] rfl) (congrArg (fun zx => ([zx] : va_W)) w_3)) (wd_to (hD.sub [0] (by decide) rfl) (congrArg (fun zx => ([zx] : va_W)) w_3)) hS (by first | decide | omega) (by first | decide | omega) (by first | trivial | rfl)
  · refine lv_tableIn (off := 49) (tgt := 50) hx hb dX0_squareBy_1 (by rw [nI_toInt (by omega)]; omega) (by rw [nI_toInt (by omega)]; omega) (by rw [c_1]; rfl) (by decide) ?_
    obtain rfl : kd = 3 := (by omega)
    refine va_new (D := D) (ci := 5) (fs := [.int (nI 0)]) (C := RX6) (T := TX6) (N := 1) hx hb hts in_X6 tyX6 tyX6_ok hown (hts _ q232) (hts _ q233) (hts _ q67) hK hP hD hS hA rfl (fun j hj => by rcases (show j = 0 by omega) with rfl <;> rfl) (by decide) (by decide) dX0_squareBy_50 (fun nw_50 H hP hD hS => ?_)
    have hP : va_P D vwCl [(nw_50, .inr (5, [.int (nI 0)]))] H := hP
    have hD : va_D A [(nw_50, .inr (5, [.int (nI 0)]))] := hD
    refine lv_dup hx hb dX0_squareBy_53 rfl ?_
    refine lv_iload_n hx hb dX0_squareBy_54 rfl (lv_at hl 1 rfl) ?_
    have hpm : ([(nw_50, .inr (5, [.int (nI 0)]))] : va_W).Perm ([(nw_50, .inr (5, [.int (nI 0)]))] ++ []) := wpermN [(nw_50, .inr (5, [.int (nI 0)]))] _ 1 [0] rfl (by decide) rfl
    refine mk_v (va_runI (b := nw_50) (As := [.int (nI q)]) hF (m_X6_init_X6 l D ca nw_50 (nI q) H.size ) (cs_X6_init hts q234 ⟨by decide, by decide⟩) (ps_A (KK_mv D ca) hKK hP hD hpm) rfl rfl hl.1 rfl (lv_room (Nat.le_of_ble_eq_true rfl)) dX0_squareBy_55 ⟨by first | decide | (show _ ≤ _; simp only [rmC]; omega), by first | decide | (show _ ≤ _; simp only [rmC]; omega)⟩) hP hD hS hA hpm (fun zu H locs hpo hP hD hS => ?_)
    have hP : va_P D vwCl [(nw_50, .inr (5, [.int ((nI q))]))] H := hP
    have hD : va_D A [(nw_50, .inr (5, [.int ((nI q))]))] := hD
    have w_4 : ((nw_50, .inr (5, [.int ((nI q))])) : Nat × va_E) = (nw_50, .inr (2 + 3, [.int (nI q)])) := by first | with_reducible rfl | (rfl)
    exact wr_aret () hx hb hr (by first | exact Or.inl ⟨_, rfl⟩ | exact Or.inr ⟨_, rfl⟩) hlk hQ dX0_squareBy_58 (wp_to (hP.sub [0] rfl) (congrArg (fun zx => ([zx] : va_W)) w_4)) (wd_to (hD.sub [0] (by decide) rfl) (congrArg (fun zx => ([zx] : va_W)) w_4)) hS (by first | decide | omega) (by first | decide | omega) (by first | trivial | rfl)
  · refine lv_tableIn (off := 58) (tgt := 59) hx hb dX0_squareBy_1 (by rw [nI_toInt (by omega)]; omega) (by rw [nI_toInt (by omega)]; omega) (by rw [c_1]; rfl) (by decide) ?_
    obtain rfl : kd = 4 := (by omega)
    refine va_new (D := D) (ci := 6) (fs := [.int (nI 0)]) (C := RX7) (T := TX7) (N := 1) hx hb hts in_X7 tyX7 tyX7_ok hown (hts _ q240) (hts _ q241) (hts _ q68) hK hP hD hS hA rfl (fun j hj => by rcases (show j = 0 by omega) with rfl <;> rfl) (by decide) (by decide) dX0_squareBy_59 (fun nw_59 H hP hD hS => ?_)
    have hP : va_P D vwCl [(nw_59, .inr (6, [.int (nI 0)]))] H := hP
    have hD : va_D A [(nw_59, .inr (6, [.int (nI 0)]))] := hD
    refine lv_dup hx hb dX0_squareBy_62 rfl ?_
    refine lv_iload_n hx hb dX0_squareBy_63 rfl (lv_at hl 1 rfl) ?_
    have hpm : ([(nw_59, .inr (6, [.int (nI 0)]))] : va_W).Perm ([(nw_59, .inr (6, [.int (nI 0)]))] ++ []) := wpermN [(nw_59, .inr (6, [.int (nI 0)]))] _ 1 [0] rfl (by decide) rfl
    refine mk_v (va_runI (b := nw_59) (As := [.int (nI q)]) hF (m_X7_init_X7 l D ca nw_59 (nI q) H.size ) (cs_X7_init hts q242 ⟨by decide, by decide⟩) (ps_A (KK_mv D ca) hKK hP hD hpm) rfl rfl hl.1 rfl (lv_room (Nat.le_of_ble_eq_true rfl)) dX0_squareBy_64 ⟨by first | decide | (show _ ≤ _; simp only [rmC]; omega), by first | decide | (show _ ≤ _; simp only [rmC]; omega)⟩) hP hD hS hA hpm (fun zu H locs hpo hP hD hS => ?_)
    have hP : va_P D vwCl [(nw_59, .inr (6, [.int ((nI q))]))] H := hP
    have hD : va_D A [(nw_59, .inr (6, [.int ((nI q))]))] := hD
    have w_5 : ((nw_59, .inr (6, [.int ((nI q))])) : Nat × va_E) = (nw_59, .inr (2 + 4, [.int (nI q)])) := by first | with_reducible rfl | (rfl)
    exact wr_aret () hx hb hr (by first | exact Or.inl ⟨_, rfl⟩ | exact Or.inr ⟨_, rfl⟩) hlk hQ dX0_squareBy_67 (wp_to (hP.sub [0] rfl) (congrArg (fun zx => ([zx] : va_W)) w_5)) (wd_to (hD.sub [0] (by decide) rfl) (congrArg (fun zx => ([zx] : va_W)) w_5)) hS (by first | decide | omega) (by first | decide | omega) (by first | trivial | rfl)
set_option maxHeartbeats 4000000 in
theorem m_J2_grow_2 (l : Launch) (D : va_G) (ca : Nat → ClassId) (h : Nat) (mo : Int32) (m_ : Nat) (zv : Nat → Option Nat) (sz : Nat) (hm : m_ ≤ 10) : Met l yJ2_grow_2 (ws_ yJ2_grow_2 cJ2_grow_2 4 (some (.array (.object "java/lang/Object")))) (rmC 1 1 10) (PcZ (KK D ca) (ZZ zv) D [.ref h, .int (nI m_)] [(h, .inr (13, [.int mo, va_rf (zv 0), .int (nI 0)]))] sz) (QrA D (fun ra (zu : Unit) => True) (fun zu ra => [(h, .inr (13, [.int mo, .ref ra, .int (nI 0)])), (ra, .inl (ca 7, 10, .inr (.inr (.inr (.inr (fun _ => none))))))]) (va_A [(h, .inr (13, [.int mo, va_rf (zv 0), .int (nI 0)]))] sz)) 1 10 (va_A [(h, .inr (13, [.int mo, va_rf (zv 0), .int (nI 0)]))] sz) := by
  refine wz_head (y := yJ2_grow_2) (n := 4) (av := [.ref h, .int (nI m_)]) (Qc := fun A => (QrA D (fun ra (zu : Unit) => True) (fun zu ra => [(h, .inr (13, [.int mo, .ref ra, .int (nI 0)])), (ra, .inl (ca 7, 10, .inr (.inr (.inr (.inr (fun _ => none))))))]) A)) (by decide) (Nat.le_of_ble_eq_true rfl) ?_
  intro zp ze zs zm za zb zt zc ls zQ A H locs hx hb hml hr hlk hown hts hnm hK hZ hP hD hS hA hl hQ
  have hown : zs.vm.findClass RJ2 = some zm.cls := hown
  have hl : lv_has ls 4 [(0, .ref h), (1, .int (nI m_))] := hl
  have hF : CallFix zp zm zc cJ2_grow_2 4 zs za lw_all RJ2 := ⟨hx, hb, hml, hown, hts⟩
  have hKK := hK
  have hK : K1 D ca zs := hKK.1
  refine lv_aload_n hx hb dJ2_grow_2_0 rfl (lv_at hl 0 rfl) ?_
  refine va_get (D := D) (ci := 13) (v := va_rf (zv 0)) (C := RJ2) (T := TJ2) (N := 3) hx hb hts in_J2 hown hK hP 0 rfl rfl 1 (by decide) (hts _ q121) (fun _ h9 => h9) rfl dJ2_grow_2_1 ?_
  refine zz_len hx hb hZ hS dJ2_grow_2_4 ?_
  refine lv_istore_n (lv' := [(2, .int (nI 0)), (0, .ref h), (1, .int (nI m_))]) hx hb dJ2_grow_2_5 rfl hl (by decide) rfl (fun ls hl => ?_)
  refine lv_iload_n hx hb dJ2_grow_2_6 rfl (lv_at hl 0 rfl) ?_
  refine wn_ifgt (tgt := 20) hx hb (by omega) dJ2_grow_2_7 (by decide) (fun zh => by first | exact absurd zh (by decide) | exact absurd rfl zh | omega) (fun c_7 => ?_)
  refine lv_aload_n hx hb dJ2_grow_2_10 rfl (lv_at hl 1 rfl) ?_
  refine va_get (D := D) (ci := 13) (v := va_rf (zv 0)) (C := RJ2) (T := TJ2) (N := 3) hx hb hts in_J2 hown hK hP 0 rfl rfl 1 (by decide) (hts _ q121) (fun _ h9 => h9) rfl dJ2_grow_2_11 ?_
  refine va_gets (v := va_rf (zv 0)) hx hb (hZ.1) hS hown (hts _ q119) (fun _ h9 => h9) dJ2_grow_2_14 ?_
  refine lv_acmp_eq (tgt := 45) hx hb dJ2_grow_2_17 (by decide) (fun _ => ?_) (fun zh => absurd rfl zh)
  refine lv_aload_n hx hb dJ2_grow_2_45 rfl (lv_at hl 1 rfl) ?_
  refine lv_bipush (v := nI 10) hx hb dJ2_grow_2_46 rfl ?_
  refine lv_iload_n hx hb dJ2_grow_2_48 rfl (lv_at hl 2 rfl) ?_
  refine va_mmax hx hb (hml.trans hl.1.symm) hown (hts _ q703) (hts _ q664) (hts _ q86) (hts _ q665) (by decide) (Nat.le_of_ble_eq_true rfl) (Nat.zero_le _) (Nat.zero_le _) dJ2_grow_2_49 ?_
  refine top_to (y := nI 10) (by rw [if_neg (nI_nlt (by omega) (by decide))]) ?_
  refine mk_newq (ca := ca) (t0 := 7) (N := 10) hx hb hown (hts _ q704) hKK.2.2.2.1.2.2.2 hK rfl hP hD hS hA (by first | decide | omega) (by first | decide | (show _ ≤ _; simp only [rmC]; omega)) (by first | decide | (show _ ≤ _; simp only [rmC]; omega)) dJ2_grow_2_52 (fun nw_52 H hP hD hS => ?_)
  have hP : va_P D vwCl [(h, .inr (13, [.int mo, va_rf (zv 0), .int (nI 0)])), (nw_52, .inl (ca 7, 10, .inr (.inr (.inr (.inr (fun _ => none))))))] H := hP
  have hD : va_D A [(h, .inr (13, [.int mo, va_rf (zv 0), .int (nI 0)])), (nw_52, .inl (ca 7, 10, .inr (.inr (.inr (.inr (fun _ => none))))))] := hD
  refine lv_dup_x1 hx hb dJ2_grow_2_55 rfl rfl ?_
  refine va_put (D := D) (ci := 13) (v := .ref nw_52) (ty := tyJ2 1) (C := RJ2) (T := TJ2) (N := 3) hx hb hts in_J2 tyJ2 tyJ2_ok nmJ2 hown hK hP hD hS 0 rfl rfl 1 (by decide) (hts _ q121) (fun _ h9 => h9) rfl (tyJ2_ok 1 (by decide)) rfl rfl (Nat.le_of_ble_eq_true rfl) dJ2_grow_2_56 (fun H locs hP hD hS => ?_)
  have hP : va_P D vwCl [(h, .inr (13, [.int mo, .ref nw_52, .int (nI 0)])), (nw_52, .inl (ca 7, 10, .inr (.inr (.inr (.inr (fun _ => none))))))] H := hP
  have hD : va_D A [(h, .inr (13, [.int mo, .ref nw_52, .int (nI 0)])), (nw_52, .inl (ca 7, 10, .inr (.inr (.inr (.inr (fun _ => none))))))] := hD
  exact wr_aret () hx hb hr (by first | exact Or.inl ⟨_, rfl⟩ | exact Or.inr ⟨_, rfl⟩) hlk hQ dJ2_grow_2_59 (wp_to (hP.sub [0, 1] rfl) rfl) (wd_to (hD.sub [0, 1] (by decide) rfl) rfl) hS (by first | decide | omega) (by first | decide | omega) (by trivial)
theorem cs_J2_grow_2 {R : Room} {s : State} {args : Array Value} {own : String} {index : Nat} (hts : ∀ w ∈ lw_all, w.before args s = true) (hl : Cond.methodLink own index yJ2_grow_2 ∈ lw_all) {rm : Room} {mc ms : Nat} (hR : rm.frames + 1 ≤ R.frames ∧ 8 + (4 + 11) + rm.locals ≤ R.locals) (hc : rm.cells = mc := by rfl) (hs : rm.slots = ms := by rfl) : CallW R s args own RJ2 index yJ2_grow_2 cJ2_grow_2 4 (some (.array (.object "java/lang/Object"))) (ws_ yJ2_grow_2 cJ2_grow_2 4 (some (.array (.object "java/lang/Object")))) rm mc ms 1 := cwV 1 hts (lw_V hl q658 qs16 q62 q659) rfl hc hs (by decide +kernel) hR
set_option maxHeartbeats 4000000 in
theorem m_J2_grow (l : Launch) (D : va_G) (ca : Nat → ClassId) (h : Nat) (mo : Int32) (zv : Nat → Option Nat) (sz : Nat)  : Met l yJ2_grow (ws_ yJ2_grow cJ2_grow 1 (some (.array (.object "java/lang/Object")))) (rmC 2 1 10) (PcZ (KK D ca) (ZZ zv) D [.ref h] [(h, .inr (13, [.int mo, va_rf (zv 0), .int (nI 0)]))] sz) (QrA D (fun ra (zu : Unit) => True) (fun zu ra => [(h, .inr (13, [.int mo, .ref ra, .int (nI 0)])), (ra, .inl (ca 7, 10, .inr (.inr (.inr (.inr (fun _ => none))))))]) (va_A [(h, .inr (13, [.int mo, va_rf (zv 0), .int (nI 0)]))] sz)) 1 10 (va_A [(h, .inr (13, [.int mo, va_rf (zv 0), .int (nI 0)]))] sz) := by
  refine wz_head (y := yJ2_grow) (n := 1) (av := [.ref h]) (Qc := fun A => (QrA D (fun ra (zu : Unit) => True) (fun zu ra => [(h, .inr (13, [.int mo, .ref ra, .int (nI 0)])), (ra, .inl (ca 7, 10, .inr (.inr (.inr (.inr (fun _ => none))))))]) A)) (by decide) (Nat.le_of_ble_eq_true rfl) ?_
  intro zp ze zs zm za zb zt zc ls zQ A H locs hx hb hml hr hlk hown hts hnm hK hZ hP hD hS hA hl hQ
  have hown : zs.vm.findClass RJ2 = some zm.cls := hown
  have hl : lv_has ls 1 [(0, .ref h)] := hl
  have hF : CallFix zp zm zc cJ2_grow 1 zs za lw_all RJ2 := ⟨hx, hb, hml, hown, hts⟩
  have hKK := hK
  have hK : K1 D ca zs := hKK.1
  refine lv_aload_n hx hb dJ2_grow_0 rfl (lv_at hl 0 rfl) ?_
  refine lv_aload_n hx hb dJ2_grow_1 rfl (lv_at hl 0 rfl) ?_
  refine va_get (D := D) (ci := 13) (v := .int (nI 0)) (C := RJ2) (T := TJ2) (N := 3) hx hb hts in_J2 hown hK hP 0 rfl rfl 2 (by decide) (hts _ q122) (fun _ h9 => h9) rfl dJ2_grow_2 ?_
  refine lv_iconst (v := nI 1) hx hb dJ2_grow_5 rfl ?_
  refine wn_add hx hb dJ2_grow_6 ?_
  have hpm : ([(h, .inr (13, [.int mo, va_rf (zv 0), .int (nI 0)]))] : va_W).Perm ([(h, .inr (13, [.int mo, va_rf (zv 0), .int (nI 0)]))] ++ []) := wpermN [(h, .inr (13, [.int mo, va_rf (zv 0), .int (nI 0)]))] _ 1 [0] rfl (by decide) rfl
  refine mk_r (va_runV (b := h) (As := [.int (nI (0 + 1))]) hF (m_J2_grow_2 l D ca h mo (0 + 1) zv H.size (by first | assumption | omega)) (cs_J2_grow_2 hts q656 ⟨by decide, by decide⟩) (pv_Z (va_recv hK hP (ci := 13) (q0 := 0) rfl rfl) (KK_mv D ca) (ZZ_mv zv) hKK hZ hS hA hP hD hpm) rfl rfl hl.1 rfl (lv_room (Nat.le_of_ble_eq_true rfl)) dJ2_grow_7 ⟨by first | decide | (show _ ≤ _; simp only [rmC]; omega), by first | decide | (show _ ≤ _; simp only [rmC]; omega)⟩) hP hD hS hA hpm (fun ra_7 zu H locs hpo hP hD hS => ?_)
  have hP : va_P D vwCl [(h, .inr (13, [.int mo, .ref ra_7, .int (nI 0)])), (ra_7, .inl (ca 7, 10, .inr (.inr (.inr (.inr (fun _ => none))))))] H := hP
  have hD : va_D A [(h, .inr (13, [.int mo, .ref ra_7, .int (nI 0)])), (ra_7, .inl (ca 7, 10, .inr (.inr (.inr (.inr (fun _ => none))))))] := hD
  exact wr_aret () hx hb hr (by first | exact Or.inl ⟨_, rfl⟩ | exact Or.inr ⟨_, rfl⟩) hlk hQ dJ2_grow_10 (wp_to (hP.sub [0, 1] rfl) rfl) (wd_to (hD.sub [0, 1] (by decide) rfl) rfl) hS (by first | decide | omega) (by first | decide | omega) (by trivial)
theorem cs_J2_grow {R : Room} {s : State} {args : Array Value} {own : String} {index : Nat} (hts : ∀ w ∈ lw_all, w.before args s = true) (hl : Cond.methodLink own index yJ2_grow ∈ lw_all) {rm : Room} {mc ms : Nat} (hR : rm.frames + 1 ≤ R.frames ∧ 8 + (1 + 11) + rm.locals ≤ R.locals) (hc : rm.cells = mc := by rfl) (hs : rm.slots = ms := by rfl) : CallW R s args own RJ2 index yJ2_grow cJ2_grow 1 (some (.array (.object "java/lang/Object"))) (ws_ yJ2_grow cJ2_grow 1 (some (.array (.object "java/lang/Object")))) rm mc ms 0 := cwV 0 hts (lw_V hl q654 qs15 q62 q655) rfl hc hs (by decide +kernel) hR
set_option maxHeartbeats 4000000 in
theorem m_J2_add_2_0 (l : Launch) (D : va_G) (ca : Nat → ClassId) (h : Nat) (mo : Int32) (z0 : Nat) (sa : Nat) (k : Nat) (v : Int32) (fz : va_W) (zv : Nat → Option Nat) (sz : Nat) (hz0 : zv 0 = some z0) (hm : (sa, .inr (2 + k, [.int v])) ∈ fz) (hk : 1 ≤ k ∧ k ≤ 5) : Met l yJ2_add_2 (ws_ yJ2_add_2 cJ2_add_2 4 none) (rmC 3 1 10) (PcZ (KK D ca) (ZZ zv) D [.ref h, .ref sa, .ref z0, .int (nI 0)] (([(h, .inr (13, [.int mo, va_rf (zv 0), .int (nI 0)]))] : va_W) ++ fz) sz) (QvA D (fun (zu : Nat) => True) (fun zu => ([(h, .inr (13, [.int mo, .ref zu, .int (nI (0 + 1))])), (zu, .inl (ca 7, 10, .inr (.inr (.inr (.inr (va_up (fun _ => none) 0 (some sa)))))))] : va_W) ++ fz) (va_A (([(h, .inr (13, [.int mo, va_rf (zv 0), .int (nI 0)]))] : va_W) ++ fz) sz)) 1 10 (va_A (([(h, .inr (13, [.int mo, va_rf (zv 0), .int (nI 0)]))] : va_W) ++ fz) sz) := by
  refine wz_head (y := yJ2_add_2) (n := 4) (av := [.ref h, .ref sa, .ref z0, .int (nI 0)]) (Qc := fun A => (QvA D (fun (zu : Nat) => True) (fun zu => ([(h, .inr (13, [.int mo, .ref zu, .int (nI (0 + 1))])), (zu, .inl (ca 7, 10, .inr (.inr (.inr (.inr (va_up (fun _ => none) 0 (some sa)))))))] : va_W) ++ fz) A)) (by decide) (Nat.le_of_ble_eq_true rfl) ?_
  intro zp ze zs zm za zb zt zc ls zQ A H locs hx hb hml hr hlk hown hts hnm hK hZ hP hD hS hA hl hQ
  have hown : zs.vm.findClass RJ2 = some zm.cls := hown
  have hl : lv_has ls 4 [(0, .ref h), (1, .ref sa), (2, .ref z0), (3, .int (nI 0))] := hl
  have hF : CallFix zp zm zc cJ2_add_2 4 zs za lw_all RJ2 := ⟨hx, hb, hml, hown, hts⟩
  have hKK := hK
  have hK : K1 D ca zs := hKK.1
  refine lv_iload_n hx hb dJ2_add_2_0 rfl (lv_at hl 3 rfl) ?_
  refine lv_aload_n hx hb dJ2_add_2_1 rfl (lv_at hl 2 rfl) ?_
  refine zz_len0 hx hb hZ hz0 hS dJ2_add_2_2 ?_
  refine wn_ne (tgt := 11) hx hb (by omega) (by omega) dJ2_add_2_3 (by decide) (fun zh => by first | exact absurd zh (by decide) | exact absurd rfl zh | omega) (fun c_3 => ?_)
  refine lv_aload_n hx hb dJ2_add_2_6 rfl (lv_at hl 0 rfl) ?_
  have hpm : (([(h, .inr (13, [.int mo, va_rf (zv 0), .int (nI 0)]))] : va_W) ++ fz).Perm (([(h, .inr (13, [.int mo, va_rf (zv 0), .int (nI 0)]))] : va_W) ++ (([] : va_W) ++ fz)) := wpermT [(h, .inr (13, [.int mo, va_rf (zv 0), .int (nI 0)]))] fz [(h, .inr (13, [.int mo, va_rf (zv 0), .int (nI 0)]))] 1 [0] rfl (by decide) rfl
  refine mk_r (va_runV (b := h) (As := []) hF (m_J2_grow l D ca h mo zv H.size ) (cs_J2_grow hts q652 ⟨by decide, by decide⟩) (pv_Z (va_recv hK hP (ci := 13) (q0 := 0) rfl rfl) (KK_mv D ca) (ZZ_mv zv) hKK hZ hS hA hP hD hpm) rfl rfl hl.1 rfl (lv_room (Nat.le_of_ble_eq_true rfl)) dJ2_add_2_7 ⟨by first | decide | (show _ ≤ _; simp only [rmC]; omega), by first | decide | (show _ ≤ _; simp only [rmC]; omega)⟩) hP hD hS hA hpm (fun ra_7 zu H locs hpo hP hD hS => ?_)
  have hP : va_P D vwCl (([(h, .inr (13, [.int mo, .ref ra_7, .int (nI 0)])), (ra_7, .inl (ca 7, 10, .inr (.inr (.inr (.inr (fun _ => none))))))] : va_W) ++ fz) H := hP
  have hD : va_D A (([(h, .inr (13, [.int mo, .ref ra_7, .int (nI 0)])), (ra_7, .inl (ca 7, 10, .inr (.inr (.inr (.inr (fun _ => none))))))] : va_W) ++ fz) := hD
  refine lv_astore_n (lv' := [(2, .ref ra_7), (0, .ref h), (1, .ref sa), (3, .int (nI 0))]) hx hb dJ2_add_2_10 rfl hl (by decide) rfl (fun ls hl => ?_)
  refine lv_aload_n hx hb dJ2_add_2_11 rfl (lv_at hl 0 rfl) ?_
  refine lv_iload_n hx hb dJ2_add_2_12 rfl (lv_at hl 3 rfl) ?_
  refine lv_aload_n hx hb dJ2_add_2_13 rfl (lv_at hl 2 rfl) ?_
  refine wn_astS (k := k) hx hb hKK hP hD hS (List.mem_append_right _ hm) hk 1 rfl (by omega) (by first | decide | omega) dJ2_add_2_14 (fun H locs hP hD hS => ?_)
  have hP := set_P (k := 1) (pre' := [(h, .inr (13, [.int mo, .ref ra_7, .int (nI 0)])), (ra_7, .inl (ca 7, 10, .inr (.inr (.inr (.inr (va_up (fun _ => none) 0 (some sa)))))))]) hP (Nat.le_of_ble_eq_true rfl) rfl
  have hD := set_D (k := 1) (pre' := [(h, .inr (13, [.int mo, .ref ra_7, .int (nI 0)])), (ra_7, .inl (ca 7, 10, .inr (.inr (.inr (.inr (va_up (fun _ => none) 0 (some sa)))))))]) hD (Nat.le_of_ble_eq_true rfl) rfl
  refine lv_aload_n hx hb dJ2_add_2_15 rfl (lv_at hl 1 rfl) ?_
  refine lv_iload_n hx hb dJ2_add_2_16 rfl (lv_at hl 3 rfl) ?_
  refine lv_iconst (v := nI 1) hx hb dJ2_add_2_17 rfl ?_
  refine wn_add hx hb dJ2_add_2_18 ?_
  refine va_put (D := D) (ci := 13) (v := .int (nI (0 + 1))) (ty := .int) (C := RJ2) (T := TJ2) (N := 3) hx hb hts in_J2 tyJ2 tyJ2_ok nmJ2 hown hK hP hD hS 0 rfl rfl 2 (by decide) (hts _ q122) (fun _ h9 => h9) rfl (tyJ2_ok 2 (by decide)) rfl rfl (Nat.le_of_ble_eq_true rfl) dJ2_add_2_19 (fun H locs hP hD hS => ?_)
  have hP := set_P (k := 0) (pre' := [(h, .inr (13, [.int mo, .ref ra_7, .int (nI (0 + 1))])), (ra_7, .inl (ca 7, 10, .inr (.inr (.inr (.inr (va_up (fun _ => none) 0 (some sa)))))))]) hP (Nat.le_of_ble_eq_true rfl) rfl
  have hD := set_D (k := 0) (pre' := [(h, .inr (13, [.int mo, .ref ra_7, .int (nI (0 + 1))])), (ra_7, .inl (ca 7, 10, .inr (.inr (.inr (.inr (va_up (fun _ => none) 0 (some sa)))))))]) hD (Nat.le_of_ble_eq_true rfl) rfl
  exact wr_vret (ra_7) hx hb hr hlk hQ dJ2_add_2_22 (wp_to (wp_tail hP [0, 1] rfl) rfl) (wd_to (wd_tail hD [0, 1] (by decide) rfl rfl) rfl) hS (by first | decide | omega) (by first | decide | omega) trivial
set_option maxHeartbeats 4000000 in
theorem m_J2_add_2_s (l : Launch) (D : va_G) (ca : Nat → ClassId) (h : Nat) (mo : Int32) (ed : Nat) (f : Nat → Option Nat) (n : Nat) (sa : Nat) (k : Nat) (v : Int32) (fz : va_W) (sz : Nat) (hn : n < 10) (hm : (sa, .inr (2 + k, [.int v])) ∈ fz) (hk : 1 ≤ k ∧ k ≤ 5) : Met l yJ2_add_2 (ws_ yJ2_add_2 cJ2_add_2 4 none) (rmL 0) (PcA (KK D ca) D [.ref h, .ref sa, .ref ed, .int (nI n)] (([(h, .inr (13, [.int mo, .ref ed, .int (nI n)])), (ed, .inl (ca 7, 10, .inr (.inr (.inr (.inr f)))))] : va_W) ++ fz) sz) (QvA D (fun  (_ : Unit) => True) (fun _ => ([(h, .inr (13, [.int mo, .ref ed, .int (nI (n + 1))])), (ed, .inl (ca 7, 10, .inr (.inr (.inr (.inr (va_up f n (some sa)))))))] : va_W) ++ fz) (va_A (([(h, .inr (13, [.int mo, .ref ed, .int (nI n)])), (ed, .inl (ca 7, 10, .inr (.inr (.inr (.inr f)))))] : va_W) ++ fz) sz)) 0 0 (va_A (([(h, .inr (13, [.int mo, .ref ed, .int (nI n)])), (ed, .inl (ca 7, 10, .inr (.inr (.inr (.inr f)))))] : va_W) ++ fz) sz) := by
  refine wr_head (y := yJ2_add_2) (n := 4) (av := [.ref h, .ref sa, .ref ed, .int (nI n)]) (Qc := fun A => (QvA D (fun  (_ : Unit) => True) (fun _ => ([(h, .inr (13, [.int mo, .ref ed, .int (nI (n + 1))])), (ed, .inl (ca 7, 10, .inr (.inr (.inr (.inr (va_up f n (some sa)))))))] : va_W) ++ fz) A)) (by decide) (Nat.le_of_ble_eq_true rfl) ?_
  intro zp ze zs zm za zb zt zc ls zQ A H locs hx hb hml hr hlk hown hts hnm hK hP hD hS hA hl hQ
  have hown : zs.vm.findClass RJ2 = some zm.cls := hown
  have hl : lv_has ls 4 [(0, .ref h), (1, .ref sa), (2, .ref ed), (3, .int (nI n))] := hl
  have hF : CallFix zp zm zc cJ2_add_2 4 zs za lw_all RJ2 := ⟨hx, hb, hml, hown, hts⟩
  have hKK := hK
  have hK : K1 D ca zs := hKK.1
  refine lv_iload_n hx hb dJ2_add_2_0 rfl (lv_at hl 3 rfl) ?_
  refine lv_aload_n hx hb dJ2_add_2_1 rfl (lv_at hl 2 rfl) ?_
  refine va_alen (v := nI 10) hx hb hK hP 1 7 rfl rfl rfl dJ2_add_2_2 ?_
  refine wn_ne (tgt := 11) hx hb (by omega) (by omega) dJ2_add_2_3 (by decide) (fun c_3 => ?_) (fun zh => by omega)
  refine lv_aload_n hx hb dJ2_add_2_11 rfl (lv_at hl 2 rfl) ?_
  refine lv_iload_n hx hb dJ2_add_2_12 rfl (lv_at hl 3 rfl) ?_
  refine lv_aload_n hx hb dJ2_add_2_13 rfl (lv_at hl 1 rfl) ?_
  refine wn_astS (k := k) hx hb hKK hP hD hS (List.mem_append_right _ hm) hk 1 rfl (by omega) (by first | decide | omega) dJ2_add_2_14 (fun H locs hP hD hS => ?_)
  have hP := set_P (k := 1) (pre' := [(h, .inr (13, [.int mo, .ref ed, .int (nI n)])), (ed, .inl (ca 7, 10, .inr (.inr (.inr (.inr (va_up f n (some sa)))))))]) hP (Nat.le_of_ble_eq_true rfl) rfl
  have hD := set_D (k := 1) (pre' := [(h, .inr (13, [.int mo, .ref ed, .int (nI n)])), (ed, .inl (ca 7, 10, .inr (.inr (.inr (.inr (va_up f n (some sa)))))))]) hD (Nat.le_of_ble_eq_true rfl) rfl
  refine lv_aload_n hx hb dJ2_add_2_15 rfl (lv_at hl 0 rfl) ?_
  refine lv_iload_n hx hb dJ2_add_2_16 rfl (lv_at hl 3 rfl) ?_
  refine lv_iconst (v := nI 1) hx hb dJ2_add_2_17 rfl ?_
  refine wn_add hx hb dJ2_add_2_18 ?_
  refine va_put (D := D) (ci := 13) (v := .int (nI (n + 1))) (ty := .int) (C := RJ2) (T := TJ2) (N := 3) hx hb hts in_J2 tyJ2 tyJ2_ok nmJ2 hown hK hP hD hS 0 rfl rfl 2 (by decide) (hts _ q122) (fun _ h9 => h9) rfl (tyJ2_ok 2 (by decide)) rfl rfl (Nat.le_of_ble_eq_true rfl) dJ2_add_2_19 (fun H locs hP hD hS => ?_)
  have hP := set_P (k := 0) (pre' := [(h, .inr (13, [.int mo, .ref ed, .int (nI (n + 1))])), (ed, .inl (ca 7, 10, .inr (.inr (.inr (.inr (va_up f n (some sa)))))))]) hP (Nat.le_of_ble_eq_true rfl) rfl
  have hD := set_D (k := 0) (pre' := [(h, .inr (13, [.int mo, .ref ed, .int (nI (n + 1))])), (ed, .inl (ca 7, 10, .inr (.inr (.inr (.inr (va_up f n (some sa)))))))]) hD (Nat.le_of_ble_eq_true rfl) rfl
  exact wr_vret () hx hb hr hlk hQ dJ2_add_2_22 (wp_to (wp_tail hP [0, 1] rfl) rfl) (wd_to (wd_tail hD [0, 1] (by decide) rfl rfl) rfl) hS (Nat.le_refl _) (Nat.le_refl _) trivial
theorem cs_J2_add_2 {R : Room} {s : State} {args : Array Value} {own : String} {index : Nat} (hts : ∀ w ∈ lw_all, w.before args s = true) (hl : Cond.methodLink own index yJ2_add_2 ∈ lw_all) {rm : Room} {mc ms : Nat} (hR : rm.frames + 1 ≤ R.frames ∧ 8 + (4 + 11) + rm.locals ≤ R.locals) (hc : rm.cells = mc := by rfl) (hs : rm.slots = ms := by rfl) : CallW R s args own RJ2 index yJ2_add_2 cJ2_add_2 4 none (ws_ yJ2_add_2 cJ2_add_2 4 none) rm mc ms 3 := cwV 3 hts (lw_V hl q650 qs14 q62 q651) rfl hc hs (by decide +kernel) hR
set_option maxHeartbeats 4000000 in
theorem m_J2_add_0 (l : Launch) (D : va_G) (ca : Nat → ClassId) (h : Nat) (mo : Int32) (sa : Nat) (k : Nat) (v : Int32) (fz : va_W) (zv : Nat → Option Nat) (sz : Nat) (hm : (sa, .inr (2 + k, [.int v])) ∈ fz) (hk : 1 ≤ k ∧ k ≤ 5) : Met l yJ2_add (ws_ yJ2_add cJ2_add 2 (some .boolean)) (rmC 4 1 10) (PcZ (KK D ca) (ZZ zv) D [.ref h, .ref sa] (([(h, .inr (13, [.int mo, va_rf (zv 0), .int (nI 0)]))] : va_W) ++ fz) sz) (QiA D (fun zr (zu : Nat) => zr = bI true) (fun zu => ([(h, .inr (13, [.int (mo + nI 1), .ref zu, .int (nI (0 + 1))])), (zu, .inl (ca 7, 10, .inr (.inr (.inr (.inr (va_up (fun _ => none) 0 (some sa)))))))] : va_W) ++ fz) (va_A (([(h, .inr (13, [.int mo, va_rf (zv 0), .int (nI 0)]))] : va_W) ++ fz) sz)) 1 10 (va_A (([(h, .inr (13, [.int mo, va_rf (zv 0), .int (nI 0)]))] : va_W) ++ fz) sz) := by
  refine wz_head (y := yJ2_add) (n := 2) (av := [.ref h, .ref sa]) (Qc := fun A => (QiA D (fun zr (zu : Nat) => zr = bI true) (fun zu => ([(h, .inr (13, [.int (mo + nI 1), .ref zu, .int (nI (0 + 1))])), (zu, .inl (ca 7, 10, .inr (.inr (.inr (.inr (va_up (fun _ => none) 0 (some sa)))))))] : va_W) ++ fz) A)) (by decide) (Nat.le_of_ble_eq_true rfl) ?_
  intro zp ze zs zm za zb zt zc ls zQ A H locs hx hb hml hr hlk hown hts hnm hK hZ hP hD hS hA hl hQ
  have hown : zs.vm.findClass RJ2 = some zm.cls := hown
  have hl : lv_has ls 2 [(0, .ref h), (1, .ref sa)] := hl
  have hF : CallFix zp zm zc cJ2_add 2 zs za lw_all RJ2 := ⟨hx, hb, hml, hown, hts⟩
  have hKK := hK
  have hK : K1 D ca zs := hKK.1
  obtain ⟨z0, hz0, hT0⟩ := hZ.2.2.2.2.2.2.2
  refine lv_aload_n hx hb dJ2_add_0 rfl (lv_at hl 0 rfl) ?_
  refine lv_dup hx hb dJ2_add_1 rfl ?_
  refine va_get (D := D) (ci := 13) (v := .int mo) (C := RJ2) (T := TJ2) (N := 3) hx hb hts in_J2 hown hK hP 0 rfl rfl 0 (by decide) (hts _ q124) (u_same (hts _ q125)) rfl dJ2_add_2 ?_
  refine lv_iconst (v := nI 1) hx hb dJ2_add_5 rfl ?_
  refine lv_iadd hx hb dJ2_add_6 ?_
  refine va_put (D := D) (ci := 13) (v := .int (mo + (nI 1))) (ty := .int) (C := RJ2) (T := TJ2) (N := 3) hx hb hts in_J2 tyJ2 tyJ2_ok nmJ2 hown hK hP hD hS 0 rfl rfl 0 (by decide) (hts _ q124) (u_same (hts _ q125)) rfl (tyJ2_ok 0 (by decide)) rfl rfl (Nat.le_of_ble_eq_true rfl) dJ2_add_7 (fun H locs hP hD hS => ?_)
  have hP := set_P (k := 0) (pre' := [(h, .inr (13, [.int (mo + (nI 1)), va_rf (zv 0), .int (nI 0)]))]) hP (Nat.le_of_ble_eq_true rfl) rfl
  have hD := set_D (k := 0) (pre' := [(h, .inr (13, [.int (mo + (nI 1)), va_rf (zv 0), .int (nI 0)]))]) hD (Nat.le_of_ble_eq_true rfl) rfl
  refine lv_aload_n hx hb dJ2_add_10 rfl (lv_at hl 0 rfl) ?_
  refine lv_aload_n hx hb dJ2_add_11 rfl (lv_at hl 1 rfl) ?_
  refine lv_aload_n hx hb dJ2_add_12 rfl (lv_at hl 0 rfl) ?_
  refine va_get (D := D) (ci := 13) (v := va_rf (zv 0)) (C := RJ2) (T := TJ2) (N := 3) hx hb hts in_J2 hown hK hP 0 rfl rfl 1 (by decide) (hts _ q121) (fun _ h9 => h9) rfl dJ2_add_13 ?_
  refine lv_aload_n hx hb dJ2_add_16 rfl (lv_at hl 0 rfl) ?_
  refine va_get (D := D) (ci := 13) (v := .int (nI 0)) (C := RJ2) (T := TJ2) (N := 3) hx hb hts in_J2 hown hK hP 0 rfl rfl 2 (by decide) (hts _ q122) (fun _ h9 => h9) rfl dJ2_add_17 ?_
  refine W.eq (g2 := F0 zm 20 ls [.int (nI 0), .ref z0, .ref sa, .ref h]) (by rw [hz0]; rfl) ?_
  have hpm : (([(h, .inr (13, [.int (mo + (nI 1)), va_rf (zv 0), .int (nI 0)]))] : va_W) ++ fz).Perm ((([(h, .inr (13, [.int ((mo + (nI 1))), va_rf (zv 0), .int (nI 0)]))] : va_W) ++ fz) ++ ([] : va_W)) := wpermF [(h, .inr (13, [.int (mo + (nI 1)), va_rf (zv 0), .int (nI 0)]))] fz [(h, .inr (13, [.int ((mo + (nI 1))), va_rf (zv 0), .int (nI 0)]))] [] 1 [0] rfl (by decide) rfl
  refine mk_v (va_runV (b := h) (As := [.ref sa, .ref z0, .int (nI 0)]) hF (m_J2_add_2_0 l D ca h (mo + (nI 1)) z0 sa k v fz zv H.size (by assumption) (by assumption) (by first | assumption | omega)) (cs_J2_add_2 hts q648 ⟨by decide, by decide⟩) (pv_Z (va_recv hK hP (ci := 13) (q0 := 0) rfl rfl) (KK_mv D ca) (ZZ_mv zv) hKK hZ hS hA hP hD hpm) rfl rfl hl.1 rfl (lv_room (Nat.le_of_ble_eq_true rfl)) dJ2_add_20 ⟨by first | decide | (show _ ≤ _; simp only [rmC]; omega), by first | decide | (show _ ≤ _; simp only [rmC]; omega)⟩) hP hD hS hA hpm (fun ed_20 H locs hpo hP hD hS => ?_)
  have hP := hP.perm wpermB
  have hD := hD.perm wpermB
  have hP : va_P D vwCl (([(h, .inr (13, [.int ((mo + (nI 1))), .ref ed_20, .int (nI (0 + 1))])), (ed_20, .inl (ca 7, 10, .inr (.inr (.inr (.inr (va_up (fun _ => none) 0 (some sa)))))))] : va_W) ++ fz) H := hP
  have hD : va_D A (([(h, .inr (13, [.int ((mo + (nI 1))), .ref ed_20, .int (nI (0 + 1))])), (ed_20, .inl (ca 7, 10, .inr (.inr (.inr (.inr (va_up (fun _ => none) 0 (some sa)))))))] : va_W) ++ fz) := hD
  refine lv_iconst (v := nI 1) hx hb dJ2_add_23 rfl ?_
  have w_1 : (mo + (nI 1)) = mo + nI 1 := by first | rfl | (rfl)
  refine W.eq (g2 := F0 zm 24 ls [.int (bI true)]) rfl ?_
  exact wr_zret (ed_20) hx hb hr hlk hQ dJ2_add_24 (wp_to (wp_tail hP [0, 1] rfl) (congrArg (fun zx => (([(h, .inr (13, [.int zx, .ref ed_20, .int (nI (0 + 1))])), (ed_20, .inl (ca 7, 10, .inr (.inr (.inr (.inr (va_up (fun _ => none) 0 (some sa)))))))] : va_W) ++ fz : va_W)) w_1)) (wd_to (wd_tail hD [0, 1] (by decide) rfl rfl) (congrArg (fun zx => (([(h, .inr (13, [.int zx, .ref ed_20, .int (nI (0 + 1))])), (ed_20, .inl (ca 7, 10, .inr (.inr (.inr (.inr (va_up (fun _ => none) 0 (some sa)))))))] : va_W) ++ fz : va_W)) w_1)) hS (by first | decide | omega) (by first | decide | omega) (by rfl)
set_option maxHeartbeats 4000000 in
theorem m_J2_add_s (l : Launch) (D : va_G) (ca : Nat → ClassId) (h : Nat) (mo : Int32) (ed : Nat) (f : Nat → Option Nat) (n : Nat) (sa : Nat) (k : Nat) (v : Int32) (fz : va_W) (sz : Nat) (hn : n < 10) (hm : (sa, .inr (2 + k, [.int v])) ∈ fz) (hk : 1 ≤ k ∧ k ≤ 5) : Met l yJ2_add (ws_ yJ2_add cJ2_add 2 (some .boolean)) (rmL 1) (PcA (KK D ca) D [.ref h, .ref sa] (([(h, .inr (13, [.int mo, .ref ed, .int (nI n)])), (ed, .inl (ca 7, 10, .inr (.inr (.inr (.inr f)))))] : va_W) ++ fz) sz) (QiA D (fun zr (_ : Unit) => zr = bI true) (fun _ => ([(h, .inr (13, [.int (mo + nI 1), .ref ed, .int (nI (n + 1))])), (ed, .inl (ca 7, 10, .inr (.inr (.inr (.inr (va_up f n (some sa)))))))] : va_W) ++ fz) (va_A (([(h, .inr (13, [.int mo, .ref ed, .int (nI n)])), (ed, .inl (ca 7, 10, .inr (.inr (.inr (.inr f)))))] : va_W) ++ fz) sz)) 0 0 (va_A (([(h, .inr (13, [.int mo, .ref ed, .int (nI n)])), (ed, .inl (ca 7, 10, .inr (.inr (.inr (.inr f)))))] : va_W) ++ fz) sz) := by
  refine wr_head (y := yJ2_add) (n := 2) (av := [.ref h, .ref sa]) (Qc := fun A => (QiA D (fun zr (_ : Unit) => zr = bI true) (fun _ => ([(h, .inr (13, [.int (mo + nI 1), .ref ed, .int (nI (n + 1))])), (ed, .inl (ca 7, 10, .inr (.inr (.inr (.inr (va_up f n (some sa)))))))] : va_W) ++ fz) A)) (by decide) (Nat.le_of_ble_eq_true rfl) ?_
  intro zp ze zs zm za zb zt zc ls zQ A H locs hx hb hml hr hlk hown hts hnm hK hP hD hS hA hl hQ
  have hown : zs.vm.findClass RJ2 = some zm.cls := hown
  have hl : lv_has ls 2 [(0, .ref h), (1, .ref sa)] := hl
  have hF : CallFix zp zm zc cJ2_add 2 zs za lw_all RJ2 := ⟨hx, hb, hml, hown, hts⟩
  have hKK := hK
  have hK : K1 D ca zs := hKK.1
  refine lv_aload_n hx hb dJ2_add_0 rfl (lv_at hl 0 rfl) ?_
  refine lv_dup hx hb dJ2_add_1 rfl ?_
  refine va_get (D := D) (ci := 13) (v := .int mo) (C := RJ2) (T := TJ2) (N := 3) hx hb hts in_J2 hown hK hP 0 rfl rfl 0 (by decide) (hts _ q124) (u_same (hts _ q125)) rfl dJ2_add_2 ?_
  refine lv_iconst (v := nI 1) hx hb dJ2_add_5 rfl ?_
  refine lv_iadd hx hb dJ2_add_6 ?_
  refine va_put (D := D) (ci := 13) (v := .int (mo + (nI 1))) (ty := .int) (C := RJ2) (T := TJ2) (N := 3) hx hb hts in_J2 tyJ2 tyJ2_ok nmJ2 hown hK hP hD hS 0 rfl rfl 0 (by decide) (hts _ q124) (u_same (hts _ q125)) rfl (tyJ2_ok 0 (by decide)) rfl rfl (Nat.le_of_ble_eq_true rfl) dJ2_add_7 (fun H locs hP hD hS => ?_)
  have hP := set_P (k := 0) (pre' := [(h, .inr (13, [.int (mo + (nI 1)), .ref ed, .int (nI n)])), (ed, .inl (ca 7, 10, .inr (.inr (.inr (.inr f)))))]) hP (Nat.le_of_ble_eq_true rfl) rfl
  have hD := set_D (k := 0) (pre' := [(h, .inr (13, [.int (mo + (nI 1)), .ref ed, .int (nI n)])), (ed, .inl (ca 7, 10, .inr (.inr (.inr (.inr f)))))]) hD (Nat.le_of_ble_eq_true rfl) rfl
  refine lv_aload_n hx hb dJ2_add_10 rfl (lv_at hl 0 rfl) ?_
  refine lv_aload_n hx hb dJ2_add_11 rfl (lv_at hl 1 rfl) ?_
  refine lv_aload_n hx hb dJ2_add_12 rfl (lv_at hl 0 rfl) ?_
  refine va_get (D := D) (ci := 13) (v := .ref ed) (C := RJ2) (T := TJ2) (N := 3) hx hb hts in_J2 hown hK hP 0 rfl rfl 1 (by decide) (hts _ q121) (fun _ h9 => h9) rfl dJ2_add_13 ?_
  refine lv_aload_n hx hb dJ2_add_16 rfl (lv_at hl 0 rfl) ?_
  refine va_get (D := D) (ci := 13) (v := .int (nI n)) (C := RJ2) (T := TJ2) (N := 3) hx hb hts in_J2 hown hK hP 0 rfl rfl 2 (by decide) (hts _ q122) (fun _ h9 => h9) rfl dJ2_add_17 ?_
  have hpm : (([(h, .inr (13, [.int (mo + (nI 1)), .ref ed, .int (nI n)])), (ed, .inl (ca 7, 10, .inr (.inr (.inr (.inr f)))))] : va_W) ++ fz).Perm ((([(h, .inr (13, [.int ((mo + (nI 1))), .ref ed, .int (nI n)])), (ed, .inl (ca 7, 10, .inr (.inr (.inr (.inr f)))))] : va_W) ++ fz) ++ ([] : va_W)) := wpermF [(h, .inr (13, [.int (mo + (nI 1)), .ref ed, .int (nI n)])), (ed, .inl (ca 7, 10, .inr (.inr (.inr (.inr f)))))] fz [(h, .inr (13, [.int ((mo + (nI 1))), .ref ed, .int (nI n)])), (ed, .inl (ca 7, 10, .inr (.inr (.inr (.inr f)))))] [] 2 [0, 1] rfl (by decide) rfl
  refine mk_v (va_runV (b := h) (As := [.ref sa, .ref ed, .int (nI n)]) hF (m_J2_add_2_s l D ca h (mo + (nI 1)) ed f n sa k v fz H.size (by first | assumption | omega) (by assumption) (by first | assumption | omega)) (cs_J2_add_2 hts q648 ⟨by decide, by decide⟩) (pv_A (va_recv hK hP (ci := 13) (q0 := 0) rfl rfl) (KK_mv D ca) hKK hP hD hpm) rfl rfl hl.1 rfl (lv_room (Nat.le_of_ble_eq_true rfl)) dJ2_add_20 ⟨Nat.zero_le _, Nat.zero_le _⟩) hP hD hS hA hpm (fun zu H locs hpo hP hD hS => ?_)
  have hP := hP.perm wpermB
  have hD := hD.perm wpermB
  have hP : va_P D vwCl (([(h, .inr (13, [.int ((mo + (nI 1))), .ref ed, .int (nI (n + 1))])), (ed, .inl (ca 7, 10, .inr (.inr (.inr (.inr (va_up f n (some sa)))))))] : va_W) ++ fz) H := hP
  have hD : va_D A (([(h, .inr (13, [.int ((mo + (nI 1))), .ref ed, .int (nI (n + 1))])), (ed, .inl (ca 7, 10, .inr (.inr (.inr (.inr (va_up f n (some sa)))))))] : va_W) ++ fz) := hD
  refine lv_iconst (v := nI 1) hx hb dJ2_add_23 rfl ?_
  have w_1 : (mo + (nI 1)) = mo + nI 1 := by first | rfl | (rfl)
  refine W.eq (g2 := F0 zm 24 ls [.int (bI true)]) rfl ?_
  exact wr_zret () hx hb hr hlk hQ dJ2_add_24 (wp_to (wp_tail hP [0, 1] rfl) (congrArg (fun zx => (([(h, .inr (13, [.int zx, .ref ed, .int (nI (n + 1))])), (ed, .inl (ca 7, 10, .inr (.inr (.inr (.inr (va_up f n (some sa)))))))] : va_W) ++ fz : va_W)) w_1)) (wd_to (wd_tail hD [0, 1] (by decide) rfl rfl) (congrArg (fun zx => (([(h, .inr (13, [.int zx, .ref ed, .int (nI (n + 1))])), (ed, .inl (ca 7, 10, .inr (.inr (.inr (.inr (va_up f n (some sa)))))))] : va_W) ++ fz : va_W)) w_1)) hS (Nat.le_refl _) (Nat.le_refl _) (by rfl)
