set_option maxRecDepth 100000
set_option maxHeartbeats 4000000 in
theorem m_J10_checkIndexQ (l : Launch) (D : va_G) (ca : Nat → ClassId) (i : Nat) (n : Nat) (zq : Option Nat) (h1 : i < n) (h2 : n < 2147483648) : Met l yJ10_checkIndex (ws_ yJ10_checkIndex cJ10_checkIndex 3 (some .int)) (rmL 0) (PcR (K1 D ca) D [.int (nI i), .int (nI n), va_rf zq] []) (vp_Si (fun zr => zr = nI i)) 0 0 (fun _ => False) := by
  refine rd_head (by decide) (by rcases zq with _ | _ <;> exact Nat.le_of_ble_eq_true rfl) ?_
  intro zp ze zs zm za zb zt zc ls zQ hx hb hml hr hlk hown hts hK hP hl hQ
  have hown : zs.vm.findClass RJ10 = some zm.cls := hown
  have hl : lv_has ls 3 [(0, .int (nI i)), (1, .int (nI n)), (2, va_rf zq)] := hl
  have hF : CallFix zp zm zc cJ10_checkIndex 3 zs za lw_all RJ10 := ⟨hx, hb, hml, hown, hts⟩
  refine lv_iload_n hx hb dJ10_checkIndex_0 rfl (lv_at hl 0 rfl) ?_
  refine wn_iflt (tgt := 9) hx hb (by omega) dJ10_checkIndex_1 (by decide) ?_
  refine lv_iload_n hx hb dJ10_checkIndex_4 rfl (lv_at hl 0 rfl) ?_
  refine lv_iload_n hx hb dJ10_checkIndex_5 rfl (lv_at hl 1 rfl) ?_
  refine wn_lt (tgt := 16) hx hb (by omega) (by omega) dJ10_checkIndex_6 (by decide) (fun c_6 => ?_) (fun c_6 => ?_)
  · have c_6n := Nat.not_le.mpr c_6
    refine lv_iload_n hx hb dJ10_checkIndex_16 rfl (lv_at hl 0 rfl) ?_
    exact rd_iret hx hb hr hlk hQ dJ10_checkIndex_17 (by rfl)
  · have c_6n := Nat.not_lt.mpr c_6
    exact absurd h1 (by omega)
set_option maxHeartbeats 4000000 in
theorem m_J8_coder (l : Launch) (D : va_G) (ca : Nat → ClassId) (zv : Nat → Option Nat) (sz : Nat)  : Met l yJ8_coder (ws_ yJ8_coder cJ8_coder 1 (some .byte)) (rmL 0) (PcZ (KK D ca) (ZZ zv) D [.ref ((zv 4).getD 0)] [] sz) (QiA D (fun zr (_ : Unit) => zr = nI 0) (fun _ => []) (va_A [] sz)) 0 0 (va_A [] sz) := by
  refine wz_head (y := yJ8_coder) (n := 1) (av := [.ref ((zv 4).getD 0)]) (Qc := fun A => (QiA D (fun zr (_ : Unit) => zr = nI 0) (fun _ => []) A)) (by decide) (Nat.le_of_ble_eq_true rfl) ?_
  intro zp ze zs zm za zb zt zc ls zQ A H locs hx hb hml hr hlk hown hts hnm hK hZ hP hD hS hA hl hQ
  have hown : zs.vm.findClass RJ8 = some zm.cls := hown
  have hl : lv_has ls 1 [(0, .ref ((zv 4).getD 0))] := hl
  have hF : CallFix zp zm zc cJ8_coder 1 zs za lw_all RJ8 := ⟨hx, hb, hml, hown, hts⟩
  have hKK := hK
  have hK : K1 D ca zs := hKK.1
  refine va_gets (v := .int (nI 1)) hx hb (hZ.2.2.2.1) hS hown (hts _ q574) (fun _ h9 => h9) dJ8_coder_0 ?_
  refine wn_ifeq (tgt := 13) hx hb (by omega) dJ8_coder_3 (by decide) (fun zh => by first | exact absurd zh (by decide) | exact absurd rfl zh | omega) (fun c_3 => ?_)
  refine lv_aload_n hx hb dJ8_coder_6 rfl (lv_at hl 0 rfl) ?_
  refine vk_getf (v := .int (nI 0)) hx hb (hZ.2.2.2.2.2.1.1 0 (by decide)).2.1 hS hown (hts _ q1646) (fun _ h9 => h9) dJ8_coder_7 ?_
  refine lv_goto (tgt := 14) hx hb dJ8_coder_10 (by decide) ?_
  exact wr_nret () hx hb hr (by rfl) hlk hQ dJ8_coder_14 (wp_to (hP.sub [] rfl) rfl) (wd_to (hD.sub [] (by decide) rfl) rfl) hS (Nat.le_refl _) (Nat.le_refl _) (by rfl)
theorem cs_J8_coder {R : Room} {s : State} {args : Array Value} {own : String} {index : Nat} (hts : ∀ w ∈ lw_all, w.before args s = true) (hl : Cond.methodLink own index yJ8_coder ∈ lw_all) {rm : Room} {mc ms : Nat} (hR : rm.frames + 1 ≤ R.frames ∧ 8 + (1 + 11) + rm.locals ≤ R.locals) (hc : rm.cells = mc := by rfl) (hs : rm.slots = ms := by rfl) : CallW R s args own RJ8 index yJ8_coder cJ8_coder 1 (some .byte) (ws_ yJ8_coder cJ8_coder 1 (some .byte)) rm mc ms 0 := cwV 0 hts (lw_V hl q571 q572 q78 q573) rfl hc hs (by decide +kernel) hR
set_option maxHeartbeats 4000000 in
theorem m_J8_length (l : Launch) (D : va_G) (ca : Nat → ClassId) (zv : Nat → Option Nat) (sz : Nat)  : Met l yJ8_length (ws_ yJ8_length cJ8_length 1 (some .int)) (rmL 1) (PcZ (KK D ca) (ZZ zv) D [.ref ((zv 4).getD 0)] [] sz) (QiA D (fun zr (_ : Unit) => zr = nI 5) (fun _ => []) (va_A [] sz)) 0 0 (va_A [] sz) := by
  refine wz_head (y := yJ8_length) (n := 1) (av := [.ref ((zv 4).getD 0)]) (Qc := fun A => (QiA D (fun zr (_ : Unit) => zr = nI 5) (fun _ => []) A)) (by decide) (Nat.le_of_ble_eq_true rfl) ?_
  intro zp ze zs zm za zb zt zc ls zQ A H locs hx hb hml hr hlk hown hts hnm hK hZ hP hD hS hA hl hQ
  have hown : zs.vm.findClass RJ8 = some zm.cls := hown
  have hl : lv_has ls 1 [(0, .ref ((zv 4).getD 0))] := hl
  have hF : CallFix zp zm zc cJ8_length 1 zs za lw_all RJ8 := ⟨hx, hb, hml, hown, hts⟩
  have hKK := hK
  have hK : K1 D ca zs := hKK.1
  refine lv_aload_n hx hb dJ8_length_0 rfl (lv_at hl 0 rfl) ?_
  refine vk_getf (v := .ref ((zv 5).getD 0)) hx hb (hZ.2.2.2.2.2.1.1 0 (by decide)).2.2.1 hS hown (hts _ q1645) (fun _ h9 => h9) dJ8_length_1 ?_
  refine va_tlen (v := nI 5) hx hb (hZ.2.2.2.2.2.1.1 0 (by decide)).2.2.2 hS rfl dJ8_length_4 ?_
  refine lv_aload_n hx hb dJ8_length_5 rfl (lv_at hl 0 rfl) ?_
  have hpm : ([] : va_W).Perm ([] ++ []) := wpermN [] _ 0 [] rfl (by decide) rfl
  refine mk_i (va_runV (b := (zv 4).getD 0) (As := []) hF (m_J8_coder l D ca zv H.size ) (cs_J8_coder hts q570 ⟨by decide, by decide⟩) (pv_Z (vk_recv (adK := fun _ => (zv 4).getD 0) (i := 0) hZ.2.2.2.2.2.1 (by decide) hS) (KK_mv D ca) (ZZ_mv zv) hKK hZ hS hA hP hD hpm) rfl rfl hl.1 rfl (lv_room (Nat.le_of_ble_eq_true rfl)) dJ8_length_6 ⟨Nat.zero_le _, Nat.zero_le _⟩) hP hD hS hA hpm (fun zr zu H locs hpo hP hD hS => ?_)
  obtain rfl := hpo
  have hP : va_P D vwCl [] H := hP
  have hD : va_D A [] := hD
  refine wn_shr hx hb (by decide) (by decide) dJ8_length_9 ?_
  exact wr_iret () hx hb hr hlk hQ dJ8_length_10 (wp_to (hP.sub [] rfl) rfl) (wd_to (hD.sub [] (by decide) rfl) rfl) hS (Nat.le_refl _) (Nat.le_refl _) (by rfl)
set_option maxHeartbeats 4000000 in
theorem m_J8_isLatin1 (l : Launch) (D : va_G) (ca : Nat → ClassId) (zv : Nat → Option Nat) (sz : Nat)  : Met l yJ8_isLatin1 (ws_ yJ8_isLatin1 cJ8_isLatin1 1 (some .boolean)) (rmL 0) (PcZ (KK D ca) (ZZ zv) D [.ref ((zv 4).getD 0)] [] sz) (QiA D (fun zr (_ : Unit) => zr = bI true) (fun _ => []) (va_A [] sz)) 0 0 (va_A [] sz) := by
  refine wz_head (y := yJ8_isLatin1) (n := 1) (av := [.ref ((zv 4).getD 0)]) (Qc := fun A => (QiA D (fun zr (_ : Unit) => zr = bI true) (fun _ => []) A)) (by decide) (Nat.le_of_ble_eq_true rfl) ?_
  intro zp ze zs zm za zb zt zc ls zQ A H locs hx hb hml hr hlk hown hts hnm hK hZ hP hD hS hA hl hQ
  have hown : zs.vm.findClass RJ8 = some zm.cls := hown
  have hl : lv_has ls 1 [(0, .ref ((zv 4).getD 0))] := hl
  have hF : CallFix zp zm zc cJ8_isLatin1 1 zs za lw_all RJ8 := ⟨hx, hb, hml, hown, hts⟩
  have hKK := hK
  have hK : K1 D ca zs := hKK.1
  refine va_gets (v := .int (nI 1)) hx hb (hZ.2.2.2.1) hS hown (hts _ q574) (fun _ h9 => h9) dJ8_isLatin1_0 ?_
  refine wn_ifeq (tgt := 17) hx hb (by omega) dJ8_isLatin1_3 (by decide) (fun zh => by first | exact absurd zh (by decide) | exact absurd rfl zh | omega) (fun c_3 => ?_)
  refine lv_aload_n hx hb dJ8_isLatin1_6 rfl (lv_at hl 0 rfl) ?_
  refine vk_getf (v := .int (nI 0)) hx hb (hZ.2.2.2.2.2.1.1 0 (by decide)).2.1 hS hown (hts _ q1646) (fun _ h9 => h9) dJ8_isLatin1_7 ?_
  refine wn_ifne (tgt := 17) hx hb (by omega) dJ8_isLatin1_10 (by decide) (fun zh => by first | exact absurd zh (by decide) | exact absurd rfl zh | omega) (fun c_10 => ?_)
  refine lv_iconst (v := nI 1) hx hb dJ8_isLatin1_13 rfl ?_
  refine lv_goto (tgt := 18) hx hb dJ8_isLatin1_14 (by decide) ?_
  refine W.eq (g2 := F0 zm 18 ls [.int (bI true)]) rfl ?_
  exact wr_zret () hx hb hr hlk hQ dJ8_isLatin1_18 (wp_to (hP.sub [] rfl) rfl) (wd_to (hD.sub [] (by decide) rfl) rfl) hS (Nat.le_refl _) (Nat.le_refl _) (by rfl)
set_option maxHeartbeats 4000000 in
theorem m_J8_checkIndex (l : Launch) (D : va_G) (ca : Nat → ClassId) (i : Nat) (n : Nat) (zv : Nat → Option Nat) (sz : Nat) (h1 : i < n) (h2 : n < 2147483648) : Met l yJ8_checkIndex (ws_ yJ8_checkIndex cJ8_checkIndex 2 none) (rmL 1) (PcZ (KK D ca) (ZZ zv) D [.int (nI i), .int (nI n)] [] sz) (QvA D (fun  (_ : Unit) => True) (fun _ => []) (va_A [] sz)) 0 0 (va_A [] sz) := by
  refine wz_head (y := yJ8_checkIndex) (n := 2) (av := [.int (nI i), .int (nI n)]) (Qc := fun A => (QvA D (fun  (_ : Unit) => True) (fun _ => []) A)) (by decide) (Nat.le_of_ble_eq_true rfl) ?_
  intro zp ze zs zm za zb zt zc ls zQ A H locs hx hb hml hr hlk hown hts hnm hK hZ hP hD hS hA hl hQ
  have hown : zs.vm.findClass RJ8 = some zm.cls := hown
  have hl : lv_has ls 2 [(0, .int (nI i)), (1, .int (nI n))] := hl
  have hF : CallFix zp zm zc cJ8_checkIndex 2 zs za lw_all RJ8 := ⟨hx, hb, hml, hown, hts⟩
  have hKK := hK
  have hK : K1 D ca zs := hKK.1
  refine lv_iload_n hx hb dJ8_checkIndex_0 rfl (lv_at hl 0 rfl) ?_
  refine lv_iload_n hx hb dJ8_checkIndex_1 rfl (lv_at hl 1 rfl) ?_
  refine va_gets (v := va_rf (zv 3)) hx hb (hZ.2.2.2.2.1) hS hown (hts _ q590) (fun _ h9 => h9) dJ8_checkIndex_2 ?_
  refine rd_callS hF (m_J10_checkIndexQ l D ca i n (zv 3) (by first | assumption | omega) (by first | assumption | omega)) (cs_J10_checkIndex hts q592 ⟨by decide, by decide⟩) (K1_mv D ca) hK (hP.sub [] rfl) rfl hl.1 rfl (Nat.le_of_ble_eq_true rfl) dJ8_checkIndex_5 ⟨Nat.zero_le _, Nat.zero_le _⟩ ?_
  refine lv_pop hx hb dJ8_checkIndex_8 rfl ?_
  exact wr_vret () hx hb hr hlk hQ dJ8_checkIndex_9 (wp_to (hP.sub [] rfl) rfl) (wd_to (hD.sub [] (by decide) rfl) rfl) hS (Nat.le_refl _) (Nat.le_refl _) trivial
theorem cs_J8_checkIndex {R : Room} {s : State} {args : Array Value} {own : String} {index : Nat} (hts : ∀ w ∈ lw_all, w.before args s = true) (hl : Cond.methodLink own index yJ8_checkIndex ∈ lw_all) {rm : Room} {mc ms : Nat} (hR : rm.frames + 1 ≤ R.frames ∧ 8 + (2 + 11) + rm.locals ≤ R.locals) (hc : rm.cells = mc := by rfl) (hs : rm.slots = ms := by rfl) : CallB R s args own index yJ8_checkIndex cJ8_checkIndex 2 none (ws_ yJ8_checkIndex cJ8_checkIndex 2 none) rm mc ms 2 ∧ (Cond.static yJ8_checkIndex).before args s = true := va_cwS 2 hts (lw_S hl q588 q78 q589) rfl hc hs (by decide +kernel) hR
set_option maxHeartbeats 4000000 in
theorem m_J9_charAt (l : Launch) (D : va_G) (ca : Nat → ClassId) (i : Nat) (zv : Nat → Option Nat) (sz : Nat) (hi : i < 5) : Met l yJ9_charAt (ws_ yJ9_charAt cJ9_charAt 2 (some .char)) (rmL 2) (PcZ (KK D ca) (ZZ zv) D [.ref ((zv 5).getD 0), .int (nI i)] [] sz) (QiA D (fun zr (_ : Unit) => zr = nI (kcN i)) (fun _ => []) (va_A [] sz)) 0 0 (va_A [] sz) := by
  refine wz_head (y := yJ9_charAt) (n := 2) (av := [.ref ((zv 5).getD 0), .int (nI i)]) (Qc := fun A => (QiA D (fun zr (_ : Unit) => zr = nI (kcN i)) (fun _ => []) A)) (by decide) (Nat.le_of_ble_eq_true rfl) ?_
  intro zp ze zs zm za zb zt zc ls zQ A H locs hx hb hml hr hlk hown hts hnm hK hZ hP hD hS hA hl hQ
  have hown : zs.vm.findClass RJ9 = some zm.cls := hown
  have hl : lv_has ls 2 [(0, .ref ((zv 5).getD 0)), (1, .int (nI i))] := hl
  have hF : CallFix zp zm zc cJ9_charAt 2 zs za lw_all RJ9 := ⟨hx, hb, hml, hown, hts⟩
  have hKK := hK
  have hK : K1 D ca zs := hKK.1
  refine lv_iload_n hx hb dJ9_charAt_0 rfl (lv_at hl 1 rfl) ?_
  refine lv_aload_n hx hb dJ9_charAt_1 rfl (lv_at hl 0 rfl) ?_
  refine va_tlen (v := nI 5) hx hb (hZ.2.2.2.2.2.1.1 0 (by decide)).2.2.2 hS rfl dJ9_charAt_2 ?_
  have hpm : ([] : va_W).Perm ([] ++ []) := wpermN [] _ 0 [] rfl (by decide) rfl
  refine mk_v (va_runS (As := [.int (nI i), .int (nI 5)]) hF (m_J8_checkIndex l D ca i 5 zv H.size (by first | assumption | omega) (by first | assumption | omega)) (cs_J8_checkIndex hts q587 ⟨by decide, by decide⟩) (ps_Z (KK_mv D ca) (ZZ_mv zv) hKK hZ hS hA hP hD hpm) rfl rfl hl.1 rfl (lv_room (Nat.le_of_ble_eq_true rfl)) dJ9_charAt_3 ⟨Nat.zero_le _, Nat.zero_le _⟩) hP hD hS hA hpm (fun zu H locs hpo hP hD hS => ?_)
  have hP : va_P D vwCl [] H := hP
  have hD : va_D A [] := hD
  refine lv_aload_n hx hb dJ9_charAt_6 rfl (lv_at hl 0 rfl) ?_
  refine lv_iload_n hx hb dJ9_charAt_7 rfl (lv_at hl 1 rfl) ?_
  refine va_tb (v := .int (kcF i)) hx hb (hZ.2.2.2.2.2.1.1 0 (by decide)).2.2.2 hS (vp_in_nI (N := 5) (by omega) (by decide)) (by rw [nI_clamp (by omega)]; rfl) dJ9_charAt_8 ?_
  refine lv_sipush (v := nI 255) hx hb dJ9_charAt_9 rfl ?_
  refine lv_iand hx hb dJ9_charAt_12 ?_
  refine lv_i2c hx hb dJ9_charAt_13 rfl ?_
  exact wr_nret () hx hb hr (by rw [kc_all i hi]; exact (pk_charN (by have := kc_lt i hi; omega)).1) hlk hQ dJ9_charAt_14 (wp_to (hP.sub [] rfl) rfl) (wd_to (hD.sub [] (by decide) rfl) rfl) hS (Nat.le_refl _) (Nat.le_refl _) (by exact kc_all i hi)
theorem cs_J8_isLatin1 {R : Room} {s : State} {args : Array Value} {own : String} {index : Nat} (hts : ∀ w ∈ lw_all, w.before args s = true) (hl : Cond.methodLink own index yJ8_isLatin1 ∈ lw_all) {rm : Room} {mc ms : Nat} (hR : rm.frames + 1 ≤ R.frames ∧ 8 + (1 + 11) + rm.locals ≤ R.locals) (hc : rm.cells = mc := by rfl) (hs : rm.slots = ms := by rfl) : CallW R s args own RJ8 index yJ8_isLatin1 cJ8_isLatin1 1 (some .boolean) (ws_ yJ8_isLatin1 cJ8_isLatin1 1 (some .boolean)) rm mc ms 0 := cwV 0 hts (lw_V hl q581 q582 q78 q583) rfl hc hs (by decide +kernel) hR
theorem cs_J9_charAt {R : Room} {s : State} {args : Array Value} {own : String} {index : Nat} (hts : ∀ w ∈ lw_all, w.before args s = true) (hl : Cond.methodLink own index yJ9_charAt ∈ lw_all) {rm : Room} {mc ms : Nat} (hR : rm.frames + 1 ≤ R.frames ∧ 8 + (2 + 11) + rm.locals ≤ R.locals) (hc : rm.cells = mc := by rfl) (hs : rm.slots = ms := by rfl) : CallB R s args own index yJ9_charAt cJ9_charAt 2 (some .char) (ws_ yJ9_charAt cJ9_charAt 2 (some .char)) rm mc ms 2 ∧ (Cond.static yJ9_charAt).before args s = true := va_cwS 2 hts (lw_S hl q585 q82 q586) rfl hc hs (by decide +kernel) hR
set_option maxHeartbeats 4000000 in
theorem m_J8_charAt (l : Launch) (D : va_G) (ca : Nat → ClassId) (i : Nat) (zv : Nat → Option Nat) (sz : Nat) (hi : i < 5) : Met l yJ8_charAt (ws_ yJ8_charAt cJ8_charAt 2 (some .char)) (rmL 3) (PcZ (KK D ca) (ZZ zv) D [.ref ((zv 4).getD 0), .int (nI i)] [] sz) (QiA D (fun zr (_ : Unit) => zr = nI (kcN i)) (fun _ => []) (va_A [] sz)) 0 0 (va_A [] sz) := by
  refine wz_head (y := yJ8_charAt) (n := 2) (av := [.ref ((zv 4).getD 0), .int (nI i)]) (Qc := fun A => (QiA D (fun zr (_ : Unit) => zr = nI (kcN i)) (fun _ => []) A)) (by decide) (Nat.le_of_ble_eq_true rfl) ?_
  intro zp ze zs zm za zb zt zc ls zQ A H locs hx hb hml hr hlk hown hts hnm hK hZ hP hD hS hA hl hQ
  have hown : zs.vm.findClass RJ8 = some zm.cls := hown
  have hl : lv_has ls 2 [(0, .ref ((zv 4).getD 0)), (1, .int (nI i))] := hl
  have hF : CallFix zp zm zc cJ8_charAt 2 zs za lw_all RJ8 := ⟨hx, hb, hml, hown, hts⟩
  have hKK := hK
  have hK : K1 D ca zs := hKK.1
  refine lv_aload_n hx hb dJ8_charAt_0 rfl (lv_at hl 0 rfl) ?_
  have hpm : ([] : va_W).Perm ([] ++ []) := wpermN [] _ 0 [] rfl (by decide) rfl
  refine mk_i (va_runV (b := (zv 4).getD 0) (As := []) hF (m_J8_isLatin1 l D ca zv H.size ) (cs_J8_isLatin1 hts q580 ⟨by decide, by decide⟩) (pv_Z (vk_recv (adK := fun _ => (zv 4).getD 0) (i := 0) hZ.2.2.2.2.2.1 (by decide) hS) (KK_mv D ca) (ZZ_mv zv) hKK hZ hS hA hP hD hpm) rfl rfl hl.1 rfl (lv_room (Nat.le_of_ble_eq_true rfl)) dJ8_charAt_1 ⟨Nat.zero_le _, Nat.zero_le _⟩) hP hD hS hA hpm (fun zr zu H locs hpo hP hD hS => ?_)
  obtain rfl := hpo
  have hP : va_P D vwCl [] H := hP
  have hD : va_D A [] := hD
  refine wb_eq (tgt := 16) hx hb dJ8_charAt_4 (by decide) (fun zh => by first | exact absurd zh (by decide) | exact absurd rfl zh) (fun c_4 => ?_)
  refine lv_aload_n hx hb dJ8_charAt_7 rfl (lv_at hl 0 rfl) ?_
  refine vk_getf (v := .ref ((zv 5).getD 0)) hx hb (hZ.2.2.2.2.2.1.1 0 (by decide)).2.2.1 hS hown (hts _ q1645) (fun _ h9 => h9) dJ8_charAt_8 ?_
  refine lv_iload_n hx hb dJ8_charAt_11 rfl (lv_at hl 1 rfl) ?_
  have hpm : ([] : va_W).Perm ([] ++ []) := wpermN [] _ 0 [] rfl (by decide) rfl
  refine mk_i (va_runS (As := [.ref ((zv 5).getD 0), .int (nI i)]) hF (m_J9_charAt l D ca i zv H.size (by first | assumption | omega)) (cs_J9_charAt hts q584 ⟨by decide, by decide⟩) (ps_Z (KK_mv D ca) (ZZ_mv zv) hKK hZ hS hA hP hD hpm) rfl rfl hl.1 rfl (lv_room (Nat.le_of_ble_eq_true rfl)) dJ8_charAt_12 ⟨Nat.zero_le _, Nat.zero_le _⟩) hP hD hS hA hpm (fun zr zu H locs hpo hP hD hS => ?_)
  obtain rfl := hpo
  have hP : va_P D vwCl [] H := hP
  have hD : va_D A [] := hD
  exact wr_nret () hx hb hr (by exact (pk_charN (by have := kc_lt i hi; omega)).1) hlk hQ dJ8_charAt_15 (wp_to (hP.sub [] rfl) rfl) (wd_to (hD.sub [] (by decide) rfl) rfl) hS (Nat.le_refl _) (Nat.le_refl _) (by rfl)
theorem cs_J8_length {R : Room} {s : State} {args : Array Value} {own : String} {index : Nat} (hts : ∀ w ∈ lw_all, w.before args s = true) (hl : Cond.methodLink own index yJ8_length ∈ lw_all) {rm : Room} {mc ms : Nat} (hR : rm.frames + 1 ≤ R.frames ∧ 8 + (1 + 11) + rm.locals ≤ R.locals) (hc : rm.cells = mc := by rfl) (hs : rm.slots = ms := by rfl) : CallW R s args own RJ8 index yJ8_length cJ8_length 1 (some .int) (ws_ yJ8_length cJ8_length 1 (some .int)) rm mc ms 0 := cwV 0 hts (lw_V hl q567 q568 q78 q569) rfl hc hs (by decide +kernel) hR
theorem cs_J8_charAt {R : Room} {s : State} {args : Array Value} {own : String} {index : Nat} (hts : ∀ w ∈ lw_all, w.before args s = true) (hl : Cond.methodLink own index yJ8_charAt ∈ lw_all) {rm : Room} {mc ms : Nat} (hR : rm.frames + 1 ≤ R.frames ∧ 8 + (2 + 11) + rm.locals ≤ R.locals) (hc : rm.cells = mc := by rfl) (hs : rm.slots = ms := by rfl) : CallW R s args own RJ8 index yJ8_charAt cJ8_charAt 2 (some .char) (ws_ yJ8_charAt cJ8_charAt 2 (some .char)) rm mc ms 1 := cwV 1 hts (lw_V hl q577 q578 q78 q579) rfl hc hs (by decide +kernel) hR
set_option maxHeartbeats 4000000 in
theorem m_X12_sortIn (l : Launch) (D : va_G) (ca : Nat → ClassId) (tk : Nat) (v : Int32) (zv : Nat → Option Nat) (sz : Nat) (htk : tk ≤ 5) : Met l yX12_sortIn (ws_ yX12_sortIn cX12_sortIn 4 (some .int)) (rmL 4) (PcZ (KK D ca) (ZZ zv) D [.ref ((zv 4).getD 0), .int (nI tk), .int v] [] sz) (QiA D (fun zr (_ : Unit) => zr = oI (srO tk v)) (fun _ => []) (va_A [] sz)) 0 0 (va_A [] sz) := by
  refine wz_head (y := yX12_sortIn) (n := 4) (av := [.ref ((zv 4).getD 0), .int (nI tk), .int v]) (Qc := fun A => (QiA D (fun zr (_ : Unit) => zr = oI (srO tk v)) (fun _ => []) A)) (by decide) (Nat.le_of_ble_eq_true rfl) ?_
  intro zp ze zs zm za zb zt zc ls zQ A H locs hx hb hml hr hlk hown hts hnm hK hZ hP hD hS hA hl hQ
  have hown : zs.vm.findClass RX12 = some zm.cls := hown
  have hl : lv_has ls 4 [(0, .ref ((zv 4).getD 0)), (1, .int (nI tk)), (2, .int v)] := hl
  have hF : CallFix zp zm zc cX12_sortIn 4 zs za lw_all RX12 := ⟨hx, hb, hml, hown, hts⟩
  have hKK := hK
  have hK : K1 D ca zs := hKK.1
  refine lv_iconst (v := nI 0) hx hb dX12_sortIn_0 rfl ?_
  refine lv_istore_n (lv' := [(3, .int (nI 0)), (0, .ref ((zv 4).getD 0)), (1, .int (nI tk)), (2, .int v)]) hx hb dX12_sortIn_1 rfl hl (by decide) rfl (fun ls hl => ?_)
  have lp_2 : ∀ (zn : Nat) (k_ : Nat), (k_ ≤ 5) → (∀ j, j < k_ → tk = 1 → ¬ nI (kcN j) = v) →  (5 - k_) < zn → ∀ (H : Heap) (locs : List Loc), va_P D vwCl [] H → va_D A [] → va_S A zs.heap H locs → ∀ (ls : Array Slot), lv_has ls 4 [(0, .ref ((zv 4).getD 0)), (1, .int (nI tk)), (2, .int v), (3, .int (nI k_))] → W zp l ze (rmL 4) zs zm za zb zt zc H locs 0 0 zQ (F0 zm 2 ls []) := by
    intro zn
    induction zn with
    | zero => intro k_ hk5 hno_ hmu_2; exact absurd hmu_2 (Nat.not_lt_zero _)
    | succ zn ih_2 =>
      intro k_ hk5 hno_ hmu_2 H locs hP hD hS ls hl
      refine lv_iload_n hx hb dX12_sortIn_2 rfl (lv_at hl 3 rfl) ?_
      refine lv_aload_n hx hb dX12_sortIn_3 rfl (lv_at hl 0 rfl) ?_
      have hpm : ([] : va_W).Perm ([] ++ []) := wpermN [] _ 0 [] rfl (by decide) rfl
      refine mk_i (va_runV (b := (zv 4).getD 0) (As := []) hF (m_J8_length l D ca zv H.size ) (cs_J8_length hts q566 ⟨by decide, by decide⟩) (pv_Z (vk_recv (adK := fun _ => (zv 4).getD 0) (i := 0) hZ.2.2.2.2.2.1 (by decide) hS) (KK_mv D ca) (ZZ_mv zv) hKK hZ hS hA hP hD hpm) rfl rfl hl.1 rfl (lv_room (Nat.le_of_ble_eq_true rfl)) dX12_sortIn_4 ⟨Nat.zero_le _, Nat.zero_le _⟩) hP hD hS hA hpm (fun zr zu H locs hpo hP hD hS => ?_)
      obtain rfl := hpo
      have hP : va_P D vwCl [] H := hP
      have hD : va_D A [] := hD
      refine wn_ge (tgt := 30) hx hb (by omega) (by omega) dX12_sortIn_7 (by decide) (fun c_7 => ?_) (fun c_7 => ?_)
      · have c_7n := Nat.not_lt.mpr c_7
        have hk55 : k_ = 5 := (by omega)
        have hsr := sr_n (fun j hj => hno_ j (by omega))
        refine lv_iload_n hx hb dX12_sortIn_30 rfl (lv_at hl 3 rfl) ?_
        refine lv_aload_n hx hb dX12_sortIn_31 rfl (lv_at hl 0 rfl) ?_
        have hpm : ([] : va_W).Perm ([] ++ []) := wpermN [] _ 0 [] rfl (by decide) rfl
        refine mk_i (va_runV (b := (zv 4).getD 0) (As := []) hF (m_J8_length l D ca zv H.size ) (cs_J8_length hts q566 ⟨by decide, by decide⟩) (pv_Z (vk_recv (adK := fun _ => (zv 4).getD 0) (i := 0) hZ.2.2.2.2.2.1 (by decide) hS) (KK_mv D ca) (ZZ_mv zv) hKK hZ hS hA hP hD hpm) rfl rfl hl.1 rfl (lv_room (Nat.le_of_ble_eq_true rfl)) dX12_sortIn_32 ⟨Nat.zero_le _, Nat.zero_le _⟩) hP hD hS hA hpm (fun zr zu H locs hpo hP hD hS => ?_)
        obtain rfl := hpo
        have hP : va_P D vwCl [] H := hP
        have hD : va_D A [] := hD
        refine wn_ge (tgt := 42) hx hb (by omega) (by omega) dX12_sortIn_35 (by decide) (fun c_35 => ?_) (fun zh => by omega)
        refine lv_ldc (v := (-1000000)) hx hb hown (hts _ q509) dX12_sortIn_42 ?_
        exact wr_iret () hx hb hr hlk hQ dX12_sortIn_44 (wp_to (hP.sub [] rfl) rfl) (wd_to (hD.sub [] (by decide) rfl) rfl) hS (Nat.le_refl _) (Nat.le_refl _) (by rw [hsr]; rfl)
      · have c_7n := Nat.not_le.mpr c_7
        refine lv_iload_n hx hb dX12_sortIn_10 rfl (lv_at hl 1 rfl) ?_
        refine lv_iconst (v := nI 1) hx hb dX12_sortIn_11 rfl ?_
        refine wn_ne (tgt := 24) hx hb (by omega) (by omega) dX12_sortIn_12 (by decide) (fun c_12 => ?_) (fun c_12 => ?_)
        · refine lv_iinc (v := nI (k_ + 1)) (lv' := [(3, .int (nI (k_ + 1))), (0, .ref ((zv 4).getD 0)), (1, .int (nI tk)), (2, .int v)]) hx hb dX12_sortIn_24 hl (k := 3) rfl (nI_add k_ 1) (by decide) rfl (fun ls hl => ?_)
          refine lv_goto (tgt := 2) hx hb dX12_sortIn_27 (by decide) ?_
          have e_1 : k_ + 1 = (k_ + 1) := by first | rfl | (rfl)
          exact ih_2 (k_ + 1) (by omega) (by intro j hj; rcases Nat.lt_or_eq_of_le (Nat.le_of_lt_succ hj) with q | q; exact hno_ j q; subst q; first | exact fun z => absurd z (by assumption) | exact fun _ => (by assumption)) (by omega) H locs (wp_to (hP.sub [] rfl) rfl) (wd_to (hD.sub [] (by decide) rfl) rfl) hS ls (lv_to (lv_sub hl [1, 2, 3, 0] rfl) (congrArg (fun x => ([(0, .ref ((zv 4).getD 0)), (1, .int (nI tk)), (2, .int v), (3, .int (nI x))] : List (Nat × Value))) e_1))
        · refine lv_aload_n hx hb dX12_sortIn_15 rfl (lv_at hl 0 rfl) ?_
          refine lv_iload_n hx hb dX12_sortIn_16 rfl (lv_at hl 3 rfl) ?_
          have hpm : ([] : va_W).Perm ([] ++ []) := wpermN [] _ 0 [] rfl (by decide) rfl
          refine mk_i (va_runV (b := (zv 4).getD 0) (As := [.int (nI k_)]) hF (m_J8_charAt l D ca k_ zv H.size (by first | assumption | omega)) (cs_J8_charAt hts q576 ⟨by decide, by decide⟩) (pv_Z (vk_recv (adK := fun _ => (zv 4).getD 0) (i := 0) hZ.2.2.2.2.2.1 (by decide) hS) (KK_mv D ca) (ZZ_mv zv) hKK hZ hS hA hP hD hpm) rfl rfl hl.1 rfl (lv_room (Nat.le_of_ble_eq_true rfl)) dX12_sortIn_17 ⟨Nat.zero_le _, Nat.zero_le _⟩) hP hD hS hA hpm (fun zr zu H locs hpo hP hD hS => ?_)
          obtain rfl := hpo
          have hP : va_P D vwCl [] H := hP
          have hD : va_D A [] := hD
          refine lv_iload_n hx hb dX12_sortIn_20 rfl (lv_at hl 2 rfl) ?_
          refine lv_icmp_eq (tgt := 30) hx hb dX12_sortIn_21 (by decide) (fun c_21 => ?_) (fun c_21 => ?_)
          · have hkc : nI (kcN k_) = v := c_21
            have hsr := sr_y (by omega) c_12 hkc
            refine lv_iload_n hx hb dX12_sortIn_30 rfl (lv_at hl 3 rfl) ?_
            refine lv_aload_n hx hb dX12_sortIn_31 rfl (lv_at hl 0 rfl) ?_
            have hpm : ([] : va_W).Perm ([] ++ []) := wpermN [] _ 0 [] rfl (by decide) rfl
            refine mk_i (va_runV (b := (zv 4).getD 0) (As := []) hF (m_J8_length l D ca zv H.size ) (cs_J8_length hts q566 ⟨by decide, by decide⟩) (pv_Z (vk_recv (adK := fun _ => (zv 4).getD 0) (i := 0) hZ.2.2.2.2.2.1 (by decide) hS) (KK_mv D ca) (ZZ_mv zv) hKK hZ hS hA hP hD hpm) rfl rfl hl.1 rfl (lv_room (Nat.le_of_ble_eq_true rfl)) dX12_sortIn_32 ⟨Nat.zero_le _, Nat.zero_le _⟩) hP hD hS hA hpm (fun zr zu H locs hpo hP hD hS => ?_)
            obtain rfl := hpo
            have hP : va_P D vwCl [] H := hP
            have hD : va_D A [] := hD
            refine wn_ge (tgt := 42) hx hb (by omega) (by omega) dX12_sortIn_35 (by decide) (fun zh => by omega) (fun c_35 => ?_)
            refine lv_iload_n hx hb dX12_sortIn_38 rfl (lv_at hl 3 rfl) ?_
            refine lv_goto (tgt := 44) hx hb dX12_sortIn_39 (by decide) ?_
            exact wr_iret () hx hb hr hlk hQ dX12_sortIn_44 (wp_to (hP.sub [] rfl) rfl) (wd_to (hD.sub [] (by decide) rfl) rfl) hS (Nat.le_refl _) (Nat.le_refl _) (by rw [hsr]; rfl)
          · refine lv_iinc (v := nI (k_ + 1)) (lv' := [(3, .int (nI (k_ + 1))), (0, .ref ((zv 4).getD 0)), (1, .int (nI tk)), (2, .int v)]) hx hb dX12_sortIn_24 hl (k := 3) rfl (nI_add k_ 1) (by decide) rfl (fun ls hl => ?_)
            refine lv_goto (tgt := 2) hx hb dX12_sortIn_27 (by decide) ?_
            have e_2 : k_ + 1 = (k_ + 1) := by first | rfl | (rfl)
            exact ih_2 (k_ + 1) (by omega) (by intro j hj; rcases Nat.lt_or_eq_of_le (Nat.le_of_lt_succ hj) with q | q; exact hno_ j q; subst q; first | exact fun z => absurd z (by assumption) | exact fun _ => (by assumption)) (by omega) H locs (wp_to (hP.sub [] rfl) rfl) (wd_to (hD.sub [] (by decide) rfl) rfl) hS ls (lv_to (lv_sub hl [1, 2, 3, 0] rfl) (congrArg (fun x => ([(0, .ref ((zv 4).getD 0)), (1, .int (nI tk)), (2, .int v), (3, .int (nI x))] : List (Nat × Value))) e_2))
  exact lp_2 ((5 - 0) + 1) 0 (by omega) (by intro j hj; exact absurd hj (Nat.not_lt_zero _)) (by omega) H locs (wp_to (hP.sub [] rfl) rfl) (wd_to (hD.sub [] (by decide) rfl) rfl) hS ls (lv_to (lv_sub hl [1, 2, 3, 0] rfl) rfl)
theorem cs_X12_sortIn {R : Room} {s : State} {args : Array Value} {own : String} {index : Nat} (hts : ∀ w ∈ lw_all, w.before args s = true) (hl : Cond.methodLink own index yX12_sortIn ∈ lw_all) {rm : Room} {mc ms : Nat} (hR : rm.frames + 1 ≤ R.frames ∧ 8 + (4 + 11) + rm.locals ≤ R.locals) (hc : rm.cells = mc := by rfl) (hs : rm.slots = ms := by rfl) : CallB R s args own index yX12_sortIn cX12_sortIn 4 (some .int) (ws_ yX12_sortIn cX12_sortIn 4 (some .int)) rm mc ms 3 ∧ (Cond.static yX12_sortIn).before args s = true := va_cwS 3 hts (lw_S hl q564 q80 q565) rfl hc hs (by decide +kernel) hR
set_option maxHeartbeats 4000000 in
theorem m_X12_sortOf (l : Launch) (D : va_G) (ca : Nat → ClassId) (r : Nat) (a1 : Nat) (tpd : Nat) (mg : Nat) (S : PS) (zv : Nat → Option Nat) (sz : Nat)  : Met l yX12_sortOf (ws_ yX12_sortOf cX12_sortOf 2 (some .int)) (rmL 5) (PcZ (KK D ca) (ZZ zv) D [.ref r, .ref ((zv 4).getD 0)] [(r, .inr (11, [.ref a1, .int (nI tpd), .int (nI S.1), .int (nI (ctk S)), .int (nI S.2.1), .int S.2.2.2.1, .ref mg]))] sz) (QiA D (fun zr (_ : Unit) => zr = oI (srO (ctk S) S.2.2.2.1)) (fun _ => [(r, .inr (11, [.ref a1, .int (nI tpd), .int (nI S.1), .int (nI (ctk S)), .int (nI S.2.1), .int S.2.2.2.1, .ref mg]))]) (va_A [(r, .inr (11, [.ref a1, .int (nI tpd), .int (nI S.1), .int (nI (ctk S)), .int (nI S.2.1), .int S.2.2.2.1, .ref mg]))] sz)) 0 0 (va_A [(r, .inr (11, [.ref a1, .int (nI tpd), .int (nI S.1), .int (nI (ctk S)), .int (nI S.2.1), .int S.2.2.2.1, .ref mg]))] sz) := by
  refine wz_head (y := yX12_sortOf) (n := 2) (av := [.ref r, .ref ((zv 4).getD 0)]) (Qc := fun A => (QiA D (fun zr (_ : Unit) => zr = oI (srO (ctk S) S.2.2.2.1)) (fun _ => [(r, .inr (11, [.ref a1, .int (nI tpd), .int (nI S.1), .int (nI (ctk S)), .int (nI S.2.1), .int S.2.2.2.1, .ref mg]))]) A)) (by decide) (Nat.le_of_ble_eq_true rfl) ?_
  intro zp ze zs zm za zb zt zc ls zQ A H locs hx hb hml hr hlk hown hts hnm hK hZ hP hD hS hA hl hQ
  have hown : zs.vm.findClass RX12 = some zm.cls := hown
  have hl : lv_has ls 2 [(0, .ref r), (1, .ref ((zv 4).getD 0))] := hl
  have hF : CallFix zp zm zc cX12_sortOf 2 zs za lw_all RX12 := ⟨hx, hb, hml, hown, hts⟩
  have hKK := hK
  have hK : K1 D ca zs := hKK.1
  have hck := ctk_le S
  refine lv_aload_n hx hb dX12_sortOf_0 rfl (lv_at hl 1 rfl) ?_
  refine lv_aload_n hx hb dX12_sortOf_1 rfl (lv_at hl 0 rfl) ?_
  refine va_get (D := D) (ci := 11) (v := .int (nI (ctk S))) (C := RX12) (T := TX12) (N := 7) hx hb hts in_X12 hown hK hP 0 rfl rfl 3 (by decide) (hts _ q477) (fun _ h9 => h9) rfl dX12_sortOf_2 ?_
  refine lv_aload_n hx hb dX12_sortOf_5 rfl (lv_at hl 0 rfl) ?_
  refine va_get (D := D) (ci := 11) (v := .int S.2.2.2.1) (C := RX12) (T := TX12) (N := 7) hx hb hts in_X12 hown hK hP 0 rfl rfl 5 (by decide) (hts _ q479) (fun _ h9 => h9) rfl dX12_sortOf_6 ?_
  have hpm : ([(r, .inr (11, [.ref a1, .int (nI tpd), .int (nI S.1), .int (nI (ctk S)), .int (nI S.2.1), .int S.2.2.2.1, .ref mg]))] : va_W).Perm ([] ++ [(r, .inr (11, [.ref a1, .int (nI tpd), .int (nI S.1), .int (nI (ctk S)), .int (nI S.2.1), .int S.2.2.2.1, .ref mg]))]) := wpermN [(r, .inr (11, [.ref a1, .int (nI tpd), .int (nI S.1), .int (nI (ctk S)), .int (nI S.2.1), .int S.2.2.2.1, .ref mg]))] _ 1 [0] rfl (by decide) rfl
  refine mk_i (va_runS (As := [.ref ((zv 4).getD 0), .int (nI (ctk S)), .int S.2.2.2.1]) hF (m_X12_sortIn l D ca (ctk S) S.2.2.2.1 zv H.size (by first | assumption | omega)) (cs_X12_sortIn hts q563 ⟨by decide, by decide⟩) (ps_Z (KK_mv D ca) (ZZ_mv zv) hKK hZ hS hA hP hD hpm) rfl rfl hl.1 rfl (lv_room (Nat.le_of_ble_eq_true rfl)) dX12_sortOf_9 ⟨Nat.zero_le _, Nat.zero_le _⟩) hP hD hS hA hpm (fun zr zu H locs hpo hP hD hS => ?_)
  obtain rfl := hpo
  have hP : va_P D vwCl [(r, .inr (11, [.ref a1, .int (nI tpd), .int (nI S.1), .int (nI (ctk S)), .int (nI S.2.1), .int S.2.2.2.1, .ref mg]))] H := hP
  have hD : va_D A [(r, .inr (11, [.ref a1, .int (nI tpd), .int (nI S.1), .int (nI (ctk S)), .int (nI S.2.1), .int S.2.2.2.1, .ref mg]))] := hD
  exact wr_iret () hx hb hr hlk hQ dX12_sortOf_12 (wp_to (hP.sub [0] rfl) rfl) (wd_to (hD.sub [0] (by decide) rfl) rfl) hS (Nat.le_refl _) (Nat.le_refl _) (by rfl)
