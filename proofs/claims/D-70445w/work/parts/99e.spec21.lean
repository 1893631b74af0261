/-! PURE 21: the told door step by step, for the component's reader -/
set_option maxRecDepth 100000
section DA
variable {tp : Nat → Nat} {n : Nat} {M S0 S1 S2 S3 S4 S5 T T' : PS} {e e' e0 : Nat → Nat}
theorem da1_t (hd0 : dr0 tp n M = S0) (q : psLet S0 100 = true) : dr1 tp n M = psNext tp n S0 := by
  unfold dr1
  rw [hd0, q]
  exact psMust_t (psLet_f q).1
theorem da1_f (hd0 : dr0 tp n M = S0) (q : psLet S0 100 = false) (h0 : S0.2.2.2.2.1 = 0) : dr8 tp n M = (S0.1, S0.2.1, S0.2.2.1, S0.2.2.2.1, 1, nI S0.2.1) := by
  have e1 : dr1 tp n M = psBad 1 S0 := by
    unfold dr1
    rw [hd0, q]
    exact psMust_f
  exact (dr_l1 (lat e1 (psBad_ne (by decide)))).trans (e1.trans (psBad_t h0))
theorem da2_n (hd1 : dr1 tp n M = S1) (q : ¬ (psNum tp n 1 9 S1).2.2.2.2.1 = 0) : dr8 tp n M = psNum tp n 1 9 S1 := by
  subst hd1
  exact dr_ln1 q
theorem da2_t (hd1 : dr1 tp n M = S1) (hS2 : psNum tp n 1 9 S1 = S2) : dr2 tp n M = psSgn tp n 44 S2 := by
  subst hd1
  subst hS2
  rfl
theorem da3_n (hd2 : dr2 tp n M = S3) (q : ¬ (psNum tp n 0 8 S3).2.2.2.2.1 = 0) : dr8 tp n M = psNum tp n 0 8 S3 := by
  subst hd2
  exact dr_ln2 q
theorem da3_t (hd2 : dr2 tp n M = S3) (hS4 : psNum tp n 0 8 S3 = S4) : dr3 tp n M = psSgn tp n 59 S4 := by
  subst hd2
  subst hS4
  rfl
theorem da4_n (hd3 : dr3 tp n M = T) (q : ¬ T.2.2.2.2.1 = 0) : dr8 tp n M = T := by
  subst hd3
  exact dr_l3 q
theorem da5_t (hd3 : dr3 tp n M = S5) (q : psSort S5 = true) : dr4 tp n M = S5 := by
  subst hd3
  exact if_pos q
theorem da5_f (hd3 : dr3 tp n M = S5) (q : psSort S5 = false) (h0 : S5.2.2.2.2.1 = 0) : dr8 tp n M = (S5.1, S5.2.1, S5.2.2.1, S5.2.2.2.1, 1, nI S5.2.1) := by
  have e1 : dr4 tp n M = psBad 1 S5 := by
    unfold dr4
    rw [hd3]
    exact if_neg (by rw [q]; decide)
  exact (dr_l4 (lat e1 (psBad_ne (by decide)))).trans (e1.trans (psBad_t h0))
theorem da6 (hd4 : dr4 tp n M = S5) (hd1 : dr1 tp n M = S1) (hd2 : dr2 tp n M = S3) (hL : rqL tp n 10 (updN zD 1 (psNv 0 8 S3)) S5 = (e, T)) : dr5 tp n M = (updN e 0 (psNv 1 9 S1), T) := by
  subst hd4
  subst hd1
  subst hd2
  exact dr5_c hL
theorem da6_n (hd5 : dr5 tp n M = (e0, T)) (q : ¬ T.2.2.2.2.1 = 0) : dr8 tp n M = T := by
  have e1 : (dr5 tp n M).2 = T := by rw [hd5]
  exact (dr_l5 (lat e1 q)).trans e1
theorem da7_t (hd5 : dr5 tp n M = (e0, T)) (q : psLet T 118 = true) : dr6 tp n M = T := by
  unfold dr6
  rw [hd5]
  exact if_pos q
theorem da7_f (hd5 : dr5 tp n M = (e0, T)) (q : psLet T 118 = false) (h0 : T.2.2.2.2.1 = 0) : dr8 tp n M = (T.1, T.2.1, T.2.2.1, T.2.2.2.1, 1, nI T.2.1) := by
  have e1 : dr6 tp n M = psBad 1 T := by
    unfold dr6
    rw [hd5]
    exact if_neg (by show ¬ psLet T 118 = true; rw [q]; decide)
  exact (dr_l6 (lat e1 (psBad_ne (by decide)))).trans (e1.trans (psBad_t h0))
theorem da8 (hd5 : dr5 tp n M = (updN e 0 (psNv 1 9 S1), T)) (hd6 : dr6 tp n M = T) (hd1 : dr1 tp n M = S1) (hL : rwL tp n 7 e T = (e', T')) : dr7 tp n M = (updN e' 0 (psNv 1 9 S1), T') := by
  subst hd1
  rw [← hd6] at hL
  exact dr7_c hd5 hL
theorem da8_n (hd7 : dr7 tp n M = (e0, T)) (q : ¬ T.2.2.2.2.1 = 0) : dr8 tp n M = T := by
  have e1 : (dr7 tp n M).2 = T := by rw [hd7]
  exact (dr_l7 (lat e1 q)).trans e1
theorem da9_f (hd7 : dr7 tp n M = (e0, T)) (h0 : T.2.2.2.2.1 = 0) (q : ¬ T.2.2.1 = 1) : dr8 tp n M = (T.1, T.2.1, T.2.2.1, T.2.2.2.1, 1, nI T.2.1) := by
  unfold dr8
  rw [hd7]
  exact (psFin_b h0 q).trans (psBad_t h0)
theorem da9_t (hd7 : dr7 tp n M = (e0, T)) (q : T.2.2.1 = 1) : dr8 tp n M = T := by
  unfold dr8
  rw [hd7]
  exact if_neg (fun z => z.2 q)
theorem da_q {f : Nat} {S : PS} (hs : psSort S = true) (hf : 0 < f) (q : ¬ (rsS tp n e S).2.2.2.2.1 = 0) : rqL tp n f e S = (rsE tp n e S, rsS tp n e S) := (rqL_s hs hf).symm.trans (rqL_l q)
theorem da_w {f : Nat} {S : PS} (hs : psLet S 118 = true) (hf : 0 < f) (q : ¬ (rvS tp n e S).2.2.2.2.1 = 0) : rwL tp n f e S = (rvE tp n e S, rvS tp n e S) := (rwL_s hs hf).symm.trans (rwL_l q)
theorem num_o {lo hi : Nat} {S : PS} (h0 : S.2.2.2.2.1 = 0) (hc : S.1 ≤ n) (q : (psNum tp n lo hi S).2.2.2.2.1 = 0) : (psNum tp n lo hi S).1 ≤ n ∧ psSg (psNum tp n lo hi S) := by
  rw [(psNum_y (tp := tp) (n := n) h0 (psNum_0 h0 q).1 (psNum_0 h0 q).2).1]
  exact ⟨tkC_le hc, psNext_sg⟩
theorem num_f {lo hi : Nat} {S : PS} (q : (psNum tp n lo hi S).2.2.2.2.1 = 0) : S.2.2.2.2.1 = 0 := Decidable.byContradiction fun z => by
  rw [psNum_l z] at q
  exact z q
theorem sgn_o {c : Nat} {S : PS} (h0 : S.2.2.2.2.1 = 0) (hc : S.1 ≤ n) (q : (psSgn tp n c S).2.2.2.2.1 = 0) : (psSgn tp n c S).1 ≤ n := by
  rw [psSgn_y h0 (psSgn_0 q).1 (psSgn_0 q).2]
  exact tkC_le hc
theorem mor_o {c lo hi : Nat} {S : PS} (h0 : S.2.2.2.2.1 = 0) (hc : S.1 ≤ n) (q : (psNum tp n lo hi (psSgn tp n c S)).2.2.2.2.1 = 0) : (psNum tp n lo hi (psSgn tp n c S)).1 ≤ n ∧ psSg (psNum tp n lo hi (psSgn tp n c S)) := by
  have h1 : (psSgn tp n c S).2.2.2.2.1 = 0 := Decidable.byContradiction fun z => by
    rw [psNum_l z] at q
    exact z q
  exact num_o h1 (sgn_o h0 hc h1) q
theorem rsS_c {S : PS} (hs : psSort S = true) (hc : S.1 ≤ n) (q : (rsS tp n e S).2.2.2.2.1 = 0) : (rsS tp n e S).1 ≤ n := by
  have h0 := (psSort_f hs).1
  have h8 : ¬ e 2 = 8 := fun z => rsA_8 z q
  have hA : rsA tp n e S = psNext tp n S := by
    unfold rsA
    rw [if_neg h8, psMust_t h0]
  have hR : rsS tp n e S = psSgn tp n 59 (psNum tp n 0 9 (psNext tp n S)) := by
    unfold rsS
    rw [hA]
  rw [hR] at q ⊢
  have hc1 : (psNext tp n S).1 ≤ n := tkC_le hc
  have h01 : (psNext tp n S).2.2.2.2.1 = 0 := h0
  generalize psNext tp n S = X at q hc1 h01 ⊢
  have h1 : (psNum tp n 0 9 X).2.2.2.2.1 = 0 := Decidable.byContradiction fun z => by
    rw [psSgn_l z] at q
    exact z q
  exact sgn_o h1 (num_o h01 hc1 h1).1 q
theorem rvS_c {S : PS} (hs : psLet S 118 = true) (hc : S.1 ≤ n) (q : (rvS tp n e S).2.2.2.2.1 = 0) : (rvS tp n e S).1 ≤ n := by
  have h0 := (psLet_f hs).1
  have h8 : ¬ e 3 = 5 := fun z => rvA_5 z q
  have hA : rvA tp n e S = psNext tp n S := by
    unfold rvA
    rw [if_neg h8, hs, psMust_t h0]
  have hR : rvS tp n e S = psSgn tp n 59 (psNum tp n 0 9 (psSgn tp n 44 (psNum tp n 0 9 (psNext tp n S)))) := by
    unfold rvS rvB
    rw [hA]
  rw [hR] at q ⊢
  have hc1 : (psNext tp n S).1 ≤ n := tkC_le hc
  have h01 : (psNext tp n S).2.2.2.2.1 = 0 := h0
  generalize psNext tp n S = X at q hc1 h01 ⊢
  have h2 : (psNum tp n 0 9 (psSgn tp n 44 (psNum tp n 0 9 X))).2.2.2.2.1 = 0 := Decidable.byContradiction fun z => by
    rw [psSgn_l z] at q
    exact z q
  have h1 : (psNum tp n 0 9 X).2.2.2.2.1 = 0 := Decidable.byContradiction fun z => by
    rw [psSgn_l z, psNum_l z] at h2
    exact z h2
  exact sgn_o h2 (mor_o h1 (num_o h01 hc1 h1).1 h2).1 q
end DA
theorem sr_no {S : PS} (h0 : S.2.2.2.2.1 = 0) (h : psSort S = false) : oI (srO (ctk S) S.2.2.2.1) = (-1000000) := by
  have e1 := srO_sort h0
  rw [h] at e1
  cases q : srO (ctk S) S.2.2.2.1 with
  | none => rfl
  | some k => rw [q] at e1; exact absurd (show false = true from e1) (by decide)
theorem sr_ne {S : PS} (h : psSort S = true) : ¬ oI (srO (ctk S) S.2.2.2.1) = (-1000000) := by
  cases q : knO S.2.2.2.1 with
  | none => exact absurd q (psSort_knO h)
  | some k =>
    rw [srO_s h q]
    exact nI_neN (by have := knO_in q; omega)
/-! a place below 2 is told anew -/
section U2
variable {e : Nat → Nat} {i x : Nat}
theorem u_sh (h : i < 2) : shF e = shF (updN e i x) := funext fun q => (updN_ne (show ¬ 4 + 5 * q + 1 = i by omega)).symm
theorem u_ye (h : i < 2) : yeF e = yeF (updN e i x) := funext fun q => (updN_ne (show ¬ 4 + 5 * q + 2 = i by omega)).symm
theorem u_no (h : i < 2) : noF e = noF (updN e i x) := funext fun q => (updN_ne (show ¬ 4 + 5 * q + 3 = i by omega)).symm
theorem u_ca (h : i < 2) : caF e = caF (updN e i x) := funext fun q => (updN_ne (show ¬ 44 + 4 * q + 0 = i by omega)).symm
theorem u_ea (h : i < 2) : eaF e = eaF (updN e i x) := funext fun q => (updN_ne (show ¬ 44 + 4 * q + 1 = i by omega)).symm
theorem u_po (h : i < 2) : poF e = poF (updN e i x) := funext fun q => (updN_ne (show ¬ 44 + 4 * q + 2 = i by omega)).symm
theorem u_le (h : i < 2) : leF e = leF (updN e i x) := funext fun q => (updN_ne (show ¬ 44 + 4 * q + 3 = i by omega)).symm
theorem u_se (h : i < 2) : seF e = seF (updN e i x) := by
  funext q
  unfold seF seO
  rw [updN_ne (show ¬ 2 = i by omega), updN_ne (show ¬ 4 + 5 * q + 4 = i by omega)]
theorem u_ls {ca : Nat → ClassId} {zv : Nat → Option Nat} {ml : Nat} {mo : Int32} {ed : Nat} {sq : Nat → Nat} (h : i < 2) : lsC ca zv ml mo ed sq e = lsC ca zv ml mo ed sq (updN e i x) := lsC_rv (updN_ne (by omega)) (fun q _ => updN_ne (by omega))
theorem u_i : x = updN e i x i := by
  unfold updN
  rw [if_pos rfl]
theorem u_01 : e 0 = updN e 1 x 0 := (updN_ne (by decide)).symm
theorem u_31 : e 3 = updN e 1 x 3 := (updN_ne (by decide)).symm
theorem u_10 : e 1 = updN e 0 x 1 := (updN_ne (by decide)).symm
theorem u_30 : e 3 = updN e 0 x 3 := (updN_ne (by decide)).symm
end U2
theorem drc_dok {v : Nat} (h : v ≤ 8) : dOK (updN zD 1 v) := by
  obtain ⟨d0, d1, d2, d3, d4, d5, d6⟩ := zD_ok
  have lo : ∀ j, ¬ j = 1 → updN zD 1 v j = zD j := fun j hj => updN_ne hj
  refine ⟨by rw [lo 0 (by omega)]; exact d0, by rw [← u_i]; exact h, by rw [lo 2 (by omega)]; exact d2, by rw [lo 3 (by omega)]; exact d3, fun q hq => ?_, fun q hq => ?_, fun q hq => ?_⟩
  · rw [lo (4 + 5 * q + 0) (by omega), lo (4 + 5 * q + 1) (by omega), lo (4 + 5 * q + 2) (by omega), lo (4 + 5 * q + 3) (by omega), lo (4 + 5 * q + 4) (by omega)]
    exact d4 q hq
  · rw [lo (44 + 4 * q + 0) (by omega), lo (44 + 4 * q + 1) (by omega)]
    exact d5 q hq
  · rw [lo 2 (by omega)] at hq
    exact absurd hq (Nat.not_lt_zero _)
theorem dok_0 {e : Nat → Nat} {v : Nat} (hd : dOK e) (h : v ≤ 9) : dOK (updN e 0 v) := by
  obtain ⟨d0, d1, d2, d3, d4, d5, d6⟩ := hd
  have lo : ∀ j, ¬ j = 0 → updN e 0 v j = e j := fun j hj => updN_ne hj
  refine ⟨by rw [← u_i]; exact h, by rw [lo 1 (by omega)]; exact d1, by rw [lo 2 (by omega)]; exact d2, by rw [lo 3 (by omega)]; exact d3, fun q hq => ?_, fun q hq => ?_, fun q hq => ?_⟩
  · rw [lo (4 + 5 * q + 0) (by omega), lo (4 + 5 * q + 1) (by omega), lo (4 + 5 * q + 2) (by omega), lo (4 + 5 * q + 3) (by omega), lo (4 + 5 * q + 4) (by omega)]
    exact d4 q hq
  · rw [lo (44 + 4 * q + 0) (by omega), lo (44 + 4 * q + 1) (by omega)]
    exact d5 q hq
  · rw [lo 2 (by omega)] at hq
    rw [lo (4 + 5 * q + 0) (by omega)]
    exact d6 q hq
theorem drc_z {v : Nat} : ∀ q, q < 8 → updN zD 1 v (4 + 5 * q + 4) = 0 := fun q _ => (updN_ne (by omega)).trans rfl
theorem rv_ls {tp : Nat → Nat} {n : Nat} {e : Nat → Nat} {S : PS} {ca : Nat → ClassId} {zv : Nat → Option Nat} {ml : Nat} {mo : Int32} {ed : Nat} {sq : Nat → Nat} (h8 : e 2 ≤ 8) : lsC ca zv ml mo ed sq e = lsC ca zv ml mo ed sq (rvE tp n e S) := by
  unfold rvE
  split
  · exact lsC_rv rvU_2 (fun q hq => rvU_ne (by omega) (by omega) (by omega))
  · rfl
theorem rv_2 {tp : Nat → Nat} {n : Nat} {e : Nat → Nat} {S : PS} : rvE tp n e S 2 = e 2 := by
  unfold rvE
  split
  · exact rvU_2
  · rfl
/-! a told door is a door -/
theorem rqL_dok {tp : Nat → Nat} {n f : Nat} {e : Nat → Nat} {S : PS} (h : dOK e) (hf : (rqL tp n f e S).2.2.2.2.2.1 = 0) : dOK (rqL tp n f e S).1 := by
  induction f generalizing e S with
  | zero => exact h
  | succ f ih =>
    cases hs : psSort S with
    | false => rw [rqL_x hs]; exact h
    | true =>
      rw [← rqL_s hs (Nat.succ_pos f)] at hf ⊢
      refine ih (rsE_dok h hs ?_) hf
      exact Decidable.byContradiction fun z => z (zat (rqL_2 z) hf)
theorem rwL_dok {tp : Nat → Nat} {n f : Nat} {e : Nat → Nat} {S : PS} (h : dOK e) (hf : (rwL tp n f e S).2.2.2.2.2.1 = 0) : dOK (rwL tp n f e S).1 := by
  induction f generalizing e S with
  | zero => exact h
  | succ f ih =>
    cases hs : psLet S 118 with
    | false => rw [rwL_x hs]; exact h
    | true =>
      rw [← rwL_s hs (Nat.succ_pos f)] at hf ⊢
      refine ih (rvE_dok h hs ?_) hf
      exact Decidable.byContradiction fun z => z (zat (rwL_2 z) hf)
theorem rqL_dk {tp : Nat → Nat} {n f : Nat} {e : Nat → Nat} {S : PS} {X : (Nat → Nat) × PS} (hX : rqL tp n f e S = X) (h : dOK e) (hf : X.2.2.2.2.2.1 = 0) : dOK X.1 := by
  subst hX
  exact rqL_dok h hf
theorem rwL_dk {tp : Nat → Nat} {n f : Nat} {e : Nat → Nat} {S : PS} {X : (Nat → Nat) × PS} (hX : rwL tp n f e S = X) (h : dOK e) (hf : X.2.2.2.2.2.1 = 0) : dOK X.1 := by
  subst hX
  exact rwL_dok h hf
theorem drq_dok {tp : Nat → Nat} {n : Nat} {S : PS} (h : (dr8 tp n S).2.2.2.2.1 = 0) : dOK (drq tp n S) := by
  obtain ⟨o1, o2, o3, -⟩ := dr_ok h
  rw [drq_c]
  have a1 := (psNv_le (lo := 1) (hi := 9) o1 (by decide) (by decide)).2
  have a2 := (psNv_le (lo := 0) (hi := 8) (num_f o3) (by decide) (by decide)).2
  unfold drc
  generalize psNv 1 9 (dr1 tp n S) = v1 at a1 ⊢
  generalize psNv 0 8 (dr2 tp n S) = v2 at a2 ⊢
  exact dok_0 (drc_dok a2) a1
theorem dr7_dok {tp : Nat → Nat} {n : Nat} {S : PS} (h : (dr8 tp n S).2.2.2.2.1 = 0) : dOK (dr7 tp n S).1 := by
  obtain ⟨o1, o2, o3, o4, o5, o6, o7, o8⟩ := dr_ok h
  have h5 : dOK (dr5 tp n S).1 := rqL_dk (X := dr5 tp n S) rfl (drq_dok h) o6
  exact rwL_dk (X := dr7 tp n S) rfl h5 o8
theorem ls_i0 {ca : Nat → ClassId} {zv : Nat → Option Nat} {ml : Nat} {mo : Int32} {ed : Nat} {sq e : Nat → Nat} {pre L fz : va_W} (h : e 2 = 0) (hL : pre ++ [(ml, .inr (13, [.int mo, va_rf (zv 0), .int (nI 0)]))] = L) : (L ++ fz).Perm (pre ++ (lsC ca zv ml mo ed sq e ++ fz)) := (ls_out0 h hL).symm
