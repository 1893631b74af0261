/-! PURE 20: a door told: the first fault is the last; the reader's door while its edge isn't told -/
set_option maxRecDepth 100000
section DL
variable {tp : Nat → Nat} {n : Nat} {S : PS}
theorem rqL_l {f : Nat} {e : Nat → Nat} (h : ¬ S.2.2.2.2.1 = 0) : rqL tp n f e S = (e, S) := rqL_x (psSort_l h)
theorem rwL_l {f : Nat} {e : Nat → Nat} (h : ¬ S.2.2.2.2.1 = 0) : rwL tp n f e S = (e, S) := rwL_x (psLet_l h)
theorem lat {A B : PS} (e : A = B) (h : ¬ B.2.2.2.2.1 = 0) : ¬ A.2.2.2.2.1 = 0 := by
  subst e
  exact h
theorem psFin_b {A : PS} (h0 : A.2.2.2.2.1 = 0) (h : ¬ A.2.2.1 = 1) : psFin A = psBad 1 A := if_pos ⟨h0, h⟩
theorem sLet_n {c : Nat} {A : PS} (h : ¬ A.2.2.2.2.1 = 0) : (if psLet A c = true then A else psBad 1 A) = A := by
  rw [psLet_l h, if_neg (by decide), psBad_l h]
theorem sSrt_n {A : PS} (h : ¬ A.2.2.2.2.1 = 0) : (if psSort A = true then A else psBad 1 A) = A := by
  rw [psSort_l h, if_neg (by decide), psBad_l h]
theorem rqL_2 {f : Nat} {e : Nat → Nat} {A : PS} (h : ¬ A.2.2.2.2.1 = 0) : (rqL tp n f e A).2 = A := by
  rw [rqL_l h]
theorem rwL_2 {f : Nat} {e : Nat → Nat} {A : PS} (h : ¬ A.2.2.2.2.1 = 0) : (rwL tp n f e A).2 = A := by
  rw [rwL_l h]
theorem dr_l7 (h : ¬ (dr7 tp n S).2.2.2.2.2.1 = 0) : dr8 tp n S = (dr7 tp n S).2 := psFin_l h
theorem dr_l6 (h : ¬ (dr6 tp n S).2.2.2.2.1 = 0) : dr8 tp n S = dr6 tp n S :=
  have e7 : (dr7 tp n S).2 = dr6 tp n S := rwL_2 h
  (dr_l7 (lat e7 h)).trans e7
theorem dr_l5 (h : ¬ (dr5 tp n S).2.2.2.2.2.1 = 0) : dr8 tp n S = (dr5 tp n S).2 :=
  have e6 : dr6 tp n S = (dr5 tp n S).2 := sLet_n h
  (dr_l6 (lat e6 h)).trans e6
theorem dr_l4 (h : ¬ (dr4 tp n S).2.2.2.2.1 = 0) : dr8 tp n S = dr4 tp n S :=
  have e5 : (dr5 tp n S).2 = dr4 tp n S := rqL_2 h
  (dr_l5 (lat e5 h)).trans e5
theorem dr_l3 (h : ¬ (dr3 tp n S).2.2.2.2.1 = 0) : dr8 tp n S = dr3 tp n S :=
  have e4 : dr4 tp n S = dr3 tp n S := sSrt_n h
  (dr_l4 (lat e4 h)).trans e4
theorem dr_ln2 (h : ¬ (psNum tp n 0 8 (dr2 tp n S)).2.2.2.2.1 = 0) : dr8 tp n S = psNum tp n 0 8 (dr2 tp n S) :=
  have e3 : dr3 tp n S = psNum tp n 0 8 (dr2 tp n S) := psSgn_l h
  (dr_l3 (lat e3 h)).trans e3
theorem dr_ln1 (h : ¬ (psNum tp n 1 9 (dr1 tp n S)).2.2.2.2.1 = 0) : dr8 tp n S = psNum tp n 1 9 (dr1 tp n S) :=
  have e2 : dr2 tp n S = psNum tp n 1 9 (dr1 tp n S) := psSgn_l h
  have e3 : psNum tp n 0 8 (dr2 tp n S) = psNum tp n 1 9 (dr1 tp n S) := (congrArg (psNum tp n 0 8) e2).trans (psNum_l h)
  (dr_ln2 (lat e3 h)).trans e3
theorem dr_l1 (h : ¬ (dr1 tp n S).2.2.2.2.1 = 0) : dr8 tp n S = dr1 tp n S :=
  have e2 : psNum tp n 1 9 (dr1 tp n S) = dr1 tp n S := psNum_l h
  (dr_ln1 (lat e2 h)).trans e2
theorem zat {A B : PS} (e : A = B) (h : A.2.2.2.2.1 = 0) : B.2.2.2.2.1 = 0 := by
  subst e
  exact h
/-- told without a fault: so is each step -/
theorem dr_ok (h : (dr8 tp n S).2.2.2.2.1 = 0) : (dr1 tp n S).2.2.2.2.1 = 0 ∧ (psNum tp n 1 9 (dr1 tp n S)).2.2.2.2.1 = 0 ∧ (psNum tp n 0 8 (dr2 tp n S)).2.2.2.2.1 = 0 ∧ (dr3 tp n S).2.2.2.2.1 = 0 ∧ (dr4 tp n S).2.2.2.2.1 = 0 ∧ (dr5 tp n S).2.2.2.2.2.1 = 0 ∧ (dr6 tp n S).2.2.2.2.1 = 0 ∧ (dr7 tp n S).2.2.2.2.2.1 = 0 := by
  refine ⟨?_, ?_, ?_, ?_, ?_, ?_, ?_, ?_⟩
  · exact Decidable.byContradiction fun q => q (zat (dr_l1 q) h)
  · exact Decidable.byContradiction fun q => q (zat (dr_ln1 q) h)
  · exact Decidable.byContradiction fun q => q (zat (dr_ln2 q) h)
  · exact Decidable.byContradiction fun q => q (zat (dr_l3 q) h)
  · exact Decidable.byContradiction fun q => q (zat (dr_l4 q) h)
  · exact Decidable.byContradiction fun q => q (zat (dr_l5 q) h)
  · exact Decidable.byContradiction fun q => q (zat (dr_l6 q) h)
  · exact Decidable.byContradiction fun q => q (zat (dr_l7 q) h)
theorem dr0_f : (dr0 tp n S).2.2.2.2.1 = 0 := rfl
theorem dr1_t (h : (dr1 tp n S).2.2.2.2.1 = 0) : psLet (dr0 tp n S) 100 = true := by
  cases q : psLet (dr0 tp n S) 100 with
  | true => rfl
  | false =>
    unfold dr1 at h
    rw [q, psMust_f] at h
    exact absurd h (psBad_ne (by decide))
theorem dr4_t (h : (dr4 tp n S).2.2.2.2.1 = 0) : psSort (dr3 tp n S) = true := by
  cases q : psSort (dr3 tp n S) with
  | true => rfl
  | false =>
    unfold dr4 at h
    rw [q, if_neg (by decide)] at h
    exact absurd h (psBad_ne (by decide))
theorem dr6_t (h : (dr6 tp n S).2.2.2.2.1 = 0) : psLet (dr5 tp n S).2 118 = true := by
  cases q : psLet (dr5 tp n S).2 118 with
  | true => rfl
  | false =>
    unfold dr6 at h
    rw [q, if_neg (by decide)] at h
    exact absurd h (psBad_ne (by decide))
theorem dr8_t (h : (dr8 tp n S).2.2.2.2.1 = 0) : (dr7 tp n S).2.2.2.1 = 1 := by
  by_cases q : (dr7 tp n S).2.2.2.1 = 1
  · exact q
  · have e8 : dr8 tp n S = psBad 1 (dr7 tp n S).2 := psFin_b (dr_ok h).2.2.2.2.2.2.2 q
    exact absurd (zat e8 h) (psBad_ne (by decide))
end DL
/-! the edge is told last -/
theorem updN_com {e : Nat → Nat} {a b x y : Nat} (h : ¬ a = b) : updN (updN e a x) b y = updN (updN e b y) a x := by
  funext z
  unfold updN
  repeat' split
  all_goals first | rfl | omega
theorem upd0_2 {e : Nat → Nat} {x : Nat} : updN e 0 x 2 = e 2 := updN_ne (by omega)
theorem upd0_3 {e : Nat → Nat} {x : Nat} : updN e 0 x 3 = e 3 := updN_ne (by omega)
theorem rsS_0 {tp : Nat → Nat} {n : Nat} {e : Nat → Nat} {S : PS} {x : Nat} : rsS tp n (updN e 0 x) S = rsS tp n e S := by
  unfold rsS rsA
  rw [upd0_2]
theorem rsA_0 {tp : Nat → Nat} {n : Nat} {e : Nat → Nat} {S : PS} {x : Nat} : rsA tp n (updN e 0 x) S = rsA tp n e S := by
  unfold rsA
  rw [upd0_2]
theorem rsU_0 {e : Nat → Nat} {k sh x : Nat} : rsU (updN e 0 x) k sh = updN (rsU e k sh) 0 x := by
  have a1 : updN e (4 + 5 * e 2) k 2 = e 2 := updN_ne (by omega)
  have a2 : ∀ z, updN (updN e (4 + 5 * e 2) k) (4 + 5 * e 2 + 1) z 2 = e 2 := fun z => by rw [updN_ne (by omega), a1]
  have b1 : updN (updN e 0 x) (4 + 5 * e 2) k 2 = e 2 := by rw [updN_ne (by omega)]; exact upd0_2
  have b2 : ∀ z, updN (updN (updN e 0 x) (4 + 5 * e 2) k) (4 + 5 * e 2 + 1) z 2 = e 2 := fun z => by rw [updN_ne (by omega), b1]
  unfold rsU
  rw [upd0_2, b1, b2, a1, a2, updN_com (e := e) (a := 0) (b := 4 + 5 * e 2) (by omega), updN_com (a := 0) (b := 4 + 5 * e 2 + 1) (by omega), updN_com (a := 0) (b := 2) (by omega)]
theorem rsE_0 {tp : Nat → Nat} {n : Nat} {e : Nat → Nat} {S : PS} {x : Nat} : rsE tp n (updN e 0 x) S = updN (rsE tp n e S) 0 x := by
  unfold rsE
  rw [rsS_0, rsA_0]
  generalize rsS tp n e S = B
  generalize rsA tp n e S = C
  by_cases h : B.2.2.2.2.1 = 0
  · rw [if_pos h, if_pos h]
    cases knO S.2.2.2.1 with
    | none => rfl
    | some k => exact rsU_0
  · rw [if_neg h, if_neg h]
theorem rvA_0 {tp : Nat → Nat} {n : Nat} {e : Nat → Nat} {S : PS} {x : Nat} : rvA tp n (updN e 0 x) S = rvA tp n e S := by
  unfold rvA
  rw [upd0_3]
theorem rvB_0 {tp : Nat → Nat} {n : Nat} {e : Nat → Nat} {S : PS} {x : Nat} : rvB tp n (updN e 0 x) S = rvB tp n e S := by
  unfold rvB
  rw [rvA_0]
theorem rvS_0 {tp : Nat → Nat} {n : Nat} {e : Nat → Nat} {S : PS} {x : Nat} : rvS tp n (updN e 0 x) S = rvS tp n e S := by
  unfold rvS
  rw [rvB_0]
theorem rvU_0' {e : Nat → Nat} {a b x : Nat} : rvU (updN e 0 x) a b = updN (rvU e a b) 0 x := by
  have a1 : updN e (44 + 4 * e 3) a 3 = e 3 := updN_ne (by omega)
  have a2 : ∀ z, updN (updN e (44 + 4 * e 3) a) (44 + 4 * e 3 + 1) z 3 = e 3 := fun z => by rw [updN_ne (by omega), a1]
  have b1 : updN (updN e 0 x) (44 + 4 * e 3) a 3 = e 3 := by rw [updN_ne (by omega)]; exact upd0_3
  have b2 : ∀ z, updN (updN (updN e 0 x) (44 + 4 * e 3) a) (44 + 4 * e 3 + 1) z 3 = e 3 := fun z => by rw [updN_ne (by omega), b1]
  unfold rvU
  rw [upd0_3, b1, b2, a1, a2, updN_com (e := e) (a := 0) (b := 44 + 4 * e 3) (by omega), updN_com (a := 0) (b := 44 + 4 * e 3 + 1) (by omega), updN_com (a := 0) (b := 3) (by omega)]
theorem rvE_0 {tp : Nat → Nat} {n : Nat} {e : Nat → Nat} {S : PS} {x : Nat} : rvE tp n (updN e 0 x) S = updN (rvE tp n e S) 0 x := by
  unfold rvE
  rw [rvS_0, rvA_0, rvB_0]
  generalize rvS tp n e S = B
  by_cases h : B.2.2.2.2.1 = 0
  · rw [if_pos h, if_pos h]
    exact rvU_0'
  · rw [if_neg h, if_neg h]
theorem rqL_0 {tp : Nat → Nat} {n f : Nat} {e : Nat → Nat} {S : PS} {x : Nat} : rqL tp n f (updN e 0 x) S = (updN (rqL tp n f e S).1 0 x, (rqL tp n f e S).2) := by
  induction f generalizing e S with
  | zero => rfl
  | succ f ih =>
    unfold rqL
    by_cases h : psSort S = true
    · rw [if_pos h, if_pos h, rsE_0, rsS_0, ih]
    · rw [if_neg h, if_neg h]
theorem rwL_0 {tp : Nat → Nat} {n f : Nat} {e : Nat → Nat} {S : PS} {x : Nat} : rwL tp n f (updN e 0 x) S = (updN (rwL tp n f e S).1 0 x, (rwL tp n f e S).2) := by
  induction f generalizing e S with
  | zero => rfl
  | succ f ih =>
    unfold rwL
    by_cases h : psLet S 118 = true
    · rw [if_pos h, if_pos h, rvE_0, rvS_0, ih]
    · rw [if_neg h, if_neg h]
/-- the reader's door at the start of the squares -/
def drc (tp : Nat → Nat) (n : Nat) (S : PS) : Nat → Nat := updN zD 1 (psNv 0 8 (dr2 tp n S))
theorem drq_c {tp : Nat → Nat} {n : Nat} {S : PS} : drq tp n S = updN (drc tp n S) 0 (psNv 1 9 (dr1 tp n S)) := updN_com (by omega)
theorem dr5_c {tp : Nat → Nat} {n : Nat} {S : PS} {e : Nat → Nat} {T : PS} (h : rqL tp n 10 (drc tp n S) (dr4 tp n S) = (e, T)) : dr5 tp n S = (updN e 0 (psNv 1 9 (dr1 tp n S)), T) := by
  unfold dr5
  rw [drq_c, rqL_0, h]
theorem dr7_c {tp : Nat → Nat} {n : Nat} {S : PS} {e e' : Nat → Nat} {T T' : PS} (h5 : dr5 tp n S = (updN e 0 (psNv 1 9 (dr1 tp n S)), T)) (h : rwL tp n 7 e (dr6 tp n S) = (e', T')) : dr7 tp n S = (updN e' 0 (psNv 1 9 (dr1 tp n S)), T') := by
  unfold dr7
  rw [h5]
  show rwL tp n 7 (updN e 0 _) _ = _
  rw [rwL_0, h]
/-- what is read is a door -/
theorem psNv_le {lo hi : Nat} {S : PS} (h0 : S.2.2.2.2.1 = 0) (hl : lo ≤ hi) (hh : hi < 2147483648) : lo ≤ psNv lo hi S ∧ psNv lo hi S ≤ hi := by
  unfold psNv
  split
  · rename_i hf
    have h3 : S.2.2.1 = 3 := by
      by_cases q : S.2.2.1 = 3
      · exact q
      · have e1 : psN1 S = psBad 1 S := if_pos ⟨h0, q⟩
        rw [e1, psN2_l (psBad_ne (by decide))] at hf
        exact absurd hf (psBad_ne (by decide))
    have e1 : psN1 S = S := if_neg (fun q => q.2 h3)
    have hr : rngB S.2.2.2.1 lo hi = true := by
      cases q : rngB S.2.2.2.1 lo hi with
      | true => rfl
      | false =>
        have e2 : psN2 lo hi S = psBad 2 S := if_pos ⟨h0, q⟩
        rw [e1, e2] at hf
        exact absurd hf (psBad_ne (by decide))
    obtain ⟨a, b, -⟩ := rng_nI (by omega) hh hr
    exact ⟨a, b⟩
  · exact ⟨Nat.le_refl _, hl⟩
theorem rsU_dok {e : Nat → Nat} {k sh : Nat} (h : dOK e) (h7 : e 2 ≤ 7) (hk : 1 ≤ k ∧ k ≤ 5) (hs : sh ≤ 9) : dOK (rsU e k sh) := by
  obtain ⟨d0, d1, d2, d3, d4, d5, d6⟩ := h
  have lo : ∀ j, ¬ j = 2 → j < 4 → rsU e k sh j = e j := fun j a b => rsU_ne a (by omega) (by omega)
  refine ⟨by rw [lo 0 (by omega) (by omega)]; exact d0, by rw [lo 1 (by omega) (by omega)]; exact d1, by rw [rsU_2]; omega, by rw [lo 3 (by omega) (by omega)]; exact d3, fun q hq => ?_, fun v hv => ?_, fun q hq => ?_⟩
  · obtain ⟨a0, a1, a2, a3, a4⟩ := d4 q hq
    rw [rsU_ne (j := 4 + 5 * q + 2) (by omega) (by omega) (by omega), rsU_ne (j := 4 + 5 * q + 3) (by omega) (by omega) (by omega), rsU_ne (j := 4 + 5 * q + 4) (by omega) (by omega) (by omega)]
    refine ⟨?_, ?_, a2, a3, a4⟩
    · by_cases hqe : q = e 2
      · rw [hqe, rsU_k]; exact hk.2
      · rw [rsU_ne (by omega) (by omega) (by omega)]; exact a0
    · by_cases hqe : q = e 2
      · rw [hqe, rsU_sh]; exact hs
      · rw [rsU_ne (by omega) (by omega) (by omega)]; exact a1
  · rw [rsU_ne (j := 44 + 4 * v + 0) (by omega) (by omega) (by omega), rsU_ne (j := 44 + 4 * v + 1) (by omega) (by omega) (by omega)]
    exact d5 v hv
  · rw [rsU_2] at hq
    by_cases hqe : q = e 2
    · rw [hqe, rsU_k]; exact hk.1
    · rw [rsU_ne (by omega) (by omega) (by omega)]; exact d6 q (by omega)
theorem rsE_dok {tp : Nat → Nat} {n : Nat} {e : Nat → Nat} {S : PS} (h : dOK e) (hs : psSort S = true) (hf : (rsS tp n e S).2.2.2.2.1 = 0) : dOK (rsE tp n e S) := by
  obtain ⟨k, hk⟩ : ∃ k, knO S.2.2.2.1 = some k := by
    cases hz : knO S.2.2.2.1 with
    | none => exact absurd hz (psSort_knO hs)
    | some k => exact ⟨k, rfl⟩
  have h7 : e 2 ≤ 7 := by
    have := h.2.2.1
    rcases Nat.lt_or_ge (e 2) 8 with q | q
    · omega
    · exact absurd hf (rsA_8 (by omega))
  have hA : rsA tp n e S = psNext tp n S := by
    unfold rsA
    rw [if_neg (by omega), psMust_t (psSort_f hs).1]
  rw [rsE_t hf hk, hA]
  have hN : (psNext tp n S).2.2.2.2.1 = 0 := psNext_f.trans (psSort_f hs).1
  generalize psNext tp n S = T at hN
  have hv := (psNv_le (lo := 0) (hi := 9) hN (by decide) (by decide)).2
  generalize psNv 0 9 T = v at hv
  exact rsU_dok h h7 (knO_in hk) hv
theorem rsE_z {tp : Nat → Nat} {n : Nat} {e : Nat → Nat} {S : PS} (h : ∀ q, q < 8 → e (4 + 5 * q + 4) = 0) : ∀ q, q < 8 → rsE tp n e S (4 + 5 * q + 4) = 0 := by
  intro q hq
  unfold rsE
  split
  · cases knO S.2.2.2.1 with
    | none => exact h q hq
    | some k => exact (rsU_ne (by omega) (by omega) (by omega)).trans (h q hq)
  · exact h q hq
theorem rvU_dok {e : Nat → Nat} {a b : Nat} (h : dOK e) (h4 : e 3 ≤ 4) (ha : a ≤ 9) (hb : b ≤ 9) : dOK (rvU e a b) := by
  obtain ⟨d0, d1, d2, d3, d4, d5, d6⟩ := h
  have lo : ∀ j, ¬ j = 3 → j < 44 → rvU e a b j = e j := fun j x y => rvU_ne x (by omega) (by omega)
  refine ⟨by rw [lo 0 (by omega) (by omega)]; exact d0, by rw [lo 1 (by omega) (by omega)]; exact d1, by rw [lo 2 (by omega) (by omega)]; exact d2, by rw [rvU_3]; omega, fun q hq => ?_, fun v hv => ?_, fun q hq => ?_⟩
  · rw [lo (4 + 5 * q + 0) (by omega) (by omega), lo (4 + 5 * q + 1) (by omega) (by omega), lo (4 + 5 * q + 2) (by omega) (by omega), lo (4 + 5 * q + 3) (by omega) (by omega), lo (4 + 5 * q + 4) (by omega) (by omega)]
    exact d4 q hq
  · by_cases hve : v = e 3
    · rw [hve, rvU_0, rvU_1]; exact ⟨ha, hb⟩
    · rw [rvU_ne (j := 44 + 4 * v + 0) (by omega) (by omega) (by omega), rvU_ne (j := 44 + 4 * v + 1) (by omega) (by omega) (by omega)]
      exact d5 v hv
  · rw [lo 2 (by omega) (by omega)] at hq
    rw [lo (4 + 5 * q + 0) (by omega) (by omega)]
    exact d6 q hq
theorem rvE_dok {tp : Nat → Nat} {n : Nat} {e : Nat → Nat} {S : PS} (h : dOK e) (hs : psLet S 118 = true) (hf : (rvS tp n e S).2.2.2.2.1 = 0) : dOK (rvE tp n e S) := by
  have h4 : e 3 ≤ 4 := by
    have := h.2.2.2.1
    rcases Nat.lt_or_ge (e 3) 5 with q | q
    · omega
    · exact absurd hf (rvA_5 (by omega))
  have hA : rvA tp n e S = psNext tp n S := by
    unfold rvA
    rw [if_neg (by omega), hs, psMust_t (psLet_f hs).1]
  have hB0 : (rvB tp n e S).2.2.2.2.1 = 0 := by
    refine Decidable.byContradiction fun q => ?_
    have e1 : rvS tp n e S = rvB tp n e S := by
      unfold rvS
      rw [psNum_l q, psSgn_l q]
    rw [e1] at hf
    exact q hf
  rw [rvE_t hf, hA]
  have hN : (psNext tp n S).2.2.2.2.1 = 0 := psNext_f.trans (psLet_f hs).1
  generalize psNext tp n S = T at hN
  generalize rvB tp n e S = B at hB0
  have hv := (psNv_le (lo := 0) (hi := 9) hN (by decide) (by decide)).2
  have hb := (psNv_le (lo := 0) (hi := 9) hB0 (by decide) (by decide)).2
  generalize psNv 0 9 T = v at hv
  generalize psNv 0 9 B = b at hb
  exact rvU_dok h h4 hv hb
