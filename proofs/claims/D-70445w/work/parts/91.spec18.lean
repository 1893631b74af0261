/-! PURE 18: a door told, whole -/
set_option maxRecDepth 100000
/-- a fault once found stays -/
theorem psBad_l {k : Nat} {S : PS} (h : ¬ S.2.2.2.2.1 = 0) : psBad k S = S := if_neg h
theorem psMust_l {tp : Nat → Nat} {n : Nat} {b : Bool} {S : PS} (h : ¬ S.2.2.2.2.1 = 0) : psMust tp n b S = S := by
  unfold psMust
  cases b with
  | true => rw [if_pos rfl, if_neg h]
  | false => rw [if_neg (by decide), psBad_l h]
theorem psN1_l {S : PS} (h : ¬ S.2.2.2.2.1 = 0) : psN1 S = S := if_neg (fun q => h q.1)
theorem psN2_l {lo hi : Nat} {S : PS} (h : ¬ S.2.2.2.2.1 = 0) : psN2 lo hi S = S := if_neg (fun q => h q.1)
theorem psNum_l {tp : Nat → Nat} {n lo hi : Nat} {S : PS} (h : ¬ S.2.2.2.2.1 = 0) : psNum tp n lo hi S = S := by
  unfold psNum
  rw [psN1_l h, psN2_l h, psMust_l h]
theorem psSgn_l {tp : Nat → Nat} {n c : Nat} {S : PS} (h : ¬ S.2.2.2.2.1 = 0) : psSgn tp n c S = S := psMust_l h
theorem psFin_l {S : PS} (h : ¬ S.2.2.2.2.1 = 0) : psFin S = S := if_neg (fun q => h q.1)
theorem psNext_f {tp : Nat → Nat} {n : Nat} {S : PS} : (psNext tp n S).2.2.2.2.1 = S.2.2.2.2.1 := rfl
theorem psMust_t {tp : Nat → Nat} {n : Nat} {S : PS} (h : S.2.2.2.2.1 = 0) : psMust tp n true S = psNext tp n S := by
  unfold psMust
  rw [if_pos rfl, if_pos h]
theorem psMust_f {tp : Nat → Nat} {n : Nat} {S : PS} : psMust tp n false S = psBad 1 S := by
  unfold psMust
  rw [if_neg (by decide)]
theorem psBad_t {k : Nat} {S : PS} (h : S.2.2.2.2.1 = 0) : psBad k S = (S.1, S.2.1, S.2.2.1, S.2.2.2.1, k, nI S.2.1) := if_pos h
/-- number: its fault is told before it goes on -/
theorem psNum_n1 {tp : Nat → Nat} {n lo hi : Nat} {S : PS} (h : S.2.2.2.2.1 = 0) (ht : ¬ S.2.2.1 = 3) : psNum tp n lo hi S = psBad 1 S := by
  have e1 : psN1 S = psBad 1 S := if_pos ⟨h, ht⟩
  have e2 : ¬ (psBad 1 S).2.2.2.2.1 = 0 := psBad_ne (by decide)
  unfold psNum
  rw [e1, psN2_l e2, psMust_l e2]
theorem psNum_n2 {tp : Nat → Nat} {n lo hi : Nat} {S : PS} (h : S.2.2.2.2.1 = 0) (ht : S.2.2.1 = 3) (hr : rngB S.2.2.2.1 lo hi = false) : psNum tp n lo hi S = psBad 2 S := by
  have e1 : psN1 S = S := if_neg (fun q => q.2 ht)
  have e3 : psN2 lo hi S = psBad 2 S := if_pos ⟨h, hr⟩
  have e2 : ¬ (psBad 2 S).2.2.2.2.1 = 0 := psBad_ne (by decide)
  unfold psNum
  rw [e1, e3, psMust_l e2]
theorem psNum_y {tp : Nat → Nat} {n lo hi : Nat} {S : PS} (h : S.2.2.2.2.1 = 0) (ht : S.2.2.1 = 3) (hr : rngB S.2.2.2.1 lo hi = true) : psNum tp n lo hi S = psNext tp n S ∧ psNv lo hi S = S.2.2.2.1.toNatClampNeg := by
  have e1 : psN1 S = S := if_neg (fun q => q.2 ht)
  have e3 : psN2 lo hi S = S := if_neg (fun q => by rw [hr] at q; cases q.2)
  unfold psNum psNv
  rw [e1, e3, psMust_t h, if_pos h]
  exact ⟨rfl, rfl⟩
theorem psNum_0 {tp : Nat → Nat} {n lo hi : Nat} {S : PS} (h : S.2.2.2.2.1 = 0) (hf : (psNum tp n lo hi S).2.2.2.2.1 = 0) : S.2.2.1 = 3 ∧ rngB S.2.2.2.1 lo hi = true := by
  by_cases ht : S.2.2.1 = 3
  · refine ⟨ht, ?_⟩
    cases hr : rngB S.2.2.2.1 lo hi with
    | true => rfl
    | false => rw [psNum_n2 h ht hr] at hf; exact absurd hf (psBad_ne (by decide))
  · rw [psNum_n1 h ht] at hf
    exact absurd hf (psBad_ne (by decide))
theorem psSgn_y {tp : Nat → Nat} {n c : Nat} {S : PS} (h : S.2.2.2.2.1 = 0) (ht : S.2.2.1 = 4) (hv : S.2.2.2.1 = nI c) : psSgn tp n c S = psNext tp n S := by
  unfold psSgn
  rw [decide_eq_true ht, decide_eq_true hv]
  exact psMust_t h
theorem psSgn_n {tp : Nat → Nat} {n c : Nat} {S : PS} (hn : ¬ (S.2.2.1 = 4 ∧ S.2.2.2.1 = nI c)) : psSgn tp n c S = psBad 1 S := by
  unfold psSgn
  have e : (decide (S.2.2.1 = 4) && decide (S.2.2.2.1 = nI c)) = false := by
    rw [Bool.and_eq_false_iff, decide_eq_false_iff_not, decide_eq_false_iff_not]
    by_cases q : S.2.2.1 = 4
    · exact Or.inr (fun z => hn ⟨q, z⟩)
    · exact Or.inl q
  rw [e]
  exact psMust_f
theorem psSgn_0 {tp : Nat → Nat} {n c : Nat} {S : PS} (hf : (psSgn tp n c S).2.2.2.2.1 = 0) : S.2.2.1 = 4 ∧ S.2.2.2.1 = nI c := by
  by_cases q : S.2.2.1 = 4 ∧ S.2.2.2.1 = nI c
  · exact q
  · rw [psSgn_n q] at hf
    exact absurd hf (psBad_ne (by decide))
/-- the squares one behind another; the visitors -/
def rqL (tp : Nat → Nat) (n : Nat) : Nat → (Nat → Nat) → PS → (Nat → Nat) × PS
  | 0, e, S => (e, S)
  | f + 1, e, S => if psSort S = true then rqL tp n f (rsE tp n e S) (rsS tp n e S) else (e, S)
def rwL (tp : Nat → Nat) (n : Nat) : Nat → (Nat → Nat) → PS → (Nat → Nat) × PS
  | 0, e, S => (e, S)
  | f + 1, e, S => if psLet S 118 = true then rwL tp n f (rvE tp n e S) (rvS tp n e S) else (e, S)
theorem rqL_x {tp : Nat → Nat} {n f : Nat} {e : Nat → Nat} {S : PS} (h : psSort S = false) : rqL tp n f e S = (e, S) := by
  cases f with
  | zero => rfl
  | succ f => show (if _ then _ else _) = _; rw [h]; rfl
theorem rqL_s {tp : Nat → Nat} {n f : Nat} {e : Nat → Nat} {S : PS} (h : psSort S = true) (hf : 0 < f) : rqL tp n (f - 1) (rsE tp n e S) (rsS tp n e S) = rqL tp n f e S := by
  obtain ⟨k, rfl⟩ : ∃ k, f = k + 1 := ⟨f - 1, by omega⟩
  show _ = (if _ then _ else _)
  rw [if_pos h]
  rfl
theorem rwL_x {tp : Nat → Nat} {n f : Nat} {e : Nat → Nat} {S : PS} (h : psLet S 118 = false) : rwL tp n f e S = (e, S) := by
  cases f with
  | zero => rfl
  | succ f => show (if _ then _ else _) = _; rw [h]; rfl
theorem rwL_s {tp : Nat → Nat} {n f : Nat} {e : Nat → Nat} {S : PS} (h : psLet S 118 = true) (hf : 0 < f) : rwL tp n (f - 1) (rvE tp n e S) (rvS tp n e S) = rwL tp n f e S := by
  obtain ⟨k, rfl⟩ : ∃ k, f = k + 1 := ⟨f - 1, by omega⟩
  show _ = (if _ then _ else _)
  rw [if_pos h]
  rfl
theorem psSort_f {S : PS} (h : psSort S = true) : S.2.2.2.2.1 = 0 ∧ S.2.2.1 = 2 := by
  unfold psSort at h
  simp only [Bool.and_eq_true, decide_eq_true_eq] at h
  exact h.1
theorem psLet_f {S : PS} {c : Nat} (h : psLet S c = true) : S.2.2.2.2.1 = 0 ∧ S.2.2.1 = 2 ∧ S.2.2.2.1 = nI c := by
  unfold psLet at h
  simp only [Bool.and_eq_true, decide_eq_true_eq] at h
  exact ⟨h.1.1, h.1.2, h.2⟩
theorem psSort_l {S : PS} (h : ¬ S.2.2.2.2.1 = 0) : psSort S = false := by
  unfold psSort
  rw [decide_eq_false h]
  rfl
theorem psLet_l {S : PS} {c : Nat} (h : ¬ S.2.2.2.2.1 = 0) : psLet S c = false := by
  unfold psLet
  rw [decide_eq_false h]
  rfl
/-- a square read: eight at most -/
theorem rsA_8 {tp : Nat → Nat} {n : Nat} {e : Nat → Nat} {S : PS} (h : e 2 = 8) : ¬ (rsS tp n e S).2.2.2.2.1 = 0 := by
  have e1 : ¬ (psBad 3 S).2.2.2.2.1 = 0 := psBad_ne (by decide)
  unfold rsS rsA
  rw [if_pos h, psMust_l e1, psNum_l e1, psSgn_l e1]
  exact e1
theorem rsE_f {tp : Nat → Nat} {n : Nat} {e : Nat → Nat} {S : PS} (h : ¬ (rsS tp n e S).2.2.2.2.1 = 0) : rsE tp n e S = e := if_neg h
theorem rsE_t {tp : Nat → Nat} {n : Nat} {e : Nat → Nat} {S : PS} {k : Nat} (h : (rsS tp n e S).2.2.2.2.1 = 0) (hk : knO S.2.2.2.1 = some k) : rsE tp n e S = rsU e k (psNv 0 9 (rsA tp n e S)) := by
  unfold rsE
  rw [if_pos h, hk]
theorem rsU_2 {e : Nat → Nat} {k sh : Nat} : rsU e k sh 2 = e 2 + 1 := by
  unfold rsU
  rw [updN_ne (show ¬ 2 = 4 + 5 * e 2 by omega)]
  show (if 2 = 2 then _ else _) = _
  rw [if_pos rfl, updN_ne (by omega), updN_ne (by omega)]
theorem rsE_2 {tp : Nat → Nat} {n : Nat} {e : Nat → Nat} {S : PS} (hs : psSort S = true) (he : e 2 ≤ 8) : ((rsS tp n e S).2.2.2.2.1 = 0 ∧ rsE tp n e S 2 = e 2 + 1 ∧ e 2 ≤ 7) ∨ (¬ (rsS tp n e S).2.2.2.2.1 = 0 ∧ rsE tp n e S = e) := by
  by_cases h : (rsS tp n e S).2.2.2.2.1 = 0
  · left
    obtain ⟨k, hk⟩ : ∃ k, knO S.2.2.2.1 = some k := by
      cases hz : knO S.2.2.2.1 with
      | none => exact absurd hz (psSort_knO hs)
      | some k => exact ⟨k, rfl⟩
    refine ⟨h, ?_, ?_⟩
    · rw [rsE_t h hk, rsU_2]
    · rcases Nat.lt_or_ge (e 2) 8 with q | q
      · omega
      · exact absurd h (rsA_8 (by omega))
  · exact Or.inr ⟨h, rsE_f h⟩
theorem rvA_5 {tp : Nat → Nat} {n : Nat} {e : Nat → Nat} {S : PS} (h : e 3 = 5) : ¬ (rvS tp n e S).2.2.2.2.1 = 0 := by
  have e1 : ¬ (psBad 3 S).2.2.2.2.1 = 0 := psBad_ne (by decide)
  unfold rvS rvB rvA
  rw [if_pos h, psMust_l e1, psNum_l e1, psSgn_l e1, psNum_l e1, psSgn_l e1]
  exact e1
theorem rvE_f {tp : Nat → Nat} {n : Nat} {e : Nat → Nat} {S : PS} (h : ¬ (rvS tp n e S).2.2.2.2.1 = 0) : rvE tp n e S = e := if_neg h
theorem rvE_t {tp : Nat → Nat} {n : Nat} {e : Nat → Nat} {S : PS} (h : (rvS tp n e S).2.2.2.2.1 = 0) : rvE tp n e S = rvU e (psNv 0 9 (rvA tp n e S)) (psNv 0 9 (rvB tp n e S)) := if_pos h
theorem rvU_3 {e : Nat → Nat} {a b : Nat} : rvU e a b 3 = e 3 + 1 := by
  unfold rvU
  rw [updN_ne (show ¬ 3 = 44 + 4 * e 3 by omega)]
  show (if 3 = 3 then _ else _) = _
  rw [if_pos rfl, updN_ne (by omega), updN_ne (by omega)]
theorem rvU_2 {e : Nat → Nat} {a b : Nat} : rvU e a b 2 = e 2 := by
  unfold rvU
  rw [updN_ne (by omega), updN_ne (by omega), updN_ne (by omega)]
theorem rvE_3 {tp : Nat → Nat} {n : Nat} {e : Nat → Nat} {S : PS} (he : e 3 ≤ 5) : ((rvS tp n e S).2.2.2.2.1 = 0 ∧ rvE tp n e S 3 = e 3 + 1 ∧ e 3 ≤ 4) ∨ (¬ (rvS tp n e S).2.2.2.2.1 = 0 ∧ rvE tp n e S = e) := by
  by_cases h : (rvS tp n e S).2.2.2.2.1 = 0
  · left
    refine ⟨h, by rw [rvE_t h, rvU_3], ?_⟩
    rcases Nat.lt_or_ge (e 3) 5 with q | q
    · omega
    · exact absurd h (rvA_5 (by omega))
  · exact Or.inr ⟨h, rvE_f h⟩
theorem rsS_ok {tp : Nat → Nat} {n : Nat} {e : Nat → Nat} {S : PS} (h : psOK n S) : psOK n (rsS tp n e S) := by
  unfold rsS rsA
  refine psSgn_ok (psNum_ok (psMust_ok ?_))
  split
  · exact psBad_ok h (by decide)
  · exact h
theorem rvS_ok {tp : Nat → Nat} {n : Nat} {e : Nat → Nat} {S : PS} (h : psOK n S) : psOK n (rvS tp n e S) := by
  unfold rvS rvB rvA
  refine psSgn_ok (psNum_ok (psSgn_ok (psNum_ok (psMust_ok ?_))))
  split
  · exact psBad_ok h (by decide)
  · exact h
/-! the whole: the steps by name -/
def dr0 (tp : Nat → Nat) (n : Nat) (S : PS) : PS := psBeg tp n S
def dr1 (tp : Nat → Nat) (n : Nat) (S : PS) : PS := psMust tp n (psLet (dr0 tp n S) 100) (dr0 tp n S)
def dr2 (tp : Nat → Nat) (n : Nat) (S : PS) : PS := psSgn tp n 44 (psNum tp n 1 9 (dr1 tp n S))
def dr3 (tp : Nat → Nat) (n : Nat) (S : PS) : PS := psSgn tp n 59 (psNum tp n 0 8 (dr2 tp n S))
def dr4 (tp : Nat → Nat) (n : Nat) (S : PS) : PS := if psSort (dr3 tp n S) = true then dr3 tp n S else psBad 1 (dr3 tp n S)
def drq (tp : Nat → Nat) (n : Nat) (S : PS) : Nat → Nat := updN (updN zD 0 (psNv 1 9 (dr1 tp n S))) 1 (psNv 0 8 (dr2 tp n S))
def dr5 (tp : Nat → Nat) (n : Nat) (S : PS) : (Nat → Nat) × PS := rqL tp n 10 (drq tp n S) (dr4 tp n S)
def dr6 (tp : Nat → Nat) (n : Nat) (S : PS) : PS := if psLet (dr5 tp n S).2 118 = true then (dr5 tp n S).2 else psBad 1 (dr5 tp n S).2
def dr7 (tp : Nat → Nat) (n : Nat) (S : PS) : (Nat → Nat) × PS := rwL tp n 7 (dr5 tp n S).1 (dr6 tp n S)
def dr8 (tp : Nat → Nat) (n : Nat) (S : PS) : PS := psFin (dr7 tp n S).2
def dorR (tp : Nat → Nat) (n : Nat) (S : PS) : Int32 := if 0 < (dr8 tp n S).2.2.2.2.1 then -1000100 - (dr8 tp n S).2.2.2.2.2 else nI ((dr7 tp n S).1 2)
def dorD (tp : Nat → Nat) (n : Nat) (S : PS) (d : Nat → Nat) : Nat → Nat := if 0 < (dr8 tp n S).2.2.2.2.1 then d else cpD d (dr7 tp n S).1 0 64
def dorA (tp : Nat → Nat) (n : Nat) (S : PS) (ac : Nat) : Nat := if 0 < (dr8 tp n S).2.2.2.2.1 then ac else 0
def dorF (tp : Nat → Nat) (n : Nat) (S : PS) (lat : Int32) : Int32 := if 0 < (dr8 tp n S).2.2.2.2.1 then nI (dr8 tp n S).2.2.2.2.1 else lat
theorem drq_2 {tp : Nat → Nat} {n : Nat} {S : PS} : drq tp n S 2 = 0 := by
  unfold drq
  rw [updN_ne (by omega), updN_ne (by omega)]
  rfl
theorem drq_3 {tp : Nat → Nat} {n : Nat} {S : PS} : drq tp n S 3 = 0 := by
  unfold drq
  rw [updN_ne (by omega), updN_ne (by omega)]
  rfl
theorem rsU_ne {e : Nat → Nat} {k sh j : Nat} (h2 : ¬ j = 2) (h0 : ¬ j = 4 + 5 * e 2) (h1 : ¬ j = 4 + 5 * e 2 + 1) : rsU e k sh j = e j := by
  unfold rsU
  have a2 : updN e (4 + 5 * e 2) k 2 = e 2 := updN_ne (by omega)
  rw [updN_ne h2, a2, updN_ne h1, updN_ne h0]
theorem rsE_3 {tp : Nat → Nat} {n : Nat} {e : Nat → Nat} {S : PS} (he : e 2 ≤ 8) : rsE tp n e S 3 = e 3 := by
  unfold rsE
  split
  · cases knO S.2.2.2.1 with
    | none => rfl
    | some k => exact rsU_ne (by omega) (by omega) (by omega)
  · rfl
theorem rqL_3 {tp : Nat → Nat} {n : Nat} (f : Nat) {e : Nat → Nat} {S : PS} (he : e 2 ≤ 8) : (rqL tp n f e S).1 3 = e 3 ∧ (rqL tp n f e S).1 2 ≤ 8 := by
  induction f generalizing e S with
  | zero => exact ⟨rfl, he⟩
  | succ f ih =>
    unfold rqL
    split
    · rename_i hs
      have h3 := rsE_3 (tp := tp) (n := n) (S := S) he
      have h2 : rsE tp n e S 2 ≤ 8 := by
        rcases rsE_2 (tp := tp) (n := n) hs he with ⟨-, q, r⟩ | ⟨-, q⟩
        · omega
        · rw [q]; exact he
      obtain ⟨a, b⟩ := ih (e := rsE tp n e S) (S := rsS tp n e S) h2
      exact ⟨by rw [a, h3], b⟩
    · exact ⟨rfl, he⟩
/-- what a loop over the squares, the visitors keeps (told by name: no disjunction in sight) -/
def rqF (e : Nat → Nat) (S : PS) (f : Nat) : Prop := 10 ≤ e 2 + f ∨ ¬ S.2.2.2.2.1 = 0
def rwF (e : Nat → Nat) (S : PS) (f : Nat) : Prop := 7 ≤ e 3 + f ∨ ¬ S.2.2.2.2.1 = 0
theorem rqF_s {tp : Nat → Nat} {n f : Nat} {e : Nat → Nat} {S : PS} (hs : psSort S = true) (he : e 2 ≤ 8) (h : rqF e S f) : 0 < f ∧ rqF (rsE tp n e S) (rsS tp n e S) (f - 1) ∧ rsE tp n e S 2 ≤ 8 := by
  have h10 : 10 ≤ e 2 + f := by
    rcases h with q | q
    · exact q
    · exact absurd (psSort_f hs).1 q
  rcases rsE_2 (tp := tp) (n := n) hs he with ⟨-, q, r⟩ | ⟨q, r⟩
  · exact ⟨by omega, Or.inl (by omega), by omega⟩
  · exact ⟨by omega, Or.inr q, by rw [r]; exact he⟩
theorem rwF_s {tp : Nat → Nat} {n f : Nat} {e : Nat → Nat} {S : PS} (hs : psLet S 118 = true) (he : e 3 ≤ 5) (h : rwF e S f) : 0 < f ∧ rwF (rvE tp n e S) (rvS tp n e S) (f - 1) ∧ rvE tp n e S 3 ≤ 5 := by
  have h7 : 7 ≤ e 3 + f := by
    rcases h with q | q
    · exact q
    · exact absurd (psLet_f hs).1 q
  rcases rvE_3 (tp := tp) (n := n) (S := S) he with ⟨-, q, r⟩ | ⟨q, r⟩
  · exact ⟨by omega, Or.inl (by omega), by omega⟩
  · exact ⟨by omega, Or.inr q, by rw [r]; exact he⟩
theorem cpD_st {d e : Nat → Nat} {i : Nat} : updN (cpD d e 0 i) i (e i) = cpD d e 0 (i + 1) := by
  funext z
  simp only [updN, cpD, Nat.zero_add]
  by_cases h : z = i
  · subst h
    rw [if_pos rfl, if_pos (by omega)]
  · rw [if_neg h]
    by_cases h2 : z < i
    · rw [if_pos h2, if_pos (by omega)]
    · rw [if_neg h2, if_neg (by omega)]
theorem cpD_z {d e : Nat → Nat} : d = cpD d e 0 0 := by
  funext z
  simp [cpD]
theorem cpW_st {e : Nat → Nat} {i : Nat} : updN (cpW e 0 zD i) i 0 = cpW e 0 zD (i + 1) := by
  funext z
  simp only [updN, cpW, Nat.zero_add, zD]
  by_cases h : z = i
  · subst h
    rw [if_pos rfl, if_pos (by omega)]
  · rw [if_neg h]
    by_cases h2 : z < i
    · rw [if_pos (by omega), if_pos (by omega)]
    · rw [if_neg (by omega), if_neg (by omega)]
theorem cpW_z {e : Nat → Nat} : e = cpW e 0 zD 0 := by
  funext z
  simp only [cpW]
  rw [if_neg (by omega)]
theorem cpW_a {e : Nat → Nat} {i : Nat} (h : i < 64) : cpW e 0 zD 64 i = 0 := by
  simp only [cpW, zD]
  rw [if_pos (by omega)]
