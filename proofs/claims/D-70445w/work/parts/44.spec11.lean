/-! PURE 11: squares and visitors read -/
set_option maxRecDepth 100000
def rsA (tp : Nat → Nat) (n : Nat) (e : Nat → Nat) (S : PS) : PS := psMust tp n true (if e 2 = 8 then psBad 3 S else S)
def rsS (tp : Nat → Nat) (n : Nat) (e : Nat → Nat) (S : PS) : PS := psSgn tp n 59 (psNum tp n 0 9 (rsA tp n e S))
def rsU (e : Nat → Nat) (k sh : Nat) : Nat → Nat := updN (updN (updN e (4 + 5 * e 2) k) (4 + 5 * updN e (4 + 5 * e 2) k 2 + 1) sh) 2 (updN (updN e (4 + 5 * e 2) k) (4 + 5 * updN e (4 + 5 * e 2) k 2 + 1) sh 2 + 1)
def rsE (tp : Nat → Nat) (n : Nat) (e : Nat → Nat) (S : PS) : Nat → Nat := if (rsS tp n e S).2.2.2.2.1 = 0 then (match knO S.2.2.2.1 with
  | none => e
  | some k => rsU e k (psNv 0 9 (rsA tp n e S))) else e
def rvA (tp : Nat → Nat) (n : Nat) (e : Nat → Nat) (S : PS) : PS := psMust tp n (psLet (if e 3 = 5 then psBad 3 S else S) 118) (if e 3 = 5 then psBad 3 S else S)
def rvB (tp : Nat → Nat) (n : Nat) (e : Nat → Nat) (S : PS) : PS := psSgn tp n 44 (psNum tp n 0 9 (rvA tp n e S))
def rvS (tp : Nat → Nat) (n : Nat) (e : Nat → Nat) (S : PS) : PS := psSgn tp n 59 (psNum tp n 0 9 (rvB tp n e S))
def rvU (e : Nat → Nat) (ca ea : Nat) : Nat → Nat := updN (updN (updN e (44 + 4 * e 3) ca) (44 + 4 * updN e (44 + 4 * e 3) ca 3 + 1) ea) 3 (updN (updN e (44 + 4 * e 3) ca) (44 + 4 * updN e (44 + 4 * e 3) ca 3 + 1) ea 3 + 1)
def rvE (tp : Nat → Nat) (n : Nat) (e : Nat → Nat) (S : PS) : Nat → Nat := if (rvS tp n e S).2.2.2.2.1 = 0 then rvU e (psNv 0 9 (rvA tp n e S)) (psNv 0 9 (rvB tp n e S)) else e
theorem psSort_knO {S : PS} (h : psSort S = true) : ¬ knO S.2.2.2.1 = none := by
  intro q
  unfold psSort at h
  rw [q] at h
  simp at h
theorem psSgn_fau {tp : Nat → Nat} {n c : Nat} {S : PS} (h : psOK n S) : (psSgn tp n c S).2.2.2.2.1 ≤ 3 := (psSgn_ok h).2.2
