/-! PURE 9: tokens -/
set_option maxRecDepth 100000
def dgB (c : Nat) : Bool := decide (48 ≤ c ∧ c ≤ 57)
def ltrB (c : Nat) : Bool := decide (97 ≤ c ∧ c ≤ 122)
theorem inB_nn {x a b : Nat} {lo hi : Int64} (hx : x < 2147483648) (ha : lo.toInt = a) (hb : hi.toInt = b) : inB (nI x).toInt64 lo hi = decide (a ≤ x ∧ x ≤ b) := by
  unfold inB
  rw [Bool.eq_iff_iff]
  simp only [Bool.and_eq_true, Bool.not_eq_true', decide_eq_false_iff_not, decide_eq_true_eq, Int64.lt_iff_toInt_lt, i2l_toInt, nI_toInt hx, ha, hb]
  omega
def rnC (tp : Nat → Nat) (n : Nat) : Nat → Nat → Nat
  | 0, c => c
  | f + 1, c => if c < n ∧ dgB (tp c) = true then rnC tp n f (c + 1) else c
theorem rn_st {tp : Nat → Nat} {n c : Nat} (h : c < n) (hd : dgB (tp c) = true) : rnC tp n (n - c) c = rnC tp n (n - (c + 1)) (c + 1) := by
  obtain ⟨k, hk⟩ : ∃ k, n - c = k + 1 := ⟨n - c - 1, by omega⟩
  rw [hk, show n - (c + 1) = k by omega]
  show (if _ then _ else _) = _
  rw [if_pos ⟨h, hd⟩]
theorem rn_ex {tp : Nat → Nat} {n c : Nat} (h : n ≤ c ∨ dgB (tp c) = false) : rnC tp n (n - c) c = c := by
  cases hk : n - c with
  | zero => rfl
  | succ k =>
    show (if _ then _ else _) = _
    rw [if_neg]
    rintro ⟨h1, h2⟩
    rcases h with h | h
    · omega
    · rw [h] at h2; cases h2
theorem rn_ge (tp : Nat → Nat) (n f c : Nat) : c ≤ rnC tp n f c := by
  induction f generalizing c with
  | zero => exact Nat.le_refl _
  | succ f ih =>
    unfold rnC
    split
    · exact Nat.le_trans (Nat.le_succ c) (ih (c + 1))
    · exact Nat.le_refl _
theorem rn_le {tp : Nat → Nat} {n f c : Nat} (h : c ≤ n) : rnC tp n f c ≤ n := by
  induction f generalizing c with
  | zero => exact h
  | succ f ih =>
    unfold rnC
    split
    · exact ih (by omega)
    · exact h
/-- behind the token at c -/
def tkC (tp : Nat → Nat) (n c : Nat) : Nat := if n ≤ c then c else if dgB (tp c) = true then rnC tp n (n - (c + 1)) (c + 1) else c + 1
theorem tkC_le {tp : Nat → Nat} {n c : Nat} (h : c ≤ n) : tkC tp n c ≤ n := by
  unfold tkC
  split
  · exact h
  · split
    · exact rn_le (by omega)
    · omega
theorem tkC_gt {tp : Nat → Nat} {n c : Nat} (h : c < n) : c < tkC tp n c := by
  unfold tkC
  rw [if_neg (by omega)]
  split
  · exact Nat.lt_of_lt_of_le (Nat.lt_succ_self c) (rn_ge _ _ _ _)
  · omega
/-- the first two figures from c on, when those up to e are figures -/
def nmV (tp : Nat → Nat) (c e : Nat) : Nat := if e ≤ c + 1 then tp c - 48 else 10 * (tp c - 48) + tp (c + 1) - 48
def tkV (tp : Nat → Nat) (n c : Nat) : Int32 := if n ≤ c then -1000000 else if dgB (tp c) = true then nI (nmV tp c (tkC tp n c)) else nI (tp c)
/-- the token's sort: 1 the end, 2 a letter, 3 a number, 4 a sign, 0 strange -/
def tkT (tp : Nat → Nat) (n c : Nat) : Nat := if n ≤ c then 1 else if ltrB (tp c) = true then 2 else if dgB (tp c) = true then (if tkC tp n c - c ≤ 2 then 3 else 0) else if tp c = 44 ∨ tp c = 59 then 4 else 0
/-- cursor, start, token, value, fault, its place -/
abbrev PS : Type := Nat × Nat × Nat × Int32 × Nat × Int32
def psNext (tp : Nat → Nat) (n : Nat) (S : PS) : PS := (tkC tp n S.1, S.1, tkT tp n S.1, tkV tp n S.1, S.2.2.2.2.1, S.2.2.2.2.2)
def psBad (k : Nat) (S : PS) : PS := if S.2.2.2.2.1 = 0 then (S.1, S.2.1, S.2.2.1, S.2.2.2.1, k, nI S.2.1) else S
def psMust (tp : Nat → Nat) (n : Nat) (b : Bool) (S : PS) : PS := if b = true then (if S.2.2.2.2.1 = 0 then psNext tp n S else S) else psBad 1 S
def psOK (n : Nat) (S : PS) : Prop := S.1 ≤ n ∧ S.2.2.1 ≤ 4 ∧ S.2.2.2.2.1 ≤ 3
theorem tkT_le (tp : Nat → Nat) (n c : Nat) : tkT tp n c ≤ 4 := by
  unfold tkT
  repeat' split
  all_goals omega
theorem psNext_ok {tp : Nat → Nat} {n : Nat} {S : PS} (h : psOK n S) : psOK n (psNext tp n S) := ⟨tkC_le h.1, tkT_le _ _ _, h.2.2⟩
theorem psBad_ok {n k : Nat} {S : PS} (h : psOK n S) (hk : k ≤ 3) : psOK n (psBad k S) := by
  unfold psBad
  split
  · exact ⟨h.1, h.2.1, hk⟩
  · exact h
theorem psMust_ok {tp : Nat → Nat} {n : Nat} {b : Bool} {S : PS} (h : psOK n S) : psOK n (psMust tp n b S) := by
  unfold psMust
  split
  · split
    · exact psNext_ok h
    · exact h
  · exact psBad_ok h (by decide)
theorem ltr_dg {c : Nat} (h : ltrB c = true) : dgB c = false := by
  unfold ltrB at h
  unfold dgB
  rw [decide_eq_true_iff] at h
  exact decide_eq_false (by omega)
theorem tk_end {tp : Nat → Nat} {n c : Nat} (h : n ≤ c) : tkC tp n c = c ∧ tkT tp n c = 1 ∧ tkV tp n c = -1000000 := ⟨if_pos h, if_pos h, if_pos h⟩
theorem tk_let {tp : Nat → Nat} {n c : Nat} (h : c < n) (hl : ltrB (tp c) = true) : tkC tp n c = c + 1 ∧ tkT tp n c = 2 ∧ tkV tp n c = nI (tp c) := by
  have hd := ltr_dg hl
  have h1 : ¬ n ≤ c := by omega
  refine ⟨?_, ?_, ?_⟩
  · unfold tkC; rw [if_neg h1, hd]; rfl
  · unfold tkT; rw [if_neg h1, hl]; rfl
  · unfold tkV; rw [if_neg h1, hd]; rfl
theorem tk_sgn {tp : Nat → Nat} {n c : Nat} (h : c < n) (hl : ltrB (tp c) = false) (hd : dgB (tp c) = false) (hs : tp c = 44 ∨ tp c = 59) : tkC tp n c = c + 1 ∧ tkT tp n c = 4 ∧ tkV tp n c = nI (tp c) := by
  have h1 : ¬ n ≤ c := by omega
  refine ⟨?_, ?_, ?_⟩
  · unfold tkC; rw [if_neg h1, hd]; rfl
  · unfold tkT; rw [if_neg h1, hl, hd, if_pos hs]; rfl
  · unfold tkV; rw [if_neg h1, hd]; rfl
theorem tk_str {tp : Nat → Nat} {n c : Nat} (h : c < n) (hl : ltrB (tp c) = false) (hd : dgB (tp c) = false) (h4 : tp c ≠ 44) (h5 : tp c ≠ 59) : tkC tp n c = c + 1 ∧ tkT tp n c = 0 ∧ tkV tp n c = nI (tp c) := by
  have h1 : ¬ n ≤ c := by omega
  refine ⟨?_, ?_, ?_⟩
  · unfold tkC; rw [if_neg h1, hd]; rfl
  · unfold tkT; rw [if_neg h1, hl, hd]; simp [h4, h5]
  · unfold tkV; rw [if_neg h1, hd]; rfl
theorem tk_num {tp : Nat → Nat} {n c : Nat} (h : c < n) (hl : ltrB (tp c) = false) (hd : dgB (tp c) = true) : tkC tp n c = rnC tp n (n - (c + 1)) (c + 1) ∧ tkT tp n c = (if tkC tp n c - c ≤ 2 then 3 else 0) ∧ tkV tp n c = nI (nmV tp c (tkC tp n c)) := by
  have h1 : ¬ n ≤ c := by omega
  refine ⟨?_, ?_, ?_⟩
  · unfold tkC; rw [if_neg h1, hd]; rfl
  · conv => lhs; unfold tkT
    rw [if_neg h1, hl, hd]; rfl
  · conv => lhs; unfold tkV
    rw [if_neg h1, hd]; rfl
theorem dg_in {c : Nat} (h : dgB c = true) : 48 ≤ c ∧ c ≤ 57 := of_decide_eq_true h
theorem nmV_1 (tp : Nat → Nat) (c : Nat) : tp c - 48 = nmV tp c (c + 1) := by unfold nmV; rw [if_pos (Nat.le_refl _)]
theorem nmV_2 {tp : Nat → Nat} {c e : Nat} (h1 : c + 1 ≤ e) (h2 : e - c < 2) : 10 * nmV tp c e + tp e - 48 = nmV tp c (e + 1) := by
  have he : e = c + 1 := by omega
  subst he
  rw [← nmV_1]
  unfold nmV
  rw [if_neg (by omega)]
theorem nmV_3 {tp : Nat → Nat} {c e : Nat} (h : ¬ e - c < 2) : nmV tp c e = nmV tp c (e + 1) := by
  unfold nmV
  rw [if_neg (by omega), if_neg (by omega)]
