/-! PURE 19: the reader's tokens -/
set_option maxRecDepth 100000
def ctkF (t : Nat) (v : Int32) : Nat := if t = 1 then 0 else if t = 2 then 1 else if t = 3 then 2 else if t = 4 then (if v = nI 44 then 3 else 4) else 5
def ctk (S : PS) : Nat := ctkF S.2.2.1 S.2.2.2.1
theorem ctk_le (S : PS) : ctk S ≤ 5 := by
  unfold ctk ctkF
  repeat' split
  all_goals omega
theorem ctk_0 {S : PS} : ctk S = 0 ↔ S.2.2.1 = 1 := by
  unfold ctk ctkF
  repeat' split
  all_goals omega
theorem ctk_1 {S : PS} : ctk S = 1 ↔ S.2.2.1 = 2 := by
  unfold ctk ctkF
  repeat' split
  all_goals omega
theorem ctk_2 {S : PS} : ctk S = 2 ↔ S.2.2.1 = 3 := by
  unfold ctk ctkF
  repeat' split
  all_goals omega
/-- a sign is one of two -/
def psSg (S : PS) : Prop := S.2.2.1 = 4 → S.2.2.2.1 = nI 44 ∨ S.2.2.2.1 = nI 59
theorem ctk_s {S : PS} {k c : Nat} (hs : psSg S) (hkc : (k = 3 ∧ c = 44) ∨ (k = 4 ∧ c = 59)) : ctk S = k ↔ S.2.2.1 = 4 ∧ S.2.2.2.1 = nI c := by
  have ne1 : ¬ (nI 59 = nI 44) := by decide
  have ne2 : ¬ (nI 44 = nI 59) := by decide
  unfold ctk ctkF
  rcases hkc with ⟨rfl, rfl⟩ | ⟨rfl, rfl⟩
  · by_cases h4 : S.2.2.1 = 4
    · rw [if_neg (by omega), if_neg (by omega), if_neg (by omega), if_pos h4]
      by_cases hv : S.2.2.2.1 = nI 44
      · rw [if_pos hv]; exact ⟨fun _ => ⟨h4, hv⟩, fun _ => rfl⟩
      · rw [if_neg hv]; exact ⟨fun q => absurd q (by decide), fun q => absurd q.2 hv⟩
    · constructor
      · intro q
        exfalso
        repeat' split at q
        all_goals omega
      · exact fun q => absurd q.1 h4
  · by_cases h4 : S.2.2.1 = 4
    · rw [if_neg (by omega), if_neg (by omega), if_neg (by omega), if_pos h4]
      rcases hs h4 with hv | hv
      · rw [if_pos hv]; exact ⟨fun q => absurd q (by decide), fun q => absurd (hv.symm.trans q.2) ne2⟩
      · rw [hv, if_neg ne1]; exact ⟨fun _ => ⟨h4, rfl⟩, fun _ => rfl⟩
    · constructor
      · intro q
        exfalso
        repeat' split at q
        all_goals omega
      · exact fun q => absurd q.1 h4
theorem psNext_sg {tp : Nat → Nat} {n : Nat} {S : PS} : psSg (psNext tp n S) := by
  intro h
  have h : tkT tp n S.1 = 4 := h
  show tkV tp n S.1 = nI 44 ∨ tkV tp n S.1 = nI 59
  by_cases hn : n ≤ S.1
  · rw [(tk_end hn).2.1] at h; cases h
  · cases hl : ltrB (tp S.1) with
    | true => rw [(tk_let (by omega) hl).2.1] at h; cases h
    | false =>
      cases hd : dgB (tp S.1) with
      | true =>
        rw [(tk_num (by omega) hl hd).2.1] at h
        split at h <;> cases h
      | false =>
        by_cases h4 : tp S.1 = 44
        · rw [(tk_sgn (by omega) hl hd (Or.inl h4)).2.2, h4]; exact Or.inl rfl
        · by_cases h5 : tp S.1 = 59
          · rw [(tk_sgn (by omega) hl hd (Or.inr h5)).2.2, h5]; exact Or.inr rfl
          · rw [(tk_str (by omega) hl hd h4 h5).2.1] at h; cases h
theorem psBad_sg {k : Nat} {S : PS} (h : psSg S) : psSg (psBad k S) := by
  unfold psBad
  split
  · exact h
  · exact h
theorem ctk_n {tp : Nat → Nat} {n t : Nat} {S : PS} {v : Int32} (h2 : tkT tp n S.1 = t) (h3 : tkV tp n S.1 = v) : ctk (psNext tp n S) = ctkF t v := by
  show ctkF (tkT tp n S.1) (tkV tp n S.1) = _
  rw [h2, h3]
/-- what the figures up to e are worth -/
def nmW (tp : Nat → Nat) (c e : Nat) : Nat := if e ≤ c then 0 else nmV tp c e
theorem nmW_0 {tp : Nat → Nat} {c : Nat} : 0 = nmW tp c c := (if_pos (Nat.le_refl _)).symm
theorem nmW_t {tp : Nat → Nat} {c e : Nat} (h : c ≤ e) (h2 : e - c < 2) (hd : 48 ≤ tp e) : 10 * nmW tp c e + tp e - 48 = nmW tp c (e + 1) := by
  unfold nmW
  rw [if_neg (show ¬ e + 1 ≤ c by omega)]
  by_cases hc : e = c
  · subst hc
    rw [if_pos (Nat.le_refl _), ← nmV_1]
    omega
  · rw [if_neg (by omega)]
    exact nmV_2 (by omega) h2
theorem nmW_f {tp : Nat → Nat} {c e : Nat} (h : c ≤ e) (h2 : ¬ e - c < 2) : nmW tp c e = nmW tp c (e + 1) := by
  unfold nmW
  rw [if_neg (by omega), if_neg (by omega)]
  exact nmV_3 h2
theorem nmW_le {tp : Nat → Nat} {c e : Nat} (h : ∀ j, tp j < 256) : nmW tp c e ≤ 3000 := by
  unfold nmW nmV
  have := h c
  have := h (c + 1)
  repeat' split
  all_goals omega
theorem nmW_V {tp : Nat → Nat} {c e : Nat} (h : c < e) : nmW tp c e = nmV tp c e := if_neg (by omega)
theorem inB_no : inB (-1000000 : Int32).toInt64 48 57 = false := by decide
/-- the sorts of squares in "kecuh", by place -/
def srO (t : Nat) (v : Int32) : Option Nat := if t = 1 then (knO v).map (· - 1) else none
theorem srO_sort {S : PS} (h : S.2.2.2.2.1 = 0) : psSort S = (srO (ctk S) S.2.2.2.1).isSome := by
  unfold psSort srO
  by_cases ht : S.2.2.1 = 2
  · rw [if_pos (ctk_1.mpr ht), decide_eq_true h, decide_eq_true ht]
    cases knO S.2.2.2.1 <;> rfl
  · rw [if_neg (fun q => ht (ctk_1.mp q)), decide_eq_false ht, Bool.and_false]
    rfl
theorem srO_s {S : PS} {k : Nat} (hs : psSort S = true) (hk : knO S.2.2.2.1 = some k) : srO (ctk S) S.2.2.2.1 = some (k - 1) := by
  unfold srO
  rw [if_pos (ctk_1.mpr (psSort_f hs).2), hk]
  rfl
theorem psNx_2 {tp : Nat → Nat} {n : Nat} {S : PS} : S.1 = (psNext tp n S).2.1 := rfl
