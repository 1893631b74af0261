/-! BASE 13: rows changed -/
set_option maxRecDepth 100000
theorem nl0 {x : Int32} : ¬ x < 0 ↔ 0 ≤ x := by rw [Int32.lt_iff_toInt_lt, Int32.le_iff_toInt_le]; omega
theorem riF_upd {it : Nat → Int32} {r i : Nat} {c : Int32} (hi : i < 40) : upd (riF it r) i c = riF (upd it (40 * r + i) c) r := by
  funext j
  show (if j = i then c else (if j < 40 then it (40 * r + j) else nI 0)) = (if j < 40 then (if 40 * r + j = 40 * r + i then c else it (40 * r + j)) else nI 0)
  by_cases h : j = i
  · rw [if_pos h, if_pos (by omega), if_pos (by omega)]
  · rw [if_neg h, if_neg (show ¬ 40 * r + j = 40 * r + i by omega)]
theorem riF_ne {it : Nat → Int32} {r i j : Nat} {c : Int32} (hi : i < 40) (h : j ≠ r) : riF it j = riF (upd it (40 * r + i) c) j := by
  funext z
  unfold riF upd
  by_cases hz : z < 40
  · rw [if_pos hz, if_pos hz, if_neg (by omega)]
  · rw [if_neg hz, if_neg hz]
theorem riF_ze {it : Nat → Int32} {r : Nat} : dv (fun _ => 0) = riF (zeI it (40 * r) 40) r := by
  funext z
  unfold riF zeI dv
  by_cases hz : z < 40
  · rw [if_pos hz, if_pos (by omega)]
  · rw [if_neg hz]
theorem riF_ze2 {it : Nat → Int32} {r j : Nat} (h : j ≠ r) : riF it j = riF (zeI it (40 * r) 40) j := by
  funext z
  unfold riF zeI
  by_cases hz : z < 40
  · rw [if_pos hz, if_pos hz, if_neg (by omega)]
  · rw [if_neg hz, if_neg hz]
theorem drpL_t {la : Nat → Int32} {r : Nat} (hr : r < 8) (h : ¬ la r < 0) : drpL la (nI r) = upd la r (-1) := by
  unfold drpL
  rw [ixO_t hr (by omega)]
  show (if 0 ≤ la r then _ else _) = _
  rw [if_pos (nl0.mp h)]
theorem drpL_f {la : Nat → Int32} {r : Nat} (hr : r < 8) (h : la r < 0) : drpL la (nI r) = la := by
  unfold drpL
  rw [ixO_t hr (by omega)]
  show (if 0 ≤ la r then _ else _) = _
  rw [if_neg (fun q => nl0.mpr q h)]
theorem rox_drp {la : Nat → Int32} {ro : Nat → Nat} {r : Nat} : va_up (rox la ro) r none = rox (upd la r (-1)) ro := by
  funext j
  unfold va_up rox upd
  by_cases h : j = r
  · rw [if_pos h, if_pos h]; rfl
  · rw [if_neg h, if_neg h]
theorem rcl_drp {ca : Nat → ClassId} {la : Nat → Int32} {ma : Nat → Nat} {it : Nat → Int32} {ro ri : Nat → Nat} {r : Nat} : ∀ j, j < 8 → j ≠ r → rcl ca la ma it ro ri j = rcl ca (upd la r (-1)) ma it ro ri j := by
  intro j _ h
  unfold rcl upd
  rw [if_neg h]
theorem rcl_drp0 {ca : Nat → ClassId} {la : Nat → Int32} {ma : Nat → Nat} {it : Nat → Int32} {ro ri : Nat → Nat} {r : Nat} : rcl ca (upd la r (-1)) ma it ro ri r = [] := rcl_f (by unfold upd; rw [if_pos rfl]; decide)
theorem rcl_set {ca : Nat → ClassId} {la : Nat → Int32} {ma : Nat → Nat} {it : Nat → Int32} {ro ri : Nat → Nat} {r i : Nat} {c : Int32} (hi : i < 40) : ∀ j, j < 8 → j ≠ r → rcl ca la ma it ro ri j = rcl ca la ma (upd it (40 * r + i) c) ro ri j := by
  intro j _ h
  unfold rcl
  rw [riF_ne hi h]
theorem setT_t {la : Nat → Int32} {ma : Nat → Nat} {it : Nat → Int32} {r i : Nat} {w : Int32} (hr : r < 8) (h : ¬ la r < 0) (hm : ma r ≤ 40) (hi : i < ma r) : setT la ma it (nI r) (nI i) w = upd it (40 * r + i) (cutI (la r) w) := by
  unfold setT
  rw [ixO_t hr (by omega)]
  show (if 0 ≤ la r then _ else _) = _
  rw [if_pos (nl0.mp h), ixO_t hi (by omega)]
theorem riF_get {it : Nat → Int32} {r i : Nat} {c : Int32} (hi : i < 40) : riF (upd it (40 * r + i) c) r i = c := by
  show (if i < 40 then (if 40 * r + i = 40 * r + i then c else it (40 * r + i)) else nI 0) = c
  rw [if_pos hi, if_pos rfl]
theorem setT_a {la : Nat → Int32} {ma : Nat → Nat} {it : Nat → Int32} {r : Nat} {y w : Int32} (hr : r < 8) (h : la r < 0) : setT la ma it (nI r) y w = it := by
  unfold setT
  rw [ixO_t hr (by omega)]
  show (if 0 ≤ la r then _ else _) = _
  rw [if_neg (fun q => nl0.mpr q h)]
theorem setT_b {la : Nat → Int32} {ma : Nat → Nat} {it : Nat → Int32} {r : Nat} {y w : Int32} (hr : r < 8) (h : ixO y (ma r) = none) : setT la ma it (nI r) y w = it := by
  unfold setT
  rw [ixO_t hr (by omega)]
  show (if 0 ≤ la r then _ else _) = _
  rw [h]
  split <;> rfl
/-! a row made: its new places -/
def rowO (ro : Nat → Nat) (x y w : Int32) (a : Nat) : Nat → Nat := match ixO x 8 with
  | none => ro
  | some r => match ixO y 3 with
    | none => ro
    | some _ => if w ≤ nI 40 then (if 0 ≤ w then updN ro r a else ro) else ro
theorem rox_row {la : Nat → Int32} {ro : Nat → Nat} {r l a : Nat} (hl : l < 3) : va_up (rox la ro) r (some a) = rox (upd la r (nI l)) (updN ro r a) := by
  funext j
  unfold va_up rox upd updN
  by_cases h : j = r
  · rw [if_pos h, if_pos h, if_neg (nI_pos (by omega)), if_pos h]
  · rw [if_neg h, if_neg h, if_neg h]
theorem rcl_row {ca : Nat → ClassId} {la : Nat → Int32} {ma : Nat → Nat} {it : Nat → Int32} {ro ri : Nat → Nat} {r l n a b : Nat} : ∀ j, j < 8 → j ≠ r → rcl ca la ma it ro ri j = rcl ca (upd la r (nI l)) (updN ma r n) (zeI it (40 * r) 40) (updN ro r a) (updN ri r b) j := by
  intro j _ h
  unfold rcl
  rw [riF_ze2 h, updN_ne h, updN_ne h, updN_ne h, show upd la r (nI l) j = la j from if_neg h]
theorem rcl_row0 {ca : Nat → ClassId} {la : Nat → Int32} {ma : Nat → Nat} {it : Nat → Int32} {ro ri : Nat → Nat} {r l n a b : Nat} (hl : l < 3) : rcl ca (upd la r (nI l)) (updN ma r n) (zeI it (40 * r) 40) (updN ro r a) (updN ri r b) r = [(a, .inr (10, [.int (nI l), .ref b])), (b, .inl (ca 0, n, .inl (dv (fun _ => 0))))] := by
  have e1 : upd la r (nI l) r = nI l := if_pos rfl
  have e2 : ∀ (f : Nat → Nat) (z : Nat), updN f r z r = z := fun f z => if_pos rfl
  unfold rcl
  rw [e1, if_neg (nI_pos (by omega)), e2, e2, e2, riF_ze]
theorem rowL_t {la : Nat → Int32} {r l n : Nat} (hr : r < 8) (hl : l < 3) (hn : n ≤ 40) : rowL la (nI r) (nI l) (nI n) = upd la r (nI l) := by
  have h1 : nI n ≤ nI 40 := (nI_leI (by omega) (by decide)).mpr hn
  have h2 : 0 ≤ nI n := nI_pos' (by omega)
  unfold rowL
  rw [ixO_t hr (by omega)]
  dsimp only
  rw [ixO_t hl (by omega)]
  dsimp only
  rw [if_pos h1, if_pos h2]
theorem rowM_t {ma : Nat → Nat} {r l n : Nat} (hr : r < 8) (hl : l < 3) (hn : n ≤ 40) : rowM ma (nI r) (nI l) (nI n) = updN ma r n := by
  have h1 : nI n ≤ nI 40 := (nI_leI (by omega) (by decide)).mpr hn
  have h2 : 0 ≤ nI n := nI_pos' (by omega)
  unfold rowM
  rw [ixO_t hr (by omega)]
  dsimp only
  rw [ixO_t hl (by omega)]
  dsimp only
  rw [if_pos h1, if_pos h2, nI_clamp (by omega)]
theorem rowI_t {it : Nat → Int32} {r l n : Nat} (hr : r < 8) (hl : l < 3) (hn : n ≤ 40) : rowI it (nI r) (nI l) (nI n) = zeI it (40 * r) 40 := by
  have h1 : nI n ≤ nI 40 := (nI_leI (by omega) (by decide)).mpr hn
  have h2 : 0 ≤ nI n := nI_pos' (by omega)
  unfold rowI
  rw [ixO_t hr (by omega)]
  dsimp only
  rw [ixO_t hl (by omega)]
  dsimp only
  rw [if_pos h1, if_pos h2]
theorem rowO_t {ro : Nat → Nat} {a : Nat} {r l n : Nat} (hr : r < 8) (hl : l < 3) (hn : n ≤ 40) : rowO ro (nI r) (nI l) (nI n) a = updN ro r a := by
  have h1 : nI n ≤ nI 40 := (nI_leI (by omega) (by decide)).mpr hn
  have h2 : 0 ≤ nI n := nI_pos' (by omega)
  unfold rowO
  rw [ixO_t hr (by omega)]
  dsimp only
  rw [ixO_t hl (by omega)]
  dsimp only
  rw [if_pos h1, if_pos h2]
theorem rowS_t {t : Int32} {r l n : Nat} (hr : r < 8) (hl : l < 3) (hn : n ≤ 40) : rowS t (nI r) (nI l) (nI n) = nI 0 := by
  have h1 : nI n ≤ nI 40 := (nI_leI (by omega) (by decide)).mpr hn
  have h2 : 0 ≤ nI n := nI_pos' (by omega)
  unfold rowS
  rw [ixO_t hr (by omega)]
  dsimp only
  rw [ixO_t hl (by omega)]
  dsimp only
  rw [if_pos h1, if_pos h2]
