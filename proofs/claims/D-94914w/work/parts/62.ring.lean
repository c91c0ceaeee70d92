/-! LAYER 2: RINGS. Places round a core -/
set_option maxRecDepth 100000
def gS (r p : Int) : Int := p / (2 * r)
def gO (r p : Int) : Int := p % (2 * r)
def gX (r p : Int) : Int := if gS r p = 0 then gO r p - r else if gS r p = 1 then r else if gS r p = 2 then r - gO r p else -r
def gY (r p : Int) : Int := if gS r p = 0 then -r else if gS r p = 1 then gO r p - r else if gS r p = 2 then r else r - gO r p
def gP (r x y : Int) : Int := if y = -r then x + r else if x = r then 2 * r + y + r else if y = r then 4 * r + r - x else 6 * r + r - y
def gDX (r s o : Int) : Int := if s = 1 then r else if s = 3 then -r else o + 1 - r
def gDY (r s o : Int) : Int := if s = 2 then r else if s = 0 then -r else o + 1 - r
def gOX (s : Int) : Int := if s = 1 then 1 else if s = 3 then -1 else 0
def gOY (s : Int) : Int := if s = 2 then 1 else if s = 0 then -1 else 0
/-- the place of a door -/
def gD (r s o : Int) : Int := gP r (gDX r s o) (gDY r s o)
/-- the place in front of a door, of the next ring -/
def gF (r s o : Int) : Int := gP (r + 1) (gDX r s o + gOX s) (gDY r s o + gOY s)
/-- the place in front of a place that is no corner -/
def gN (r p : Int) : Int := p + 1 + 2 * gS r p
/-- how far two places are apart, the fewer round -/
def gQ (r a b : Int) : Int := min (iab (a - b)) (8 * r - iab (a - b))
theorem gS_bd {r p : Int} (h1 : 1 ≤ r) (h3 : 0 ≤ p) : 0 ≤ gS r p ∧ gS r p ≤ p ∧ 0 ≤ gO r p ∧ gO r p < 2 * r := by
  refine ⟨Int.ediv_nonneg h3 (by omega), Int.ediv_le_self _ h3, Int.emod_nonneg _ (by omega), Int.emod_lt_of_pos _ (by omega)⟩
theorem x_ringX {r p : Int} (h1 : 1 ≤ r) (h2 : r ≤ 7) (h3 : 0 ≤ p) (h4 : p ≤ 100) : F_X17_x (i32 r) (i32 p) = some (i32 (gX r p)) := by
  obtain ⟨b1, b2, b3, b4⟩ := gS_bd h1 h3
  unfold F_X17_x
  simp (disch := omega) only [i32_lit, i32_mul, i32_dv, i32_rm, Option.bind_some]
  rw [show p / (2 * r) = gS r p from rfl, show p % (2 * r) = gO r p from rfl]
  simp (disch := omega) only [i32_eq, i32_sub, i32_neg]
  unfold gX
  split
  · rfl
  · split
    · rfl
    · split <;> rfl
theorem x_ringY {r p : Int} (h1 : 1 ≤ r) (h2 : r ≤ 7) (h3 : 0 ≤ p) (h4 : p ≤ 100) : F_X17_y (i32 r) (i32 p) = some (i32 (gY r p)) := by
  obtain ⟨b1, b2, b3, b4⟩ := gS_bd h1 h3
  unfold F_X17_y
  simp (disch := omega) only [i32_lit, i32_mul, i32_dv, i32_rm, Option.bind_some]
  rw [show p / (2 * r) = gS r p from rfl, show p % (2 * r) = gO r p from rfl]
  simp (disch := omega) only [i32_eq, i32_sub, i32_neg]
  unfold gY
  split
  · rfl
  · split
    · rfl
    · split <;> rfl
theorem x_ringP {r x y : Int} (h1 : 0 ≤ r) (h2 : r ≤ 8) (h3 : -100 ≤ x) (h4 : x ≤ 100) (h5 : -100 ≤ y) (h6 : y ≤ 100) : F_X17_place (i32 r) (i32 x) (i32 y) = some (i32 (gP r x y)) := by
  unfold F_X17_place
  simp (disch := omega) only [i32_lit, i32_neg, i32_eq, i32_mul, i32_add, i32_sub]
  unfold gP
  split
  · rfl
  · split
    · rfl
    · split <;> rfl
theorem x_ringC {r p : Int} (h1 : 1 ≤ r) (h2 : r ≤ 7) (h3 : 0 ≤ p) (h4 : p ≤ 100) : F_X17_isCorner (i32 r) (i32 p) = some (if gO r p = 0 then 1 else 0) := by
  obtain ⟨b1, b2, b3, b4⟩ := gS_bd h1 h3
  unfold F_X17_isCorner
  simp (disch := omega) only [i32_lit, i32_mul, i32_rm, Option.bind_some]
  rw [show p % (2 * r) = gO r p from rfl]
  simp (disch := omega) only [i32_eq]
  split <;> rfl
theorem x_ringD {r s o : Int} (h1 : 1 ≤ r) (h2 : r ≤ 7) (h3 : 0 ≤ s) (h4 : s ≤ 3) (h5 : 0 ≤ o) (h6 : o ≤ 20) : F_X17_door (i32 r) (i32 s) (i32 o) = some (i32 (gD r s o)) := by
  unfold F_X17_door
  simp (disch := omega) only [i32_lit, i32_neg, i32_eq, i32_add, i32_sub, x_ringP, Option.bind_some]
  unfold gD gDX gDY
  have hs : s = 0 ∨ s = 1 ∨ s = 2 ∨ s = 3 := by omega
  rcases hs with rfl | rfl | rfl | rfl
  · rw [if_pos rfl, show (1 + o - r : Int) = o + 1 - r by omega]; rfl
  · rw [if_neg (by omega), if_pos rfl, show (1 + o - r : Int) = o + 1 - r by omega]; rfl
  · rw [if_neg (by omega), if_neg (by omega), if_pos rfl, show (1 + o - r : Int) = o + 1 - r by omega]; rfl
  · rw [if_neg (by omega), if_neg (by omega), if_neg (by omega), show (1 + o - r : Int) = o + 1 - r by omega]; rfl
theorem x_ringR {r a b : Int} (h1 : 0 ≤ r) (h2 : r ≤ 7) (h3 : -1000 ≤ a) (h4 : a ≤ 1000) (h5 : -1000 ≤ b) (h6 : b ≤ 1000) : F_X17_round (i32 r) (i32 a) (i32 b) = some (i32 (gQ r a b)) := by
  have h7 : 0 ≤ iab (a - b) ∧ iab (a - b) ≤ 2000 := by unfold iab; split <;> omega
  unfold F_X17_round jlet
  simp (disch := omega) only [i32_lit, i32_sub, i32_abs, i32_mul, i32_min]
  rfl
/-- what holds of all places of all rings, of all doors: looked through -/
def rAll (f : Int → Int → Bool) : Bool := (List.range 8).all fun r => (List.range 64).all fun p => !(decide (1 ≤ r) && decide (p < 8 * r)) || f r p
def dAll (f : Int → Int → Int → Bool) : Bool := (List.range 8).all fun r => (List.range 4).all fun s => (List.range 16).all fun o => !(decide (1 ≤ r) && decide (o < 2 * r - 1)) || f r s o
theorem rAll_spec {f : Int → Int → Bool} (h : rAll f = true) {r p : Int} (h1 : 1 ≤ r) (h2 : r ≤ 7) (h3 : 0 ≤ p) (h4 : p < 8 * r) : f r p = true := by
  obtain ⟨n, rfl⟩ := Int.eq_ofNat_of_zero_le (show 0 ≤ r by omega)
  obtain ⟨k, rfl⟩ := Int.eq_ofNat_of_zero_le h3
  have h5 := List.all_eq_true.mp (List.all_eq_true.mp h n (List.mem_range.mpr (by omega))) k (List.mem_range.mpr (by omega))
  rw [decide_eq_true (by omega : 1 ≤ n), decide_eq_true (by omega : k < 8 * n)] at h5
  exact h5
theorem dAll_spec {f : Int → Int → Int → Bool} (h : dAll f = true) {r s o : Int} (h1 : 1 ≤ r) (h2 : r ≤ 7) (h3 : 0 ≤ s) (h4 : s ≤ 3) (h5 : 0 ≤ o) (h6 : o < 2 * r - 1) : f r s o = true := by
  obtain ⟨n, rfl⟩ := Int.eq_ofNat_of_zero_le (show 0 ≤ r by omega)
  obtain ⟨k, rfl⟩ := Int.eq_ofNat_of_zero_le h3
  obtain ⟨j, rfl⟩ := Int.eq_ofNat_of_zero_le h5
  have h7 := List.all_eq_true.mp (List.all_eq_true.mp (List.all_eq_true.mp h n (List.mem_range.mpr (by omega))) k (List.mem_range.mpr (by omega))) j (List.mem_range.mpr (by omega))
  rw [decide_eq_true (by omega : 1 ≤ n), decide_eq_true (by omega : j < 2 * n - 1)] at h7
  exact h7
/-- x's front of a place -/
def gFr (r p : Int) : Int := gP (r + 1) (if gS r p = 1 then gX r p + 1 else if gS r p = 3 then gX r p - 1 else gX r p) (if gS r p = 0 then gY r p - 1 else if gS r p = 2 then gY r p + 1 else gY r p)
theorem ring_t1 : rAll (fun r p => decide (gP r (gX r p) (gY r p) = p) && decide (max (iab (gX r p)) (iab (gY r p)) = r) && decide (0 ≤ gS r p) && decide (gS r p ≤ 3) && decide (-r ≤ gX r p) && decide (gX r p ≤ r) && decide (-r ≤ gY r p) && decide (gY r p ≤ r)) = true := by decide +kernel
theorem ring_t2 : rAll (fun r p => decide (gO r p = 0) || (decide (gFr r p = gN r p) && decide (0 ≤ gN r p) && decide (gN r p < 8 * (r + 1)))) = true := by decide +kernel
theorem ring_t3 : dAll (fun r s o => decide (0 ≤ gD r s o) && decide (gD r s o < 8 * r) && decide (gO r (gD r s o) ≠ 0) && decide (gFr r (gD r s o) = gF r s o) && decide (gN r (gD r s o) = gF r s o) && decide (gX (r + 1) (gF r s o) = gDX r s o + gOX s) && decide (gY (r + 1) (gF r s o) = gDY r s o + gOY s)) = true := by decide +kernel
theorem ring_place {r p : Int} (h1 : 1 ≤ r) (h2 : r ≤ 7) (h3 : 0 ≤ p) (h4 : p < 8 * r) : gP r (gX r p) (gY r p) = p ∧ max (iab (gX r p)) (iab (gY r p)) = r ∧ 0 ≤ gS r p ∧ gS r p ≤ 3 ∧ -r ≤ gX r p ∧ gX r p ≤ r ∧ -r ≤ gY r p ∧ gY r p ≤ r := by
  have h := rAll_spec ring_t1 h1 h2 h3 h4
  simpa only [Bool.and_eq_true, decide_eq_true_eq, and_assoc] using h
theorem ring_front {r p : Int} (h1 : 1 ≤ r) (h2 : r ≤ 7) (h3 : 0 ≤ p) (h4 : p < 8 * r) (h5 : gO r p ≠ 0) : gFr r p = gN r p ∧ 0 ≤ gN r p ∧ gN r p < 8 * (r + 1) := by
  have h := rAll_spec ring_t2 h1 h2 h3 h4
  rw [decide_eq_false h5, Bool.false_or] at h
  simpa only [Bool.and_eq_true, decide_eq_true_eq, and_assoc] using h
theorem ring_door {r s o : Int} (h1 : 1 ≤ r) (h2 : r ≤ 7) (h3 : 0 ≤ s) (h4 : s ≤ 3) (h5 : 0 ≤ o) (h6 : o < 2 * r - 1) : 0 ≤ gD r s o ∧ gD r s o < 8 * r ∧ gO r (gD r s o) ≠ 0 ∧ gFr r (gD r s o) = gF r s o ∧ gN r (gD r s o) = gF r s o ∧ gX (r + 1) (gF r s o) = gDX r s o + gOX s ∧ gY (r + 1) (gF r s o) = gDY r s o + gOY s := by
  have h := dAll_spec ring_t3 h1 h2 h3 h4 h5 h6
  simpa only [Bool.and_eq_true, decide_eq_true_eq, and_assoc] using h
