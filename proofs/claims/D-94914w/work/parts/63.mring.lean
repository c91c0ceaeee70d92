/-! LAYER 2: TRUTH VALUES; the model's geometry -/
set_option maxRecDepth 100000
def bw (p : Prop) [Decidable p] : Int32 := if p then 1 else 0
theorem bw_0 (p : Prop) [Decidable p] : (bw p = 0) = ¬ p := by
  unfold bw
  by_cases h : p
  · rw [if_pos h]; exact propext ⟨fun q => absurd q (by decide), fun q => absurd h q⟩
  · rw [if_neg h]; exact propext ⟨fun _ => h, fun _ => rfl⟩
theorem bw_1 (p : Prop) [Decidable p] : (bw p = 1) = p := by
  unfold bw
  by_cases h : p
  · rw [if_pos h]; exact propext ⟨fun _ => h, fun _ => rfl⟩
  · rw [if_neg h]; exact propext ⟨fun q => absurd q (by decide), fun q => absurd q h⟩
theorem bw_i0 (p : Prop) [Decidable p] : (bw p = i32 0) = ¬ p := bw_0 p
theorem bw_i1 (p : Prop) [Decidable p] : (bw p = i32 1) = p := bw_1 p
theorem bw_t {p : Prop} [Decidable p] (h : p) : bw p = 1 := if_pos h
theorem bw_f {p : Prop} [Decidable p] (h : ¬ p) : bw p = 0 := if_neg h
theorem bw_c {p q : Prop} [Decidable p] [Decidable q] (h : p ↔ q) : bw p = bw q := by
  unfold bw
  by_cases hp : p
  · rw [if_pos hp, if_pos (h.mp hp)]
  · rw [if_neg hp, if_neg (fun z => hp (h.mpr z))]
theorem zb_bw (p : Prop) [Decidable p] : zb (bw p) = some (bw p) := by
  unfold zb bw
  split <;> rfl
theorem zb_0 : zb (0 : Int32) = some 0 := rfl
theorem zb_1 : zb (1 : Int32) = some 1 := rfl
theorem zb_i0 : zb (i32 0) = some 0 := rfl
theorem zb_i1 : zb (i32 1) = some 1 := rfl
theorem x_within {z a b : Int} (h1 : -2147483648 ≤ z) (h2 : z < 2147483648) (h3 : -2147483648 ≤ a) (h4 : a < 2147483648) (h5 : -2147483648 ≤ b) (h6 : b < 2147483648) : F_X1_within (i32 z) (i32 a) (i32 b) = some (bw (a ≤ z ∧ z ≤ b)) := by
  unfold F_X1_within
  simp only [i32_lt h1 h2 h3 h4, i32_lt h5 h6 h1 h2]
  split
  · rw [bw_f (by omega)]; rfl
  · split
    · rw [bw_f (by omega)]; rfl
    · rw [bw_t (by omega)]; rfl
theorem m_within {z a b : Int} (h1 : -2147483648 ≤ z) (h2 : z < 2147483648) (h3 : -2147483648 ≤ a) (h4 : a < 2147483648) (h5 : -2147483648 ≤ b) (h6 : b < 2147483648) : F_X9_within (i32 z) (i32 a) (i32 b) = some (bw (a ≤ z ∧ z ≤ b)) := x_within h1 h2 h3 h4 h5 h6
theorem m_least {a b : Int} (h1 : -2147483648 ≤ a) (h2 : a < 2147483648) (h3 : -2147483648 ≤ b) (h4 : b < 2147483648) : F_X9_least (i32 a) (i32 b) = some (i32 (min a b)) := by
  unfold F_X9_least
  simp only [i32_le h3 h4 h1 h2]
  split
  · rw [show min a b = b by omega]
  · rw [show min a b = a by omega]
theorem x_ringF {r p : Int} (h1 : 1 ≤ r) (h2 : r ≤ 7) (h3 : 0 ≤ p) (h4 : p < 8 * r) : F_X17_front (i32 r) (i32 p) = some (i32 (gFr r p)) := by
  obtain ⟨b1, b2, b3, b4⟩ := gS_bd h1 h3
  obtain ⟨-, -, c1, c2, c3, c4, c5, c6⟩ := ring_place h1 h2 h3 h4
  unfold F_X17_front bX17_front_47
  rw [x_ringX h1 h2 h3 (by omega), x_ringY h1 h2 h3 (by omega)]
  simp (disch := omega) only [i32_lit, i32_mul, i32_dv, Option.bind_some]
  rw [show p / (2 * r) = gS r p from rfl]
  simp (disch := omega) only [i32_eq, i32_sub, i32_add, x_ringP, Option.bind_some]
  unfold gFr
  by_cases e1 : gS r p = 1
  · simp (disch := omega) only [e1, if_true, if_neg, reduceIte, reduceCtorEq]
  · by_cases e3 : gS r p = 3
    · simp (disch := omega) only [e3, if_true, if_neg, reduceIte, reduceCtorEq]
    · by_cases e0 : gS r p = 0
      · simp (disch := omega) only [e0, if_true, if_neg, reduceIte]
      · have e2 : gS r p = 2 := by omega
        simp (disch := omega) only [e2, if_true, if_neg, reduceIte]
theorem m_doorX {r s o : Int} (h1 : -100 ≤ r) (h2 : r ≤ 100) (h3 : -1 ≤ s) (h4 : s ≤ 10) (h5 : -100 ≤ o) (h6 : o ≤ 100) : F_X9_doorX (i32 r) (i32 s) (i32 o) = some (i32 (gDX r s o)) := by
  unfold F_X9_doorX
  simp (disch := omega) only [i32_lit, i32_eq, i32_neg, i32_add, i32_sub]
  unfold gDX
  split
  · rfl
  · split <;> rfl
theorem m_doorY {r s o : Int} (h1 : -100 ≤ r) (h2 : r ≤ 100) (h3 : -1 ≤ s) (h4 : s ≤ 10) (h5 : -100 ≤ o) (h6 : o ≤ 100) : F_X9_doorY (i32 r) (i32 s) (i32 o) = some (i32 (gDY r s o)) := by
  unfold F_X9_doorY
  simp (disch := omega) only [i32_lit, i32_eq, i32_neg, i32_add, i32_sub]
  unfold gDY
  split
  · rfl
  · split <;> rfl
theorem m_outX {s : Int} (h3 : -1 ≤ s) (h4 : s ≤ 10) : F_X9_outX (i32 s) = some (i32 (gOX s)) := by
  unfold F_X9_outX
  simp (disch := omega) only [i32_lit, i32_eq, i32_neg]
  unfold gOX
  split
  · rfl
  · split <;> rfl
theorem m_outY {s : Int} (h3 : -1 ≤ s) (h4 : s ≤ 10) : F_X9_outY (i32 s) = some (i32 (gOY s)) := by
  unfold F_X9_outY
  simp (disch := omega) only [i32_lit, i32_eq, i32_neg]
  unfold gOY
  split
  · rfl
  · split <;> rfl
theorem m_place {r x y : Int} (h1 : 0 ≤ r) (h2 : r ≤ 8) (h3 : -100 ≤ x) (h4 : x ≤ 100) (h5 : -100 ≤ y) (h6 : y ≤ 100) : F_X9_placeOf (i32 r) (i32 x) (i32 y) = some (i32 (gP r x y)) := x_ringP h1 h2 h3 h4 h5 h6
theorem gDX_bd {r s o : Int} (h1 : 0 ≤ r) (h2 : r ≤ 8) (h3 : 0 ≤ o) (h4 : o ≤ 20) : -10 ≤ gDX r s o ∧ gDX r s o ≤ 30 ∧ -10 ≤ gDY r s o ∧ gDY r s o ≤ 30 := by
  unfold gDX gDY
  refine ⟨?_, ?_, ?_, ?_⟩ <;> (repeat' split) <;> omega
theorem gOX_bd (s : Int) : -1 ≤ gOX s ∧ gOX s ≤ 1 ∧ -1 ≤ gOY s ∧ gOY s ≤ 1 := by
  unfold gOX gOY
  refine ⟨?_, ?_, ?_, ?_⟩ <;> (repeat' split) <;> omega
theorem m_doorP {r s o : Int} (h1 : 1 ≤ r) (h2 : r ≤ 7) (h3 : 0 ≤ s) (h4 : s ≤ 3) (h5 : 0 ≤ o) (h6 : o ≤ 20) : F_X9_doorPlace (i32 r) (i32 s) (i32 o) = some (i32 (gD r s o)) := by
  obtain ⟨b1, b2, b3, b4⟩ := gDX_bd (s := s) (show 0 ≤ r by omega) (by omega) h5 h6
  unfold F_X9_doorPlace
  simp (disch := omega) only [m_doorX, m_doorY, m_place, Option.bind_some]
  rfl
theorem m_frontP {r s o : Int} (h1 : 0 ≤ r) (h2 : r ≤ 7) (h3 : 0 ≤ s) (h4 : s ≤ 3) (h5 : 0 ≤ o) (h6 : o ≤ 20) : F_X9_frontPlace (i32 r) (i32 s) (i32 o) = some (i32 (gF r s o)) := by
  obtain ⟨b1, b2, b3, b4⟩ := gDX_bd (s := s) h1 (by omega) h5 h6
  obtain ⟨c1, c2, c3, c4⟩ := gOX_bd s
  unfold F_X9_frontPlace
  simp (disch := omega) only [m_doorX, m_doorY, m_outX, m_outY, i32_lit, i32_add, m_place, Option.bind_some]
  rfl
theorem m_inFront {r p : Int} (h1 : 1 ≤ r) (h2 : r ≤ 7) (h3 : 0 ≤ p) (h4 : p ≤ 100) : F_X9_inFront (i32 r) (i32 p) = some (i32 (gN r p)) := by
  unfold F_X9_inFront
  simp (disch := omega) only [i32_lit, i32_mul, i32_dv, i32_add, Option.bind_some]
  rfl
theorem m_round {r a b : Int} (h1 : 0 ≤ r) (h2 : r ≤ 7) (h3 : -1000 ≤ a) (h4 : a ≤ 1000) (h5 : -1000 ≤ b) (h6 : b ≤ 1000) : F_X9_roundOf (i32 r) (i32 a) (i32 b) = some (i32 (gQ r a b)) := by
  unfold F_X9_roundOf bX9_roundOf_14
  simp (disch := omega) only [i32_lit, i32_le, i32_lt, i32_sub, i32_mul]
  unfold gQ iab
  (repeat' split) <;> first | (congr 2; omega) | omega
def pt (h r w : Int) : Int := 12 + (6 * h + r - 1) * 8 + w
theorem m_part (h r w : Int) : F_X9_part (i32 h) (i32 r) (i32 w) = some (i32 (pt h r w)) := by
  unfold F_X9_part
  simp only [i32_lit, i32_mul, i32_add, i32_sub]
  rfl
