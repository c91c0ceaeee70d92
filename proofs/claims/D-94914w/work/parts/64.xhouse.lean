/-! LAYER 2: x's SKINS AND HOUSES in the heap -/
set_option maxRecDepth 100000
/-- a skin's object: its stone, its parts (1 side, 2 place, 3 lock, 4 rot, 5 collapsed, 6 filled, 7 when built) -/
def SkinC (h : AH) (a : Nat) (st : Option Nat) (s : Nat → Int) : Prop :=
  ∃ g : Nat → Value, hM h a = some (6, .inl (oF 8 g)) ∧ g 0 = va_rf st ∧ g 1 = .int (i32 (s 1)) ∧ g 2 = .int (i32 (s 2)) ∧ g 3 = .int (i32 (s 3)) ∧ g 4 = .int (i32 (s 4)) ∧ g 5 = .int (i32 (s 7)) ∧ g 6 = .int (i32 (s 5)) ∧ g 7 = .int (i32 (s 6))
/-- a house's object, its row of skins -/
def HouseC (h : AH) (a : Nat) (site : Option Nat) (n fam gold : Int) : Prop :=
  (∃ g : Nat → Value, hM h a = some (5, .inl (oF 5 g)) ∧ g 0 = .ref (a + 1) ∧ g 1 = va_rf site ∧ g 2 = .int (i32 n) ∧ g 3 = .int (i32 fam) ∧ g 4 = .int (i32 gold)) ∧
  (∃ f : Nat → Option Nat, hM h (a + 1) = some (6, .inr (.inr (.inr (6, f)))) ∧ ∀ i, i < 6 → f i = some (a + 2 + i)) ∧
  ∀ i, i < 6 → ∃ st s, SkinC h (a + 2 + i) st s
/-- a house by its numbers: the stone and the parts of every skin that is there -/
def HouseS (h : AH) (a : Nat) (st : Nat → Nat) (site : Option Nat) (n fam gold : Int) (S : Int → Nat → Int) : Prop :=
  HouseC h a site n fam gold ∧ ∀ r : Int, 1 ≤ r → r ≤ n → SkinC h (a + 1 + r.toNat) (some (st (S r 0).toNat)) (S r)
theorem HouseC.ck {h : AH} {a : Nat} {site : Option Nat} {n fam gold : Int} (H : HouseC h a site n fam gold) : ck h [5] (some a) = some () := by
  obtain ⟨⟨g, he, -⟩, -⟩ := H
  exact ck_c h a 5 _ _ he (by decide)
theorem HouseC.many {h : AH} {a : Nat} {site : Option Nat} {n fam gold : Int} (H : HouseC h a site n fam gold) : gI h f_House_many (some a) = some (i32 n) := by
  obtain ⟨⟨g, he, -, -, e2, -⟩, -⟩ := H
  rw [gI_c, he, Option.bind_some, r_House_many, e2]
  rfl
theorem HouseC.fam {h : AH} {a : Nat} {site : Option Nat} {n fam gold : Int} (H : HouseC h a site n fam gold) : gI h f_House_family (some a) = some (i32 fam) := by
  obtain ⟨⟨g, he, -, -, -, e3, -⟩, -⟩ := H
  rw [gI_c, he, Option.bind_some, r_House_family, e3]
  rfl
theorem HouseC.gold {h : AH} {a : Nat} {site : Option Nat} {n fam gold : Int} (H : HouseC h a site n fam gold) : gI h f_House_gold (some a) = some (i32 gold) := by
  obtain ⟨⟨g, he, -, -, -, -, e4⟩, -⟩ := H
  rw [gI_c, he, Option.bind_some, r_House_gold, e4]
  rfl
theorem HouseC.site {h : AH} {a : Nat} {site : Option Nat} {n fam gold : Int} (H : HouseC h a site n fam gold) : gR h f_House_site (some a) = some site := by
  obtain ⟨⟨g, he, -, e1, -⟩, -⟩ := H
  rw [gR_c, he, Option.bind_some, r_House_site, e1, Option.bind_some, vR_r]
theorem HouseC.skin {h : AH} {a : Nat} {site : Option Nat} {n fam gold : Int} (H : HouseC h a site n fam gold) {r : Int} (h1 : 1 ≤ r) (h2 : r ≤ 6) : F_X5_skin (some a) (i32 r) h = some (some (a + 1 + r.toNat)) := by
  have hc := H.ck
  obtain ⟨⟨g, he, e0, -⟩, ⟨f, hf, hfi⟩, -⟩ := H
  unfold F_X5_skin
  rw [hc, Option.bind_some, gR_c, he, Option.bind_some, r_House_skins, e0, Option.bind_some, vR_s, Option.bind_some, i32_lit, i32_sub, aR_c hf (by omega) (by omega) (by omega), Option.bind_some, hfi _ (by omega)]
  congr 2
  omega
theorem SkinC.side {h : AH} {a : Nat} {st : Option Nat} {s : Nat → Int} (H : SkinC h a st s) : gI h f_Skin_side (some a) = some (i32 (s 1)) := by
  obtain ⟨g, he, -, e1, -⟩ := H
  rw [gI_c, he, Option.bind_some, r_Skin_side, e1]
  rfl
theorem SkinC.on {h : AH} {a : Nat} {st : Option Nat} {s : Nat → Int} (H : SkinC h a st s) : gI h f_Skin_on (some a) = some (i32 (s 2)) := by
  obtain ⟨g, he, -, -, e2, -⟩ := H
  rw [gI_c, he, Option.bind_some, r_Skin_on, e2]
  rfl
theorem SkinC.lock {h : AH} {a : Nat} {st : Option Nat} {s : Nat → Int} (H : SkinC h a st s) : gI h f_Skin_lock (some a) = some (i32 (s 3)) := by
  obtain ⟨g, he, -, -, -, e3, -⟩ := H
  rw [gI_c, he, Option.bind_some, r_Skin_lock, e3]
  rfl
theorem SkinC.rot {h : AH} {a : Nat} {st : Option Nat} {s : Nat → Int} (H : SkinC h a st s) : gI h f_Skin_rot (some a) = some (i32 (s 4)) := by
  obtain ⟨g, he, -, -, -, -, e4, -⟩ := H
  rw [gI_c, he, Option.bind_some, r_Skin_rot, e4]
  rfl
theorem SkinC.built {h : AH} {a : Nat} {st : Option Nat} {s : Nat → Int} (H : SkinC h a st s) : gI h f_Skin_built (some a) = some (i32 (s 7)) := by
  obtain ⟨g, he, -, -, -, -, -, e5, -⟩ := H
  rw [gI_c, he, Option.bind_some, r_Skin_built, e5]
  rfl
theorem SkinC.collapsed {h : AH} {a : Nat} {st : Option Nat} {s : Nat → Int} (H : SkinC h a st s) : gI h f_Skin_collapsed (some a) = some (i32 (s 5)) := by
  obtain ⟨g, he, -, -, -, -, -, -, e6, -⟩ := H
  rw [gI_c, he, Option.bind_some, r_Skin_collapsed, e6]
  rfl
theorem SkinC.filled {h : AH} {a : Nat} {st : Option Nat} {s : Nat → Int} (H : SkinC h a st s) : gI h f_Skin_filled (some a) = some (i32 (s 6)) := by
  obtain ⟨g, he, -, -, -, -, -, -, -, e7⟩ := H
  rw [gI_c, he, Option.bind_some, r_Skin_filled, e7]
  rfl
theorem SkinC.stone {h : AH} {a : Nat} {st : Option Nat} {s : Nat → Int} (H : SkinC h a st s) : gR h f_Skin_stone (some a) = some st := by
  obtain ⟨g, he, e0, -⟩ := H
  rw [gR_c, he, Option.bind_some, r_Skin_stone, e0, Option.bind_some, vR_r]
theorem SkinC.ck {h : AH} {a : Nat} {st : Option Nat} {s : Nat → Int} (H : SkinC h a st s) : ck h [6] (some a) = some () := by
  obtain ⟨g, he, -⟩ := H
  exact ck_c h a 6 _ _ he (by decide)
theorem x_isOpen {h : AH} {a : Nat} {st : Option Nat} {s : Nat → Int} (H : SkinC h a st s) (h5 : s 5 = 0 ∨ s 5 = 1) (h6 : s 6 = 0 ∨ s 6 = 1) : F_X6_isOpen (some a) h = some (bw (s 5 = 0 ∧ s 6 = 0)) := by
  unfold F_X6_isOpen
  rw [H.ck, Option.bind_some, H.collapsed, Option.bind_some]
  simp (disch := omega) only [i32_lit, i32_eq, H.filled, Option.bind_some]
  split
  · split
    · rw [bw_t (by omega)]; rfl
    · rw [bw_f (by omega)]; rfl
  · rw [bw_f (by omega)]; rfl
theorem x_doorOf {h : AH} {a : Nat} {st : Nat → Nat} {site : Option Nat} {n fam gold : Int} {S : Int → Nat → Int} (H : HouseS h a st site n fam gold S) (hn : n ≤ 6) {r : Int} (h1 : 1 ≤ r) (h2 : r ≤ n) (h3 : 0 ≤ S r 1) (h4 : S r 1 ≤ 3) (h5 : 0 ≤ S r 2) (h6 : S r 2 ≤ 20) : F_X5_doorOf (some a) (i32 r) h = some (i32 (gD r (S r 1) (S r 2))) := by
  have hs := H.2 r h1 h2
  unfold F_X5_doorOf
  rw [H.1.ck, Option.bind_some, H.1.skin h1 (by omega), Option.bind_some, hs.side, Option.bind_some, Option.bind_some, hs.on, Option.bind_some, x_ringD h1 (by omega) h3 h4 h5 h6, Option.bind_some]
/-- what holds of a house's numbers -/
def HOk (n : Int) (S : Int → Nat → Int) : Prop := 0 ≤ n ∧ n ≤ 6 ∧ ∀ r : Int, 1 ≤ r → r ≤ n → (0 ≤ S r 0 ∧ S r 0 ≤ 3) ∧ (0 ≤ S r 1 ∧ S r 1 ≤ 3) ∧ (0 ≤ S r 2 ∧ S r 2 < 2 * r - 1) ∧ (0 ≤ S r 3 ∧ S r 3 ≤ 99) ∧ (0 ≤ S r 4 ∧ S r 4 ≤ 200) ∧ (S r 5 = 0 ∨ S r 5 = 1) ∧ (S r 6 = 0 ∨ S r 6 = 1)
/-- places round in a skin from its door to that in front of the next door within -/
def rI (S : Int → Nat → Int) (r : Int) : Int := gQ r (gD r (S r 1) (S r 2)) (gF (r - 1) (S (r - 1) 1) (S (r - 1) 2))
theorem x_round {h : AH} {a : Nat} {st : Nat → Nat} {site : Option Nat} {n fam gold : Int} {S : Int → Nat → Int} (H : HouseS h a st site n fam gold S) (hk : HOk n S) {r : Int} (h1 : 2 ≤ r) (h2 : r ≤ n) : F_X5_round (some a) (i32 r) h = some (i32 (rI S r)) := by
  obtain ⟨k1, k2, k3⟩ := hk
  obtain ⟨-, ⟨a1, a2⟩, ⟨a3, a4⟩, -⟩ := k3 r (by omega) h2
  obtain ⟨-, ⟨b1, b2⟩, ⟨b3, b4⟩, -⟩ := k3 (r - 1) (by omega) (by omega)
  obtain ⟨c1, c2, c3, c4, -⟩ := ring_door (r := r - 1) (by omega) (by omega) b1 b2 b3 b4
  obtain ⟨d1, d2, -⟩ := ring_door (r := r) (by omega) (by omega) a1 a2 a3 a4
  obtain ⟨e1, e2, e3⟩ := ring_front (r := r - 1) (by omega) (by omega) c1 c2 c3
  unfold F_X5_round
  rw [H.1.ck, Option.bind_some, x_doorOf H k2 (by omega) h2 a1 a2 a3 (by omega), Option.bind_some, i32_lit, i32_sub]
  have h8 : ((OfNat.ofNat 1 : Nat) : Int) = 1 := rfl
  rw [x_doorOf H k2 (by omega) (by omega) b1 b2 b3 (by omega), Option.bind_some, x_ringF (by omega) (by omega) c1 c2, Option.bind_some, c4, x_ringR (by omega) (by omega) (by omega) (by omega) (by omega) (by omega), Option.bind_some]
  rfl
