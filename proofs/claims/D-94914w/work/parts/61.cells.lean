/-! LAYER 2: CELLS. An object is a row of values by a function; reading and writing, field by field -/
set_option maxRecDepth 100000
def oF (n : Nat) (f : Nat → Value) : List Value := (List.range n).map f
def uv (f : Nat → Value) (k : Nat) (v : Value) : Nat → Value := fun i => if i = k then v else f i
theorem uv_eq (f : Nat → Value) (k : Nat) (v : Value) : uv f k v k = v := if_pos rfl
theorem uv_ne (f : Nat → Value) {k i : Nat} (v : Value) (h : i ≠ k) : uv f k v i = f i := if_neg h
theorem oF_len (n : Nat) (f : Nat → Value) : (oF n f).length = n := by simp [oF]
theorem oF_get {n : Nat} (f : Nat → Value) {k : Nat} (h : k < n) : (oF n f)[k]? = some (f k) := by simp [oF, h]
theorem oF_set {n : Nat} (f : Nat → Value) {k : Nat} (v : Value) : (oF n f).set k v = oF n (uv f k v) := by
  refine List.ext_getElem (by simp [oF]) (fun i h1 h2 => ?_)
  have h3 : i < n := by simpa [oF] using h2
  by_cases h : k = i
  · subst h
    simp [oF, uv]
  · simp [oF, uv, h, List.getElem_set_ne, Ne.symm h]
/-- a field of a cell -/
def fV (e : HE) (ps : List (Nat × Nat)) : Option Value := match e.2 with
  | .inl fs => (ps.lookup e.1).bind fun k => fs[k]?
  | .inr _ => none
/-- a cell with a field written -/
def fP (e : HE) (ps : List (Nat × Nat)) (v : Value) : Option HE := match e.2 with
  | .inl fs => (ps.lookup e.1).bind fun k => if k < fs.length then some (e.1, .inl (fs.set k v)) else none
  | .inr _ => none
theorem gV_c (h : AH) (ps : List (Nat × Nat)) (a : Nat) : gV h ps (some a) = (hM h a).bind fun e => fV e ps := rfl
theorem gI_c (h : AH) (ps : List (Nat × Nat)) (a : Nat) : gI h ps (some a) = ((hM h a).bind fun e => fV e ps).bind vI := rfl
theorem gR_c (h : AH) (ps : List (Nat × Nat)) (a : Nat) : gR h ps (some a) = ((hM h a).bind fun e => fV e ps).bind vR := rfl
theorem gJ_c (h : AH) (ps : List (Nat × Nat)) (a : Nat) : gJ h ps (some a) = ((hM h a).bind fun e => fV e ps).bind vJ := rfl
theorem pV_c (h : AH) (ps : List (Nat × Nat)) (a : Nat) (v : Value) (hb : hB h ≤ a) : pV h ps (some a) v = (hM h a).bind fun e => (fP e ps v).map fun e' => hU h a e' := by
  unfold pV
  rw [Option.bind_some]
  cases hM h a with
  | none => rfl
  | some e =>
    obtain ⟨t, c⟩ := e
    match c with
    | .inl fs =>
      show ((ps.lookup t).bind _) = ((ps.lookup t).bind _).map _
      cases ps.lookup t with
      | none => rfl
      | some k =>
        show (if k < fs.length ∧ hB h ≤ a then _ else _) = Option.map _ (if k < fs.length then _ else _)
        by_cases hk : k < fs.length
        · rw [if_pos ⟨hk, hb⟩, if_pos hk]
          rfl
        · rw [if_neg (fun q => hk q.1), if_neg hk]
          rfl
    | .inr _ => rfl
theorem pI_c (h : AH) (ps : List (Nat × Nat)) (a : Nat) (v : Int32) (hb : hB h ≤ a) : pI h ps (some a) v = (hM h a).bind fun e => (fP e ps (.int v)).map fun e' => hU h a e' := pV_c h ps a _ hb
theorem pJ_c (h : AH) (ps : List (Nat × Nat)) (a : Nat) (v : Int64) (hb : hB h ≤ a) : pJ h ps (some a) v = (hM h a).bind fun e => (fP e ps (.long v)).map fun e' => hU h a e' := pV_c h ps a _ hb
theorem pR_c (h : AH) (ps : List (Nat × Nat)) (a : Nat) (v : Option Nat) (hb : hB h ≤ a) : pR h ps (some a) v = (hM h a).bind fun e => (fP e ps (va_rf v)).map fun e' => hU h a e' := pV_c h ps a _ hb
theorem pZ_c (h : AH) (ps : List (Nat × Nat)) (a : Nat) (v : Int32) (hb : hB h ≤ a) (hz : v = 0 ∨ v = 1) : pZ h ps (some a) v = (hM h a).bind fun e => (fP e ps (.int v)).map fun e' => hU h a e' := by
  unfold pZ zb
  rw [if_pos hz]
  exact pV_c h ps a _ hb
theorem vI_i (v : Int32) : vI (.int v) = some v := rfl
theorem vR_r (x : Option Nat) : vR (va_rf x) = some x := by cases x <;> rfl
theorem vR_s (a : Nat) : vR (.ref a) = some (some a) := rfl
theorem vR_n : vR .null = some none := rfl
theorem vJ_j (v : Int64) : vJ (.long v) = some v := rfl
/-- the map after a write, after a new cell -/
theorem hM_U (h : AH) (a : Nat) (e : HE) (b : Nat) : hM (hU h a e) b = if b = a then some e else hM h b := rfl
theorem hM_Ue (h : AH) (a : Nat) (e : HE) : hM (hU h a e) a = some e := if_pos rfl
theorem hM_Un (h : AH) {a : Nat} (e : HE) {b : Nat} (hn : b ≠ a) : hM (hU h a e) b = hM h b := if_neg hn
theorem hM_N (h : AH) (n : Nat) (e : HE) (b : Nat) : hM (hN h n e) b = if b = h.2.1 then some e else hM h b := rfl
theorem hB_U (h : AH) (a : Nat) (e : HE) : hB (hU h a e) = hB h := rfl
theorem hB_N (h : AH) (n : Nat) (e : HE) : hB (hN h n e) = hB h := rfl
theorem tg_c (h : AH) (a c : Nat) (fs : List Value) (he : hM h a = some (c, .inl fs)) : tg h (some a) = some c := by
  unfold tg
  rw [Option.bind_some, he]
  rfl
theorem ck_c (h : AH) (a c : Nat) (fs : List Value) (cs : List Nat) (he : hM h a = some (c, .inl fs)) (hc : c ∈ cs) : ck h cs (some a) = some () := by
  unfold ck
  rw [tg_c h a c fs he, Option.bind_some, if_pos hc]
/-- arrays -/
theorem aA_c (h : AH) (t a n : Nat) (f : Nat → Int32) (he : hM h a = some (t, .inr (.inl (n, f)))) : aA h t (some a) = some (n, f) := by
  unfold aA
  rw [Option.bind_some, he, Option.bind_some]
  exact if_pos rfl
theorem ix_ok {z : Int} {n : Nat} (h1 : 0 ≤ z) (h2 : z < n) (h3 : n ≤ 2147483648) : (¬ i32 z < 0 ∧ (i32 z).toNatClampNeg < n) = True := by
  have h4 : (i32 z < 0) = (z < 0) := i32_lt (b := 0) (by omega) (by omega) (by omega) (by omega)
  rw [h4, i32_nat (by omega) (by omega)]
  exact eq_true ⟨by omega, by omega⟩
theorem aI_c {h : AH} {t a n : Nat} {f : Nat → Int32} {z : Int} (he : hM h a = some (t, .inr (.inl (n, f)))) (h1 : 0 ≤ z) (h2 : z < n) (h3 : n ≤ 2147483648) : aI h t (some a) (i32 z) = some (f z.toNat) := by
  unfold aI
  rw [aA_c h t a n f he, Option.bind_some]
  dsimp only
  simp only [ix_ok h1 h2 h3, if_true]
  rw [i32_nat (by omega) (by omega)]
theorem sA_c {h : AH} {t a n : Nat} {f : Nat → Int32} {z : Int} (v : Int32) (he : hM h a = some (t, .inr (.inl (n, f)))) (hb : hB h ≤ a) (h1 : 0 ≤ z) (h2 : z < n) (h3 : n ≤ 2147483648) : sA h t (some a) (i32 z) v = some (hU h a (t, .inr (.inl (n, upd f z.toNat v)))) := by
  unfold sA
  rw [aA_c h t a n f he, Option.bind_some, Option.bind_some]
  dsimp only
  simp only [ix_ok h1 h2 h3, hb, and_self, if_true]
  rw [i32_nat (by omega) (by omega)]
theorem aR_c {h : AH} {t a n : Nat} {f : Nat → Option Nat} {z : Int} (he : hM h a = some (t, .inr (.inr (.inr (n, f))))) (h1 : 0 ≤ z) (h2 : z < n) (h3 : n ≤ 2147483648) : aR h (some a) (i32 z) = some (f z.toNat) := by
  unfold aR aRA
  rw [Option.bind_some, he, Option.bind_some]
  dsimp only
  rw [Option.bind_some]
  dsimp only
  simp only [ix_ok h1 h2 h3, if_true]
  rw [i32_nat (by omega) (by omega)]
theorem aL_c {h : AH} {t a n : Nat} {f : Nat → Int32} (he : hM h a = some (t, .inr (.inl (n, f)))) : aL h (some a) = some (i32 n) := by
  unfold aL
  rw [Option.bind_some, he, Option.bind_some]
  show some (Int32.ofNat n) = _
  unfold i32
  rw [Int32.ofInt_eq_ofNat]
theorem r_Heir_begins (g : Nat → Value) : fV (18, .inl (oF 4 g)) f_Heir_begins = some (g 3) := oF_get g (by decide)
theorem u_Heir_begins (g : Nat → Value) (v : Value) : fP (18, .inl (oF 4 g)) f_Heir_begins v = some (18, .inl (oF 4 (uv g 3 v))) := by
  show (if 3 < (oF 4 g).length then some (18, Sum.inl ((oF 4 g).set 3 v)) else none) = _
  rw [if_pos (by rw [oF_len]; decide), oF_set]
theorem r_Heir_house (g : Nat → Value) : fV (18, .inl (oF 4 g)) f_Heir_house = some (g 2) := oF_get g (by decide)
theorem u_Heir_house (g : Nat → Value) (v : Value) : fP (18, .inl (oF 4 g)) f_Heir_house v = some (18, .inl (oF 4 (uv g 2 v))) := by
  show (if 2 < (oF 4 g).length then some (18, Sum.inl ((oF 4 g).set 2 v)) else none) = _
  rw [if_pos (by rw [oF_len]; decide), oF_set]
theorem r_House_family (g : Nat → Value) : fV (5, .inl (oF 5 g)) f_House_family = some (g 3) := oF_get g (by decide)
theorem u_House_family (g : Nat → Value) (v : Value) : fP (5, .inl (oF 5 g)) f_House_family v = some (5, .inl (oF 5 (uv g 3 v))) := by
  show (if 3 < (oF 5 g).length then some (5, Sum.inl ((oF 5 g).set 3 v)) else none) = _
  rw [if_pos (by rw [oF_len]; decide), oF_set]
theorem r_House_gold (g : Nat → Value) : fV (5, .inl (oF 5 g)) f_House_gold = some (g 4) := oF_get g (by decide)
theorem u_House_gold (g : Nat → Value) (v : Value) : fP (5, .inl (oF 5 g)) f_House_gold v = some (5, .inl (oF 5 (uv g 4 v))) := by
  show (if 4 < (oF 5 g).length then some (5, Sum.inl ((oF 5 g).set 4 v)) else none) = _
  rw [if_pos (by rw [oF_len]; decide), oF_set]
theorem r_House_many (g : Nat → Value) : fV (5, .inl (oF 5 g)) f_House_many = some (g 2) := oF_get g (by decide)
theorem u_House_many (g : Nat → Value) (v : Value) : fP (5, .inl (oF 5 g)) f_House_many v = some (5, .inl (oF 5 (uv g 2 v))) := by
  show (if 2 < (oF 5 g).length then some (5, Sum.inl ((oF 5 g).set 2 v)) else none) = _
  rw [if_pos (by rw [oF_len]; decide), oF_set]
theorem r_House_site (g : Nat → Value) : fV (5, .inl (oF 5 g)) f_House_site = some (g 1) := oF_get g (by decide)
theorem u_House_site (g : Nat → Value) (v : Value) : fP (5, .inl (oF 5 g)) f_House_site v = some (5, .inl (oF 5 (uv g 1 v))) := by
  show (if 1 < (oF 5 g).length then some (5, Sum.inl ((oF 5 g).set 1 v)) else none) = _
  rw [if_pos (by rw [oF_len]; decide), oF_set]
theorem r_House_skins (g : Nat → Value) : fV (5, .inl (oF 5 g)) f_House_skins = some (g 0) := oF_get g (by decide)
theorem u_House_skins (g : Nat → Value) (v : Value) : fP (5, .inl (oF 5 g)) f_House_skins v = some (5, .inl (oF 5 (uv g 0 v))) := by
  show (if 0 < (oF 5 g).length then some (5, Sum.inl ((oF 5 g).set 0 v)) else none) = _
  rw [if_pos (by rw [oF_len]; decide), oF_set]
theorem r_Land_births (g : Nat → Value) : fV (10, .inl (oF 22 g)) f_Land_births = some (g 10) := oF_get g (by decide)
theorem u_Land_births (g : Nat → Value) (v : Value) : fP (10, .inl (oF 22 g)) f_Land_births v = some (10, .inl (oF 22 (uv g 10 v))) := by
  show (if 10 < (oF 22 g).length then some (10, Sum.inl ((oF 22 g).set 10 v)) else none) = _
  rw [if_pos (by rw [oF_len]; decide), oF_set]
theorem r_Land_earns (g : Nat → Value) : fV (10, .inl (oF 22 g)) f_Land_earns = some (g 12) := oF_get g (by decide)
theorem u_Land_earns (g : Nat → Value) (v : Value) : fP (10, .inl (oF 22 g)) f_Land_earns v = some (10, .inl (oF 22 (uv g 12 v))) := by
  show (if 12 < (oF 22 g).length then some (10, Sum.inl ((oF 22 g).set 12 v)) else none) = _
  rw [if_pos (by rw [oF_len]; decide), oF_set]
theorem r_Land_far (g : Nat → Value) : fV (10, .inl (oF 22 g)) f_Land_far = some (g 19) := oF_get g (by decide)
theorem u_Land_far (g : Nat → Value) (v : Value) : fP (10, .inl (oF 22 g)) f_Land_far v = some (10, .inl (oF 22 (uv g 19 v))) := by
  show (if 19 < (oF 22 g).length then some (10, Sum.inl ((oF 22 g).set 19 v)) else none) = _
  rw [if_pos (by rw [oF_len]; decide), oF_set]
theorem r_Land_fire (g : Nat → Value) : fV (10, .inl (oF 22 g)) f_Land_fire = some (g 11) := oF_get g (by decide)
theorem u_Land_fire (g : Nat → Value) (v : Value) : fP (10, .inl (oF 22 g)) f_Land_fire v = some (10, .inl (oF 22 (uv g 11 v))) := by
  show (if 11 < (oF 22 g).length then some (10, Sum.inl ((oF 22 g).set 11 v)) else none) = _
  rw [if_pos (by rw [oF_len]; decide), oF_set]
theorem r_Land_hasYears (g : Nat → Value) : fV (10, .inl (oF 22 g)) f_Land_hasYears = some (g 21) := oF_get g (by decide)
theorem u_Land_hasYears (g : Nat → Value) (v : Value) : fP (10, .inl (oF 22 g)) f_Land_hasYears v = some (10, .inl (oF 22 (uv g 21 v))) := by
  show (if 21 < (oF 22 g).length then some (10, Sum.inl ((oF 22 g).set 21 v)) else none) = _
  rw [if_pos (by rw [oF_len]; decide), oF_set]
theorem r_Land_heirMany (g : Nat → Value) : fV (10, .inl (oF 22 g)) f_Land_heirMany = some (g 16) := oF_get g (by decide)
theorem u_Land_heirMany (g : Nat → Value) (v : Value) : fP (10, .inl (oF 22 g)) f_Land_heirMany v = some (10, .inl (oF 22 (uv g 16 v))) := by
  show (if 16 < (oF 22 g).length then some (10, Sum.inl ((oF 22 g).set 16 v)) else none) = _
  rw [if_pos (by rw [oF_len]; decide), oF_set]
theorem r_Land_heirs (g : Nat → Value) : fV (10, .inl (oF 22 g)) f_Land_heirs = some (g 6) := oF_get g (by decide)
theorem u_Land_heirs (g : Nat → Value) (v : Value) : fP (10, .inl (oF 22 g)) f_Land_heirs v = some (10, .inl (oF 22 (uv g 6 v))) := by
  show (if 6 < (oF 22 g).length then some (10, Sum.inl ((oF 22 g).set 6 v)) else none) = _
  rw [if_pos (by rw [oF_len]; decide), oF_set]
theorem r_Land_high (g : Nat → Value) : fV (10, .inl (oF 22 g)) f_Land_high = some (g 9) := oF_get g (by decide)
theorem u_Land_high (g : Nat → Value) (v : Value) : fP (10, .inl (oF 22 g)) f_Land_high v = some (10, .inl (oF 22 (uv g 9 v))) := by
  show (if 9 < (oF 22 g).length then some (10, Sum.inl ((oF 22 g).set 9 v)) else none) = _
  rw [if_pos (by rw [oF_len]; decide), oF_set]
theorem r_Land_older (g : Nat → Value) : fV (10, .inl (oF 22 g)) f_Land_older = some (g 2) := oF_get g (by decide)
theorem u_Land_older (g : Nat → Value) (v : Value) : fP (10, .inl (oF 22 g)) f_Land_older v = some (10, .inl (oF 22 (uv g 2 v))) := by
  show (if 2 < (oF 22 g).length then some (10, Sum.inl ((oF 22 g).set 2 v)) else none) = _
  rw [if_pos (by rw [oF_len]; decide), oF_set]
theorem r_Land_olderMany (g : Nat → Value) : fV (10, .inl (oF 22 g)) f_Land_olderMany = some (g 18) := oF_get g (by decide)
theorem u_Land_olderMany (g : Nat → Value) (v : Value) : fP (10, .inl (oF 22 g)) f_Land_olderMany v = some (10, .inl (oF 22 (uv g 18 v))) := by
  show (if 18 < (oF 22 g).length then some (10, Sum.inl ((oF 22 g).set 18 v)) else none) = _
  rw [if_pos (by rw [oF_len]; decide), oF_set]
theorem r_Land_share (g : Nat → Value) : fV (10, .inl (oF 22 g)) f_Land_share = some (g 20) := oF_get g (by decide)
theorem u_Land_share (g : Nat → Value) (v : Value) : fP (10, .inl (oF 22 g)) f_Land_share v = some (10, .inl (oF 22 (uv g 20 v))) := by
  show (if 20 < (oF 22 g).length then some (10, Sum.inl ((oF 22 g).set 20 v)) else none) = _
  rw [if_pos (by rw [oF_len]; decide), oF_set]
theorem r_Land_siteMany (g : Nat → Value) : fV (10, .inl (oF 22 g)) f_Land_siteMany = some (g 15) := oF_get g (by decide)
theorem u_Land_siteMany (g : Nat → Value) (v : Value) : fP (10, .inl (oF 22 g)) f_Land_siteMany v = some (10, .inl (oF 22 (uv g 15 v))) := by
  show (if 15 < (oF 22 g).length then some (10, Sum.inl ((oF 22 g).set 15 v)) else none) = _
  rw [if_pos (by rw [oF_len]; decide), oF_set]
theorem r_Land_sites (g : Nat → Value) : fV (10, .inl (oF 22 g)) f_Land_sites = some (g 5) := oF_get g (by decide)
theorem u_Land_sites (g : Nat → Value) (v : Value) : fP (10, .inl (oF 22 g)) f_Land_sites v = some (10, .inl (oF 22 (uv g 5 v))) := by
  show (if 5 < (oF 22 g).length then some (10, Sum.inl ((oF 22 g).set 5 v)) else none) = _
  rw [if_pos (by rw [oF_len]; decide), oF_set]
theorem r_Land_stoneMany (g : Nat → Value) : fV (10, .inl (oF 22 g)) f_Land_stoneMany = some (g 14) := oF_get g (by decide)
theorem u_Land_stoneMany (g : Nat → Value) (v : Value) : fP (10, .inl (oF 22 g)) f_Land_stoneMany v = some (10, .inl (oF 22 (uv g 14 v))) := by
  show (if 14 < (oF 22 g).length then some (10, Sum.inl ((oF 22 g).set 14 v)) else none) = _
  rw [if_pos (by rw [oF_len]; decide), oF_set]
theorem r_Land_stones (g : Nat → Value) : fV (10, .inl (oF 22 g)) f_Land_stones = some (g 4) := oF_get g (by decide)
theorem u_Land_stones (g : Nat → Value) (v : Value) : fP (10, .inl (oF 22 g)) f_Land_stones v = some (10, .inl (oF 22 (uv g 4 v))) := by
  show (if 4 < (oF 22 g).length then some (10, Sum.inl ((oF 22 g).set 4 v)) else none) = _
  rw [if_pos (by rw [oF_len]; decide), oF_set]
theorem r_Land_wallMany (g : Nat → Value) : fV (10, .inl (oF 22 g)) f_Land_wallMany = some (g 17) := oF_get g (by decide)
theorem u_Land_wallMany (g : Nat → Value) (v : Value) : fP (10, .inl (oF 22 g)) f_Land_wallMany v = some (10, .inl (oF 22 (uv g 17 v))) := by
  show (if 17 < (oF 22 g).length then some (10, Sum.inl ((oF 22 g).set 17 v)) else none) = _
  rw [if_pos (by rw [oF_len]; decide), oF_set]
theorem r_Land_walls (g : Nat → Value) : fV (10, .inl (oF 22 g)) f_Land_walls = some (g 7) := oF_get g (by decide)
theorem u_Land_walls (g : Nat → Value) (v : Value) : fP (10, .inl (oF 22 g)) f_Land_walls v = some (10, .inl (oF 22 (uv g 7 v))) := by
  show (if 7 < (oF 22 g).length then some (10, Sum.inl ((oF 22 g).set 7 v)) else none) = _
  rw [if_pos (by rw [oF_len]; decide), oF_set]
theorem r_Land_waterMany (g : Nat → Value) : fV (10, .inl (oF 22 g)) f_Land_waterMany = some (g 13) := oF_get g (by decide)
theorem u_Land_waterMany (g : Nat → Value) (v : Value) : fP (10, .inl (oF 22 g)) f_Land_waterMany v = some (10, .inl (oF 22 (uv g 13 v))) := by
  show (if 13 < (oF 22 g).length then some (10, Sum.inl ((oF 22 g).set 13 v)) else none) = _
  rw [if_pos (by rw [oF_len]; decide), oF_set]
theorem r_Land_waterX (g : Nat → Value) : fV (10, .inl (oF 22 g)) f_Land_waterX = some (g 0) := oF_get g (by decide)
theorem u_Land_waterX (g : Nat → Value) (v : Value) : fP (10, .inl (oF 22 g)) f_Land_waterX v = some (10, .inl (oF 22 (uv g 0 v))) := by
  show (if 0 < (oF 22 g).length then some (10, Sum.inl ((oF 22 g).set 0 v)) else none) = _
  rw [if_pos (by rw [oF_len]; decide), oF_set]
theorem r_Land_waterY (g : Nat → Value) : fV (10, .inl (oF 22 g)) f_Land_waterY = some (g 1) := oF_get g (by decide)
theorem u_Land_waterY (g : Nat → Value) (v : Value) : fP (10, .inl (oF 22 g)) f_Land_waterY v = some (10, .inl (oF 22 (uv g 1 v))) := by
  show (if 1 < (oF 22 g).length then some (10, Sum.inl ((oF 22 g).set 1 v)) else none) = _
  rw [if_pos (by rw [oF_len]; decide), oF_set]
theorem r_Land_wide (g : Nat → Value) : fV (10, .inl (oF 22 g)) f_Land_wide = some (g 8) := oF_get g (by decide)
theorem u_Land_wide (g : Nat → Value) (v : Value) : fP (10, .inl (oF 22 g)) f_Land_wide v = some (10, .inl (oF 22 (uv g 8 v))) := by
  show (if 8 < (oF 22 g).length then some (10, Sum.inl ((oF 22 g).set 8 v)) else none) = _
  rw [if_pos (by rw [oF_len]; decide), oF_set]
theorem r_Land_younger (g : Nat → Value) : fV (10, .inl (oF 22 g)) f_Land_younger = some (g 3) := oF_get g (by decide)
theorem u_Land_younger (g : Nat → Value) (v : Value) : fP (10, .inl (oF 22 g)) f_Land_younger v = some (10, .inl (oF 22 (uv g 3 v))) := by
  show (if 3 < (oF 22 g).length then some (10, Sum.inl ((oF 22 g).set 3 v)) else none) = _
  rw [if_pos (by rw [oF_len]; decide), oF_set]
theorem r_MLand_births (g : Nat → Value) : fV (20, .inl (oF 31 g)) f_MLand_births = some (g 3) := oF_get g (by decide)
theorem u_MLand_births (g : Nat → Value) (v : Value) : fP (20, .inl (oF 31 g)) f_MLand_births v = some (20, .inl (oF 31 (uv g 3 v))) := by
  show (if 3 < (oF 31 g).length then some (20, Sum.inl ((oF 31 g).set 3 v)) else none) = _
  rw [if_pos (by rw [oF_len]; decide), oF_set]
theorem r_MLand_coin (g : Nat → Value) : fV (20, .inl (oF 31 g)) f_MLand_coin = some (g 25) := oF_get g (by decide)
theorem u_MLand_coin (g : Nat → Value) (v : Value) : fP (20, .inl (oF 31 g)) f_MLand_coin v = some (20, .inl (oF 31 (uv g 25 v))) := by
  show (if 25 < (oF 31 g).length then some (20, Sum.inl ((oF 31 g).set 25 v)) else none) = _
  rw [if_pos (by rw [oF_len]; decide), oF_set]
theorem r_MLand_core (g : Nat → Value) : fV (20, .inl (oF 31 g)) f_MLand_core = some (g 21) := oF_get g (by decide)
theorem u_MLand_core (g : Nat → Value) (v : Value) : fP (20, .inl (oF 31 g)) f_MLand_core v = some (20, .inl (oF 31 (uv g 21 v))) := by
  show (if 21 < (oF 31 g).length then some (20, Sum.inl ((oF 31 g).set 21 v)) else none) = _
  rw [if_pos (by rw [oF_len]; decide), oF_set]
theorem r_MLand_costs (g : Nat → Value) : fV (20, .inl (oF 31 g)) f_MLand_costs = some (g 17) := oF_get g (by decide)
theorem u_MLand_costs (g : Nat → Value) (v : Value) : fP (20, .inl (oF 31 g)) f_MLand_costs v = some (20, .inl (oF 31 (uv g 17 v))) := by
  show (if 17 < (oF 31 g).length then some (20, Sum.inl ((oF 31 g).set 17 v)) else none) = _
  rw [if_pos (by rw [oF_len]; decide), oF_set]
theorem r_MLand_earns (g : Nat → Value) : fV (20, .inl (oF 31 g)) f_MLand_earns = some (g 5) := oF_get g (by decide)
theorem u_MLand_earns (g : Nat → Value) (v : Value) : fP (20, .inl (oF 31 g)) f_MLand_earns v = some (20, .inl (oF 31 (uv g 5 v))) := by
  show (if 5 < (oF 31 g).length then some (20, Sum.inl ((oF 31 g).set 5 v)) else none) = _
  rw [if_pos (by rw [oF_len]; decide), oF_set]
theorem r_MLand_far (g : Nat → Value) : fV (20, .inl (oF 31 g)) f_MLand_far = some (g 13) := oF_get g (by decide)
theorem u_MLand_far (g : Nat → Value) (v : Value) : fP (20, .inl (oF 31 g)) f_MLand_far v = some (20, .inl (oF 31 (uv g 13 v))) := by
  show (if 13 < (oF 31 g).length then some (20, Sum.inl ((oF 31 g).set 13 v)) else none) = _
  rw [if_pos (by rw [oF_len]; decide), oF_set]
theorem r_MLand_fire (g : Nat → Value) : fV (20, .inl (oF 31 g)) f_MLand_fire = some (g 4) := oF_get g (by decide)
theorem u_MLand_fire (g : Nat → Value) (v : Value) : fP (20, .inl (oF 31 g)) f_MLand_fire v = some (20, .inl (oF 31 (uv g 4 v))) := by
  show (if 4 < (oF 31 g).length then some (20, Sum.inl ((oF 31 g).set 4 v)) else none) = _
  rw [if_pos (by rw [oF_len]; decide), oF_set]
theorem r_MLand_first (g : Nat → Value) : fV (20, .inl (oF 31 g)) f_MLand_first = some (g 30) := oF_get g (by decide)
theorem u_MLand_first (g : Nat → Value) (v : Value) : fP (20, .inl (oF 31 g)) f_MLand_first v = some (20, .inl (oF 31 (uv g 30 v))) := by
  show (if 30 < (oF 31 g).length then some (20, Sum.inl ((oF 31 g).set 30 v)) else none) = _
  rw [if_pos (by rw [oF_len]; decide), oF_set]
theorem r_MLand_heirHouse (g : Nat → Value) : fV (20, .inl (oF 31 g)) f_MLand_heirHouse = some (g 23) := oF_get g (by decide)
theorem u_MLand_heirHouse (g : Nat → Value) (v : Value) : fP (20, .inl (oF 31 g)) f_MLand_heirHouse v = some (20, .inl (oF 31 (uv g 23 v))) := by
  show (if 23 < (oF 31 g).length then some (20, Sum.inl ((oF 31 g).set 23 v)) else none) = _
  rw [if_pos (by rw [oF_len]; decide), oF_set]
theorem r_MLand_heirs (g : Nat → Value) : fV (20, .inl (oF 31 g)) f_MLand_heirs = some (g 9) := oF_get g (by decide)
theorem u_MLand_heirs (g : Nat → Value) (v : Value) : fP (20, .inl (oF 31 g)) f_MLand_heirs v = some (20, .inl (oF 31 (uv g 9 v))) := by
  show (if 9 < (oF 31 g).length then some (20, Sum.inl ((oF 31 g).set 9 v)) else none) = _
  rw [if_pos (by rw [oF_len]; decide), oF_set]
theorem r_MLand_high (g : Nat → Value) : fV (20, .inl (oF 31 g)) f_MLand_high = some (g 1) := oF_get g (by decide)
theorem u_MLand_high (g : Nat → Value) (v : Value) : fP (20, .inl (oF 31 g)) f_MLand_high v = some (20, .inl (oF 31 (uv g 1 v))) := by
  show (if 1 < (oF 31 g).length then some (20, Sum.inl ((oF 31 g).set 1 v)) else none) = _
  rw [if_pos (by rw [oF_len]; decide), oF_set]
theorem r_MLand_houses (g : Nat → Value) : fV (20, .inl (oF 31 g)) f_MLand_houses = some (g 8) := oF_get g (by decide)
theorem u_MLand_houses (g : Nat → Value) (v : Value) : fP (20, .inl (oF 31 g)) f_MLand_houses v = some (20, .inl (oF 31 (uv g 8 v))) := by
  show (if 8 < (oF 31 g).length then some (20, Sum.inl ((oF 31 g).set 8 v)) else none) = _
  rw [if_pos (by rw [oF_len]; decide), oF_set]
theorem r_MLand_kind (g : Nat → Value) : fV (20, .inl (oF 31 g)) f_MLand_kind = some (g 16) := oF_get g (by decide)
theorem u_MLand_kind (g : Nat → Value) (v : Value) : fP (20, .inl (oF 31 g)) f_MLand_kind v = some (20, .inl (oF 31 (uv g 16 v))) := by
  show (if 16 < (oF 31 g).length then some (20, Sum.inl ((oF 31 g).set 16 v)) else none) = _
  rw [if_pos (by rw [oF_len]; decide), oF_set]
theorem r_MLand_name (g : Nat → Value) : fV (20, .inl (oF 31 g)) f_MLand_name = some (g 27) := oF_get g (by decide)
theorem u_MLand_name (g : Nat → Value) (v : Value) : fP (20, .inl (oF 31 g)) f_MLand_name v = some (20, .inl (oF 31 (uv g 27 v))) := by
  show (if 27 < (oF 31 g).length then some (20, Sum.inl ((oF 31 g).set 27 v)) else none) = _
  rw [if_pos (by rw [oF_len]; decide), oF_set]
theorem r_MLand_nameNumber (g : Nat → Value) : fV (20, .inl (oF 31 g)) f_MLand_nameNumber = some (g 29) := oF_get g (by decide)
theorem u_MLand_nameNumber (g : Nat → Value) (v : Value) : fP (20, .inl (oF 31 g)) f_MLand_nameNumber v = some (20, .inl (oF 31 (uv g 29 v))) := by
  show (if 29 < (oF 31 g).length then some (20, Sum.inl ((oF 31 g).set 29 v)) else none) = _
  rw [if_pos (by rw [oF_len]; decide), oF_set]
theorem r_MLand_nameSort (g : Nat → Value) : fV (20, .inl (oF 31 g)) f_MLand_nameSort = some (g 28) := oF_get g (by decide)
theorem u_MLand_nameSort (g : Nat → Value) (v : Value) : fP (20, .inl (oF 31 g)) f_MLand_nameSort v = some (20, .inl (oF 31 (uv g 28 v))) := by
  show (if 28 < (oF 31 g).length then some (20, Sum.inl ((oF 31 g).set 28 v)) else none) = _
  rw [if_pos (by rw [oF_len]; decide), oF_set]
theorem r_MLand_names (g : Nat → Value) : fV (20, .inl (oF 31 g)) f_MLand_names = some (g 12) := oF_get g (by decide)
theorem u_MLand_names (g : Nat → Value) (v : Value) : fP (20, .inl (oF 31 g)) f_MLand_names v = some (20, .inl (oF 31 (uv g 12 v))) := by
  show (if 12 < (oF 31 g).length then some (20, Sum.inl ((oF 31 g).set 12 v)) else none) = _
  rw [if_pos (by rw [oF_len]; decide), oF_set]
theorem r_MLand_older (g : Nat → Value) : fV (20, .inl (oF 31 g)) f_MLand_older = some (g 24) := oF_get g (by decide)
theorem u_MLand_older (g : Nat → Value) (v : Value) : fP (20, .inl (oF 31 g)) f_MLand_older v = some (20, .inl (oF 31 (uv g 24 v))) := by
  show (if 24 < (oF 31 g).length then some (20, Sum.inl ((oF 31 g).set 24 v)) else none) = _
  rw [if_pos (by rw [oF_len]; decide), oF_set]
theorem r_MLand_olders (g : Nat → Value) : fV (20, .inl (oF 31 g)) f_MLand_olders = some (g 11) := oF_get g (by decide)
theorem u_MLand_olders (g : Nat → Value) (v : Value) : fP (20, .inl (oF 31 g)) f_MLand_olders v = some (20, .inl (oF 31 (uv g 11 v))) := by
  show (if 11 < (oF 31 g).length then some (20, Sum.inl ((oF 31 g).set 11 v)) else none) = _
  rw [if_pos (by rw [oF_len]; decide), oF_set]
theorem r_MLand_rots (g : Nat → Value) : fV (20, .inl (oF 31 g)) f_MLand_rots = some (g 19) := oF_get g (by decide)
theorem u_MLand_rots (g : Nat → Value) (v : Value) : fP (20, .inl (oF 31 g)) f_MLand_rots v = some (20, .inl (oF 31 (uv g 19 v))) := by
  show (if 19 < (oF 31 g).length then some (20, Sum.inl ((oF 31 g).set 19 v)) else none) = _
  rw [if_pos (by rw [oF_len]; decide), oF_set]
theorem r_MLand_share (g : Nat → Value) : fV (20, .inl (oF 31 g)) f_MLand_share = some (g 14) := oF_get g (by decide)
theorem u_MLand_share (g : Nat → Value) (v : Value) : fP (20, .inl (oF 31 g)) f_MLand_share v = some (20, .inl (oF 31 (uv g 14 v))) := by
  show (if 14 < (oF 31 g).length then some (20, Sum.inl ((oF 31 g).set 14 v)) else none) = _
  rw [if_pos (by rw [oF_len]; decide), oF_set]
theorem r_MLand_smell (g : Nat → Value) : fV (20, .inl (oF 31 g)) f_MLand_smell = some (g 26) := oF_get g (by decide)
theorem u_MLand_smell (g : Nat → Value) (v : Value) : fP (20, .inl (oF 31 g)) f_MLand_smell v = some (20, .inl (oF 31 (uv g 26 v))) := by
  show (if 26 < (oF 31 g).length then some (20, Sum.inl ((oF 31 g).set 26 v)) else none) = _
  rw [if_pos (by rw [oF_len]; decide), oF_set]
theorem r_MLand_stoneOf (g : Nat → Value) : fV (20, .inl (oF 31 g)) f_MLand_stoneOf = some (g 22) := oF_get g (by decide)
theorem u_MLand_stoneOf (g : Nat → Value) (v : Value) : fP (20, .inl (oF 31 g)) f_MLand_stoneOf v = some (20, .inl (oF 31 (uv g 22 v))) := by
  show (if 22 < (oF 31 g).length then some (20, Sum.inl ((oF 31 g).set 22 v)) else none) = _
  rw [if_pos (by rw [oF_len]; decide), oF_set]
theorem r_MLand_stones (g : Nat → Value) : fV (20, .inl (oF 31 g)) f_MLand_stones = some (g 7) := oF_get g (by decide)
theorem u_MLand_stones (g : Nat → Value) (v : Value) : fP (20, .inl (oF 31 g)) f_MLand_stones v = some (20, .inl (oF 31 (uv g 7 v))) := by
  show (if 7 < (oF 31 g).length then some (20, Sum.inl ((oF 31 g).set 7 v)) else none) = _
  rw [if_pos (by rw [oF_len]; decide), oF_set]
theorem r_MLand_strong (g : Nat → Value) : fV (20, .inl (oF 31 g)) f_MLand_strong = some (g 20) := oF_get g (by decide)
theorem u_MLand_strong (g : Nat → Value) (v : Value) : fP (20, .inl (oF 31 g)) f_MLand_strong v = some (20, .inl (oF 31 (uv g 20 v))) := by
  show (if 20 < (oF 31 g).length then some (20, Sum.inl ((oF 31 g).set 20 v)) else none) = _
  rw [if_pos (by rw [oF_len]; decide), oF_set]
theorem r_MLand_walls (g : Nat → Value) : fV (20, .inl (oF 31 g)) f_MLand_walls = some (g 10) := oF_get g (by decide)
theorem u_MLand_walls (g : Nat → Value) (v : Value) : fP (20, .inl (oF 31 g)) f_MLand_walls v = some (20, .inl (oF 31 (uv g 10 v))) := by
  show (if 10 < (oF 31 g).length then some (20, Sum.inl ((oF 31 g).set 10 v)) else none) = _
  rw [if_pos (by rw [oF_len]; decide), oF_set]
theorem r_MLand_warm (g : Nat → Value) : fV (20, .inl (oF 31 g)) f_MLand_warm = some (g 18) := oF_get g (by decide)
theorem u_MLand_warm (g : Nat → Value) (v : Value) : fP (20, .inl (oF 31 g)) f_MLand_warm v = some (20, .inl (oF 31 (uv g 18 v))) := by
  show (if 18 < (oF 31 g).length then some (20, Sum.inl ((oF 31 g).set 18 v)) else none) = _
  rw [if_pos (by rw [oF_len]; decide), oF_set]
theorem r_MLand_water (g : Nat → Value) : fV (20, .inl (oF 31 g)) f_MLand_water = some (g 15) := oF_get g (by decide)
theorem u_MLand_water (g : Nat → Value) (v : Value) : fP (20, .inl (oF 31 g)) f_MLand_water v = some (20, .inl (oF 31 (uv g 15 v))) := by
  show (if 15 < (oF 31 g).length then some (20, Sum.inl ((oF 31 g).set 15 v)) else none) = _
  rw [if_pos (by rw [oF_len]; decide), oF_set]
theorem r_MLand_waters (g : Nat → Value) : fV (20, .inl (oF 31 g)) f_MLand_waters = some (g 6) := oF_get g (by decide)
theorem u_MLand_waters (g : Nat → Value) (v : Value) : fP (20, .inl (oF 31 g)) f_MLand_waters v = some (20, .inl (oF 31 (uv g 6 v))) := by
  show (if 6 < (oF 31 g).length then some (20, Sum.inl ((oF 31 g).set 6 v)) else none) = _
  rw [if_pos (by rw [oF_len]; decide), oF_set]
theorem r_MLand_wide (g : Nat → Value) : fV (20, .inl (oF 31 g)) f_MLand_wide = some (g 0) := oF_get g (by decide)
theorem u_MLand_wide (g : Nat → Value) (v : Value) : fP (20, .inl (oF 31 g)) f_MLand_wide v = some (20, .inl (oF 31 (uv g 0 v))) := by
  show (if 0 < (oF 31 g).length then some (20, Sum.inl ((oF 31 g).set 0 v)) else none) = _
  rw [if_pos (by rw [oF_len]; decide), oF_set]
theorem r_MLand_year (g : Nat → Value) : fV (20, .inl (oF 31 g)) f_MLand_year = some (g 2) := oF_get g (by decide)
theorem u_MLand_year (g : Nat → Value) (v : Value) : fP (20, .inl (oF 31 g)) f_MLand_year v = some (20, .inl (oF 31 (uv g 2 v))) := by
  show (if 2 < (oF 31 g).length then some (20, Sum.inl ((oF 31 g).set 2 v)) else none) = _
  rw [if_pos (by rw [oF_len]; decide), oF_set]
theorem r_Model_acts (g : Nat → Value) : fV (9, .inl (oF 37 g)) f_Model_acts = some (g 20) := oF_get g (by decide)
theorem u_Model_acts (g : Nat → Value) (v : Value) : fP (9, .inl (oF 37 g)) f_Model_acts v = some (9, .inl (oF 37 (uv g 20 v))) := by
  show (if 20 < (oF 37 g).length then some (9, Sum.inl ((oF 37 g).set 20 v)) else none) = _
  rw [if_pos (by rw [oF_len]; decide), oF_set]
theorem r_Model_ahead (g : Nat → Value) : fV (9, .inl (oF 37 g)) f_Model_ahead = some (g 32) := oF_get g (by decide)
theorem u_Model_ahead (g : Nat → Value) (v : Value) : fP (9, .inl (oF 37 g)) f_Model_ahead v = some (9, .inl (oF 37 (uv g 32 v))) := by
  show (if 32 < (oF 37 g).length then some (9, Sum.inl ((oF 37 g).set 32 v)) else none) = _
  rw [if_pos (by rw [oF_len]; decide), oF_set]
theorem r_Model_bestOrder (g : Nat → Value) : fV (9, .inl (oF 37 g)) f_Model_bestOrder = some (g 25) := oF_get g (by decide)
theorem u_Model_bestOrder (g : Nat → Value) (v : Value) : fP (9, .inl (oF 37 g)) f_Model_bestOrder v = some (9, .inl (oF 37 (uv g 25 v))) := by
  show (if 25 < (oF 37 g).length then some (9, Sum.inl ((oF 37 g).set 25 v)) else none) = _
  rw [if_pos (by rw [oF_len]; decide), oF_set]
theorem r_Model_cost (g : Nat → Value) : fV (9, .inl (oF 37 g)) f_Model_cost = some (g 26) := oF_get g (by decide)
theorem u_Model_cost (g : Nat → Value) (v : Value) : fP (9, .inl (oF 37 g)) f_Model_cost v = some (9, .inl (oF 37 (uv g 26 v))) := by
  show (if 26 < (oF 37 g).length then some (9, Sum.inl ((oF 37 g).set 26 v)) else none) = _
  rw [if_pos (by rw [oF_len]; decide), oF_set]
theorem r_Model_fault (g : Nat → Value) : fV (9, .inl (oF 37 g)) f_Model_fault = some (g 13) := oF_get g (by decide)
theorem u_Model_fault (g : Nat → Value) (v : Value) : fP (9, .inl (oF 37 g)) f_Model_fault v = some (9, .inl (oF 37 (uv g 13 v))) := by
  show (if 13 < (oF 37 g).length then some (9, Sum.inl ((oF 37 g).set 13 v)) else none) = _
  rw [if_pos (by rw [oF_len]; decide), oF_set]
theorem r_Model_firstMost (g : Nat → Value) : fV (9, .inl (oF 37 g)) f_Model_firstMost = some (g 28) := oF_get g (by decide)
theorem u_Model_firstMost (g : Nat → Value) (v : Value) : fP (9, .inl (oF 37 g)) f_Model_firstMost v = some (9, .inl (oF 37 (uv g 28 v))) := by
  show (if 28 < (oF 37 g).length then some (9, Sum.inl ((oF 37 g).set 28 v)) else none) = _
  rw [if_pos (by rw [oF_len]; decide), oF_set]
theorem r_Model_kept (g : Nat → Value) : fV (9, .inl (oF 37 g)) f_Model_kept = some (g 19) := oF_get g (by decide)
theorem u_Model_kept (g : Nat → Value) (v : Value) : fP (9, .inl (oF 37 g)) f_Model_kept v = some (9, .inl (oF 37 (uv g 19 v))) := by
  show (if 19 < (oF 37 g).length then some (9, Sum.inl ((oF 37 g).set 19 v)) else none) = _
  rw [if_pos (by rw [oF_len]; decide), oF_set]
theorem r_Model_land (g : Nat → Value) : fV (9, .inl (oF 37 g)) f_Model_land = some (g 3) := oF_get g (by decide)
theorem u_Model_land (g : Nat → Value) (v : Value) : fP (9, .inl (oF 37 g)) f_Model_land v = some (9, .inl (oF 37 (uv g 3 v))) := by
  show (if 3 < (oF 37 g).length then some (9, Sum.inl ((oF 37 g).set 3 v)) else none) = _
  rw [if_pos (by rw [oF_len]; decide), oF_set]
theorem r_Model_lateYear (g : Nat → Value) : fV (9, .inl (oF 37 g)) f_Model_lateYear = some (g 34) := oF_get g (by decide)
theorem u_Model_lateYear (g : Nat → Value) (v : Value) : fP (9, .inl (oF 37 g)) f_Model_lateYear v = some (9, .inl (oF 37 (uv g 34 v))) := by
  show (if 34 < (oF 37 g).length then some (9, Sum.inl ((oF 37 g).set 34 v)) else none) = _
  rw [if_pos (by rw [oF_len]; decide), oF_set]
theorem r_Model_latest (g : Nat → Value) : fV (9, .inl (oF 37 g)) f_Model_latest = some (g 31) := oF_get g (by decide)
theorem u_Model_latest (g : Nat → Value) (v : Value) : fP (9, .inl (oF 37 g)) f_Model_latest v = some (9, .inl (oF 37 (uv g 31 v))) := by
  show (if 31 < (oF 37 g).length then some (9, Sum.inl ((oF 37 g).set 31 v)) else none) = _
  rw [if_pos (by rw [oF_len]; decide), oF_set]
theorem r_Model_many (g : Nat → Value) : fV (9, .inl (oF 37 g)) f_Model_many = some (g 36) := oF_get g (by decide)
theorem u_Model_many (g : Nat → Value) (v : Value) : fP (9, .inl (oF 37 g)) f_Model_many v = some (9, .inl (oF 37 (uv g 36 v))) := by
  show (if 36 < (oF 37 g).length then some (9, Sum.inl ((oF 37 g).set 36 v)) else none) = _
  rw [if_pos (by rw [oF_len]; decide), oF_set]
theorem r_Model_marks (g : Nat → Value) : fV (9, .inl (oF 37 g)) f_Model_marks = some (g 21) := oF_get g (by decide)
theorem u_Model_marks (g : Nat → Value) (v : Value) : fP (9, .inl (oF 37 g)) f_Model_marks v = some (9, .inl (oF 37 (uv g 21 v))) := by
  show (if 21 < (oF 37 g).length then some (9, Sum.inl ((oF 37 g).set 21 v)) else none) = _
  rw [if_pos (by rw [oF_len]; decide), oF_set]
theorem r_Model_newPlace (g : Nat → Value) : fV (9, .inl (oF 37 g)) f_Model_newPlace = some (g 23) := oF_get g (by decide)
theorem u_Model_newPlace (g : Nat → Value) (v : Value) : fP (9, .inl (oF 37 g)) f_Model_newPlace v = some (9, .inl (oF 37 (uv g 23 v))) := by
  show (if 23 < (oF 37 g).length then some (9, Sum.inl ((oF 37 g).set 23 v)) else none) = _
  rw [if_pos (by rw [oF_len]; decide), oF_set]
theorem r_Model_newSide (g : Nat → Value) : fV (9, .inl (oF 37 g)) f_Model_newSide = some (g 22) := oF_get g (by decide)
theorem u_Model_newSide (g : Nat → Value) (v : Value) : fP (9, .inl (oF 37 g)) f_Model_newSide v = some (9, .inl (oF 37 (uv g 22 v))) := by
  show (if 22 < (oF 37 g).length then some (9, Sum.inl ((oF 37 g).set 22 v)) else none) = _
  rw [if_pos (by rw [oF_len]; decide), oF_set]
theorem r_Model_number (g : Nat → Value) : fV (9, .inl (oF 37 g)) f_Model_number = some (g 12) := oF_get g (by decide)
theorem u_Model_number (g : Nat → Value) (v : Value) : fP (9, .inl (oF 37 g)) f_Model_number v = some (9, .inl (oF 37 (uv g 12 v))) := by
  show (if 12 < (oF 37 g).length then some (9, Sum.inl ((oF 37 g).set 12 v)) else none) = _
  rw [if_pos (by rw [oF_len]; decide), oF_set]
theorem r_Model_order (g : Nat → Value) : fV (9, .inl (oF 37 g)) f_Model_order = some (g 24) := oF_get g (by decide)
theorem u_Model_order (g : Nat → Value) (v : Value) : fP (9, .inl (oF 37 g)) f_Model_order v = some (9, .inl (oF 37 (uv g 24 v))) := by
  show (if 24 < (oF 37 g).length then some (9, Sum.inl ((oF 37 g).set 24 v)) else none) = _
  rw [if_pos (by rw [oF_len]; decide), oF_set]
theorem r_Model_outer (g : Nat → Value) : fV (9, .inl (oF 37 g)) f_Model_outer = some (g 27) := oF_get g (by decide)
theorem u_Model_outer (g : Nat → Value) (v : Value) : fP (9, .inl (oF 37 g)) f_Model_outer v = some (9, .inl (oF 37 (uv g 27 v))) := by
  show (if 27 < (oF 37 g).length then some (9, Sum.inl ((oF 37 g).set 27 v)) else none) = _
  rw [if_pos (by rw [oF_len]; decide), oF_set]
theorem r_Model_past (g : Nat → Value) : fV (9, .inl (oF 37 g)) f_Model_past = some (g 18) := oF_get g (by decide)
theorem u_Model_past (g : Nat → Value) (v : Value) : fP (9, .inl (oF 37 g)) f_Model_past v = some (9, .inl (oF 37 (uv g 18 v))) := by
  show (if 18 < (oF 37 g).length then some (9, Sum.inl ((oF 37 g).set 18 v)) else none) = _
  rw [if_pos (by rw [oF_len]; decide), oF_set]
theorem r_Model_place (g : Nat → Value) : fV (9, .inl (oF 37 g)) f_Model_place = some (g 10) := oF_get g (by decide)
theorem u_Model_place (g : Nat → Value) (v : Value) : fP (9, .inl (oF 37 g)) f_Model_place v = some (9, .inl (oF 37 (uv g 10 v))) := by
  show (if 10 < (oF 37 g).length then some (9, Sum.inl ((oF 37 g).set 10 v)) else none) = _
  rw [if_pos (by rw [oF_len]; decide), oF_set]
theorem r_Model_read (g : Nat → Value) : fV (9, .inl (oF 37 g)) f_Model_read = some (g 4) := oF_get g (by decide)
theorem u_Model_read (g : Nat → Value) (v : Value) : fP (9, .inl (oF 37 g)) f_Model_read v = some (9, .inl (oF 37 (uv g 4 v))) := by
  show (if 4 < (oF 37 g).length then some (9, Sum.inl ((oF 37 g).set 4 v)) else none) = _
  rw [if_pos (by rw [oF_len]; decide), oF_set]
theorem r_Model_row (g : Nat → Value) : fV (9, .inl (oF 37 g)) f_Model_row = some (g 29) := oF_get g (by decide)
theorem u_Model_row (g : Nat → Value) (v : Value) : fP (9, .inl (oF 37 g)) f_Model_row v = some (9, .inl (oF 37 (uv g 29 v))) := by
  show (if 29 < (oF 37 g).length then some (9, Sum.inl ((oF 37 g).set 29 v)) else none) = _
  rw [if_pos (by rw [oF_len]; decide), oF_set]
theorem r_Model_sign (g : Nat → Value) : fV (9, .inl (oF 37 g)) f_Model_sign = some (g 11) := oF_get g (by decide)
theorem u_Model_sign (g : Nat → Value) (v : Value) : fP (9, .inl (oF 37 g)) f_Model_sign v = some (9, .inl (oF 37 (uv g 11 v))) := by
  show (if 11 < (oF 37 g).length then some (9, Sum.inl ((oF 37 g).set 11 v)) else none) = _
  rw [if_pos (by rw [oF_len]; decide), oF_set]
theorem r_Model_size (g : Nat → Value) : fV (9, .inl (oF 37 g)) f_Model_size = some (g 7) := oF_get g (by decide)
theorem u_Model_size (g : Nat → Value) (v : Value) : fP (9, .inl (oF 37 g)) f_Model_size v = some (9, .inl (oF 37 (uv g 7 v))) := by
  show (if 7 < (oF 37 g).length then some (9, Sum.inl ((oF 37 g).set 7 v)) else none) = _
  rw [if_pos (by rw [oF_len]; decide), oF_set]
theorem r_Model_soonYear (g : Nat → Value) : fV (9, .inl (oF 37 g)) f_Model_soonYear = some (g 33) := oF_get g (by decide)
theorem u_Model_soonYear (g : Nat → Value) (v : Value) : fP (9, .inl (oF 37 g)) f_Model_soonYear v = some (9, .inl (oF 37 (uv g 33 v))) := by
  show (if 33 < (oF 37 g).length then some (9, Sum.inl ((oF 37 g).set 33 v)) else none) = _
  rw [if_pos (by rw [oF_len]; decide), oF_set]
theorem r_Model_soonest (g : Nat → Value) : fV (9, .inl (oF 37 g)) f_Model_soonest = some (g 30) := oF_get g (by decide)
theorem u_Model_soonest (g : Nat → Value) (v : Value) : fP (9, .inl (oF 37 g)) f_Model_soonest v = some (9, .inl (oF 37 (uv g 30 v))) := by
  show (if 30 < (oF 37 g).length then some (9, Sum.inl ((oF 37 g).set 30 v)) else none) = _
  rw [if_pos (by rw [oF_len]; decide), oF_set]
theorem r_Model_sort (g : Nat → Value) : fV (9, .inl (oF 37 g)) f_Model_sort = some (g 9) := oF_get g (by decide)
theorem u_Model_sort (g : Nat → Value) (v : Value) : fP (9, .inl (oF 37 g)) f_Model_sort v = some (9, .inl (oF 37 (uv g 9 v))) := by
  show (if 9 < (oF 37 g).length then some (9, Sum.inl ((oF 37 g).set 9 v)) else none) = _
  rw [if_pos (by rw [oF_len]; decide), oF_set]
theorem r_Model_spot (g : Nat → Value) : fV (9, .inl (oF 37 g)) f_Model_spot = some (g 8) := oF_get g (by decide)
theorem u_Model_spot (g : Nat → Value) (v : Value) : fP (9, .inl (oF 37 g)) f_Model_spot v = some (9, .inl (oF 37 (uv g 8 v))) := by
  show (if 8 < (oF 37 g).length then some (9, Sum.inl ((oF 37 g).set 8 v)) else none) = _
  rw [if_pos (by rw [oF_len]; decide), oF_set]
theorem r_Model_tape (g : Nat → Value) : fV (9, .inl (oF 37 g)) f_Model_tape = some (g 5) := oF_get g (by decide)
theorem u_Model_tape (g : Nat → Value) (v : Value) : fP (9, .inl (oF 37 g)) f_Model_tape v = some (9, .inl (oF 37 (uv g 5 v))) := by
  show (if 5 < (oF 37 g).length then some (9, Sum.inl ((oF 37 g).set 5 v)) else none) = _
  rw [if_pos (by rw [oF_len]; decide), oF_set]
theorem r_Model_taped (g : Nat → Value) : fV (9, .inl (oF 37 g)) f_Model_taped = some (g 6) := oF_get g (by decide)
theorem u_Model_taped (g : Nat → Value) (v : Value) : fP (9, .inl (oF 37 g)) f_Model_taped v = some (9, .inl (oF 37 (uv g 6 v))) := by
  show (if 6 < (oF 37 g).length then some (9, Sum.inl ((oF 37 g).set 6 v)) else none) = _
  rw [if_pos (by rw [oF_len]; decide), oF_set]
theorem r_Model_thrown (g : Nat → Value) : fV (9, .inl (oF 37 g)) f_Model_thrown = some (g 0) := oF_get g (by decide)
theorem u_Model_thrown (g : Nat → Value) (v : Value) : fP (9, .inl (oF 37 g)) f_Model_thrown v = some (9, .inl (oF 37 (uv g 0 v))) := by
  show (if 0 < (oF 37 g).length then some (9, Sum.inl ((oF 37 g).set 0 v)) else none) = _
  rw [if_pos (by rw [oF_len]; decide), oF_set]
theorem r_Model_trouble (g : Nat → Value) : fV (9, .inl (oF 37 g)) f_Model_trouble = some (g 1) := oF_get g (by decide)
theorem u_Model_trouble (g : Nat → Value) (v : Value) : fP (9, .inl (oF 37 g)) f_Model_trouble v = some (9, .inl (oF 37 (uv g 1 v))) := by
  show (if 1 < (oF 37 g).length then some (9, Sum.inl ((oF 37 g).set 1 v)) else none) = _
  rw [if_pos (by rw [oF_len]; decide), oF_set]
theorem r_Model_v (g : Nat → Value) : fV (9, .inl (oF 37 g)) f_Model_v = some (g 16) := oF_get g (by decide)
theorem u_Model_v (g : Nat → Value) (v : Value) : fP (9, .inl (oF 37 g)) f_Model_v v = some (9, .inl (oF 37 (uv g 16 v))) := by
  show (if 16 < (oF 37 g).length then some (9, Sum.inl ((oF 37 g).set 16 v)) else none) = _
  rw [if_pos (by rw [oF_len]; decide), oF_set]
theorem r_Model_w (g : Nat → Value) : fV (9, .inl (oF 37 g)) f_Model_w = some (g 17) := oF_get g (by decide)
theorem u_Model_w (g : Nat → Value) (v : Value) : fP (9, .inl (oF 37 g)) f_Model_w v = some (9, .inl (oF 37 (uv g 17 v))) := by
  show (if 17 < (oF 37 g).length then some (9, Sum.inl ((oF 37 g).set 17 v)) else none) = _
  rw [if_pos (by rw [oF_len]; decide), oF_set]
theorem r_Model_wanted (g : Nat → Value) : fV (9, .inl (oF 37 g)) f_Model_wanted = some (g 35) := oF_get g (by decide)
theorem u_Model_wanted (g : Nat → Value) (v : Value) : fP (9, .inl (oF 37 g)) f_Model_wanted v = some (9, .inl (oF 37 (uv g 35 v))) := by
  show (if 35 < (oF 37 g).length then some (9, Sum.inl ((oF 37 g).set 35 v)) else none) = _
  rw [if_pos (by rw [oF_len]; decide), oF_set]
theorem r_Model_where (g : Nat → Value) : fV (9, .inl (oF 37 g)) f_Model_where = some (g 2) := oF_get g (by decide)
theorem u_Model_where (g : Nat → Value) (v : Value) : fP (9, .inl (oF 37 g)) f_Model_where v = some (9, .inl (oF 37 (uv g 2 v))) := by
  show (if 2 < (oF 37 g).length then some (9, Sum.inl ((oF 37 g).set 2 v)) else none) = _
  rw [if_pos (by rw [oF_len]; decide), oF_set]
theorem r_Model_word (g : Nat → Value) : fV (9, .inl (oF 37 g)) f_Model_word = some (g 15) := oF_get g (by decide)
theorem u_Model_word (g : Nat → Value) (v : Value) : fP (9, .inl (oF 37 g)) f_Model_word v = some (9, .inl (oF 37 (uv g 15 v))) := by
  show (if 15 < (oF 37 g).length then some (9, Sum.inl ((oF 37 g).set 15 v)) else none) = _
  rw [if_pos (by rw [oF_len]; decide), oF_set]
theorem r_Model_wrongAt (g : Nat → Value) : fV (9, .inl (oF 37 g)) f_Model_wrongAt = some (g 14) := oF_get g (by decide)
theorem u_Model_wrongAt (g : Nat → Value) (v : Value) : fP (9, .inl (oF 37 g)) f_Model_wrongAt v = some (9, .inl (oF 37 (uv g 14 v))) := by
  show (if 14 < (oF 37 g).length then some (9, Sum.inl ((oF 37 g).set 14 v)) else none) = _
  rw [if_pos (by rw [oF_len]; decide), oF_set]
theorem r_Named_name_13 (g : Nat → Value) : fV (13, .inl (oF 6 g)) f_Named_name = some (g 4) := oF_get g (by decide)
theorem u_Named_name_13 (g : Nat → Value) (v : Value) : fP (13, .inl (oF 6 g)) f_Named_name v = some (13, .inl (oF 6 (uv g 4 v))) := by
  show (if 4 < (oF 6 g).length then some (13, Sum.inl ((oF 6 g).set 4 v)) else none) = _
  rw [if_pos (by rw [oF_len]; decide), oF_set]
theorem r_Named_name_14 (g : Nat → Value) : fV (14, .inl (oF 6 g)) f_Named_name = some (g 4) := oF_get g (by decide)
theorem u_Named_name_14 (g : Nat → Value) (v : Value) : fP (14, .inl (oF 6 g)) f_Named_name v = some (14, .inl (oF 6 (uv g 4 v))) := by
  show (if 4 < (oF 6 g).length then some (14, Sum.inl ((oF 6 g).set 4 v)) else none) = _
  rw [if_pos (by rw [oF_len]; decide), oF_set]
theorem r_Named_name_15 (g : Nat → Value) : fV (15, .inl (oF 6 g)) f_Named_name = some (g 4) := oF_get g (by decide)
theorem u_Named_name_15 (g : Nat → Value) (v : Value) : fP (15, .inl (oF 6 g)) f_Named_name v = some (15, .inl (oF 6 (uv g 4 v))) := by
  show (if 4 < (oF 6 g).length then some (15, Sum.inl ((oF 6 g).set 4 v)) else none) = _
  rw [if_pos (by rw [oF_len]; decide), oF_set]
theorem r_Named_name_16 (g : Nat → Value) : fV (16, .inl (oF 5 g)) f_Named_name = some (g 0) := oF_get g (by decide)
theorem u_Named_name_16 (g : Nat → Value) (v : Value) : fP (16, .inl (oF 5 g)) f_Named_name v = some (16, .inl (oF 5 (uv g 0 v))) := by
  show (if 0 < (oF 5 g).length then some (16, Sum.inl ((oF 5 g).set 0 v)) else none) = _
  rw [if_pos (by rw [oF_len]; decide), oF_set]
theorem r_Named_name_18 (g : Nat → Value) : fV (18, .inl (oF 4 g)) f_Named_name = some (g 0) := oF_get g (by decide)
theorem u_Named_name_18 (g : Nat → Value) (v : Value) : fP (18, .inl (oF 4 g)) f_Named_name v = some (18, .inl (oF 4 (uv g 0 v))) := by
  show (if 0 < (oF 4 g).length then some (18, Sum.inl ((oF 4 g).set 0 v)) else none) = _
  rw [if_pos (by rw [oF_len]; decide), oF_set]
theorem r_Named_name_19 (g : Nat → Value) : fV (19, .inl (oF 4 g)) f_Named_name = some (g 0) := oF_get g (by decide)
theorem u_Named_name_19 (g : Nat → Value) (v : Value) : fP (19, .inl (oF 4 g)) f_Named_name v = some (19, .inl (oF 4 (uv g 0 v))) := by
  show (if 0 < (oF 4 g).length then some (19, Sum.inl ((oF 4 g).set 0 v)) else none) = _
  rw [if_pos (by rw [oF_len]; decide), oF_set]
theorem r_Named_number_13 (g : Nat → Value) : fV (13, .inl (oF 6 g)) f_Named_number = some (g 5) := oF_get g (by decide)
theorem u_Named_number_13 (g : Nat → Value) (v : Value) : fP (13, .inl (oF 6 g)) f_Named_number v = some (13, .inl (oF 6 (uv g 5 v))) := by
  show (if 5 < (oF 6 g).length then some (13, Sum.inl ((oF 6 g).set 5 v)) else none) = _
  rw [if_pos (by rw [oF_len]; decide), oF_set]
theorem r_Named_number_14 (g : Nat → Value) : fV (14, .inl (oF 6 g)) f_Named_number = some (g 5) := oF_get g (by decide)
theorem u_Named_number_14 (g : Nat → Value) (v : Value) : fP (14, .inl (oF 6 g)) f_Named_number v = some (14, .inl (oF 6 (uv g 5 v))) := by
  show (if 5 < (oF 6 g).length then some (14, Sum.inl ((oF 6 g).set 5 v)) else none) = _
  rw [if_pos (by rw [oF_len]; decide), oF_set]
theorem r_Named_number_15 (g : Nat → Value) : fV (15, .inl (oF 6 g)) f_Named_number = some (g 5) := oF_get g (by decide)
theorem u_Named_number_15 (g : Nat → Value) (v : Value) : fP (15, .inl (oF 6 g)) f_Named_number v = some (15, .inl (oF 6 (uv g 5 v))) := by
  show (if 5 < (oF 6 g).length then some (15, Sum.inl ((oF 6 g).set 5 v)) else none) = _
  rw [if_pos (by rw [oF_len]; decide), oF_set]
theorem r_Named_number_16 (g : Nat → Value) : fV (16, .inl (oF 5 g)) f_Named_number = some (g 1) := oF_get g (by decide)
theorem u_Named_number_16 (g : Nat → Value) (v : Value) : fP (16, .inl (oF 5 g)) f_Named_number v = some (16, .inl (oF 5 (uv g 1 v))) := by
  show (if 1 < (oF 5 g).length then some (16, Sum.inl ((oF 5 g).set 1 v)) else none) = _
  rw [if_pos (by rw [oF_len]; decide), oF_set]
theorem r_Named_number_18 (g : Nat → Value) : fV (18, .inl (oF 4 g)) f_Named_number = some (g 1) := oF_get g (by decide)
theorem u_Named_number_18 (g : Nat → Value) (v : Value) : fP (18, .inl (oF 4 g)) f_Named_number v = some (18, .inl (oF 4 (uv g 1 v))) := by
  show (if 1 < (oF 4 g).length then some (18, Sum.inl ((oF 4 g).set 1 v)) else none) = _
  rw [if_pos (by rw [oF_len]; decide), oF_set]
theorem r_Named_number_19 (g : Nat → Value) : fV (19, .inl (oF 4 g)) f_Named_number = some (g 1) := oF_get g (by decide)
theorem u_Named_number_19 (g : Nat → Value) (v : Value) : fP (19, .inl (oF 4 g)) f_Named_number v = some (19, .inl (oF 4 (uv g 1 v))) := by
  show (if 1 < (oF 4 g).length then some (19, Sum.inl ((oF 4 g).set 1 v)) else none) = _
  rw [if_pos (by rw [oF_len]; decide), oF_set]
theorem r_Orders_land (g : Nat → Value) : fV (8, .inl (oF 7 g)) f_Orders_land = some (g 4) := oF_get g (by decide)
theorem u_Orders_land (g : Nat → Value) (v : Value) : fP (8, .inl (oF 7 g)) f_Orders_land v = some (8, .inl (oF 7 (uv g 4 v))) := by
  show (if 4 < (oF 7 g).length then some (8, Sum.inl ((oF 7 g).set 4 v)) else none) = _
  rw [if_pos (by rw [oF_len]; decide), oF_set]
theorem r_Orders_latest (g : Nat → Value) : fV (8, .inl (oF 7 g)) f_Orders_latest = some (g 3) := oF_get g (by decide)
theorem u_Orders_latest (g : Nat → Value) (v : Value) : fP (8, .inl (oF 7 g)) f_Orders_latest v = some (8, .inl (oF 7 (uv g 3 v))) := by
  show (if 3 < (oF 7 g).length then some (8, Sum.inl ((oF 7 g).set 3 v)) else none) = _
  rw [if_pos (by rw [oF_len]; decide), oF_set]
theorem r_Orders_many (g : Nat → Value) : fV (8, .inl (oF 7 g)) f_Orders_many = some (g 6) := oF_get g (by decide)
theorem u_Orders_many (g : Nat → Value) (v : Value) : fP (8, .inl (oF 7 g)) f_Orders_many v = some (8, .inl (oF 7 (uv g 6 v))) := by
  show (if 6 < (oF 7 g).length then some (8, Sum.inl ((oF 7 g).set 6 v)) else none) = _
  rw [if_pos (by rw [oF_len]; decide), oF_set]
theorem r_Orders_now (g : Nat → Value) : fV (8, .inl (oF 7 g)) f_Orders_now = some (g 5) := oF_get g (by decide)
theorem u_Orders_now (g : Nat → Value) (v : Value) : fP (8, .inl (oF 7 g)) f_Orders_now v = some (8, .inl (oF 7 (uv g 5 v))) := by
  show (if 5 < (oF 7 g).length then some (8, Sum.inl ((oF 7 g).set 5 v)) else none) = _
  rw [if_pos (by rw [oF_len]; decide), oF_set]
theorem r_Orders_order (g : Nat → Value) : fV (8, .inl (oF 7 g)) f_Orders_order = some (g 0) := oF_get g (by decide)
theorem u_Orders_order (g : Nat → Value) (v : Value) : fP (8, .inl (oF 7 g)) f_Orders_order v = some (8, .inl (oF 7 (uv g 0 v))) := by
  show (if 0 < (oF 7 g).length then some (8, Sum.inl ((oF 7 g).set 0 v)) else none) = _
  rw [if_pos (by rw [oF_len]; decide), oF_set]
theorem r_Orders_rows (g : Nat → Value) : fV (8, .inl (oF 7 g)) f_Orders_rows = some (g 1) := oF_get g (by decide)
theorem u_Orders_rows (g : Nat → Value) (v : Value) : fP (8, .inl (oF 7 g)) f_Orders_rows v = some (8, .inl (oF 7 (uv g 1 v))) := by
  show (if 1 < (oF 7 g).length then some (8, Sum.inl ((oF 7 g).set 1 v)) else none) = _
  rw [if_pos (by rw [oF_len]; decide), oF_set]
theorem r_Orders_soonest (g : Nat → Value) : fV (8, .inl (oF 7 g)) f_Orders_soonest = some (g 2) := oF_get g (by decide)
theorem u_Orders_soonest (g : Nat → Value) (v : Value) : fP (8, .inl (oF 7 g)) f_Orders_soonest v = some (8, .inl (oF 7 (uv g 2 v))) := by
  show (if 2 < (oF 7 g).length then some (8, Sum.inl ((oF 7 g).set 2 v)) else none) = _
  rw [if_pos (by rw [oF_len]; decide), oF_set]
theorem r_Reader_at (g : Nat → Value) : fV (2, .inl (oF 12 g)) f_Reader_at = some (g 7) := oF_get g (by decide)
theorem u_Reader_at (g : Nat → Value) (v : Value) : fP (2, .inl (oF 12 g)) f_Reader_at v = some (2, .inl (oF 12 (uv g 7 v))) := by
  show (if 7 < (oF 12 g).length then some (2, Sum.inl ((oF 12 g).set 7 v)) else none) = _
  rw [if_pos (by rw [oF_len]; decide), oF_set]
theorem r_Reader_end (g : Nat → Value) : fV (2, .inl (oF 12 g)) f_Reader_end = some (g 5) := oF_get g (by decide)
theorem u_Reader_end (g : Nat → Value) (v : Value) : fP (2, .inl (oF 12 g)) f_Reader_end v = some (2, .inl (oF 12 (uv g 5 v))) := by
  show (if 5 < (oF 12 g).length then some (2, Sum.inl ((oF 12 g).set 5 v)) else none) = _
  rw [if_pos (by rw [oF_len]; decide), oF_set]
theorem r_Reader_land (g : Nat → Value) : fV (2, .inl (oF 12 g)) f_Reader_land = some (g 11) := oF_get g (by decide)
theorem u_Reader_land (g : Nat → Value) (v : Value) : fP (2, .inl (oF 12 g)) f_Reader_land v = some (2, .inl (oF 12 (uv g 11 v))) := by
  show (if 11 < (oF 12 g).length then some (2, Sum.inl ((oF 12 g).set 11 v)) else none) = _
  rw [if_pos (by rw [oF_len]; decide), oF_set]
theorem r_Reader_letters (g : Nat → Value) : fV (2, .inl (oF 12 g)) f_Reader_letters = some (g 2) := oF_get g (by decide)
theorem u_Reader_letters (g : Nat → Value) (v : Value) : fP (2, .inl (oF 12 g)) f_Reader_letters v = some (2, .inl (oF 12 (uv g 2 v))) := by
  show (if 2 < (oF 12 g).length then some (2, Sum.inl ((oF 12 g).set 2 v)) else none) = _
  rw [if_pos (by rw [oF_len]; decide), oF_set]
theorem r_Reader_size (g : Nat → Value) : fV (2, .inl (oF 12 g)) f_Reader_size = some (g 4) := oF_get g (by decide)
theorem u_Reader_size (g : Nat → Value) (v : Value) : fP (2, .inl (oF 12 g)) f_Reader_size v = some (2, .inl (oF 12 (uv g 4 v))) := by
  show (if 4 < (oF 12 g).length then some (2, Sum.inl ((oF 12 g).set 4 v)) else none) = _
  rw [if_pos (by rw [oF_len]; decide), oF_set]
theorem r_Reader_text (g : Nat → Value) : fV (2, .inl (oF 12 g)) f_Reader_text = some (g 1) := oF_get g (by decide)
theorem u_Reader_text (g : Nat → Value) (v : Value) : fP (2, .inl (oF 12 g)) f_Reader_text v = some (2, .inl (oF 12 (uv g 1 v))) := by
  show (if 1 < (oF 12 g).length then some (2, Sum.inl ((oF 12 g).set 1 v)) else none) = _
  rw [if_pos (by rw [oF_len]; decide), oF_set]
theorem r_Reader_token (g : Nat → Value) : fV (2, .inl (oF 12 g)) f_Reader_token = some (g 6) := oF_get g (by decide)
theorem u_Reader_token (g : Nat → Value) (v : Value) : fP (2, .inl (oF 12 g)) f_Reader_token v = some (2, .inl (oF 12 (uv g 6 v))) := by
  show (if 6 < (oF 12 g).length then some (2, Sum.inl ((oF 12 g).set 6 v)) else none) = _
  rw [if_pos (by rw [oF_len]; decide), oF_set]
theorem r_Reader_village (g : Nat → Value) : fV (2, .inl (oF 12 g)) f_Reader_village = some (g 3) := oF_get g (by decide)
theorem u_Reader_village (g : Nat → Value) (v : Value) : fP (2, .inl (oF 12 g)) f_Reader_village v = some (2, .inl (oF 12 (uv g 3 v))) := by
  show (if 3 < (oF 12 g).length then some (2, Sum.inl ((oF 12 g).set 3 v)) else none) = _
  rw [if_pos (by rw [oF_len]; decide), oF_set]
theorem r_Reader_whole (g : Nat → Value) : fV (2, .inl (oF 12 g)) f_Reader_whole = some (g 8) := oF_get g (by decide)
theorem u_Reader_whole (g : Nat → Value) (v : Value) : fP (2, .inl (oF 12 g)) f_Reader_whole v = some (2, .inl (oF 12 (uv g 8 v))) := by
  show (if 8 < (oF 12 g).length then some (2, Sum.inl ((oF 12 g).set 8 v)) else none) = _
  rw [if_pos (by rw [oF_len]; decide), oF_set]
theorem r_Reader_word (g : Nat → Value) : fV (2, .inl (oF 12 g)) f_Reader_word = some (g 10) := oF_get g (by decide)
theorem u_Reader_word (g : Nat → Value) (v : Value) : fP (2, .inl (oF 12 g)) f_Reader_word v = some (2, .inl (oF 12 (uv g 10 v))) := by
  show (if 10 < (oF 12 g).length then some (2, Sum.inl ((oF 12 g).set 10 v)) else none) = _
  rw [if_pos (by rw [oF_len]; decide), oF_set]
theorem r_Reader_wrong (g : Nat → Value) : fV (2, .inl (oF 12 g)) f_Reader_wrong = some (g 0) := oF_get g (by decide)
theorem u_Reader_wrong (g : Nat → Value) (v : Value) : fP (2, .inl (oF 12 g)) f_Reader_wrong v = some (2, .inl (oF 12 (uv g 0 v))) := by
  show (if 0 < (oF 12 g).length then some (2, Sum.inl ((oF 12 g).set 0 v)) else none) = _
  rw [if_pos (by rw [oF_len]; decide), oF_set]
theorem r_Reader_year (g : Nat → Value) : fV (2, .inl (oF 12 g)) f_Reader_year = some (g 9) := oF_get g (by decide)
theorem u_Reader_year (g : Nat → Value) (v : Value) : fP (2, .inl (oF 12 g)) f_Reader_year v = some (2, .inl (oF 12 (uv g 9 v))) := by
  show (if 9 < (oF 12 g).length then some (2, Sum.inl ((oF 12 g).set 9 v)) else none) = _
  rw [if_pos (by rw [oF_len]; decide), oF_set]
theorem r_Refused_fault (g : Nat → Value) : fV (3, .inl (oF 8 g)) f_Refused_fault = some (g 6) := oF_get g (by decide)
theorem u_Refused_fault (g : Nat → Value) (v : Value) : fP (3, .inl (oF 8 g)) f_Refused_fault v = some (3, .inl (oF 8 (uv g 6 v))) := by
  show (if 6 < (oF 8 g).length then some (3, Sum.inl ((oF 8 g).set 6 v)) else none) = _
  rw [if_pos (by rw [oF_len]; decide), oF_set]
theorem r_Refused_place (g : Nat → Value) : fV (3, .inl (oF 8 g)) f_Refused_place = some (g 7) := oF_get g (by decide)
theorem u_Refused_place (g : Nat → Value) (v : Value) : fP (3, .inl (oF 8 g)) f_Refused_place v = some (3, .inl (oF 8 (uv g 7 v))) := by
  show (if 7 < (oF 8 g).length then some (3, Sum.inl ((oF 8 g).set 7 v)) else none) = _
  rw [if_pos (by rw [oF_len]; decide), oF_set]
theorem r_Site_number (g : Nat → Value) : fV (16, .inl (oF 5 g)) f_Site_number = some (g 1) := oF_get g (by decide)
theorem r_Site_stone (g : Nat → Value) : fV (16, .inl (oF 5 g)) f_Site_stone = some (g 4) := oF_get g (by decide)
theorem u_Site_stone (g : Nat → Value) (v : Value) : fP (16, .inl (oF 5 g)) f_Site_stone v = some (16, .inl (oF 5 (uv g 4 v))) := by
  show (if 4 < (oF 5 g).length then some (16, Sum.inl ((oF 5 g).set 4 v)) else none) = _
  rw [if_pos (by rw [oF_len]; decide), oF_set]
theorem r_Site_x (g : Nat → Value) : fV (16, .inl (oF 5 g)) f_Site_x = some (g 2) := oF_get g (by decide)
theorem u_Site_x (g : Nat → Value) (v : Value) : fP (16, .inl (oF 5 g)) f_Site_x v = some (16, .inl (oF 5 (uv g 2 v))) := by
  show (if 2 < (oF 5 g).length then some (16, Sum.inl ((oF 5 g).set 2 v)) else none) = _
  rw [if_pos (by rw [oF_len]; decide), oF_set]
theorem r_Site_y (g : Nat → Value) : fV (16, .inl (oF 5 g)) f_Site_y = some (g 3) := oF_get g (by decide)
theorem u_Site_y (g : Nat → Value) (v : Value) : fP (16, .inl (oF 5 g)) f_Site_y v = some (16, .inl (oF 5 (uv g 3 v))) := by
  show (if 3 < (oF 5 g).length then some (16, Sum.inl ((oF 5 g).set 3 v)) else none) = _
  rw [if_pos (by rw [oF_len]; decide), oF_set]
theorem r_Skin_built (g : Nat → Value) : fV (6, .inl (oF 8 g)) f_Skin_built = some (g 5) := oF_get g (by decide)
theorem u_Skin_built (g : Nat → Value) (v : Value) : fP (6, .inl (oF 8 g)) f_Skin_built v = some (6, .inl (oF 8 (uv g 5 v))) := by
  show (if 5 < (oF 8 g).length then some (6, Sum.inl ((oF 8 g).set 5 v)) else none) = _
  rw [if_pos (by rw [oF_len]; decide), oF_set]
theorem r_Skin_collapsed (g : Nat → Value) : fV (6, .inl (oF 8 g)) f_Skin_collapsed = some (g 6) := oF_get g (by decide)
theorem u_Skin_collapsed (g : Nat → Value) (v : Value) : fP (6, .inl (oF 8 g)) f_Skin_collapsed v = some (6, .inl (oF 8 (uv g 6 v))) := by
  show (if 6 < (oF 8 g).length then some (6, Sum.inl ((oF 8 g).set 6 v)) else none) = _
  rw [if_pos (by rw [oF_len]; decide), oF_set]
theorem r_Skin_filled (g : Nat → Value) : fV (6, .inl (oF 8 g)) f_Skin_filled = some (g 7) := oF_get g (by decide)
theorem u_Skin_filled (g : Nat → Value) (v : Value) : fP (6, .inl (oF 8 g)) f_Skin_filled v = some (6, .inl (oF 8 (uv g 7 v))) := by
  show (if 7 < (oF 8 g).length then some (6, Sum.inl ((oF 8 g).set 7 v)) else none) = _
  rw [if_pos (by rw [oF_len]; decide), oF_set]
theorem r_Skin_lock (g : Nat → Value) : fV (6, .inl (oF 8 g)) f_Skin_lock = some (g 3) := oF_get g (by decide)
theorem u_Skin_lock (g : Nat → Value) (v : Value) : fP (6, .inl (oF 8 g)) f_Skin_lock v = some (6, .inl (oF 8 (uv g 3 v))) := by
  show (if 3 < (oF 8 g).length then some (6, Sum.inl ((oF 8 g).set 3 v)) else none) = _
  rw [if_pos (by rw [oF_len]; decide), oF_set]
theorem r_Skin_on (g : Nat → Value) : fV (6, .inl (oF 8 g)) f_Skin_on = some (g 2) := oF_get g (by decide)
theorem u_Skin_on (g : Nat → Value) (v : Value) : fP (6, .inl (oF 8 g)) f_Skin_on v = some (6, .inl (oF 8 (uv g 2 v))) := by
  show (if 2 < (oF 8 g).length then some (6, Sum.inl ((oF 8 g).set 2 v)) else none) = _
  rw [if_pos (by rw [oF_len]; decide), oF_set]
theorem r_Skin_rot (g : Nat → Value) : fV (6, .inl (oF 8 g)) f_Skin_rot = some (g 4) := oF_get g (by decide)
theorem u_Skin_rot (g : Nat → Value) (v : Value) : fP (6, .inl (oF 8 g)) f_Skin_rot v = some (6, .inl (oF 8 (uv g 4 v))) := by
  show (if 4 < (oF 8 g).length then some (6, Sum.inl ((oF 8 g).set 4 v)) else none) = _
  rw [if_pos (by rw [oF_len]; decide), oF_set]
theorem r_Skin_side (g : Nat → Value) : fV (6, .inl (oF 8 g)) f_Skin_side = some (g 1) := oF_get g (by decide)
theorem u_Skin_side (g : Nat → Value) (v : Value) : fP (6, .inl (oF 8 g)) f_Skin_side v = some (6, .inl (oF 8 (uv g 1 v))) := by
  show (if 1 < (oF 8 g).length then some (6, Sum.inl ((oF 8 g).set 1 v)) else none) = _
  rw [if_pos (by rw [oF_len]; decide), oF_set]
theorem r_Skin_stone (g : Nat → Value) : fV (6, .inl (oF 8 g)) f_Skin_stone = some (g 0) := oF_get g (by decide)
theorem u_Skin_stone (g : Nat → Value) (v : Value) : fP (6, .inl (oF 8 g)) f_Skin_stone v = some (6, .inl (oF 8 (uv g 0 v))) := by
  show (if 0 < (oF 8 g).length then some (6, Sum.inl ((oF 8 g).set 0 v)) else none) = _
  rw [if_pos (by rw [oF_len]; decide), oF_set]
theorem r_Stone_costs_13 (g : Nat → Value) : fV (13, .inl (oF 6 g)) f_Stone_costs = some (g 0) := oF_get g (by decide)
theorem u_Stone_costs_13 (g : Nat → Value) (v : Value) : fP (13, .inl (oF 6 g)) f_Stone_costs v = some (13, .inl (oF 6 (uv g 0 v))) := by
  show (if 0 < (oF 6 g).length then some (13, Sum.inl ((oF 6 g).set 0 v)) else none) = _
  rw [if_pos (by rw [oF_len]; decide), oF_set]
theorem r_Stone_costs_14 (g : Nat → Value) : fV (14, .inl (oF 6 g)) f_Stone_costs = some (g 0) := oF_get g (by decide)
theorem u_Stone_costs_14 (g : Nat → Value) (v : Value) : fP (14, .inl (oF 6 g)) f_Stone_costs v = some (14, .inl (oF 6 (uv g 0 v))) := by
  show (if 0 < (oF 6 g).length then some (14, Sum.inl ((oF 6 g).set 0 v)) else none) = _
  rw [if_pos (by rw [oF_len]; decide), oF_set]
theorem r_Stone_costs_15 (g : Nat → Value) : fV (15, .inl (oF 6 g)) f_Stone_costs = some (g 0) := oF_get g (by decide)
theorem u_Stone_costs_15 (g : Nat → Value) (v : Value) : fP (15, .inl (oF 6 g)) f_Stone_costs v = some (15, .inl (oF 6 (uv g 0 v))) := by
  show (if 0 < (oF 6 g).length then some (15, Sum.inl ((oF 6 g).set 0 v)) else none) = _
  rw [if_pos (by rw [oF_len]; decide), oF_set]
theorem r_Stone_number_13 (g : Nat → Value) : fV (13, .inl (oF 6 g)) f_Stone_number = some (g 5) := oF_get g (by decide)
theorem r_Stone_number_14 (g : Nat → Value) : fV (14, .inl (oF 6 g)) f_Stone_number = some (g 5) := oF_get g (by decide)
theorem r_Stone_number_15 (g : Nat → Value) : fV (15, .inl (oF 6 g)) f_Stone_number = some (g 5) := oF_get g (by decide)
theorem r_Stone_rots_13 (g : Nat → Value) : fV (13, .inl (oF 6 g)) f_Stone_rots = some (g 2) := oF_get g (by decide)
theorem u_Stone_rots_13 (g : Nat → Value) (v : Value) : fP (13, .inl (oF 6 g)) f_Stone_rots v = some (13, .inl (oF 6 (uv g 2 v))) := by
  show (if 2 < (oF 6 g).length then some (13, Sum.inl ((oF 6 g).set 2 v)) else none) = _
  rw [if_pos (by rw [oF_len]; decide), oF_set]
theorem r_Stone_rots_14 (g : Nat → Value) : fV (14, .inl (oF 6 g)) f_Stone_rots = some (g 2) := oF_get g (by decide)
theorem u_Stone_rots_14 (g : Nat → Value) (v : Value) : fP (14, .inl (oF 6 g)) f_Stone_rots v = some (14, .inl (oF 6 (uv g 2 v))) := by
  show (if 2 < (oF 6 g).length then some (14, Sum.inl ((oF 6 g).set 2 v)) else none) = _
  rw [if_pos (by rw [oF_len]; decide), oF_set]
theorem r_Stone_rots_15 (g : Nat → Value) : fV (15, .inl (oF 6 g)) f_Stone_rots = some (g 2) := oF_get g (by decide)
theorem u_Stone_rots_15 (g : Nat → Value) (v : Value) : fP (15, .inl (oF 6 g)) f_Stone_rots v = some (15, .inl (oF 6 (uv g 2 v))) := by
  show (if 2 < (oF 6 g).length then some (15, Sum.inl ((oF 6 g).set 2 v)) else none) = _
  rw [if_pos (by rw [oF_len]; decide), oF_set]
theorem r_Stone_strong_13 (g : Nat → Value) : fV (13, .inl (oF 6 g)) f_Stone_strong = some (g 3) := oF_get g (by decide)
theorem u_Stone_strong_13 (g : Nat → Value) (v : Value) : fP (13, .inl (oF 6 g)) f_Stone_strong v = some (13, .inl (oF 6 (uv g 3 v))) := by
  show (if 3 < (oF 6 g).length then some (13, Sum.inl ((oF 6 g).set 3 v)) else none) = _
  rw [if_pos (by rw [oF_len]; decide), oF_set]
theorem r_Stone_strong_14 (g : Nat → Value) : fV (14, .inl (oF 6 g)) f_Stone_strong = some (g 3) := oF_get g (by decide)
theorem u_Stone_strong_14 (g : Nat → Value) (v : Value) : fP (14, .inl (oF 6 g)) f_Stone_strong v = some (14, .inl (oF 6 (uv g 3 v))) := by
  show (if 3 < (oF 6 g).length then some (14, Sum.inl ((oF 6 g).set 3 v)) else none) = _
  rw [if_pos (by rw [oF_len]; decide), oF_set]
theorem r_Stone_strong_15 (g : Nat → Value) : fV (15, .inl (oF 6 g)) f_Stone_strong = some (g 3) := oF_get g (by decide)
theorem u_Stone_strong_15 (g : Nat → Value) (v : Value) : fP (15, .inl (oF 6 g)) f_Stone_strong v = some (15, .inl (oF 6 (uv g 3 v))) := by
  show (if 3 < (oF 6 g).length then some (15, Sum.inl ((oF 6 g).set 3 v)) else none) = _
  rw [if_pos (by rw [oF_len]; decide), oF_set]
theorem r_Stone_warm_13 (g : Nat → Value) : fV (13, .inl (oF 6 g)) f_Stone_warm = some (g 1) := oF_get g (by decide)
theorem u_Stone_warm_13 (g : Nat → Value) (v : Value) : fP (13, .inl (oF 6 g)) f_Stone_warm v = some (13, .inl (oF 6 (uv g 1 v))) := by
  show (if 1 < (oF 6 g).length then some (13, Sum.inl ((oF 6 g).set 1 v)) else none) = _
  rw [if_pos (by rw [oF_len]; decide), oF_set]
theorem r_Stone_warm_14 (g : Nat → Value) : fV (14, .inl (oF 6 g)) f_Stone_warm = some (g 1) := oF_get g (by decide)
theorem u_Stone_warm_14 (g : Nat → Value) (v : Value) : fP (14, .inl (oF 6 g)) f_Stone_warm v = some (14, .inl (oF 6 (uv g 1 v))) := by
  show (if 1 < (oF 6 g).length then some (14, Sum.inl ((oF 6 g).set 1 v)) else none) = _
  rw [if_pos (by rw [oF_len]; decide), oF_set]
theorem r_Stone_warm_15 (g : Nat → Value) : fV (15, .inl (oF 6 g)) f_Stone_warm = some (g 1) := oF_get g (by decide)
theorem u_Stone_warm_15 (g : Nat → Value) (v : Value) : fP (15, .inl (oF 6 g)) f_Stone_warm v = some (15, .inl (oF 6 (uv g 1 v))) := by
  show (if 1 < (oF 6 g).length then some (15, Sum.inl ((oF 6 g).set 1 v)) else none) = _
  rw [if_pos (by rw [oF_len]; decide), oF_set]
theorem r_String_coder (g : Nat → Value) : fV (21, .inl (oF 4 g)) f_String_coder = some (g 1) := oF_get g (by decide)
theorem u_String_coder (g : Nat → Value) (v : Value) : fP (21, .inl (oF 4 g)) f_String_coder v = some (21, .inl (oF 4 (uv g 1 v))) := by
  show (if 1 < (oF 4 g).length then some (21, Sum.inl ((oF 4 g).set 1 v)) else none) = _
  rw [if_pos (by rw [oF_len]; decide), oF_set]
theorem r_String_hash (g : Nat → Value) : fV (21, .inl (oF 4 g)) f_String_hash = some (g 2) := oF_get g (by decide)
theorem u_String_hash (g : Nat → Value) (v : Value) : fP (21, .inl (oF 4 g)) f_String_hash v = some (21, .inl (oF 4 (uv g 2 v))) := by
  show (if 2 < (oF 4 g).length then some (21, Sum.inl ((oF 4 g).set 2 v)) else none) = _
  rw [if_pos (by rw [oF_len]; decide), oF_set]
theorem r_String_hashIsZero (g : Nat → Value) : fV (21, .inl (oF 4 g)) f_String_hashIsZero = some (g 3) := oF_get g (by decide)
theorem u_String_hashIsZero (g : Nat → Value) (v : Value) : fP (21, .inl (oF 4 g)) f_String_hashIsZero v = some (21, .inl (oF 4 (uv g 3 v))) := by
  show (if 3 < (oF 4 g).length then some (21, Sum.inl ((oF 4 g).set 3 v)) else none) = _
  rw [if_pos (by rw [oF_len]; decide), oF_set]
theorem r_String_value (g : Nat → Value) : fV (21, .inl (oF 4 g)) f_String_value = some (g 0) := oF_get g (by decide)
theorem u_String_value (g : Nat → Value) (v : Value) : fP (21, .inl (oF 4 g)) f_String_value v = some (21, .inl (oF 4 (uv g 0 v))) := by
  show (if 0 < (oF 4 g).length then some (21, Sum.inl ((oF 4 g).set 0 v)) else none) = _
  rw [if_pos (by rw [oF_len]; decide), oF_set]
theorem r_Through_best (g : Nat → Value) : fV (7, .inl (oF 2 g)) f_Through_best = some (g 0) := oF_get g (by decide)
theorem u_Through_best (g : Nat → Value) (v : Value) : fP (7, .inl (oF 2 g)) f_Through_best v = some (7, .inl (oF 2 (uv g 0 v))) := by
  show (if 0 < (oF 2 g).length then some (7, Sum.inl ((oF 2 g).set 0 v)) else none) = _
  rw [if_pos (by rw [oF_len]; decide), oF_set]
theorem r_Through_house (g : Nat → Value) : fV (7, .inl (oF 2 g)) f_Through_house = some (g 1) := oF_get g (by decide)
theorem u_Through_house (g : Nat → Value) (v : Value) : fP (7, .inl (oF 2 g)) f_Through_house v = some (7, .inl (oF 2 (uv g 1 v))) := by
  show (if 1 < (oF 2 g).length then some (7, Sum.inl ((oF 2 g).set 1 v)) else none) = _
  rw [if_pos (by rw [oF_len]; decide), oF_set]
theorem r_Throwable_cause_3 (g : Nat → Value) : fV (3, .inl (oF 8 g)) f_Throwable_cause = some (g 0) := oF_get g (by decide)
theorem u_Throwable_cause_3 (g : Nat → Value) (v : Value) : fP (3, .inl (oF 8 g)) f_Throwable_cause v = some (3, .inl (oF 8 (uv g 0 v))) := by
  show (if 0 < (oF 8 g).length then some (3, Sum.inl ((oF 8 g).set 0 v)) else none) = _
  rw [if_pos (by rw [oF_len]; decide), oF_set]
theorem r_Throwable_cause_22 (g : Nat → Value) : fV (22, .inl (oF 5 g)) f_Throwable_cause = some (g 0) := oF_get g (by decide)
theorem u_Throwable_cause_22 (g : Nat → Value) (v : Value) : fP (22, .inl (oF 5 g)) f_Throwable_cause v = some (22, .inl (oF 5 (uv g 0 v))) := by
  show (if 0 < (oF 5 g).length then some (22, Sum.inl ((oF 5 g).set 0 v)) else none) = _
  rw [if_pos (by rw [oF_len]; decide), oF_set]
theorem r_Throwable_cause_23 (g : Nat → Value) : fV (23, .inl (oF 6 g)) f_Throwable_cause = some (g 0) := oF_get g (by decide)
theorem u_Throwable_cause_23 (g : Nat → Value) (v : Value) : fP (23, .inl (oF 6 g)) f_Throwable_cause v = some (23, .inl (oF 6 (uv g 0 v))) := by
  show (if 0 < (oF 6 g).length then some (23, Sum.inl ((oF 6 g).set 0 v)) else none) = _
  rw [if_pos (by rw [oF_len]; decide), oF_set]
theorem r_Throwable_detailMessage_3 (g : Nat → Value) : fV (3, .inl (oF 8 g)) f_Throwable_detailMessage = some (g 3) := oF_get g (by decide)
theorem u_Throwable_detailMessage_3 (g : Nat → Value) (v : Value) : fP (3, .inl (oF 8 g)) f_Throwable_detailMessage v = some (3, .inl (oF 8 (uv g 3 v))) := by
  show (if 3 < (oF 8 g).length then some (3, Sum.inl ((oF 8 g).set 3 v)) else none) = _
  rw [if_pos (by rw [oF_len]; decide), oF_set]
theorem r_Throwable_detailMessage_22 (g : Nat → Value) : fV (22, .inl (oF 5 g)) f_Throwable_detailMessage = some (g 3) := oF_get g (by decide)
theorem u_Throwable_detailMessage_22 (g : Nat → Value) (v : Value) : fP (22, .inl (oF 5 g)) f_Throwable_detailMessage v = some (22, .inl (oF 5 (uv g 3 v))) := by
  show (if 3 < (oF 5 g).length then some (22, Sum.inl ((oF 5 g).set 3 v)) else none) = _
  rw [if_pos (by rw [oF_len]; decide), oF_set]
theorem r_Throwable_detailMessage_23 (g : Nat → Value) : fV (23, .inl (oF 6 g)) f_Throwable_detailMessage = some (g 3) := oF_get g (by decide)
theorem u_Throwable_detailMessage_23 (g : Nat → Value) (v : Value) : fP (23, .inl (oF 6 g)) f_Throwable_detailMessage v = some (23, .inl (oF 6 (uv g 3 v))) := by
  show (if 3 < (oF 6 g).length then some (23, Sum.inl ((oF 6 g).set 3 v)) else none) = _
  rw [if_pos (by rw [oF_len]; decide), oF_set]
theorem r_Throwable_stackTrace_3 (g : Nat → Value) : fV (3, .inl (oF 8 g)) f_Throwable_stackTrace = some (g 1) := oF_get g (by decide)
theorem u_Throwable_stackTrace_3 (g : Nat → Value) (v : Value) : fP (3, .inl (oF 8 g)) f_Throwable_stackTrace v = some (3, .inl (oF 8 (uv g 1 v))) := by
  show (if 1 < (oF 8 g).length then some (3, Sum.inl ((oF 8 g).set 1 v)) else none) = _
  rw [if_pos (by rw [oF_len]; decide), oF_set]
theorem r_Throwable_stackTrace_22 (g : Nat → Value) : fV (22, .inl (oF 5 g)) f_Throwable_stackTrace = some (g 1) := oF_get g (by decide)
theorem u_Throwable_stackTrace_22 (g : Nat → Value) (v : Value) : fP (22, .inl (oF 5 g)) f_Throwable_stackTrace v = some (22, .inl (oF 5 (uv g 1 v))) := by
  show (if 1 < (oF 5 g).length then some (22, Sum.inl ((oF 5 g).set 1 v)) else none) = _
  rw [if_pos (by rw [oF_len]; decide), oF_set]
theorem r_Throwable_stackTrace_23 (g : Nat → Value) : fV (23, .inl (oF 6 g)) f_Throwable_stackTrace = some (g 1) := oF_get g (by decide)
theorem u_Throwable_stackTrace_23 (g : Nat → Value) (v : Value) : fP (23, .inl (oF 6 g)) f_Throwable_stackTrace v = some (23, .inl (oF 6 (uv g 1 v))) := by
  show (if 1 < (oF 6 g).length then some (23, Sum.inl ((oF 6 g).set 1 v)) else none) = _
  rw [if_pos (by rw [oF_len]; decide), oF_set]
theorem r_Throwable_suppressedExceptions_3 (g : Nat → Value) : fV (3, .inl (oF 8 g)) f_Throwable_suppressedExceptions = some (g 2) := oF_get g (by decide)
theorem u_Throwable_suppressedExceptions_3 (g : Nat → Value) (v : Value) : fP (3, .inl (oF 8 g)) f_Throwable_suppressedExceptions v = some (3, .inl (oF 8 (uv g 2 v))) := by
  show (if 2 < (oF 8 g).length then some (3, Sum.inl ((oF 8 g).set 2 v)) else none) = _
  rw [if_pos (by rw [oF_len]; decide), oF_set]
theorem r_Throwable_suppressedExceptions_22 (g : Nat → Value) : fV (22, .inl (oF 5 g)) f_Throwable_suppressedExceptions = some (g 2) := oF_get g (by decide)
theorem u_Throwable_suppressedExceptions_22 (g : Nat → Value) (v : Value) : fP (22, .inl (oF 5 g)) f_Throwable_suppressedExceptions v = some (22, .inl (oF 5 (uv g 2 v))) := by
  show (if 2 < (oF 5 g).length then some (22, Sum.inl ((oF 5 g).set 2 v)) else none) = _
  rw [if_pos (by rw [oF_len]; decide), oF_set]
theorem r_Throwable_suppressedExceptions_23 (g : Nat → Value) : fV (23, .inl (oF 6 g)) f_Throwable_suppressedExceptions = some (g 2) := oF_get g (by decide)
theorem u_Throwable_suppressedExceptions_23 (g : Nat → Value) (v : Value) : fP (23, .inl (oF 6 g)) f_Throwable_suppressedExceptions v = some (23, .inl (oF 6 (uv g 2 v))) := by
  show (if 2 < (oF 6 g).length then some (23, Sum.inl ((oF 6 g).set 2 v)) else none) = _
  rw [if_pos (by rw [oF_len]; decide), oF_set]
theorem r_Village_depth (g : Nat → Value) : fV (4, .inl (oF 10 g)) f_Village_depth = some (g 2) := oF_get g (by decide)
theorem u_Village_depth (g : Nat → Value) (v : Value) : fP (4, .inl (oF 10 g)) f_Village_depth v = some (4, .inl (oF 10 (uv g 2 v))) := by
  show (if 2 < (oF 10 g).length then some (4, Sum.inl ((oF 10 g).set 2 v)) else none) = _
  rw [if_pos (by rw [oF_len]; decide), oF_set]
theorem r_Village_doorOn (g : Nat → Value) : fV (4, .inl (oF 10 g)) f_Village_doorOn = some (g 9) := oF_get g (by decide)
theorem u_Village_doorOn (g : Nat → Value) (v : Value) : fP (4, .inl (oF 10 g)) f_Village_doorOn v = some (4, .inl (oF 10 (uv g 9 v))) := by
  show (if 9 < (oF 10 g).length then some (4, Sum.inl ((oF 10 g).set 9 v)) else none) = _
  rw [if_pos (by rw [oF_len]; decide), oF_set]
theorem r_Village_doorSide (g : Nat → Value) : fV (4, .inl (oF 10 g)) f_Village_doorSide = some (g 8) := oF_get g (by decide)
theorem u_Village_doorSide (g : Nat → Value) (v : Value) : fP (4, .inl (oF 10 g)) f_Village_doorSide v = some (4, .inl (oF 10 (uv g 8 v))) := by
  show (if 8 < (oF 10 g).length then some (4, Sum.inl ((oF 10 g).set 8 v)) else none) = _
  rw [if_pos (by rw [oF_len]; decide), oF_set]
theorem r_Village_houses (g : Nat → Value) : fV (4, .inl (oF 10 g)) f_Village_houses = some (g 0) := oF_get g (by decide)
theorem u_Village_houses (g : Nat → Value) (v : Value) : fP (4, .inl (oF 10 g)) f_Village_houses v = some (4, .inl (oF 10 (uv g 0 v))) := by
  show (if 0 < (oF 10 g).length then some (4, Sum.inl ((oF 10 g).set 0 v)) else none) = _
  rw [if_pos (by rw [oF_len]; decide), oF_set]
theorem r_Village_land (g : Nat → Value) : fV (4, .inl (oF 10 g)) f_Village_land = some (g 4) := oF_get g (by decide)
theorem u_Village_land (g : Nat → Value) (v : Value) : fP (4, .inl (oF 10 g)) f_Village_land v = some (4, .inl (oF 10 (uv g 4 v))) := by
  show (if 4 < (oF 10 g).length then some (4, Sum.inl ((oF 10 g).set 4 v)) else none) = _
  rw [if_pos (by rw [oF_len]; decide), oF_set]
theorem r_Village_many (g : Nat → Value) : fV (4, .inl (oF 10 g)) f_Village_many = some (g 5) := oF_get g (by decide)
theorem u_Village_many (g : Nat → Value) (v : Value) : fP (4, .inl (oF 10 g)) f_Village_many v = some (4, .inl (oF 10 (uv g 5 v))) := by
  show (if 5 < (oF 10 g).length then some (4, Sum.inl ((oF 10 g).set 5 v)) else none) = _
  rw [if_pos (by rw [oF_len]; decide), oF_set]
theorem r_Village_order (g : Nat → Value) : fV (4, .inl (oF 10 g)) f_Village_order = some (g 3) := oF_get g (by decide)
theorem u_Village_order (g : Nat → Value) (v : Value) : fP (4, .inl (oF 10 g)) f_Village_order v = some (4, .inl (oF 10 (uv g 3 v))) := by
  show (if 3 < (oF 10 g).length then some (4, Sum.inl ((oF 10 g).set 3 v)) else none) = _
  rw [if_pos (by rw [oF_len]; decide), oF_set]
theorem r_Village_seed (g : Nat → Value) : fV (4, .inl (oF 10 g)) f_Village_seed = some (g 7) := oF_get g (by decide)
theorem u_Village_seed (g : Nat → Value) (v : Value) : fP (4, .inl (oF 10 g)) f_Village_seed v = some (4, .inl (oF 10 (uv g 7 v))) := by
  show (if 7 < (oF 10 g).length then some (4, Sum.inl ((oF 10 g).set 7 v)) else none) = _
  rw [if_pos (by rw [oF_len]; decide), oF_set]
theorem r_Village_tried (g : Nat → Value) : fV (4, .inl (oF 10 g)) f_Village_tried = some (g 1) := oF_get g (by decide)
theorem u_Village_tried (g : Nat → Value) (v : Value) : fP (4, .inl (oF 10 g)) f_Village_tried v = some (4, .inl (oF 10 (uv g 1 v))) := by
  show (if 1 < (oF 10 g).length then some (4, Sum.inl ((oF 10 g).set 1 v)) else none) = _
  rw [if_pos (by rw [oF_len]; decide), oF_set]
theorem r_Village_year (g : Nat → Value) : fV (4, .inl (oF 10 g)) f_Village_year = some (g 6) := oF_get g (by decide)
theorem u_Village_year (g : Nat → Value) (v : Value) : fP (4, .inl (oF 10 g)) f_Village_year v = some (4, .inl (oF 10 (uv g 6 v))) := by
  show (if 6 < (oF 10 g).length then some (4, Sum.inl ((oF 10 g).set 6 v)) else none) = _
  rw [if_pos (by rw [oF_len]; decide), oF_set]
theorem r_Wall_coin (g : Nat → Value) : fV (19, .inl (oF 4 g)) f_Wall_coin = some (g 2) := oF_get g (by decide)
theorem u_Wall_coin (g : Nat → Value) (v : Value) : fP (19, .inl (oF 4 g)) f_Wall_coin v = some (19, .inl (oF 4 (uv g 2 v))) := by
  show (if 2 < (oF 4 g).length then some (19, Sum.inl ((oF 4 g).set 2 v)) else none) = _
  rw [if_pos (by rw [oF_len]; decide), oF_set]
theorem r_Wall_number (g : Nat → Value) : fV (19, .inl (oF 4 g)) f_Wall_number = some (g 1) := oF_get g (by decide)
theorem r_Wall_smell (g : Nat → Value) : fV (19, .inl (oF 4 g)) f_Wall_smell = some (g 3) := oF_get g (by decide)
theorem u_Wall_smell (g : Nat → Value) (v : Value) : fP (19, .inl (oF 4 g)) f_Wall_smell v = some (19, .inl (oF 4 (uv g 3 v))) := by
  show (if 3 < (oF 4 g).length then some (19, Sum.inl ((oF 4 g).set 3 v)) else none) = _
  rw [if_pos (by rw [oF_len]; decide), oF_set]
theorem r_Year_fault (g : Nat → Value) : fV (1, .inl (oF 18 g)) f_Year_fault = some (g 5) := oF_get g (by decide)
theorem u_Year_fault (g : Nat → Value) (v : Value) : fP (1, .inl (oF 18 g)) f_Year_fault v = some (1, .inl (oF 18 (uv g 5 v))) := by
  show (if 5 < (oF 18 g).length then some (1, Sum.inl ((oF 18 g).set 5 v)) else none) = _
  rw [if_pos (by rw [oF_len]; decide), oF_set]
theorem r_Year_firstMost (g : Nat → Value) : fV (1, .inl (oF 18 g)) f_Year_firstMost = some (g 16) := oF_get g (by decide)
theorem u_Year_firstMost (g : Nat → Value) (v : Value) : fP (1, .inl (oF 18 g)) f_Year_firstMost v = some (1, .inl (oF 18 (uv g 16 v))) := by
  show (if 16 < (oF 18 g).length then some (1, Sum.inl ((oF 18 g).set 16 v)) else none) = _
  rw [if_pos (by rw [oF_len]; decide), oF_set]
theorem r_Year_firstOrder (g : Nat → Value) : fV (1, .inl (oF 18 g)) f_Year_firstOrder = some (g 17) := oF_get g (by decide)
theorem u_Year_firstOrder (g : Nat → Value) (v : Value) : fP (1, .inl (oF 18 g)) f_Year_firstOrder v = some (1, .inl (oF 18 (uv g 17 v))) := by
  show (if 17 < (oF 18 g).length then some (1, Sum.inl ((oF 18 g).set 17 v)) else none) = _
  rw [if_pos (by rw [oF_len]; decide), oF_set]
theorem r_Year_land (g : Nat → Value) : fV (1, .inl (oF 18 g)) f_Year_land = some (g 3) := oF_get g (by decide)
theorem u_Year_land (g : Nat → Value) (v : Value) : fP (1, .inl (oF 18 g)) f_Year_land v = some (1, .inl (oF 18 (uv g 3 v))) := by
  show (if 3 < (oF 18 g).length then some (1, Sum.inl ((oF 18 g).set 3 v)) else none) = _
  rw [if_pos (by rw [oF_len]; decide), oF_set]
theorem r_Year_markMany (g : Nat → Value) : fV (1, .inl (oF 18 g)) f_Year_markMany = some (g 7) := oF_get g (by decide)
theorem u_Year_markMany (g : Nat → Value) (v : Value) : fP (1, .inl (oF 18 g)) f_Year_markMany v = some (1, .inl (oF 18 (uv g 7 v))) := by
  show (if 7 < (oF 18 g).length then some (1, Sum.inl ((oF 18 g).set 7 v)) else none) = _
  rw [if_pos (by rw [oF_len]; decide), oF_set]
theorem r_Year_marks (g : Nat → Value) : fV (1, .inl (oF 18 g)) f_Year_marks = some (g 15) := oF_get g (by decide)
theorem u_Year_marks (g : Nat → Value) (v : Value) : fP (1, .inl (oF 18 g)) f_Year_marks v = some (1, .inl (oF 18 (uv g 15 v))) := by
  show (if 15 < (oF 18 g).length then some (1, Sum.inl ((oF 18 g).set 15 v)) else none) = _
  rw [if_pos (by rw [oF_len]; decide), oF_set]
theorem r_Year_orders (g : Nat → Value) : fV (1, .inl (oF 18 g)) f_Year_orders = some (g 13) := oF_get g (by decide)
theorem u_Year_orders (g : Nat → Value) (v : Value) : fP (1, .inl (oF 18 g)) f_Year_orders v = some (1, .inl (oF 18 (uv g 13 v))) := by
  show (if 13 < (oF 18 g).length then some (1, Sum.inl ((oF 18 g).set 13 v)) else none) = _
  rw [if_pos (by rw [oF_len]; decide), oF_set]
theorem r_Year_reader (g : Nat → Value) : fV (1, .inl (oF 18 g)) f_Year_reader = some (g 2) := oF_get g (by decide)
theorem u_Year_reader (g : Nat → Value) (v : Value) : fP (1, .inl (oF 18 g)) f_Year_reader v = some (1, .inl (oF 18 (uv g 2 v))) := by
  show (if 2 < (oF 18 g).length then some (1, Sum.inl ((oF 18 g).set 2 v)) else none) = _
  rw [if_pos (by rw [oF_len]; decide), oF_set]
theorem r_Year_tape (g : Nat → Value) : fV (1, .inl (oF 18 g)) f_Year_tape = some (g 0) := oF_get g (by decide)
theorem u_Year_tape (g : Nat → Value) (v : Value) : fP (1, .inl (oF 18 g)) f_Year_tape v = some (1, .inl (oF 18 (uv g 0 v))) := by
  show (if 0 < (oF 18 g).length then some (1, Sum.inl ((oF 18 g).set 0 v)) else none) = _
  rw [if_pos (by rw [oF_len]; decide), oF_set]
theorem r_Year_taped (g : Nat → Value) : fV (1, .inl (oF 18 g)) f_Year_taped = some (g 1) := oF_get g (by decide)
theorem u_Year_taped (g : Nat → Value) (v : Value) : fP (1, .inl (oF 18 g)) f_Year_taped v = some (1, .inl (oF 18 (uv g 1 v))) := by
  show (if 1 < (oF 18 g).length then some (1, Sum.inl ((oF 18 g).set 1 v)) else none) = _
  rw [if_pos (by rw [oF_len]; decide), oF_set]
theorem r_Year_through (g : Nat → Value) : fV (1, .inl (oF 18 g)) f_Year_through = some (g 12) := oF_get g (by decide)
theorem u_Year_through (g : Nat → Value) (v : Value) : fP (1, .inl (oF 18 g)) f_Year_through v = some (1, .inl (oF 18 (uv g 12 v))) := by
  show (if 12 < (oF 18 g).length then some (1, Sum.inl ((oF 18 g).set 12 v)) else none) = _
  rw [if_pos (by rw [oF_len]; decide), oF_set]
theorem r_Year_trial (g : Nat → Value) : fV (1, .inl (oF 18 g)) f_Year_trial = some (g 11) := oF_get g (by decide)
theorem u_Year_trial (g : Nat → Value) (v : Value) : fP (1, .inl (oF 18 g)) f_Year_trial v = some (1, .inl (oF 18 (uv g 11 v))) := by
  show (if 11 < (oF 18 g).length then some (1, Sum.inl ((oF 18 g).set 11 v)) else none) = _
  rw [if_pos (by rw [oF_len]; decide), oF_set]
theorem r_Year_trouble (g : Nat → Value) : fV (1, .inl (oF 18 g)) f_Year_trouble = some (g 4) := oF_get g (by decide)
theorem u_Year_trouble (g : Nat → Value) (v : Value) : fP (1, .inl (oF 18 g)) f_Year_trouble v = some (1, .inl (oF 18 (uv g 4 v))) := by
  show (if 4 < (oF 18 g).length then some (1, Sum.inl ((oF 18 g).set 4 v)) else none) = _
  rw [if_pos (by rw [oF_len]; decide), oF_set]
theorem r_Year_undoMany (g : Nat → Value) : fV (1, .inl (oF 18 g)) f_Year_undoMany = some (g 8) := oF_get g (by decide)
theorem u_Year_undoMany (g : Nat → Value) (v : Value) : fP (1, .inl (oF 18 g)) f_Year_undoMany v = some (1, .inl (oF 18 (uv g 8 v))) := by
  show (if 8 < (oF 18 g).length then some (1, Sum.inl ((oF 18 g).set 8 v)) else none) = _
  rw [if_pos (by rw [oF_len]; decide), oF_set]
theorem r_Year_undone (g : Nat → Value) : fV (1, .inl (oF 18 g)) f_Year_undone = some (g 14) := oF_get g (by decide)
theorem u_Year_undone (g : Nat → Value) (v : Value) : fP (1, .inl (oF 18 g)) f_Year_undone v = some (1, .inl (oF 18 (uv g 14 v))) := by
  show (if 14 < (oF 18 g).length then some (1, Sum.inl ((oF 18 g).set 14 v)) else none) = _
  rw [if_pos (by rw [oF_len]; decide), oF_set]
theorem r_Year_village (g : Nat → Value) : fV (1, .inl (oF 18 g)) f_Year_village = some (g 9) := oF_get g (by decide)
theorem u_Year_village (g : Nat → Value) (v : Value) : fP (1, .inl (oF 18 g)) f_Year_village v = some (1, .inl (oF 18 (uv g 9 v))) := by
  show (if 9 < (oF 18 g).length then some (1, Sum.inl ((oF 18 g).set 9 v)) else none) = _
  rw [if_pos (by rw [oF_len]; decide), oF_set]
theorem r_Year_was (g : Nat → Value) : fV (1, .inl (oF 18 g)) f_Year_was = some (g 10) := oF_get g (by decide)
theorem u_Year_was (g : Nat → Value) (v : Value) : fP (1, .inl (oF 18 g)) f_Year_was v = some (1, .inl (oF 18 (uv g 10 v))) := by
  show (if 10 < (oF 18 g).length then some (1, Sum.inl ((oF 18 g).set 10 v)) else none) = _
  rw [if_pos (by rw [oF_len]; decide), oF_set]
theorem r_Year_where (g : Nat → Value) : fV (1, .inl (oF 18 g)) f_Year_where = some (g 6) := oF_get g (by decide)
theorem u_Year_where (g : Nat → Value) (v : Value) : fP (1, .inl (oF 18 g)) f_Year_where v = some (1, .inl (oF 18 (uv g 6 v))) := by
  show (if 6 < (oF 18 g).length then some (1, Sum.inl ((oF 18 g).set 6 v)) else none) = _
  rw [if_pos (by rw [oF_len]; decide), oF_set]
