/-! THE MACHINE'S HEAP HOLDS THE ABSTRACT ONE; the walk's judgement over abstract heaps -/
set_option maxRecDepth 100000
def zCl (c : Nat) : Option vw_C := match c with
  | 1 => some (RX1, TX1, 18)
  | 2 => some (RX2, TX2, 12)
  | 3 => some (RX3, TX3, 8)
  | 4 => some (RX4, TX4, 10)
  | 5 => some (RX5, TX5, 5)
  | 6 => some (RX6, TX6, 8)
  | 7 => some (RX7, TX7, 2)
  | 8 => some (RX8, TX8, 7)
  | 9 => some (RX9, TX9, 37)
  | 10 => some (RX10, TX10, 22)
  | 13 => some (RX13, TX13, 6)
  | 14 => some (RX14, TX14, 6)
  | 15 => some (RX15, TX15, 6)
  | 16 => some (RX16, TX16, 5)
  | 18 => some (RX18, TX18, 4)
  | 19 => some (RX19, TX19, 4)
  | 20 => some (RX20, TX20, 31)
  | 21 => some (RJ3, TJ3, 4)
  | 22 => some (RJ0, TJ0, 5)
  | 23 => some (RJ9, TJ9, 6)
  | _ => none
def zTy (t : Nat) : Option FieldType := match t with
  | 0 => some .int
  | 1 => some .byte
  | 2 => some .char
  | 3 => some .boolean
  | 4 => some .long
  | 5 => some (.object RX5)
  | 6 => some (.object RX6)
  | 7 => some (.object RX4)
  | 8 => some (.object RX12)
  | 9 => some (.object RX16)
  | 10 => some (.object RX18)
  | 11 => some (.object RX19)
  | _ => none
/-- class numbers, slots of fields; the heap at the law's start -/
abbrev ZG : Type := va_G × Heap
def zArr (U : State) (B a t n : Nat) (f : Nat → Value) (cell : Cell) : Prop := ∃ ty : FieldType, zTy t = some ty ∧ U.isArrayOf cell ty ∧ cell.vm ≠ .unknown ∧ cell.slots.size = n ∧ (∀ j, j < n → cell.slots[j]? = some (f j)) ∧ (B ≤ a → va_RA U cell.cls ty ∧ cell = arrV cell.cls n f)
def zAt (G : ZG) (U : State) (B a : Nat) (e : HE) (H : Heap) : Prop := match e.2 with
  | .inl fs => ∃ (r : vw_C) (cell : Cell), zCl e.1 = some r ∧ H[a]? = some cell ∧ cell.cls = G.1.1 e.1 ∧ cell.vm ≠ .unknown ∧ cell.vm.isStatics = false ∧ (B ≤ a → cell.vm = .none) ∧ fs.length ≤ r.2.2 ∧ ∀ (k : Nat) (v : Value), fs[k]? = some v → cell.slots[G.1.2 e.1 k]? = some v
  | .inr (.inl f) => ∃ cell : Cell, H[a]? = some cell ∧ zArr U B a e.1 f.1 (fun j => .int (f.2 j)) cell ∧ e.1 < 4
  | .inr (.inr (.inl f)) => ∃ cell : Cell, H[a]? = some cell ∧ zArr U B a e.1 f.1 (fun j => .long (f.2 j)) cell ∧ e.1 = 4
  | .inr (.inr (.inr f)) => ∃ cell : Cell, H[a]? = some cell ∧ zArr U B a e.1 f.1 (fun j => va_rf (f.2 j)) cell ∧ 4 < e.1
def ZH (G : ZG) (U : State) (h : AH) (H : Heap) : Prop :=
  H.size = h.2.1 ∧ G.2.size = h.1.1 ∧ h.1.1 ≤ h.2.1 ∧ h.2.1 ≤ h.1.2.1 ∧ h.2.2.1 ≤ h.1.2.2.1 ∧ (∀ q, q < h.1.1 → H[q]? = G.2[q]?) ∧ ∀ a e, h.2.2.2 a = some e → zAt G U h.1.1 a e H
theorem zArr.moved {u U : State} (hvm : u.vm.Alike U.vm) {B a t n : Nat} {f : Nat → Value} {cell : Cell} (h : zArr u B a t n f cell) : zArr U B a t n f cell := by
  obtain ⟨ty, h1, h2, h3, h4, h5, h6⟩ := h
  exact ⟨ty, h1, State.isArrayOf_alike hvm h2, h3, h4, h5, fun hb => ⟨(h6 hb).1.moved hvm, (h6 hb).2⟩⟩
theorem zAt.moved {G : ZG} {u U : State} (hvm : u.vm.Alike U.vm) {B a : Nat} {e : HE} {H : Heap} (h : zAt G u B a e H) : zAt G U B a e H := by
  obtain ⟨t, c⟩ := e
  match c with
  | .inl fs => exact h
  | .inr (.inl f) =>
    obtain ⟨cell, h1, h2, h3⟩ := h
    exact ⟨cell, h1, h2.moved hvm, h3⟩
  | .inr (.inr (.inl f)) =>
    obtain ⟨cell, h1, h2, h3⟩ := h
    exact ⟨cell, h1, h2.moved hvm, h3⟩
  | .inr (.inr (.inr f)) =>
    obtain ⟨cell, h1, h2, h3⟩ := h
    exact ⟨cell, h1, h2.moved hvm, h3⟩
theorem zAt.kept {G : ZG} {U : State} {B a : Nat} {e : HE} {H H1 : Heap} (h : zAt G U B a e H) (hq : H1[a]? = H[a]?) : zAt G U B a e H1 := by
  obtain ⟨t, c⟩ := e
  match c with
  | .inl fs =>
    obtain ⟨r, cell, h1, h2, h3⟩ := h
    exact ⟨r, cell, h1, by rw [hq]; exact h2, h3⟩
  | .inr (.inl f) =>
    obtain ⟨cell, h1, h2⟩ := h
    exact ⟨cell, by rw [hq]; exact h1, h2⟩
  | .inr (.inr (.inl f)) =>
    obtain ⟨cell, h1, h2⟩ := h
    exact ⟨cell, by rw [hq]; exact h1, h2⟩
  | .inr (.inr (.inr f)) =>
    obtain ⟨cell, h1, h2⟩ := h
    exact ⟨cell, by rw [hq]; exact h1, h2⟩
theorem zAt.lt {G : ZG} {U : State} {B a : Nat} {e : HE} {H : Heap} (h : zAt G U B a e H) : a < H.size := by
  obtain ⟨t, c⟩ := e
  match c with
  | .inl fs =>
    obtain ⟨r, cell, h1, h2, h3⟩ := h
    exact (Array.getElem?_eq_some_iff.mp h2).1
  | .inr (.inl f) =>
    obtain ⟨cell, h1, h2⟩ := h
    exact (Array.getElem?_eq_some_iff.mp h1).1
  | .inr (.inr (.inl f)) =>
    obtain ⟨cell, h1, h2⟩ := h
    exact (Array.getElem?_eq_some_iff.mp h1).1
  | .inr (.inr (.inr f)) =>
    obtain ⟨cell, h1, h2⟩ := h
    exact (Array.getElem?_eq_some_iff.mp h1).1
theorem ZH.moved {G : ZG} {u U : State} (hvm : u.vm.Alike U.vm) {h : AH} {H : Heap} (hh : ZH G u h H) : ZH G U h H :=
  ⟨hh.1, hh.2.1, hh.2.2.1, hh.2.2.2.1, hh.2.2.2.2.1, hh.2.2.2.2.2.1, fun a e he => (hh.2.2.2.2.2.2 a e he).moved hvm⟩
/-- one cell written -/
theorem ZH.set {G : ZG} {U : State} {h : AH} {H H1 : Heap} (hh : ZH G U h H) {a : Nat} {e : HE} (hB : h.1.1 ≤ a) (z : H1.size = H.size) (o : ∀ q, q ≠ a → H1[q]? = H[q]?) (he : zAt G U h.1.1 a e H1) : ZH G U (hU h a e) H1 := by
  obtain ⟨h1, h2, h3, h4, h5, h6, h7⟩ := hh
  refine ⟨z.trans h1, h2, h3, h4, h5, fun q hq => (o q (by have := hq; intro hc; subst hc; exact absurd hB (Nat.not_le.mpr hq))).trans (h6 q hq), fun b e' hb => ?_⟩
  have hb' : (if b = a then some e else h.2.2.2 b) = some e' := hb
  by_cases hba : b = a
  · subst hba
    rw [if_pos rfl] at hb'
    cases hb'
    exact he
  · rw [if_neg hba] at hb'
    exact (h7 b e' hb').kept (o b hba)
/-- one cell made -/
theorem ZH.push {G : ZG} {U : State} {h : AH} {H H1 : Heap} (hh : ZH G U h H) {n : Nat} {e : HE} (hk : h.2.1 + 1 ≤ h.1.2.1) (hs : h.2.2.1 + n ≤ h.1.2.2.1) (z : H1.size = H.size + 1) (o : ∀ q, q < H.size → H1[q]? = H[q]?) (he : zAt G U h.1.1 h.2.1 e H1) : ZH G U (hN h n e) H1 := by
  obtain ⟨h1, h2, h3, h4, h5, h6, h7⟩ := hh
  refine ⟨by rw [z, h1]; rfl, h2, Nat.le_succ_of_le h3, hk, hs, fun q hq => (o q (by rw [h1]; exact Nat.lt_of_lt_of_le hq h3)).trans (h6 q hq), fun b e' hb => ?_⟩
  have hb' : (if b = h.2.1 then some e else h.2.2.2 b) = some e' := hb
  by_cases hba : b = h.2.1
  · subst hba
    rw [if_pos rfl] at hb'
    cases hb'
    exact he
  · rw [if_neg hba] at hb'
    have h8 := h7 b e' hb'
    exact h8.kept (o b h8.lt)
/-! what is known of the tables all through a run -/
abbrev ZStr : Type := String × Nat × String × Nat
def ZW (G : ZG) (U : State) (k : HC) : Prop :=
  (∀ (c : Nat) (q : vw_C), zCl c = some q → u_Kn U q.1 q.2.1 q.2.2 (G.1.1 c) (G.1.2 c)) ∧ (∀ w ∈ zNest, va_Nw w U) ∧ (∀ C ∈ zAO, va_AO C U) ∧ (∀ q ∈ zNc, va_Nc q.1 q.2 U) ∧ (∀ q ∈ zStr, vk_R q.1 q.2.1 q.2.2.1 (k.2.2.2.1 q.2.2.2) U) ∧
  (∀ q ∈ zSt, va_Z q.1 q.2.1 q.2.2.1 (.int q.2.2.2) (fun a => k.1 ≤ a) U G.2) ∧ (∀ q ∈ zStR, va_Z q.1 q.2.1 q.2.2.1 (va_rf (k.2.2.2.2 q.2.2.2)) (fun a => k.1 ≤ a) U G.2) ∧ ∀ q ∈ zSx, vx_Zq q.1 q.2.1 q.2.2 (fun a => k.1 ≤ a) U G.2
theorem ZW.warm {G : ZG} {s U : State} {k : HC} (hW : s.WarmedH U.vm) (h : ZW G s k) : ZW G U k := by
  obtain ⟨h1, h2, h3, h4, h5, h6, h7, h8⟩ := h
  have hA : s.vm.Alike U.vm := hW.alike
  exact ⟨fun c q hq => u_Kn_moved hA (h1 c q hq), fun w hw => (zNest_warm w hw).2 s U hW (h2 w hw), fun C hC => (h3 C hC).moved hA, fun q hq => (h4 q hq).moved hA, fun q hq => (h5 q hq).warm hW, fun q hq => (h6 q hq).moved hA, fun q hq => (h7 q hq).moved hA, fun q hq => (h8 q hq).moved hA⟩
theorem ZW.same {G : ZG} {s U : State} {k : HC} (hv : U.vm = s.vm) (h : ZW G s k) : ZW G U k := h.warm (by rw [hv]; exact State.WarmedH.refl s)
abbrev ZC : Type := ZG × Program × Launch × Env × Room × State × MethodId × Array Value × List Frame × Method × Code × AH × Nat
def ZR (G : ZG) (s : State) (h0 h : AH) (H : Heap) (locs : List Loc) (cells slots : Nat) : Prop :=
  ZH G s h H ∧ h.1 = h0.1 ∧ h0.2.1 ≤ h.2.1 ∧ h0.2.2.1 ≤ h.2.2.1 ∧ cells = h.2.1 - h0.2.1 ∧ slots = h.2.2.1 - h0.2.2.1 ∧ ∀ q ∈ locs, h0.1.1 ≤ q.base
/-- how a call ends -/
def ZO (G : ZG) (st : State) (h0 : AH) (z : ZT) (o : Outcome) (t : State) : Prop :=
  z.2.1 = h0.1 ∧ h0.2.1 ≤ z.2.2.1 ∧ h0.2.2.1 ≤ z.2.2.2.1 ∧ ZH G st z.2 t.heap ∧ (match z.1 with | .inl ov => o = .returned ov | .inr q => o = .threw q) ∧
  ∃ L : List Loc, st.WarmedH t.vm ∧ st.sameButNew ({ t with vm := st.vm } : State) L (z.2.2.1 - h0.2.1) (z.2.2.2.1 - h0.2.2.1) ∧ ∀ q ∈ L, h0.1.1 ≤ q.base
def ZQ (G : ZG) (s : State) (below : List Frame) (h0 : AH) (z : ZT) : State → Prop := fun t => ∃ o, t.status = .running ∧ Ended t below o ∧ ZO G s h0 z o t
/-- a word on the stack or among the locals: an int, a reference, a long -/
abbrev ZV : Type := Int32 ⊕ (Option Nat ⊕ Int64)
abbrev vi (x : Int32) : ZV := .inl x
abbrev vr (x : Option Nat) : ZV := .inr (.inl x)
abbrev vj (x : Int64) : ZV := .inr (.inr x)
def zv (v : ZV) : Value := match v with
  | .inl x => .int x
  | .inr (.inl x) => va_rf x
  | .inr (.inr x) => .long x
def zcat (v : ZV) : Nat := match v with
  | .inl _ => 1
  | .inr (.inl _) => 1
  | .inr (.inr _) => 2
theorem zcat_eq (v : ZV) : (zv v).category = zcat v := by
  match v with
  | .inl x => rfl
  | .inr (.inl none) => rfl
  | .inr (.inl (some a)) => rfl
  | .inr (.inr x) => rfl
def zl (lv : List (Nat × ZV)) : List (Nat × Value) := lv.map (fun q => (q.1, zv q.2))
def Zw (K : ZC) (z : ZT) (h : AH) (pc : Nat) (lv : List (Nat × ZV)) (st : List ZV) : Prop := match K with
  | (G, p, l, e, R, s, m, args, below, meth, c, h0, nL) => ∀ (H : Heap) (locs : List Loc) (cells slots : Nat) (ls : Array Slot), ZR G s h0 h H locs cells slots → lv_has ls nL (zl lv) → W p l e R s m args below meth c H locs cells slots (ZQ G s below h0 z) (F0 m pc ls (st.map zv))
/-- what a body stands on: its code, class, name, result; the room for its calls -/
def ZOk (K : ZC) (cc : ByteArray) (own nm : String) (nL : Nat) (ret : Option FieldType) (fr lc : Nat) : Prop := match K with
  | (G, p, l, e, R, s, m, args, below, meth, c, h0, nL') => nL' = nL ∧ l.flags = flags0 ∧ p.tables.exec = Jvm.exec ∧ c.code = cc ∧ c.maxLocals = nL ∧ s.vm.findClass own = some m.cls ∧ meth.name = nm ∧ meth.sig.returnType = ret ∧ meth.locks = false ∧ (∀ w ∈ lw_all, w.before args s = true) ∧ ZW G s h0.1 ∧ fr ≤ R.frames ∧ lc ≤ R.locals ∧ h0.1.2.1 ≤ h0.2.1 + R.cells ∧ h0.1.2.2.1 ≤ h0.2.2.1 + R.slots
/-- a method's contract -/
def MZ (l : Launch) (G : ZG) (y : MethodName) (cc : ByteArray) (nL : Nat) (ret : Option FieldType) (fr lc : Nat) (As : List ZV) (h : AH) (z : ZT) : Prop :=
  l.flags = flags0 → ∀ rm : Room, fr ≤ rm.frames → lc ≤ rm.locals → h.1.2.1 ≤ h.2.1 + rm.cells → h.1.2.2.1 ≤ h.2.2.1 + rm.slots →
    MetFree l y (headSpec (ws_ y cc nL ret) rm) (fun a U => a = (As.map zv).toArray ∧ ZH G U h U.heap ∧ ZW G U h.1) (fun _ _ _ _ _ => True) (fun _ st o t => ZO G st h z o t)
