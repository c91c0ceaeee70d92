/-! ABSTRACT HEAPS: a map from addresses to (class tag, contents); what the machine's heap must hold for it -/
set_option maxRecDepth 100000
abbrev HO : Type := List Value ⊕ ((Nat × (Nat → Int32)) ⊕ ((Nat × (Nat → Int64)) ⊕ (Nat × (Nat → Option Nat))))
abbrev HE : Type := Nat × HO
/-- what stays: where the law's own world begins, how far the heap may grow, how many slots may be made, the literals' addresses, some references that statics hold -/
abbrev HC : Type := Nat × Nat × Nat × (Nat → Nat) × (Nat → Option Nat)
/-- the constants; the heap's size; the slots made; the map -/
abbrev AH : Type := HC × Nat × Nat × (Nat → Option HE)
/-- returned or thrown; the heap -/
abbrev ZT : Type := (Option Value ⊕ Nat) × AH
def hB (h : AH) : Nat := h.1.1
def hM (h : AH) (a : Nat) : Option HE := h.2.2.2 a
def hU (h : AH) (a : Nat) (e : HE) : AH := (h.1, h.2.1, h.2.2.1, fun b => if b = a then some e else h.2.2.2 b)
def hN (h : AH) (n : Nat) (e : HE) : AH := (h.1, h.2.1 + 1, h.2.2.1 + n, fun b => if b = h.2.1 then some e else h.2.2.2 b)
/-- a name for a computed value -/
def jlet {α β : Type} (e : α) (f : α → β) : β := f e
/-- iterates of a loop's body -/
def lf {T : Type} (bot : T) (body : T → T) : Nat → T
  | 0 => bot
  | n + 1 => body (lf bot body n)
def b2 {α β : Type} (o : Option (α × AH)) (f : α → AH → Option β) : Option β := o.bind fun q => f q.1 q.2
def gV (h : AH) (ps : List (Nat × Nat)) (x : Option Nat) : Option Value :=
  x.bind fun a => (hM h a).bind fun e => match e.2 with
    | .inl fs => (ps.lookup e.1).bind fun k => fs[k]?
    | .inr _ => none
def vI (v : Value) : Option Int32 := match v with
  | .int i => some i
  | _ => none
def vJ (v : Value) : Option Int64 := match v with
  | .long i => some i
  | _ => none
def vR (v : Value) : Option (Option Nat) := match v with
  | .ref a => some (some a)
  | .null => some none
  | _ => none
def gI (h : AH) (ps : List (Nat × Nat)) (x : Option Nat) : Option Int32 := (gV h ps x).bind vI
def gJ (h : AH) (ps : List (Nat × Nat)) (x : Option Nat) : Option Int64 := (gV h ps x).bind vJ
def gR (h : AH) (ps : List (Nat × Nat)) (x : Option Nat) : Option (Option Nat) := (gV h ps x).bind vR
def pV (h : AH) (ps : List (Nat × Nat)) (x : Option Nat) (v : Value) : Option AH :=
  x.bind fun a => (hM h a).bind fun e => match e.2 with
    | .inl fs => (ps.lookup e.1).bind fun k => if k < fs.length ∧ hB h ≤ a then some (hU h a (e.1, .inl (fs.set k v))) else none
    | .inr _ => none
def pI (h : AH) (ps : List (Nat × Nat)) (x : Option Nat) (v : Int32) : Option AH := pV h ps x (.int v)
def pJ (h : AH) (ps : List (Nat × Nat)) (x : Option Nat) (v : Int64) : Option AH := pV h ps x (.long v)
def pR (h : AH) (ps : List (Nat × Nat)) (x : Option Nat) (v : Option Nat) : Option AH := pV h ps x (va_rf v)
/-- a truth value is 0 or 1 -/
def zb (v : Int32) : Option Int32 := if v = 0 ∨ v = 1 then some v else none
def zby (v : Int32) : Option Int32 := if v.toInt8.toInt32 = v then some v else none
def zch (v : Int32) : Option Int32 := if (v.toUInt32 % 65536).toInt32 = v then some v else none
def pZ (h : AH) (ps : List (Nat × Nat)) (x : Option Nat) (v : Int32) : Option AH := (zb v).bind fun v => pV h ps x (.int v)
def pB (h : AH) (ps : List (Nat × Nat)) (x : Option Nat) (v : Int32) : Option AH := (zby v).bind fun v => pV h ps x (.int v)
/-- the class tag -/
def tg (h : AH) (x : Option Nat) : Option Nat := x.bind fun a => (hM h a).bind fun e => match e.2 with
  | .inl _ => some e.1
  | .inr _ => none
def ck (h : AH) (cs : List Nat) (x : Option Nat) : Option Unit := (tg h x).bind fun c => if c ∈ cs then some () else none
/-- an array's row of small numbers, of kind t -/
def aA (h : AH) (t : Nat) (x : Option Nat) : Option (Nat × (Nat → Int32)) := x.bind fun a => (hM h a).bind fun e => match e.2 with
  | .inr (.inl f) => if e.1 = t then some f else none
  | _ => none
def aI (h : AH) (t : Nat) (x : Option Nat) (i : Int32) : Option Int32 := (aA h t x).bind fun f => if ¬ i < 0 ∧ i.toNatClampNeg < f.1 then some (f.2 i.toNatClampNeg) else none
def sA (h : AH) (t : Nat) (x : Option Nat) (i : Int32) (v : Int32) : Option AH := (aA h t x).bind fun f => x.bind fun a => if (¬ i < 0 ∧ i.toNatClampNeg < f.1) ∧ hB h ≤ a then some (hU h a (t, .inr (.inl (f.1, upd f.2 i.toNatClampNeg v)))) else none
def aJA (h : AH) (x : Option Nat) : Option (Nat × (Nat → Int64)) := x.bind fun a => (hM h a).bind fun e => match e.2 with
  | .inr (.inr (.inl f)) => if e.1 = 4 then some f else none
  | _ => none
def aJ (h : AH) (x : Option Nat) (i : Int32) : Option Int64 := (aJA h x).bind fun f => if ¬ i < 0 ∧ i.toNatClampNeg < f.1 then some (f.2 i.toNatClampNeg) else none
def sJ (h : AH) (x : Option Nat) (i : Int32) (v : Int64) : Option AH := (aJA h x).bind fun f => x.bind fun a => if (¬ i < 0 ∧ i.toNatClampNeg < f.1) ∧ hB h ≤ a then some (hU h a (4, .inr (.inr (.inl (f.1, vp_updL f.2 i.toNatClampNeg v))))) else none
def aRA (h : AH) (x : Option Nat) : Option (Nat × Nat × (Nat → Option Nat)) := x.bind fun a => (hM h a).bind fun e => match e.2 with
  | .inr (.inr (.inr f)) => some (e.1, f)
  | _ => none
def aR (h : AH) (x : Option Nat) (i : Int32) : Option (Option Nat) := (aRA h x).bind fun f => if ¬ i < 0 ∧ i.toNatClampNeg < f.2.1 then some (f.2.2 i.toNatClampNeg) else none
/-- which class tags an array of references of kind t takes -/
def zAs : List (Nat × Nat) := [(5, 5), (6, 6), (7, 4), (8, 13), (8, 14), (8, 15), (9, 16), (10, 18), (11, 19)]
def sR (h : AH) (x : Option Nat) (i : Int32) (v : Option Nat) : Option AH := (aRA h x).bind fun f => (tg h v).bind fun c => x.bind fun a =>
  if ((¬ i < 0 ∧ i.toNatClampNeg < f.2.1) ∧ hB h ≤ a) ∧ (f.1, c) ∈ zAs then some (hU h a (f.1, .inr (.inr (.inr (f.2.1, va_up f.2.2 i.toNatClampNeg v))))) else none
def aL (h : AH) (x : Option Nat) : Option Int32 := x.bind fun a => (hM h a).bind fun e => match e.2 with
  | .inr (.inl f) => some (Int32.ofNat f.1)
  | .inr (.inr (.inl f)) => some (Int32.ofNat f.1)
  | .inr (.inr (.inr f)) => some (Int32.ofNat f.1)
  | .inl _ => none
def nX (h : AH) (n : Nat) (e : HE) : Option (Option Nat × AH) := if h.2.1 + 1 ≤ h.1.2.1 ∧ h.2.2.1 + n ≤ h.1.2.2.1 then some (some h.2.1, hN h n e) else none
def nO (h : AH) (c n : Nat) (fs : List Value) : Option (Option Nat × AH) := nX h n (c, .inl fs)
def nI_ (h : AH) (t : Nat) (k : Int32) : Option (Option Nat × AH) := if ¬ k < 0 ∧ k.toNatClampNeg ≤ 65536 then nX h k.toNatClampNeg (t, .inr (.inl (k.toNatClampNeg, fun _ => 0))) else none
def nJ_ (h : AH) (k : Int32) : Option (Option Nat × AH) := if ¬ k < 0 ∧ k.toNatClampNeg ≤ 65536 then nX h k.toNatClampNeg (4, .inr (.inr (.inl (k.toNatClampNeg, fun _ => 0)))) else none
def nR_ (h : AH) (t : Nat) (k : Int32) : Option (Option Nat × AH) := if ¬ k < 0 ∧ k.toNatClampNeg ≤ 65536 then nX h k.toNatClampNeg (t, .inr (.inr (.inr (k.toNatClampNeg, fun _ => none)))) else none
def dv (x y : Int32) : Option Int32 := if y = 0 then none else some (x / y)
def rm (x y : Int32) : Option Int32 := if y = 0 then none else some (x - x / y * y)
def rmL (x y : Int64) : Option Int64 := if y = 0 then none else some (x - x / y * y)
/-- a call that may throw -/
def xb {α β : Type} (r : Option ((α ⊕ Nat) × AH)) (f : α → AH → Option ((β ⊕ Nat) × AH)) : Option ((β ⊕ Nat) × AH) := r.bind fun q => match q.1 with
  | .inl v => f v q.2
  | .inr e => some (.inr e, q.2)
