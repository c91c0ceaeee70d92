/-! FURTHER ROWS: iinc, iushr, casts, arraycopy, throws, dispatch; constants -/
set_option maxRecDepth 100000
theorem z_iincL {K : ZC} {cc : ByteArray} {own nm : String} {nL : Nat} {ret : Option FieldType} {fr lc : Nat} (O : ZOk K cc own nm nL ret fr lc) {z : ZT} {h : AH} {pc : Nat} {lv : List (Nat × ZV)} {rest : List ZV} {i : Nat} {n : Int} {x c : Int32} (j : Nat) (lv2 : Int32 → List (Nat × ZV)) (hd : decode cc pc = .ok (.iinc i n, 3)) (hj : lv[j]? = some (i, vi x)) (hv : Int32.ofInt n = c) (hn : i < nL) (hl1 : ∀ v, (i, vi v) :: lv.filter (fun q => !(q.1 == i) && !(q.1 + 1 == i && zcat q.2 == 2)) = lv2 v) {α : Type} {r : α} {f : Int32 → Option α} (hr : jlet (x + c) f = some r) (k : ∀ v, f v = some r → Zw K z h (pc + 3) (lv2 v) rest) : Zw K z h pc lv rest := z_iinc O j (lv2 (x + c)) hd hj (by rw [hv]) hn (hl1 _) (k _ hr)
theorem z_iushr {K : ZC} {cc : ByteArray} {own nm : String} {nL : Nat} {ret : Option FieldType} {fr lc : Nat} (O : ZOk K cc own nm nL ret fr lc) {z : ZT} {h : AH} {pc : Nat} {lv : List (Nat × ZV)} {rest : List ZV} {x y : Int32} (hd : decode cc pc = .ok (.iushr, 1)) (k : Zw K z h (pc + 1) lv (vi ((x.toUInt32 >>> (y.toUInt32 &&& Int32.toUInt32 31)).toInt32) :: rest)) : Zw K z h pc lv (vi y :: vi x :: rest) := by
  obtain ⟨G, p, l, e, R, s, m, args, below, meth, c, h0, nL2⟩ := K
  obtain ⟨hnL, hfl, hx, hb, hml, hown, hnm, hret, hlk, hts, hZW, hfr, hlc, hkc, hks⟩ := O
  subst hnL
  intro H locs cells slots ls hR hl2
  exact lv_iushr hx hb hd rfl (k H locs cells slots ls hR hl2)
def aC (h : AH) (x : Option Nat) (i : Int32) (y : Option Nat) (j n : Int32) : Option AH := (aA h 0 x).bind fun f => (aA h 0 y).bind fun g => x.bind fun a => y.bind fun b =>
  if (((¬ i < 0 ∧ ¬ j < 0) ∧ ¬ n < 0) ∧ i.toNatClampNeg + n.toNatClampNeg ≤ f.1 ∧ j.toNatClampNeg + n.toNatClampNeg ≤ g.1) ∧ hB h ≤ a ∧ hB h ≤ b then some (hU h b (0, .inr (.inl (g.1, va_cpy f.2 g.2 i.toNatClampNeg j.toNatClampNeg n.toNatClampNeg)))) else none
theorem z_isArr {U : State} {B a t n : Nat} {f : Nat → Value} {cell : Cell} (h : zArr U B a t n f cell) (hB : B ≤ a) : cell = arrV cell.cls n f := by
  obtain ⟨ty, h1, h2, h3, h4, h5, h6⟩ := h
  exact (h6 hB).2
theorem z_acopy {K : ZC} {cc : ByteArray} {own nm : String} {nL : Nat} {ret : Option FieldType} {fr lc : Nat} (O : ZOk K cc own nm nL ret fr lc) {z : ZT} {h : AH} {pc : Nat} {lv : List (Nat × ZV)} {rest : List ZV} {index : Nat} {x y : Option Nat} {sp dp n : Int32} {α : Type} {r : α} {f : AH → Option α} (hl : Cond.methodLink own index arraycopyName ∈ lw_all) (hd : decode cc pc = .ok (.invokestatic index, 3)) (hroom : 1 ≤ fr ∧ 48 ≤ lc) (hrest : (rest.map zcat).sum ≤ 8) (hr : (aC h x sp y dp n).bind f = some r) (k : ∀ h', f h' = some r → Zw K z h' (pc + 3) lv rest) : Zw K z h pc lv (vi n :: vi dp :: vr y :: vi sp :: vr x :: rest) := by
  obtain ⟨G, p, l, e, R, s, m, args, below, meth, c, h0, nL2⟩ := K
  obtain ⟨hnL, hfl, hx, hb, hml, hown, hnm, hret, hlk, hts, hZW, hfr, hlc, hkc, hks⟩ := O
  subst hnL
  intro H locs cells slots ls hR hl2
  refine bs hr (fun h' hv hr2 => ?_)
  clear hr
  unfold aC at hv
  refine bs hv (fun q hq hv => bs hv (fun q' hq' hv => bs hv (fun a ha hv => bs hv (fun b hb' hv => zite hv (fun hi hv => ?_) (fun _ hv => by cases hv)))))
  cases hv
  obtain ⟨a', ha', he⟩ := aA_spec hq
  cases ha.symm.trans ha'
  obtain ⟨b', hb'', he'⟩ := aA_spec hq'
  cases hb'.symm.trans hb''
  subst ha; subst hb'
  obtain ⟨⟨⟨⟨h1, h2⟩, h3⟩, h4, h5⟩, hBa, hBb⟩ := hi
  obtain ⟨cs, s1, s2, s3⟩ := hM_at hR.1 he
  obtain ⟨cd, d1, d2, d3⟩ := hM_at hR.1 he'
  obtain ⟨ty, t1, t2, t3, t4, t5, t7⟩ := id s2
  obtain ⟨ty', u1, u2, u3, u4, u5, u7⟩ := id d2
  cases t1
  cases u1
  have es := z_isArr s2 hBa
  have ed := z_isArr d2 hBb
  have nn : ∀ z : Int32, ¬ z < 0 → z.toInt = (z.toNatClampNeg : Int) := by
    intro z hz
    have hz0 : (0 : Int) ≤ z.toInt := by
      have := Int32.not_lt.mp hz
      simpa using Int32.le_iff_toInt_le.mp this
    show z.toInt = ((z.toInt.toNat : Nat) : Int)
    omega
  obtain ⟨-, k0, hk0, cm0, hkk0⟩ := t2
  obtain ⟨-, k1, hk1, cm1, hkk1⟩ := u2
  have hcat : ((rest.map zv).map fun v => v.category).sum ≤ 8 := by
    rw [show ((rest.map zv).map fun v => v.category) = rest.map zcat by rw [List.map_map]; exact List.map_congr_left (fun v _ => zcat_eq v)]
    exact hrest
  intro T hT X
  obtain ⟨vm', X', step⟩ := X.arraycopy hx hown (hts _ hl) (hts _ q1213) (hts _ q1212) (hts _ q154) (src := a) (dst := b) (cs := cs) (cd := cd) (srcPos := sp) (destPos := dp) (n := n) (by rw [hT]; exact s1) (by rw [hT]; exact d1)
    (fun _ h => by rw [es] at h; cases h) (fun _ h => by rw [ed] at h; cases h) t3 u3 hk0 hk1 hkk0 hkk1 (by simp [refKind]) h1 h2 h3
    (by rw [nn sp h1, nn n h3, t4]; omega)
    (by rw [nn dp h2, nn n h3, u4]; omega)
    (fun vm₁ _ i hi => by
      have e : cs.slots.getD (sp.toNatClampNeg + i) .null = .int (q.2 (sp.toNatClampNeg + i)) := by
        rw [Array.getD_eq_getD_getElem?, t5 _ (by omega)]
        rfl
      refine ⟨?_, ?_⟩
      · rw [e]; rfl
      · rw [e]; exact trivial)
    (g := F0 m pc ls ((vi n :: vi dp :: vr (some b) :: vi sp :: vr (some a) :: rest).map zv)) rfl (hl2.1.trans hml.symm) (rest := rest.map zv) rfl (by rw [hb]; exact hd) (by omega) (by
      have : nativeFrameWords "java/lang/System" "arraycopy" 5 + 11 ≤ 40 := by decide
      show 2 * 0 + _ + _ ≤ _
      omega)
  have e1 : copied cs cd sp dp n = arrV cd.cls q'.1 (fun j => .int (va_cpy q.2 q'.2 sp.toNatClampNeg dp.toNatClampNeg n.toNatClampNeg j)) := by
    have := va_copied (fun z => Value.int z) cs.cls cd.cls q.2 q'.2 (n1 := q'.1) (dp := dp.toNatClampNeg) h4
    rw [← es, ← ed] at this
    exact this
  rw [e1] at X' step
  have hlt : b < H.size := (Array.getElem?_eq_some_iff.mp d1).1
  have hheap : ((T.setVm vm').setCell b (arrV cd.cls q'.1 (fun j => .int (va_cpy q.2 q'.2 sp.toNatClampNeg dp.toNatClampNeg n.toNatClampNeg j)))).heap = H.setIfInBounds b (arrV cd.cls q'.1 (fun j => .int (va_cpy q.2 q'.2 sp.toNatClampNeg dp.toNatClampNeg n.toNatClampNeg j))) := by rw [← hT]; rfl
  have oq : ∀ w : Nat, w ≠ b → (H.setIfInBounds b (arrV cd.cls q'.1 (fun j => .int (va_cpy q.2 q'.2 sp.toNatClampNeg dp.toNatClampNeg n.toNatClampNeg j))))[w]? = H[w]? := fun w hw => by simp [Array.getElem?_setIfInBounds, Ne.symm hw]
  have hh : ZH G s (hU h b (0, .inr (.inl (q'.1, va_cpy q.2 q'.2 sp.toNatClampNeg dp.toNatClampNeg n.toNatClampNeg)))) (H.setIfInBounds b (arrV cd.cls q'.1 (fun j => .int (va_cpy q.2 q'.2 sp.toNatClampNeg dp.toNatClampNeg n.toNatClampNeg j)))) := by
    refine hR.1.set hBb (by simp) oq ⟨arrV cd.cls q'.1 (fun j => .int (va_cpy q.2 q'.2 sp.toNatClampNeg dp.toNatClampNeg n.toNatClampNeg j)), by simp [Array.getElem?_setIfInBounds, hlt], ⟨.int, rfl, ⟨(fun k h => by cases h), k1, hk1, cm1, hkk1⟩, (fun q => by cases q), arrV_size _ _ _, fun j hj => arrV_read _ _ hj, fun hB => ⟨(u7 hB).1, rfl⟩⟩, d3⟩
  obtain ⟨r1, r2, r3, r4, r5, r6, r7⟩ := hR
  obtain ⟨t, a1, b1⟩ := k _ hr2 _ _ cells slots ls ⟨hh, r2, r3, r4, r5, r6, fun w hw => by
    rcases List.mem_append.mp hw with h9 | h9
    · exact r7 w h9
    · obtain ⟨z9, -, hz⟩ := List.mem_map.mp h9
      rw [← hz, ← r2]
      exact hBb⟩ hl2 _ hheap X'
  exact ⟨t, step t a1, b1⟩
theorem MZ.mono {l : Launch} {G : ZG} {y : MethodName} {cc : ByteArray} {nL : Nat} {ret : Option FieldType} {fr lc fr2 lc2 : Nat} {As : List ZV} {h : AH} {z : ZT} (hM : MZ l G y cc nL ret fr lc As h z) (h1 : fr ≤ fr2) (h2 : lc ≤ lc2) : MZ l G y cc nL ret fr2 lc2 As h z :=
  fun hfl rm hf hl hk hs => hM hfl rm (Nat.le_trans h1 hf) (Nat.le_trans h2 hl) hk hs
def jmax (x y : Int32) : Int32 := if x < y then y else x
def jmin (x y : Int32) : Int32 := if y < x then y else x
def jabs (x : Int32) : Int32 := if 0 ≤ x then x else 0 - x
theorem z_mmax {K : ZC} {cc : ByteArray} {own nm : String} {nL : Nat} {ret : Option FieldType} {fr lc : Nat} (O : ZOk K cc own nm nL ret fr lc) {z : ZT} {h : AH} {pc : Nat} {lv : List (Nat × ZV)} {rest : List ZV} {index : Nat} {x y : Int32} (hl : Cond.methodLink own index Lib.Math.max.name ∈ lw_all) (hroom : 1 ≤ fr ∧ 48 ≤ lc) (hrest : (rest.map zcat).sum ≤ 8) (hd : decode cc pc = .ok (.invokestatic index, 3)) (k : Zw K z h (pc + 3) lv (vi (jmax x y) :: rest)) : Zw K z h pc lv (vi y :: vi x :: rest) := by
  obtain ⟨G, p, l, e, R, s, m, args, below, meth, c, h0, nL2⟩ := K
  obtain ⟨hnL, hfl, hx, hb, hml, hown, hnm, hret, hlk, hts, hZW, hfr, hlc, hkc, hks⟩ := O
  subst hnL
  intro H locs cells slots ls hR hl2
  have hcat : ((rest.map zv).map fun v => v.category).sum ≤ 8 := by
    rw [show ((rest.map zv).map fun v => v.category) = rest.map zcat by rw [List.map_map]; exact List.map_congr_left (fun v _ => zcat_eq v)]
    exact hrest
  have hr9 := hR.room hkc hks
  exact va_mmax hx hb (hml.trans hl2.1.symm) hown (hts _ hl) (hts _ q1056) (hts _ q150) (hts _ q1057) (by omega) (by omega) (by omega) (by omega) hd (k H locs cells slots ls hR hl2)
theorem z_mmin {K : ZC} {cc : ByteArray} {own nm : String} {nL : Nat} {ret : Option FieldType} {fr lc : Nat} (O : ZOk K cc own nm nL ret fr lc) {z : ZT} {h : AH} {pc : Nat} {lv : List (Nat × ZV)} {rest : List ZV} {index : Nat} {x y : Int32} (hl : Cond.methodLink own index Lib.Math.min.name ∈ lw_all) (hroom : 1 ≤ fr ∧ 48 ≤ lc) (hrest : (rest.map zcat).sum ≤ 8) (hd : decode cc pc = .ok (.invokestatic index, 3)) (k : Zw K z h (pc + 3) lv (vi (jmin x y) :: rest)) : Zw K z h pc lv (vi y :: vi x :: rest) := by
  obtain ⟨G, p, l, e, R, s, m, args, below, meth, c, h0, nL2⟩ := K
  obtain ⟨hnL, hfl, hx, hb, hml, hown, hnm, hret, hlk, hts, hZW, hfr, hlc, hkc, hks⟩ := O
  subst hnL
  intro H locs cells slots ls hR hl2
  have hcat : ((rest.map zv).map fun v => v.category).sum ≤ 8 := by
    rw [show ((rest.map zv).map fun v => v.category) = rest.map zcat by rw [List.map_map]; exact List.map_congr_left (fun v _ => zcat_eq v)]
    exact hrest
  have hr9 := hR.room hkc hks
  exact va_mmin hx hb (hml.trans hl2.1.symm) hown (hts _ hl) (hts _ q1347) (hts _ q150) (hts _ q1348) (by omega) (by omega) (by omega) (by omega) hd (k H locs cells slots ls hR hl2)
theorem z_mabs {K : ZC} {cc : ByteArray} {own nm : String} {nL : Nat} {ret : Option FieldType} {fr lc : Nat} (O : ZOk K cc own nm nL ret fr lc) {z : ZT} {h : AH} {pc : Nat} {lv : List (Nat × ZV)} {rest : List ZV} {index : Nat} {x : Int32} (hl : Cond.methodLink own index Lib.Math.abs.name ∈ lw_all) (hroom : 1 ≤ fr ∧ 48 ≤ lc) (hrest : (rest.map zcat).sum ≤ 8) (hd : decode cc pc = .ok (.invokestatic index, 3)) (k : Zw K z h (pc + 3) lv (vi (jabs x) :: rest)) : Zw K z h pc lv (vi x :: rest) := by
  obtain ⟨G, p, l, e, R, s, m, args, below, meth, c, h0, nL2⟩ := K
  obtain ⟨hnL, hfl, hx, hb, hml, hown, hnm, hret, hlk, hts, hZW, hfr, hlc, hkc, hks⟩ := O
  subst hnL
  intro H locs cells slots ls hR hl2
  have hcat : ((rest.map zv).map fun v => v.category).sum ≤ 8 := by
    rw [show ((rest.map zv).map fun v => v.category) = rest.map zcat by rw [List.map_map]; exact List.map_congr_left (fun v _ => zcat_eq v)]
    exact hrest
  have hr9 := hR.room hkc hks
  exact va_mabs hx hb (hml.trans hl2.1.symm) hown (hts _ hl) (hts _ q1053) (hts _ q150) (hts _ q1054) (by omega) (by omega) (by omega) (by omega) hd (k H locs cells slots ls hR hl2)
/-- instanceof, checkcast: which class tags are of the class number t, which aren't -/
def isY (t : Nat) : List Nat := match t with
  | 12 => [13, 14, 15]
  | 16 => [16]
  | 19 => [19]
  | 21 => [21]
  | _ => []
def isN (t : Nat) : List Nat := match t with
  | 12 => [16, 18, 19]
  | 16 => [13, 14, 15, 18, 19]
  | 19 => [13, 14, 15, 16, 18]
  | _ => []
def isC (t : Nat) : String := match t with
  | 12 => RX12
  | 16 => RX16
  | 19 => RX19
  | _ => RJ3
def ist (h : AH) (t : Nat) (x : Option Nat) : Option Int32 := if x = none then some 0 else (tg h x).bind fun c => if c ∈ isY t then some 1 else if c ∈ isN t then some 0 else none
def cst (h : AH) (t : Nat) (x : Option Nat) : Option Unit := if x = none then some () else (tg h x).bind fun c => if c ∈ isY t then some () else none
theorem z_isa {G : ZG} {s : State} {k0 : HC} (hZ : ZW G s k0) {t c : Nat} (hm : c ∈ isY t) {r : vw_C} (hc : zCl c = some r) : ∃ t0, s.vm.findClass (isC t) = some t0 ∧ s.vm.assignable (G.1.1 c) t0 = true := by
  have hcls := (hZ.1 c r hc).2
  have exact_ : r.1 = isC t → ∃ t0, s.vm.findClass (isC t) = some t0 ∧ s.vm.assignable (G.1.1 c) t0 = true := fun h1 => ⟨_, by rw [← h1]; exact hcls.1, va_assign hcls⟩
  have sub_ : ∀ w : Cond, w ∈ zNest → w = .castable r.1 (isC t) → ∃ t0, s.vm.findClass (isC t) = some t0 ∧ s.vm.assignable (G.1.1 c) t0 = true := by
    intro w hw hwe
    have h3 := hZ.2.1 w hw
    subst hwe
    obtain ⟨c1, t1, f1, f2, f3⟩ := Cond.castable_spec (va_Nw.use (A := #[]) rfl h3)
    cases hcls.1.symm.trans f1
    exact ⟨t1, f2, f3⟩
  unfold isY at hm
  split at hm
  · simp only [List.mem_cons, List.not_mem_nil, or_false] at hm
    rcases hm with rfl | rfl | rfl <;> cases hc
    · exact sub_ _ zn2636 rfl
    · exact sub_ _ zn2637 rfl
    · exact sub_ _ zn2638 rfl
  · simp only [List.mem_cons, List.not_mem_nil, or_false] at hm
    subst hm; cases hc; exact exact_ rfl
  · simp only [List.mem_cons, List.not_mem_nil, or_false] at hm
    subst hm; cases hc; exact exact_ rfl
  · simp only [List.mem_cons, List.not_mem_nil, or_false] at hm
    subst hm; cases hc; exact exact_ rfl
  · cases hm
theorem z_isnt {G : ZG} {s : State} {k0 : HC} (hZ : ZW G s k0) {t c : Nat} (hm : c ∈ isN t) {r : vw_C} (hc : zCl c = some r) : va_Nc r.1 (isC t) s := by
  have no_ : ∀ q : String × String, q ∈ zNc → q = (r.1, isC t) → va_Nc r.1 (isC t) s := by
    intro q hq he
    have h3 := hZ.2.2.2.1 q hq
    subst he
    exact h3
  unfold isN at hm
  split at hm
  · simp only [List.mem_cons, List.not_mem_nil, or_false] at hm
    rcases hm with rfl | rfl | rfl <;> cases hc
    · exact no_ _ zc_Site_Stone rfl
    · exact no_ _ zc_Heir_Stone rfl
    · exact no_ _ zc_Wall_Stone rfl
  · simp only [List.mem_cons, List.not_mem_nil, or_false] at hm
    rcases hm with rfl | rfl | rfl | rfl | rfl <;> cases hc
    · exact no_ _ zc_Hard_Site rfl
    · exact no_ _ zc_Soft_Site rfl
    · exact no_ _ zc_Wood_Site rfl
    · exact no_ _ zc_Heir_Site rfl
    · exact no_ _ zc_Wall_Site rfl
  · simp only [List.mem_cons, List.not_mem_nil, or_false] at hm
    rcases hm with rfl | rfl | rfl | rfl | rfl <;> cases hc
    · exact no_ _ zc_Hard_Wall rfl
    · exact no_ _ zc_Soft_Wall rfl
    · exact no_ _ zc_Wood_Wall rfl
    · exact no_ _ zc_Site_Wall rfl
    · exact no_ _ zc_Heir_Wall rfl
  · cases hm
theorem z_inst {K : ZC} {cc : ByteArray} {own nm : String} {nL : Nat} {ret : Option FieldType} {fr lc : Nat} (O : ZOk K cc own nm nL ret fr lc) {z : ZT} {h : AH} {pc : Nat} {lv : List (Nat × ZV)} {rest : List ZV} {C : String} {t index : Nat} {x : Option Nat} {α : Type} {r : α} {f : Int32 → Option α} (hC : isC t = C) (hl : Cond.classLink own index C ∈ lw_all) (hd : decode cc pc = .ok (.instanceof index, 3)) (hr : (ist h t x).bind f = some r) (k : ∀ v, f v = some r → Zw K z h (pc + 3) lv (vi v :: rest)) : Zw K z h pc lv (vr x :: rest) := by
  obtain ⟨G, p, l, e, R, s, m, args, below, meth, c, h0, nL2⟩ := K
  obtain ⟨hnL, hfl, hx, hb, hml, hown, hnm, hret, hlk, hts, hZW, hfr, hlc, hkc, hks⟩ := O
  subst hnL
  intro H locs cells slots ls hR hl2
  subst hC
  refine bs hr (fun v hv hr2 => ?_)
  clear hr
  unfold ist at hv
  refine zite hv (fun hx0 hv => ?_) (fun hx0 hv => ?_)
  · subst hx0
    cases hv
    exact lv_instN hx hb hd (k _ hr2 H locs cells slots ls hR hl2)
  · refine bs hv (fun c0 hc0 hv3 => ?_)
    clear hv
    obtain ⟨a, rfl, fs, he⟩ := tg_spec hc0
    obtain ⟨rv, cell, v1, v2, v3, v4, v5, -⟩ := hM_at hR.1 he
    have hcls := hZW.1 _ _ v1
    refine zite hv3 (fun h1 hv => ?_) (fun _ hv4 => zite hv4 (fun h1 hv => ?_) (fun _ hv => by cases hv))
    · cases hv
      obtain ⟨t0, f1, f2⟩ := z_isa hZW h1 v1
      intro T hT X
      obtain ⟨vm', X', st⟩ := X.instanceofYes hx hown (hts _ hl) (by rw [hT]; exact v2) v5 f1 (by rw [v3]; exact f2) (g := F0 m pc ls ((vr (some a) :: rest).map zv)) rfl rfl (by rw [hb]; exact hd)
      obtain ⟨t2, a1, b1⟩ := k _ hr2 H locs cells slots ls hR hl2 (T.setVm vm') hT X'
      exact ⟨t2, st t2 a1, b1⟩
    · cases hv
      obtain ⟨c1, t1, f1, f2, f3⟩ := z_isnt hZW h1 v1
      have e1 := hcls.2.1.symm.trans f1
      cases e1
      obtain ⟨kC, hkC, -⟩ := hcls.2.2
      intro T hT X
      obtain ⟨vm', X', st⟩ := va_instofNo X hx hown (hts _ hl) (by rw [hT]; exact v2) v5 (by rw [v3]; exact hkC) f2 (by rw [v3]; exact f3) (g := F0 m pc ls ((vr (some a) :: rest).map zv)) rfl rfl (by rw [hb]; exact hd)
      obtain ⟨t2, a1, b1⟩ := k _ hr2 H locs cells slots ls hR hl2 (T.setVm vm') hT X'
      exact ⟨t2, st t2 a1, b1⟩
theorem z_cast {K : ZC} {cc : ByteArray} {own nm : String} {nL : Nat} {ret : Option FieldType} {fr lc : Nat} (O : ZOk K cc own nm nL ret fr lc) {z : ZT} {h : AH} {pc : Nat} {lv : List (Nat × ZV)} {rest : List ZV} {C : String} {t index : Nat} {x : Option Nat} {α : Type} {r : α} {f : Unit → Option α} (hC : isC t = C) (hl : Cond.classLink own index C ∈ lw_all) (hd : decode cc pc = .ok (.checkcast index, 3)) (hr : (cst h t x).bind f = some r) (k : ∀ v, f v = some r → Zw K z h (pc + 3) lv (vr x :: rest)) : Zw K z h pc lv (vr x :: rest) := by
  obtain ⟨G, p, l, e, R, s, m, args, below, meth, c, h0, nL2⟩ := K
  obtain ⟨hnL, hfl, hx, hb, hml, hown, hnm, hret, hlk, hts, hZW, hfr, hlc, hkc, hks⟩ := O
  subst hnL
  intro H locs cells slots ls hR hl2
  subst hC
  refine bs hr (fun v hv hr2 => ?_)
  clear hr
  unfold cst at hv
  refine zite hv (fun hx0 hv => ?_) (fun hx0 hv => ?_)
  · subst hx0
    exact lv_castN hx hb hd (k _ hr2 H locs cells slots ls hR hl2)
  · refine bs hv (fun c0 hc0 hv3 => ?_)
    clear hv
    obtain ⟨a, rfl, fs, he⟩ := tg_spec hc0
    obtain ⟨rv, cell, v1, v2, v3, v4, v5, -⟩ := hM_at hR.1 he
    refine zite hv3 (fun h1 hv => ?_) (fun _ hv => by cases hv)
    obtain ⟨t0, f1, f2⟩ := z_isa hZW h1 v1
    intro T hT X
    obtain ⟨vm', X', st⟩ := X.checkcastYes hx hown (hts _ hl) (by rw [hT]; exact v2) v5 f1 (by rw [v3]; exact f2) (g := F0 m pc ls ((vr (some a) :: rest).map zv)) rfl rfl (by rw [hb]; exact hd)
    obtain ⟨t2, a1, b1⟩ := k _ hr2 H locs cells slots ls hR hl2 (T.setVm vm') hT X'
    exact ⟨t2, st t2 a1, b1⟩
theorem z_asgSelf (vm : Vm) (c : ClassId) : vm.assignable c c = true := by
  show vm.assignableAux _ c c = true
  unfold Vm.assignableAux
  simp
def aAB (h : AH) (x : Option Nat) : Option (Nat × (Nat → Int32)) := (aA h 1 x).bind fun f => if hB h ≤ x.getD 0 then some f else none
theorem z_castB0 {p : Program} {l : Launch} {e : Env} {R : Room} {s : State} {m : MethodId} {args : Array Value} {below : List Frame} {meth : Method} {c : Code} {H : Heap} {locs : List Loc} {cells slots : Nat} {Q : State → Prop} {cc : ByteArray} {pc : Nat} {ls : Array Slot} {rest : List Value} {a : Nat} (hexec : p.tables.exec = Jvm.exec) (hb : c.code = cc) {own : String} {index : Nat} (hown : s.vm.findClass own = some m.cls) (hlink : (Cond.classLink own index "[B").before args s = true) {cell : Cell} (hc : H[a]? = some cell) (ht : s.isArrayOf cell .byte) (hRA : s.vm.findClass "[B" = some cell.cls) (hdg : decode cc pc = .ok (.checkcast index, 3))
    (k : W p l e R s m args below meth c H locs cells slots Q (F0 m (pc + 3) ls (.ref a :: rest))) : W p l e R s m args below meth c H locs cells slots Q (F0 m pc ls (.ref a :: rest)) := by
  intro T hT X
  have hst : cell.vm.isStatics = false := by
    have h0 := ht.1
    generalize cell.vm = v at h0
    cases v <;> first | rfl | exact absurd rfl (h0 _)
  obtain ⟨vm', X', st⟩ := X.checkcastYes hexec hown hlink (by rw [hT]; exact hc) hst hRA (z_asgSelf _ _) (g := F0 m pc ls (.ref a :: rest)) rfl rfl (by rw [hb]; exact hdg)
  obtain ⟨t2, a1, b1⟩ := k (T.setVm vm') hT X'
  exact ⟨t2, st t2 a1, b1⟩
theorem z_castB {K : ZC} {cc : ByteArray} {own nm : String} {nL : Nat} {ret : Option FieldType} {fr lc : Nat} (O : ZOk K cc own nm nL ret fr lc) {z : ZT} {h : AH} {pc : Nat} {lv : List (Nat × ZV)} {rest : List ZV} {index : Nat} {x : Option Nat} {α : Type} {r : α} {f : (Nat × (Nat → Int32)) → Option α} (hl : Cond.classLink own index "[B" ∈ lw_all) (hd : decode cc pc = .ok (.checkcast index, 3)) (hr : (aAB h x).bind f = some r) (k : ∀ v, f v = some r → Zw K z h (pc + 3) lv (vr x :: rest)) : Zw K z h pc lv (vr x :: rest) := by
  obtain ⟨G, p, l, e, R, s, m, args, below, meth, c, h0, nL2⟩ := K
  obtain ⟨hnL, hfl, hx, hb, hml, hown, hnm, hret, hlk, hts, hZW, hfr, hlc, hkc, hks⟩ := O
  subst hnL
  intro H locs cells slots ls hR hl2
  refine bs hr (fun v hv hr2 => ?_)
  clear hr
  unfold aAB at hv
  refine bs hv (fun f0 hv1 hv2 => ?_)
  clear hv
  obtain ⟨a, rfl, he⟩ := aA_spec hv1
  refine zite hv2 (fun hB0 hv3 => ?_) (fun _ hv3 => by cases hv3)
  cases hv3
  obtain ⟨cell, q1, q2, q3⟩ := hM_at hR.1 he
  obtain ⟨ty, t1, t2, t3, t4, t5, t7⟩ := id q2
  cases t1
  have hRA : s.vm.findClass "[B" = some cell.cls := (t7 hB0).1
  exact z_castB0 hx hb hown (hts _ hl) q1 t2 hRA hd (k _ hr2 H locs cells slots ls hR hl2)
theorem xbs {α β : Type} {o : Option ((α ⊕ Nat) × AH)} {f : α → AH → Option ((β ⊕ Nat) × AH)} {r : (β ⊕ Nat) × AH} {P : Prop} (hr : xb o f = some r) (k1 : ∀ v h', o = some (.inl v, h') → f v h' = some r → P) (k2 : ∀ e h', o = some (.inr e, h') → r = (.inr e, h') → P) : P := by
  unfold xb at hr
  refine bs hr (fun q hq hr => ?_)
  obtain ⟨q1, q2⟩ := q
  cases q1 with
  | inl v => exact k1 v q2 hq hr
  | inr e => exact k2 e q2 hq (Option.some.inj hr).symm
section ZCALLU
variable {K : ZC} {cc : ByteArray} {own nm : String} {nL : Nat} {ret : Option FieldType} {fr lc : Nat} {z : ZT} {h h' : AH} {pc : Nat} {lv : List (Nat × ZV)} {rest : List ZV} {C : String} {x y : MethodName} {cc' : ByteArray} {nL' : Nat} {ret' : Option FieldType} {fr' lc' n index t : Nat}
/-- a call by a name of an abstract class; the object's class chooses -/
theorem z_callU (O : ZOk K cc own nm nL ret fr lc) (As : List ZV) {o : Option Nat} (v : ZV) {T : u_T} {N : Nat} (hlink : Cond.methodLink own index x ∈ lw_all) (hsame : Cond.sameMethod x.cls x.cls x.name x.desc ∈ lw_all) (hdecl : (Cond.instanceMethod x ∈ lw_all ∧ ∃ b m r, Cond.code x b m r ∈ lw_all) ∨ Cond.declares x ∈ zNest) (hyx : YK x n) (hsel : Cond.selects C x y ∈ lw_all) (hinst : Cond.instanceMethod y ∈ lw_all) (hini : Cond.initialized y.cls ∈ lw_all) (hcode : Cond.code y cc' nL' ret' ∈ lw_all)
    (hM : ∀ (l : Launch) (G : ZG), MZ l G y cc' nL' ret' fr' lc' (vr o :: As) h (.inl (some (zv v)), h')) (hck : tg h o = some t) (ht : zCl t = some (C, T, N)) (hn : As.length = n) (hR : fr' + 1 ≤ fr ∧ 8 + (nL' + 11) + lc' ≤ lc) (hrest : (rest.map zcat).sum ≤ 8) (hd : decode cc pc = .ok (.invokevirtual index, 3))
    (k : Zw K z h' (pc + 3) lv (v :: rest)) : Zw K z h pc lv (As.reverse ++ vr o :: rest) := by
  obtain ⟨G, p, l, e, R, s, m, args, below, meth, c, h0, nL2⟩ := K
  obtain ⟨hnL, hfl, hx, hb, hml, hown, hnm, hret, hlk, hts, hZW, hfr, hlc, hkc, hks⟩ := O
  subst hnL
  intro H locs cells slots ls hZR hl
  obtain ⟨a, rfl, fs, he⟩ := tg_spec hck
  obtain ⟨cell, q1, q2, q3, q4, q5, q6, q7⟩ := z_obj hZR.1 he ht
  have hcls : s.vm.findClass C = some cell.cls := by rw [q2]; exact (hZW.1 _ _ ht).2.1
  have hk0 : h.1 = h0.1 := hZR.2.1
  have hroom := hZR.room hkc hks
  have hK : Back l R p e below s args y 3 8 (ZPre G s R (vr (some a) :: As) h) (ZPost G s h h' (zret (some v))) := z_back hfl (hM l G) hts (by rw [hk0]; exact hZW) (by omega) (by omega) hini hcode
  have hdc : va_Decl s ⟨x.cls, x.name, x.desc⟩ := by
    rcases hdecl with ⟨h1, b, m9, r, h2⟩ | h1
    · exact va_Decl.of (hts _ h1) (hts _ h2)
    · exact va_Decl.abs (hZW.2.1 _ h1)
  intro T1 hT X
  exact z_after (ro := some v) hZR hl (va_callVU X hx (C := C) (owner := x.cls) (bytes := cc') (maxL := nL') (ret := ret') hown (hts _ hlink) (hts _ hsame) hdc hyx.1 (hts _ hsel) (hts _ hinst) (hts _ hcode) hK (by rw [hT]; exact q1) q4 hcls (g := F0 m pc ls ((As.reverse ++ vr (some a) :: rest).map zv)) rfl (hl.1.trans hml.symm) (argsL := As.map zv) (rest := rest.map zv)
    (z_len hyx hn) (by simp [F0, zv, rf_some]) (z_cats hrest) (by rw [hb]; exact hd)
    (fun vm₁ hW₁ => ⟨rfl, by show ZH G s h T1.heap; rw [hT]; exact hZR.1, hroom.1, hroom.2⟩)) k
end ZCALLU
