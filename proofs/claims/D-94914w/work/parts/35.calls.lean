/-! THE ROWS over abstract heaps: a body's start, its return, its calls -/
set_option maxRecDepth 100000
def zret (v : Option ZV) : Option Value := v.map zv
section CALLS
variable {p : Program} {l : Launch} {e : Env} {R : Room} {s : State} {m : MethodId} {args : Array Value} {below : List Frame} {meth : Method} {c : Code} {H : Heap} {locs : List Loc} {cells slots : Nat} {G : ZG}
/-- the machine's own end, as ZQ says it -/
theorem z_end {h0 h : AH} {ov : Option Value} (hR : ZR G s h0 h H locs cells slots) : ∀ t, MQ below (fun _ _ o t => o = .returned ov ∧ t.heap = H) args s cells slots (fun q => h0.1.1 ≤ q) t → ZQ G s below h0 (.inl ov, h) t := by
  intro t ht
  obtain ⟨o, h1, h2, ⟨h3, h4⟩, L, ⟨-, f2, f3⟩, hL⟩ := ht
  obtain ⟨r1, r2, r3, r4, r5, r6, r7⟩ := hR
  refine ⟨o, h1, h2, r2, r3, r4, by rw [h4]; exact r1, h3, L, f2, ?_, hL⟩
  rw [← r5, ← r6]
  exact f3
end CALLS
def za : Nat → List ZV → List (Nat × ZV)
  | _, [] => []
  | i, v :: vs => (i, v) :: za (if zcat v = 2 then i + 2 else i + 1) vs
theorem za_eq : ∀ (As : List ZV) (i : Nat), lv_args i (As.map zv) = zl (za i As)
  | [], _ => rfl
  | v :: vs, i => by
    show lv_args i (zv v :: vs.map zv) = _
    rw [lv_args, zcat_eq, za_eq vs]
    rfl
theorem za_len : ∀ As : List ZV, (lg_sl (As.map zv)).length = (As.map zcat).sum
  | [] => rfl
  | v :: vs => by
    have ih := za_len vs
    match v with
    | .inl x => show (lg_sl (.int x :: vs.map zv)).length = 1 + (vs.map zcat).sum; rw [← ih]; simp [lg_sl, Value.category]; omega
    | .inr (.inl none) => show (lg_sl (.null :: vs.map zv)).length = 1 + (vs.map zcat).sum; rw [← ih]; simp [lg_sl, Value.category]; omega
    | .inr (.inl (some a)) => show (lg_sl (.ref a :: vs.map zv)).length = 1 + (vs.map zcat).sum; rw [← ih]; simp [lg_sl, Value.category]; omega
    | .inr (.inr x) => show (lg_sl (.long x :: vs.map zv)).length = 2 + (vs.map zcat).sum; rw [← ih]; simp [lg_sl, Value.category]; omega
theorem MZ.of {l : Launch} {G : ZG} {y : MethodName} {cc : ByteArray} {nL : Nat} {ret : Option FieldType} {fr lc : Nat} {As : List ZV} {h : AH} {z : ZT} (hy : plainName y.cls = true)
    (lv : List (Nat × ZV)) (hlv : za 0 As = lv) (hlen : (As.map zcat).sum ≤ nL)
    (body : ∀ K : ZC, ZOk K cc y.cls y.name nL ret fr lc → Zw K z h 0 lv []) : MZ l G y cc nL ret fr lc As h z := by
  intro hfl rm hfr hlc hk hs
  refine MetFree.of_bodyS (code := cc) (maxLocals := nL) (ret := ret) hy ?_ ?_
  · intro args s m h1 hn
    obtain ⟨meth, c, h1, h2, h3, h4, h5, h6, -, -⟩ := Cond.code_spec hn (atoms_spec (ws := ws_ y cc nL ret) h1 _ List.mem_cons_self)
    exact ⟨meth, c, h1, h2, h3, h4, h5, h6⟩
  · intro p e s m args below meth c s₁ B hml hP _
    obtain ⟨rfl, hH, hZ⟩ := hP
    have hts := atoms_spec (ws := ws_ y cc nL ret) B.pre
    have hh0 : s₁.heap = s.heap := by rw [B.state]; rfl
    have hb := body (G, p, l, e, (headSpec (ws_ y cc nL ret) rm).room, s, m, (As.map zv).toArray, below, meth, c, h, nL) ⟨rfl, hfl, B.exec, B.bytes, hml, findClass_of_methodNamed B.named, (name_of_methodNamed B.named B.method).1, B.returns, B.notSynchronized, fun w hw => hts w (List.mem_cons_of_mem _ hw), hZ, hfr, hlc, hk, hs⟩
    have hl := lv_entry (As.map zv) (n := nL) (by rw [za_len]; exact hlen)
    rw [za_eq, hlv] at hl
    have hw := hb s.heap [] 0 0 _ ⟨hH, rfl, Nat.le_refl _, Nat.le_refl _, (Nat.sub_self _).symm, (Nat.sub_self _).symm, fun q hq => by cases hq⟩ hl
    rw [List.map_nil, ← lg_entry_eq m (As.map zv) nL] at hw
    obtain ⟨t, a1, o, b1, b2, b3⟩ := hw s₁ hh0 (Stand.of_body B)
    exact ⟨t, o, a1, b1, b2, b3⟩
/-- of a method's name: it is no method handle's; so many parameters -/
def YK (y : MethodName) (n : Nat) : Prop := (y.cls ≠ "java/lang/invoke/MethodHandle" ∧ y.cls ≠ "java/lang/invoke/VarHandle") ∧ (parseMethodDescriptor y.desc).map (fun d => d.parameters.length) = some n
/-- the words of a method called on an object of class C; of a static one; of a constructor -/
def CVf (C : String) (y : MethodName) (cc : ByteArray) (nL : Nat) (ret : Option FieldType) (n : Nat) : Prop := Cond.instanceMethod y ∈ lw_all ∧ Cond.selects C y y ∈ lw_all ∧ Cond.initialized y.cls ∈ lw_all ∧ Cond.code y cc nL ret ∈ lw_all ∧ YK y n
def CSf (y : MethodName) (cc : ByteArray) (nL : Nat) (ret : Option FieldType) (n : Nat) : Prop := Cond.static y ∈ lw_all ∧ Cond.initialized y.cls ∈ lw_all ∧ Cond.code y cc nL ret ∈ lw_all ∧ YK y n
def CIf (y : MethodName) (cc : ByteArray) (nL : Nat) (n : Nat) : Prop := Cond.instanceMethod y ∈ lw_all ∧ y.name = "<init>" ∧ Cond.initialized y.cls ∈ lw_all ∧ Cond.code y cc nL none ∈ lw_all ∧ YK y n
section BACK
variable {p : Program} {l : Launch} {e : Env} {R : Room} {s : State} {m : MethodId} {args : Array Value} {below : List Frame} {meth : Method} {c : Code} {G : ZG} {y : MethodName} {cc' : ByteArray} {nL' : Nat} {ret' : Option FieldType} {fr' lc' : Nat} {As : List ZV} {h h' : AH} {ov : Option Value}
def ZPre (G : ZG) (s : State) (R : Room) (As : List ZV) (h : AH) : Pt → Array Value → Prop := fun A a => a = (As.map zv).toArray ∧ ZH G s h A.U.heap ∧ A.cells + (h.1.2.1 - h.2.1) ≤ R.cells ∧ A.slots + (h.1.2.2.1 - h.2.2.1) ≤ R.slots
def ZPost (G : ZG) (s : State) (h h' : AH) (ov : Option Value) : Pt → Array Value → Option Value → Pt → Prop := fun A _ v B => v = ov ∧ ZH G s h' B.U.heap ∧ h'.1 = h.1 ∧ h.2.1 ≤ h'.2.1 ∧ h.2.2.1 ≤ h'.2.2.1 ∧ B.cells = A.cells + (h'.2.1 - h.2.1) ∧ B.slots = A.slots + (h'.2.2.1 - h.2.2.1) ∧ ∃ L, B.locs = A.locs ++ L ∧ ∀ q ∈ L, h.1.1 ≤ q.base
theorem z_back (hfl : l.flags = flags0) (hM : MZ l G y cc' nL' ret' fr' lc' As h (.inl ov, h')) (hts : ∀ w ∈ lw_all, w.before args s = true) (hZW : ZW G s h.1) (hfr : fr' + 1 ≤ R.frames) (hlc : 8 + (nL' + 11) + lc' ≤ R.locals)
    (hini : Cond.initialized y.cls ∈ lw_all) (hcode : Cond.code y cc' nL' ret' ∈ lw_all) : Back l R p e below s args y 3 8 (ZPre G s R As h) (ZPost G s h h' ov) := by
  have hws : ∀ w ∈ ws_ y cc' nL' ret', ∀ (a' : Array Value) (U : State), s.WarmedH U.vm → w.before a' U = true := pay_in hts (lw_meth hcode)
  refine Back.of_free (S := headSpec (ws_ y cc' nL' ret') ({ frames := fr', cells := h.1.2.1 - h.2.1, slots := h.1.2.2.1 - h.2.2.1, locals := lc' } : Room)) (bytes := cc') (maxL := nL') (ret := ret')
    (E := fun a st o t L k n => k = h'.2.1 - h.2.1 ∧ n = h'.2.2.1 - h.2.2.1 ∧ ∀ q ∈ L, h.1.1 ≤ q.base) (hM hfl _ (Nat.le_refl _) (Nat.le_refl _) (by show h.1.2.1 ≤ h.2.1 + (h.1.2.1 - h.2.1); omega) (by show h.1.2.2.1 ≤ h.2.2.1 + (h.1.2.2.1 - h.2.2.1); omega)) hfr hlc ?_ ?_ (fun _ _ _ _ _ _ _ _ _ => trivial) ?_ ?_
  · intro m meth c A a X hp
    exact ⟨atoms_intro fun w hw => hws w hw _ _ X.warmed, hws _ List.mem_cons_self _ _ X.warmed, word_at X.warmed (Or.inl (by first | rfl | simp [Cond.onTables, Cond.keeps, Cond.steady])) (hts _ hini), hp.2.2.1, hp.2.2.2⟩
  · intro m meth c A a g mk X hp
    exact ⟨hp.1, (hp.2.1.moved X.warmed.alike).moved (Vm.Alike.refl _), hZW.warm (U := A.U.calling g mk a) X.warmed⟩
  · intro a st o t hq
    obtain ⟨q1, q2, q3, q4, q5, L, q6, q7, q8⟩ := hq
    exact ⟨L, _, _, ⟨⟨ov, q5⟩, q6, q7⟩, rfl, rfl, q8⟩
  · intro m meth c A a g mk v t L k n X hp hq hF hE
    obtain ⟨q1, q2, q3, q4, q5, -⟩ := hq
    obtain ⟨e1, e2, e3⟩ := hE
    cases q5
    refine ⟨rfl, q4.moved X.warmed.alike.symm, q1, q2, q3, ?_, ?_, L, rfl, e3⟩
    · show A.cells + k = _
      rw [e1]
    · show A.slots + n = _
      rw [e2]
end BACK
section ZCALL
variable {K : ZC} {cc : ByteArray} {own nm : String} {nL : Nat} {ret : Option FieldType} {fr lc : Nat} {z : ZT} {h h' : AH} {pc : Nat} {lv : List (Nat × ZV)} {rest : List ZV} {C : String} {y : MethodName} {cc' : ByteArray} {nL' : Nat} {ret' : Option FieldType} {fr' lc' n index t : Nat}
theorem z_cats {rest : List ZV} (h : (rest.map zcat).sum ≤ 8) {m : MethodId} {pc : Nat} {ls : Array Slot} {st : List Value} : 2 * (F0 m pc ls st).monitorRoom + ((rest.map zv).map fun v => v.category).sum ≤ 8 := by
  have h1 : ((rest.map zv).map fun v => v.category) = rest.map zcat := by
    rw [List.map_map]
    exact List.map_congr_left (fun v _ => zcat_eq v)
  have h2 := lv_room (pc := pc) (m := m) (ls := ls) (rest := st) (st := rest.map zv) (by rw [h1]; exact h)
  exact h2
theorem ZR.call {G : ZG} {s : State} {h0 h h' : AH} {H H1 : Heap} {locs L : List Loc} {cells slots : Nat} (hR : ZR G s h0 h H locs cells slots) (h1 : ZH G s h' H1) (h2 : h'.1 = h.1) (h3 : h.2.1 ≤ h'.2.1) (h4 : h.2.2.1 ≤ h'.2.2.1) (hL : ∀ q ∈ L, h.1.1 ≤ q.base) : ZR G s h0 h' H1 (locs ++ L) (cells + (h'.2.1 - h.2.1)) (slots + (h'.2.2.1 - h.2.2.1)) := by
  obtain ⟨r1, r2, r3, r4, r5, r6, r7⟩ := hR
  refine ⟨h1, h2.trans r2, by omega, by omega, by omega, by omega, fun q hq => ?_⟩
  rcases List.mem_append.mp hq with hq | hq
  · exact r7 q hq
  · rw [← r2]; exact hL q hq
theorem ZR.room {G : ZG} {s : State} {h0 h : AH} {H : Heap} {locs : List Loc} {cells slots : Nat} {R : Room} (hR : ZR G s h0 h H locs cells slots) (hk : h0.1.2.1 ≤ h0.2.1 + R.cells) (hs : h0.1.2.2.1 ≤ h0.2.2.1 + R.slots) : cells + (h.1.2.1 - h.2.1) ≤ R.cells ∧ slots + (h.1.2.2.1 - h.2.2.1) ≤ R.slots := by
  obtain ⟨⟨z1, z2, z3, z4, z5, z6⟩, r2, r3, r4, r5, r6, r7⟩ := hR
  rw [← r2] at hk hs
  constructor <;> omega
section AFTER
variable {p : Program} {l : Launch} {e : Env} {R : Room} {s : State} {m : MethodId} {args : Array Value} {below : List Frame} {meth : Method} {c : Code} {G : ZG} {h0 : AH} {H : Heap} {locs : List Loc} {cells slots : Nat} {ls : Array Slot}
theorem z_after {T1 : State} {ro : Option ZV} {st : List Value} {a : Array Value} (hZR : ZR G s h0 h H locs cells slots) (hl : lv_has ls nL (zl lv))
    (hres : ∃ (v : Option Value) (vm₁ : Vm) (B : Pt), s.WarmedH vm₁ ∧ Stand p l e R s m args below meth c B.U B.locs B.cells B.slots ∧ ZPost G s h h' (zret ro) ⟨T1.setVm vm₁, locs, cells, slots⟩ a v B ∧ ∀ target, Steps p.tables e below (B.U.setTop { F0 m pc ls st with pc := (F0 m pc ls st).pc + 3, stack := v.toList ++ rest.map zv }) target → Steps p.tables e below (T1.setTop (F0 m pc ls st)) target)
    (k : Zw (G, p, l, e, R, s, m, args, below, meth, c, h0, nL) z h' (pc + 3) lv (ro.toList ++ rest)) : ∃ t, Steps p.tables e below (T1.setTop (F0 m pc ls st)) t ∧ ZQ G s below h0 z t := by
  obtain ⟨v, vm₁, ⟨U', l2, c2, s2⟩, hW₁, X', ⟨b1, b2, b3, b4, b5, b6, b7, L, b8, b9⟩, st⟩ := hres
  dsimp only [Pt.U, Pt.locs, Pt.cells, Pt.slots] at X' b1 b2 b6 b7 b8 st
  subst b6; subst b7; subst b8; subst b1
  have hw := k U'.heap (locs ++ L) _ _ ls (hZR.call b2 b3 b4 b5 b9) hl
  obtain ⟨t2, a1, a2⟩ := hw U' rfl X'
  refine ⟨t2, st t2 ?_, a2⟩
  have e1 : (ro.toList ++ rest).map zv = (zret ro).toList ++ rest.map zv := by
    cases ro <;> rfl
  rw [e1] at a1
  exact a1
end AFTER
theorem z_len {As : List ZV} (hy : YK y n) (hn : As.length = n) : ∀ sig, parseMethodDescriptor y.desc = some sig → (As.map zv).length = sig.parameters.length := fun sig hs => by
  have h2 := hy.2
  rw [hs] at h2
  rw [List.length_map, hn]
  exact (Option.some.inj h2).symm
/-- a call on an object whose class has the tag t -/
theorem z_callV_ (O : ZOk K cc own nm nL ret fr lc) (As : List ZV) {x : Option Nat} {ro : Option ZV} {T : u_T} {N : Nat} (hc : CVf C y cc' nL' ret' n) (hlink : Cond.methodLink own index y ∈ lw_all)
    (hM : ∀ (l : Launch) (G : ZG), MZ l G y cc' nL' ret' fr' lc' (vr x :: As) h (.inl (zret ro), h')) (hck : ck h [t] x = some ()) (ht : zCl t = some (C, T, N)) (hn : As.length = n) (hR : fr' + 1 ≤ fr ∧ 8 + (nL' + 11) + lc' ≤ lc) (hrest : (rest.map zcat).sum ≤ 8) (hd : decode cc pc = .ok (.invokevirtual index, 3))
    (k : Zw K z h' (pc + 3) lv (ro.toList ++ rest)) : Zw K z h pc lv (As.reverse ++ vr x :: rest) := by
  obtain ⟨G, p, l, e, R, s, m, args, below, meth, c, h0, nL2⟩ := K
  obtain ⟨hnL, hfl, hx, hb, hml, hown, hnm, hret, hlk, hts, hZW, hfr, hlc, hkc, hks⟩ := O
  subst hnL
  intro H locs cells slots ls hZR hl
  obtain ⟨a, c1, hc1, rfl, fs, he⟩ := ck_spec hck
  have hc1 : c1 = t := by simpa using hc1
  subst hc1
  obtain ⟨cell, q1, q2, q3, q4, q5, q6, q7⟩ := z_obj hZR.1 he ht
  have hcls : s.vm.findClass C = some cell.cls := by rw [q2]; exact (hZW.1 _ _ ht).2.1
  have hk0 : h.1 = h0.1 := hZR.2.1
  have hroom := hZR.room hkc hks
  have hK : Back l R p e below s args y 3 8 (ZPre G s R (vr (some a) :: As) h) (ZPost G s h h' (zret ro)) := z_back hfl (hM l G) hts (by rw [hk0]; exact hZW) (by omega) (by omega) hc.2.2.1 hc.2.2.2.1
  intro T1 hT X
  exact z_after hZR hl (callV X hx (C := C) (bytes := cc') (maxL := nL') (ret := ret') hown (hts _ hlink) (hts _ hc.1) (hts _ hc.2.1) (hts _ hc.2.2.2.1) hc.2.2.2.2.1 hK (by rw [hT]; exact q1) q4 hcls (g := F0 m pc ls ((As.reverse ++ vr (some a) :: rest).map zv)) rfl (hl.1.trans hml.symm) (argsL := As.map zv) (rest := rest.map zv)
    (z_len hc.2.2.2.2 hn) (by simp [F0, zv, rf_some]) (z_cats hrest) (by rw [hb]; exact hd)
    (fun vm₁ hW₁ => ⟨rfl, by show ZH G s h T1.heap; rw [hT]; exact hZR.1, hroom.1, hroom.2⟩)) k
theorem z_callS_ (O : ZOk K cc own nm nL ret fr lc) (As : List ZV) {ro : Option ZV} (hc : CSf y cc' nL' ret' n) (hlink : Cond.methodLink own index y ∈ lw_all)
    (hM : ∀ (l : Launch) (G : ZG), MZ l G y cc' nL' ret' fr' lc' As h (.inl (zret ro), h')) (hn : As.length = n) (hR : fr' + 1 ≤ fr ∧ 8 + (nL' + 11) + lc' ≤ lc) (hrest : (rest.map zcat).sum ≤ 8) (hd : decode cc pc = .ok (.invokestatic index, 3))
    (k : Zw K z h' (pc + 3) lv (ro.toList ++ rest)) : Zw K z h pc lv (As.reverse ++ rest) := by
  obtain ⟨G, p, l, e, R, s, m, args, below, meth, c, h0, nL2⟩ := K
  obtain ⟨hnL, hfl, hx, hb, hml, hown, hnm, hret, hlk, hts, hZW, hfr, hlc, hkc, hks⟩ := O
  subst hnL
  intro H locs cells slots ls hZR hl
  have hk0 : h.1 = h0.1 := hZR.2.1
  have hroom := hZR.room hkc hks
  have hK : Back l R p e below s args y 3 8 (ZPre G s R As h) (ZPost G s h h' (zret ro)) := z_back hfl (hM l G) hts (by rw [hk0]; exact hZW) (by omega) (by omega) hc.2.1 hc.2.2.1
  intro T1 hT X
  exact z_after hZR hl (callS X hx (bytes := cc') (maxL := nL') (ret := ret') hown (hts _ hlink) (hts _ hc.1) (hts _ hc.2.1) (hts _ hc.2.2.1) hc.2.2.2.1 hK (g := F0 m pc ls ((As.reverse ++ rest).map zv)) rfl (hl.1.trans hml.symm) (argsL := As.map zv) (rest := rest.map zv)
    (z_len hc.2.2.2 hn) (by simp [F0]) (z_cats hrest) (by rw [hb]; exact hd)
    (fun vm₁ hW₁ => ⟨rfl, by show ZH G s h T1.heap; rw [hT]; exact hZR.1, hroom.1, hroom.2⟩)) k
theorem z_callV (O : ZOk K cc own nm nL ret fr lc) (As : List ZV) {x : Option Nat} (v : ZV) {T : u_T} {N : Nat} (hc : CVf C y cc' nL' ret' n) (hlink : Cond.methodLink own index y ∈ lw_all)
    (hM : ∀ (l : Launch) (G : ZG), MZ l G y cc' nL' ret' fr' lc' (vr x :: As) h (.inl (some (zv v)), h')) (hck : ck h [t] x = some ()) (ht : zCl t = some (C, T, N)) (hn : As.length = n) (hR : fr' + 1 ≤ fr ∧ 8 + (nL' + 11) + lc' ≤ lc) (hrest : (rest.map zcat).sum ≤ 8) (hd : decode cc pc = .ok (.invokevirtual index, 3))
    (k : Zw K z h' (pc + 3) lv (v :: rest)) : Zw K z h pc lv (As.reverse ++ vr x :: rest) := z_callV_ (ro := some v) O As hc hlink hM hck ht hn hR hrest hd k
theorem z_callVv (O : ZOk K cc own nm nL ret fr lc) (As : List ZV) {x : Option Nat} {T : u_T} {N : Nat} (hc : CVf C y cc' nL' ret' n) (hlink : Cond.methodLink own index y ∈ lw_all)
    (hM : ∀ (l : Launch) (G : ZG), MZ l G y cc' nL' ret' fr' lc' (vr x :: As) h (.inl none, h')) (hck : ck h [t] x = some ()) (ht : zCl t = some (C, T, N)) (hn : As.length = n) (hR : fr' + 1 ≤ fr ∧ 8 + (nL' + 11) + lc' ≤ lc) (hrest : (rest.map zcat).sum ≤ 8) (hd : decode cc pc = .ok (.invokevirtual index, 3))
    (k : Zw K z h' (pc + 3) lv rest) : Zw K z h pc lv (As.reverse ++ vr x :: rest) := z_callV_ (ro := none) O As hc hlink hM hck ht hn hR hrest hd k
theorem z_callS (O : ZOk K cc own nm nL ret fr lc) (As : List ZV) (v : ZV) (hc : CSf y cc' nL' ret' n) (hlink : Cond.methodLink own index y ∈ lw_all)
    (hM : ∀ (l : Launch) (G : ZG), MZ l G y cc' nL' ret' fr' lc' As h (.inl (some (zv v)), h')) (hn : As.length = n) (hR : fr' + 1 ≤ fr ∧ 8 + (nL' + 11) + lc' ≤ lc) (hrest : (rest.map zcat).sum ≤ 8) (hd : decode cc pc = .ok (.invokestatic index, 3))
    (k : Zw K z h' (pc + 3) lv (v :: rest)) : Zw K z h pc lv (As.reverse ++ rest) := z_callS_ (ro := some v) O As hc hlink hM hn hR hrest hd k
theorem z_callSv (O : ZOk K cc own nm nL ret fr lc) (As : List ZV) (hc : CSf y cc' nL' ret' n) (hlink : Cond.methodLink own index y ∈ lw_all)
    (hM : ∀ (l : Launch) (G : ZG), MZ l G y cc' nL' ret' fr' lc' As h (.inl none, h')) (hn : As.length = n) (hR : fr' + 1 ≤ fr ∧ 8 + (nL' + 11) + lc' ≤ lc) (hrest : (rest.map zcat).sum ≤ 8) (hd : decode cc pc = .ok (.invokestatic index, 3))
    (k : Zw K z h' (pc + 3) lv rest) : Zw K z h pc lv (As.reverse ++ rest) := z_callS_ (ro := none) O As hc hlink hM hn hR hrest hd k
theorem z_callSN_ (O : ZOk K cc own nm nL ret fr lc) (As : List ZV) {ro : Option ZV} {host : String} (hc : CSf y cc' nL' ret' n) (hlink : Cond.methodLinkNest own index y host ∈ zNest)
    (hM : ∀ (l : Launch) (G : ZG), MZ l G y cc' nL' ret' fr' lc' As h (.inl (zret ro), h')) (hn : As.length = n) (hR : fr' + 1 ≤ fr ∧ 8 + (nL' + 11) + lc' ≤ lc) (hrest : (rest.map zcat).sum ≤ 8) (hd : decode cc pc = .ok (.invokestatic index, 3))
    (k : Zw K z h' (pc + 3) lv (ro.toList ++ rest)) : Zw K z h pc lv (As.reverse ++ rest) := by
  obtain ⟨G, p, l, e, R, s, m, args, below, meth, c, h0, nL2⟩ := K
  obtain ⟨hnL, hfl, hx, hb, hml, hown, hnm, hret, hlk, hts, hZW, hfr, hlc, hkc, hks⟩ := O
  subst hnL
  intro H locs cells slots ls hZR hl
  have hk0 : h.1 = h0.1 := hZR.2.1
  have hroom := hZR.room hkc hks
  have hK : Back l R p e below s args y 3 8 (ZPre G s R As h) (ZPost G s h h' (zret ro)) := z_back hfl (hM l G) hts (by rw [hk0]; exact hZW) (by omega) (by omega) hc.2.1 hc.2.2.1
  intro T1 hT X
  exact z_after hZR hl (va_callSN X hx (bytes := cc') (maxL := nL') (ret := ret') hown (va_Nw.use (zNest_warm _ hlink).1 (hZW.2.1 _ hlink)) (hts _ hc.1) (hts _ hc.2.1) (hts _ hc.2.2.1) hc.2.2.2.1 hK (g := F0 m pc ls ((As.reverse ++ rest).map zv)) rfl (hl.1.trans hml.symm) (argsL := As.map zv) (rest := rest.map zv)
    (z_len hc.2.2.2 hn) (by simp [F0]) (z_cats hrest) (by rw [hb]; exact hd)
    (fun vm₁ hW₁ => ⟨rfl, by show ZH G s h T1.heap; rw [hT]; exact hZR.1, hroom.1, hroom.2⟩)) k
theorem z_callSN (O : ZOk K cc own nm nL ret fr lc) (As : List ZV) (v : ZV) {host : String} (hc : CSf y cc' nL' ret' n) (hlink : Cond.methodLinkNest own index y host ∈ zNest)
    (hM : ∀ (l : Launch) (G : ZG), MZ l G y cc' nL' ret' fr' lc' As h (.inl (some (zv v)), h')) (hn : As.length = n) (hR : fr' + 1 ≤ fr ∧ 8 + (nL' + 11) + lc' ≤ lc) (hrest : (rest.map zcat).sum ≤ 8) (hd : decode cc pc = .ok (.invokestatic index, 3))
    (k : Zw K z h' (pc + 3) lv (v :: rest)) : Zw K z h pc lv (As.reverse ++ rest) := z_callSN_ (ro := some v) O As hc hlink hM hn hR hrest hd k
theorem z_callI_ (O : ZOk K cc own nm nL ret fr lc) (As : List ZV) {a : Nat} (hc : CIf y cc' nL' n) (hlink : Cond.methodLink own index y ∈ lw_all)
    (hM : ∀ (l : Launch) (G : ZG), MZ l G y cc' nL' none fr' lc' (vr (some a) :: As) h (.inl (zret none), h')) (hn : As.length = n) (hR : fr' + 1 ≤ fr ∧ 8 + (nL' + 11) + lc' ≤ lc) (hrest : (rest.map zcat).sum ≤ 8) (hd : decode cc pc = .ok (.invokespecial index, 3))
    (k : Zw K z h' (pc + 3) lv rest) : Zw K z h pc lv (As.reverse ++ vr (some a) :: rest) := by
  obtain ⟨G, p, l, e, R, s, m, args, below, meth, c, h0, nL2⟩ := K
  obtain ⟨hnL, hfl, hx, hb, hml, hown, hnm, hret, hlk, hts, hZW, hfr, hlc, hkc, hks⟩ := O
  subst hnL
  intro H locs cells slots ls hZR hl
  have hk0 : h.1 = h0.1 := hZR.2.1
  have hroom := hZR.room hkc hks
  have hK : Back l R p e below s args y 3 8 (ZPre G s R (vr (some a) :: As) h) (ZPost G s h h' (zret none)) := z_back hfl (hM l G) hts (by rw [hk0]; exact hZW) (by omega) (by omega) hc.2.2.1 hc.2.2.2.1
  intro T1 hT X
  exact z_after (ro := none) hZR hl (callI X hx (bytes := cc') (maxL := nL') hown hc.2.1 (hts _ hlink) (hts _ hc.1) (hts _ hc.2.2.2.1) hc.2.2.2.2.1 hK (g := F0 m pc ls ((As.reverse ++ vr (some a) :: rest).map zv)) rfl (hl.1.trans hml.symm) (a := a) (argsL := As.map zv) (rest := rest.map zv)
    (z_len hc.2.2.2.2 hn) (by simp [F0, zv, rf_some]) (z_cats hrest) (by rw [hb]; exact hd)
    (fun vm₁ hW₁ => ⟨rfl, by show ZH G s h T1.heap; rw [hT]; exact hZR.1, hroom.1, hroom.2⟩)) k
theorem z_callIN_ (O : ZOk K cc own nm nL ret fr lc) (As : List ZV) {a : Nat} {host : String} (hc : CIf y cc' nL' n) (hlink : Cond.methodLinkNest own index y host ∈ zNest)
    (hM : ∀ (l : Launch) (G : ZG), MZ l G y cc' nL' none fr' lc' (vr (some a) :: As) h (.inl (zret none), h')) (hn : As.length = n) (hR : fr' + 1 ≤ fr ∧ 8 + (nL' + 11) + lc' ≤ lc) (hrest : (rest.map zcat).sum ≤ 8) (hd : decode cc pc = .ok (.invokespecial index, 3))
    (k : Zw K z h' (pc + 3) lv rest) : Zw K z h pc lv (As.reverse ++ vr (some a) :: rest) := by
  obtain ⟨G, p, l, e, R, s, m, args, below, meth, c, h0, nL2⟩ := K
  obtain ⟨hnL, hfl, hx, hb, hml, hown, hnm, hret, hlk, hts, hZW, hfr, hlc, hkc, hks⟩ := O
  subst hnL
  intro H locs cells slots ls hZR hl
  have hk0 : h.1 = h0.1 := hZR.2.1
  have hroom := hZR.room hkc hks
  have hK : Back l R p e below s args y 3 8 (ZPre G s R (vr (some a) :: As) h) (ZPost G s h h' (zret none)) := z_back hfl (hM l G) hts (by rw [hk0]; exact hZW) (by omega) (by omega) hc.2.2.1 hc.2.2.2.1
  intro T1 hT X
  exact z_after (ro := none) hZR hl (va_callIN X hx (bytes := cc') (maxL := nL') hown hc.2.1 (va_Nw.use (zNest_warm _ hlink).1 (hZW.2.1 _ hlink)) (hts _ hc.1) (hts _ hc.2.2.2.1) hc.2.2.2.2.1 hK (g := F0 m pc ls ((As.reverse ++ vr (some a) :: rest).map zv)) rfl (hl.1.trans hml.symm) (a := a) (argsL := As.map zv) (rest := rest.map zv)
    (z_len hc.2.2.2.2 hn) (by simp [F0, zv, rf_some]) (z_cats hrest) (by rw [hb]; exact hd)
    (fun vm₁ hW₁ => ⟨rfl, by show ZH G s h T1.heap; rw [hT]; exact hZR.1, hroom.1, hroom.2⟩)) k
/-- Object's own constructor -/
theorem z_objInit (O : ZOk K cc own nm nL ret fr lc) {x : Option Nat} (h1 : Cond.methodLink own index Lib.objectInit ∈ lw_all) (h2 : Cond.instanceMethod Lib.objectInit ∈ lw_all) (h3 : Cond.code Lib.objectInit ⟨#[0xb1]⟩ 1 none ∈ lw_all) (hck : ∃ a, x = some a) (hR : 1 ≤ fr ∧ 20 ≤ lc) (hrest : (rest.map zcat).sum ≤ 8) (hd : decode cc pc = .ok (.invokespecial index, 3))
    (k : Zw K z h (pc + 3) lv rest) : Zw K z h pc lv (vr x :: rest) := by
  obtain ⟨G, p, l, e, R, s, m, args, below, meth, c, h0, nL2⟩ := K
  obtain ⟨hnL, hfl, hx, hb, hml, hown, hnm, hret, hlk, hts, hZW, hfr, hlc, hkc, hks⟩ := O
  subst hnL
  intro H locs cells slots ls hZR hl
  obtain ⟨a, rfl⟩ := hck
  have h8 := z_cats hrest (m := m) (pc := pc) (ls := ls) (st := (vr (some a) :: rest).map zv)
  exact W.objInit hx hb hown (hts _ h1) (hts _ h2) (hts _ h3) rfl (hl.1.trans hml.symm) rfl hd (by omega) (by omega) (k H locs cells slots ls hZR hl)
theorem ck_some {cs : List Nat} {x : Option Nat} (hv : ck h cs x = some ()) : ∃ a, x = some a := by
  obtain ⟨a, -, -, h1, -⟩ := ck_spec hv
  exact ⟨a, h1⟩
theorem zck {α : Type} {cs : List Nat} {x : Option Nat} {f : Unit → Option α} {r : α} (hr : (ck h cs x).bind f = some r) : ck h cs x = some () := by
  cases h1 : ck h cs x with
  | none => rw [h1] at hr; cases hr
  | some u => rfl
theorem b2s {α β : Type} {o : Option (α × AH)} {f : α → AH → Option β} {r : β} {P : Prop} (hr : b2 o f = some r) (k : ∀ v h', o = some (v, h') → f v h' = some r → P) : P := by
  cases o with
  | none => cases hr
  | some q => exact k q.1 q.2 rfl hr
theorem z_letI {e : Int32} {α : Type} {r : α} {f : Int32 → Option α} (hr : jlet e f = some r) (k : ∀ v, f v = some r → Zw K z h pc lv (vi v :: rest)) : Zw K z h pc lv (vi e :: rest) := k e hr
theorem z_letJ {e : Int64} {α : Type} {r : α} {f : Int64 → Option α} (hr : jlet e f = some r) (k : ∀ v, f v = some r → Zw K z h pc lv (vj v :: rest)) : Zw K z h pc lv (vj e :: rest) := k e hr
/-! returns -/
theorem z_iret (O : ZOk K cc own nm nL (some .int) fr lc) {x : Int32} (hd : decode cc pc = .ok (.ireturn, 1)) (hz : z = (.inl (some (.int x)), h)) : Zw K z h pc lv [vi x] := by
  obtain ⟨G, p, l, e, R, s, m, args, below, meth, c, h0, nL2⟩ := K
  obtain ⟨hnL, hfl, hx, hb, hml, hown, hnm, hret, hlk, hts, hZW, hfr, hlc, hkc, hks⟩ := O
  subst hnL; subst hz
  intro H locs cells slots ls hZR hl
  exact W.mono (z_end hZR) (W.iret hx hb hret (fun t ht _ => ⟨rfl, ht⟩) hZR.2.2.2.2.2.2 hd hlk)
theorem z_zret {ty : FieldType} (O : ZOk K cc own nm nL (some ty) fr lc) {x : Int32} (hn : narrow ty (.int x) = .int x) (hd : decode cc pc = .ok (.ireturn, 1)) (hz : z = (.inl (some (.int x)), h)) : Zw K z h pc lv [vi x] := by
  obtain ⟨G, p, l, e, R, s, m, args, below, meth, c, h0, nL2⟩ := K
  obtain ⟨hnL, hfl, hx, hb, hml, hown, hnm, hret, hlk, hts, hZW, hfr, hlc, hkc, hks⟩ := O
  subst hnL; subst hz
  intro H locs cells slots ls hZR hl
  exact W.mono (z_end hZR) (W.zret hx hb hret hn (fun t ht _ => ⟨rfl, ht⟩) hZR.2.2.2.2.2.2 hd hlk)
theorem z_lret (O : ZOk K cc own nm nL (some .long) fr lc) {x : Int64} (hd : decode cc pc = .ok (.lreturn, 1)) (hz : z = (.inl (some (.long x)), h)) : Zw K z h pc lv [vj x] := by
  obtain ⟨G, p, l, e, R, s, m, args, below, meth, c, h0, nL2⟩ := K
  obtain ⟨hnL, hfl, hx, hb, hml, hown, hnm, hret, hlk, hts, hZW, hfr, hlc, hkc, hks⟩ := O
  subst hnL; subst hz
  intro H locs cells slots ls hZR hl
  exact W.mono (z_end hZR) (W.lret hx hb hret (fun t ht _ => ⟨rfl, ht⟩) hZR.2.2.2.2.2.2 hd hlk)
theorem z_vret (O : ZOk K cc own nm nL none fr lc) (hd : decode cc pc = .ok (.return_, 1)) (hz : z = (.inl none, h)) : Zw K z h pc lv [] := by
  obtain ⟨G, p, l, e, R, s, m, args, below, meth, c, h0, nL2⟩ := K
  obtain ⟨hnL, hfl, hx, hb, hml, hown, hnm, hret, hlk, hts, hZW, hfr, hlc, hkc, hks⟩ := O
  subst hnL; subst hz
  intro H locs cells slots ls hZR hl
  exact W.mono (z_end hZR) (W.vret hx hb hret (fun t ht _ => ⟨rfl, ht⟩) hZR.2.2.2.2.2.2 hd hlk)
theorem z_aret {ty : FieldType} (O : ZOk K cc own nm nL (some ty) fr lc) {x : Option Nat} (hty : ty.isReference = true) (hd : decode cc pc = .ok (.areturn, 1)) (hz : z = (.inl (some (va_rf x)), h)) : Zw K z h pc lv [vr x] := by
  obtain ⟨G, p, l, e, R, s, m, args, below, meth, c, h0, nL2⟩ := K
  obtain ⟨hnL, hfl, hx, hb, hml, hown, hnm, hret, hlk, hts, hZW, hfr, hlc, hkc, hks⟩ := O
  subst hnL; subst hz
  intro H locs cells slots ls hZR hl
  refine W.mono (z_end hZR) (W.aret hx hb hret ?_ ?_ (fun t ht _ => ⟨rfl, ht⟩) hZR.2.2.2.2.2.2 hd hlk)
  · cases ty <;> first | exact Or.inl ⟨_, rfl⟩ | exact Or.inr ⟨_, rfl⟩ | cases hty
  · cases x
    · exact Or.inl rfl
    · exact Or.inr ⟨_, rfl⟩
/-! how a result of the shallow side is said as an end -/
abbrev eI (h : AH) (v : Int32) : ZT := (.inl (some (.int v)), h)
abbrev eJ (h : AH) (v : Int64) : ZT := (.inl (some (.long v)), h)
abbrev eR (h : AH) (v : Option Nat) : ZT := (.inl (some (va_rf v)), h)
abbrev eU (h : AH) (_ : Unit) : ZT := (.inl none, h)
abbrev eIH (q : Int32 × AH) : ZT := (.inl (some (.int q.1)), q.2)
abbrev eJH (q : Int64 × AH) : ZT := (.inl (some (.long q.1)), q.2)
abbrev eRH (q : Option Nat × AH) : ZT := (.inl (some (va_rf q.1)), q.2)
abbrev eH (q : AH) : ZT := (.inl none, q)
def eIX (q : (Int32 ⊕ Nat) × AH) : ZT := match q.1 with
  | .inl v => (.inl (some (.int v)), q.2)
  | .inr e => (.inr e, q.2)
def eRX (q : (Option Nat ⊕ Nat) × AH) : ZT := match q.1 with
  | .inl v => (.inl (some (va_rf v)), q.2)
  | .inr e => (.inr e, q.2)
def eUX (q : (Unit ⊕ Nat) × AH) : ZT := match q.1 with
  | .inl _ => (.inl none, q.2)
  | .inr e => (.inr e, q.2)
end ZCALL
