/-! METHODS WITH A TABLE OF HANDLERS; throw new NoSuchElementException() -/
set_option maxRecDepth 100000
/-- the body's table of handlers -/
def ZTab (K : ZC) (hh : List (Nat × Nat × Nat × Nat)) : Prop := match K with
  | (_, _, _, _, _, _, _, _, _, _, c, _, _) => c.exceptionTable.toList = tableOf hh
def MZH (l : Launch) (G : ZG) (y : MethodName) (cc : ByteArray) (nL : Nat) (ret : Option FieldType) (hh : List (Nat × Nat × Nat × Nat)) (fr lc : Nat) (As : List ZV) (h : AH) (z : ZT) : Prop :=
  l.flags = flags0 → ∀ rm : Room, fr ≤ rm.frames → lc ≤ rm.locals → h.1.2.1 ≤ h.2.1 + rm.cells → h.1.2.2.1 ≤ h.2.2.1 + rm.slots →
    MetFree l y (headSpec (wsW_ y cc nL ret hh) rm) (fun a U => a = (As.map zv).toArray ∧ ZH G U h U.heap ∧ ZW G U h.1) (fun _ _ _ _ _ => True) (fun _ st o t => ZO G st h z o t)
theorem MZH.of {l : Launch} {G : ZG} {y : MethodName} {cc : ByteArray} {nL : Nat} {ret : Option FieldType} {hh : List (Nat × Nat × Nat × Nat)} {fr lc : Nat} {As : List ZV} {h : AH} {z : ZT} (hy : plainName y.cls = true)
    (lv : List (Nat × ZV)) (hlv : za 0 As = lv) (hlen : (As.map zcat).sum ≤ nL)
    (body : ∀ K : ZC, ZOk K cc y.cls y.name nL ret fr lc → ZTab K hh → Zw K z h 0 lv []) : MZH l G y cc nL ret hh fr lc As h z := by
  intro hfl rm hfr hlc hk hs
  refine MetFree.of_bodyS (code := cc) (maxLocals := nL) (ret := ret) hy ?_ ?_
  · intro args s m h1 hn
    obtain ⟨m9, meth, c, hn9, h1, h2, h3, h4, -, h5, h6, -⟩ := Cond.codeWith_spec (atoms_spec (ws := wsW_ y cc nL ret hh) h1 _ List.mem_cons_self)
    cases hn.symm.trans hn9
    exact ⟨meth, c, h1, h2, h3, h4, h5, h6⟩
  · intro p e s m args below meth c s₁ B hml hP _
    obtain ⟨rfl, hH, hZ⟩ := hP
    have hts := atoms_spec (ws := wsW_ y cc nL ret hh) B.pre
    have hh0 : s₁.heap = s.heap := by rw [B.state]; rfl
    have ht : c.exceptionTable.toList = tableOf hh := vx_table (x := y) B (hts _ List.mem_cons_self)
    have hb := body (G, p, l, e, (headSpec (wsW_ y cc nL ret hh) rm).room, s, m, (As.map zv).toArray, below, meth, c, h, nL) ⟨rfl, hfl, B.exec, B.bytes, hml, findClass_of_methodNamed B.named, (name_of_methodNamed B.named B.method).1, B.returns, B.notSynchronized, fun w hw => hts w (List.mem_cons_of_mem _ hw), hZ, hfr, hlc, hk, hs⟩ ht
    have hl := lv_entry (As.map zv) (n := nL) (by rw [za_len]; exact hlen)
    rw [za_eq, hlv] at hl
    have hw := hb s.heap [] 0 0 _ ⟨hH, rfl, Nat.le_refl _, Nat.le_refl _, (Nat.sub_self _).symm, (Nat.sub_self _).symm, fun q hq => by cases hq⟩ hl
    rw [List.map_nil, ← lg_entry_eq m (As.map zv) nL] at hw
    obtain ⟨t, a1, o, b1, b2, b3⟩ := hw s₁ hh0 (Stand.of_body B)
    exact ⟨t, o, a1, b1, b2, b3⟩
def CVHf (C : String) (y : MethodName) (cc : ByteArray) (nL : Nat) (ret : Option FieldType) (hh : List (Nat × Nat × Nat × Nat)) (n : Nat) : Prop := Cond.instanceMethod y ∈ lw_all ∧ Cond.selects C y y ∈ lw_all ∧ Cond.initialized y.cls ∈ lw_all ∧ Cond.codeWith y cc nL ret hh ∈ lw_all ∧ YK y n
def CSHf (y : MethodName) (cc : ByteArray) (nL : Nat) (ret : Option FieldType) (hh : List (Nat × Nat × Nat × Nat)) (n : Nat) : Prop := Cond.static y ∈ lw_all ∧ Cond.initialized y.cls ∈ lw_all ∧ Cond.codeWith y cc nL ret hh ∈ lw_all ∧ YK y n
section BACKH
variable {p : Program} {l : Launch} {e : Env} {R : Room} {s : State} {m : MethodId} {args : Array Value} {below : List Frame} {meth : Method} {c : Code} {G : ZG} {y : MethodName} {cc' : ByteArray} {nL' : Nat} {ret' : Option FieldType} {hh : List (Nat × Nat × Nat × Nat)} {fr' lc' : Nat} {As : List ZV} {h h' : AH} {ov : Option Value}
theorem z_backH (hfl : l.flags = flags0) (hM : MZH l G y cc' nL' ret' hh fr' lc' As h (.inl ov, h')) (hts : ∀ w ∈ lw_all, w.before args s = true) (hZW : ZW G s h.1) (hfr : fr' + 1 ≤ R.frames) (hlc : 8 + (nL' + 11) + lc' ≤ R.locals)
    (hini : Cond.initialized y.cls ∈ lw_all) (hcode : Cond.codeWith y cc' nL' ret' hh ∈ lw_all) : Back l R p e below s args y 3 8 (ZPre G s R As h) (ZPost G s h h' ov) := by
  have hws : ∀ w ∈ wsW_ y cc' nL' ret' hh, ∀ (a' : Array Value) (U : State), s.WarmedH U.vm → w.before a' U = true := pay_in hts (lw_methW hcode)
  refine va_ofFreeW (S := headSpec (wsW_ y cc' nL' ret' hh) ({ frames := fr', cells := h.1.2.1 - h.2.1, slots := h.1.2.2.1 - h.2.2.1, locals := lc' } : Room)) (bytes := cc') (maxL := nL') (ret := ret') (hh := hh)
    (E := fun a st o t L k n => k = h'.2.1 - h.2.1 ∧ n = h'.2.2.1 - h.2.2.1 ∧ ∀ q ∈ L, h.1.1 ≤ q.base) (hM hfl _ (Nat.le_refl _) (Nat.le_refl _) (by show h.1.2.1 ≤ h.2.1 + (h.1.2.1 - h.2.1); omega) (by show h.1.2.2.1 ≤ h.2.2.1 + (h.1.2.2.1 - h.2.2.1); omega)) hfr hlc ?_ ?_ (fun _ _ _ _ _ _ _ _ _ => trivial) ?_ ?_
  · intro m meth c A a X hp
    exact ⟨atoms_intro fun w hw => hws w hw _ _ X.warmed, hws _ List.mem_cons_self _ _ X.warmed, word_at X.warmed (Or.inl (by first | rfl | simp [Cond.onTables, Cond.keeps, Cond.steady])) (hts _ hini), hp.2.2.1, hp.2.2.2⟩
  · intro m meth c A a g mk X hp
    exact ⟨hp.1, (hp.2.1.moved X.warmed.alike).moved (Vm.Alike.refl _), hZW.warm (U := A.U.calling g mk a) X.warmed⟩
  · intro a st o t hq
    obtain ⟨q1, q2, q3, q4, q5, L, q6, q7, q8⟩ := hq
    exact ⟨L, _, _, ⟨⟨ov, q5⟩, q6, q7⟩, rfl, rfl, q8⟩
  · intro m meth c A a g mk v t L k n X hp hq hF hE
    obtain ⟨q1, q2, q3, q4, q5, -⟩ := hq
    obtain ⟨e1, e2, e3⟩ := hE
    cases q5
    refine ⟨rfl, q4.moved X.warmed.alike.symm, q1, q2, q3, ?_, ?_, L, rfl, e3⟩
    · show A.cells + k = _
      rw [e1]
    · show A.slots + n = _
      rw [e2]
end BACKH
section ZCALLH
variable {K : ZC} {cc : ByteArray} {own nm : String} {nL : Nat} {ret : Option FieldType} {fr lc : Nat} {z : ZT} {h h' : AH} {pc : Nat} {lv : List (Nat × ZV)} {rest : List ZV} {C : String} {y : MethodName} {cc' : ByteArray} {nL' : Nat} {ret' : Option FieldType} {hh : List (Nat × Nat × Nat × Nat)} {fr' lc' n index t : Nat}
theorem z_callVH (O : ZOk K cc own nm nL ret fr lc) (As : List ZV) {x : Option Nat} (v : ZV) {T : u_T} {N : Nat} (hc : CVHf C y cc' nL' ret' hh n) (hlink : Cond.methodLink own index y ∈ lw_all)
    (hM : ∀ (l : Launch) (G : ZG), MZH l G y cc' nL' ret' hh fr' lc' (vr x :: As) h (.inl (some (zv v)), h')) (hck : ck h [t] x = some ()) (ht : zCl t = some (C, T, N)) (hn : As.length = n) (hR : fr' + 1 ≤ fr ∧ 8 + (nL' + 11) + lc' ≤ lc) (hrest : (rest.map zcat).sum ≤ 8) (hd : decode cc pc = .ok (.invokevirtual index, 3))
    (k : Zw K z h' (pc + 3) lv (v :: rest)) : Zw K z h pc lv (As.reverse ++ vr x :: rest) := by
  obtain ⟨G, p, l, e, R, s, m, args, below, meth, c, h0, nL2⟩ := K
  obtain ⟨hnL, hfl, hx, hb, hml, hown, hnm, hret, hlk, hts, hZW, hfr, hlc, hkc, hks⟩ := O
  subst hnL
  intro H locs cells slots ls hZR hl
  obtain ⟨a, c1, hc1, rfl, fs, he⟩ := ck_spec hck
  have hc1 : c1 = t := by simpa using hc1
  subst hc1
  obtain ⟨cell, q1, q2, q3, q4, q5, q6, q7⟩ := z_obj hZR.1 he ht
  have hcls : s.vm.findClass C = some cell.cls := by rw [q2]; exact (hZW.1 _ _ ht).2.1
  have hk0 : h.1 = h0.1 := hZR.2.1
  have hroom := hZR.room hkc hks
  have hK : Back l R p e below s args y 3 8 (ZPre G s R (vr (some a) :: As) h) (ZPost G s h h' (zret (some v))) := z_backH hfl (hM l G) hts (by rw [hk0]; exact hZW) (by omega) (by omega) hc.2.2.1 hc.2.2.2.1
  intro T1 hT X
  exact z_after (ro := some v) hZR hl (vx_callVW X hx (C := C) (bytes := cc') (maxL := nL') (ret := ret') (hh := hh) hown (hts _ hlink) (hts _ hc.1) (hts _ hc.2.1) (hts _ hc.2.2.2.1) hc.2.2.2.2.1 hK (by rw [hT]; exact q1) q4 hcls (g := F0 m pc ls ((As.reverse ++ vr (some a) :: rest).map zv)) rfl (hl.1.trans hml.symm) (argsL := As.map zv) (rest := rest.map zv)
    (z_len hc.2.2.2.2 hn) (by simp [F0, zv, rf_some]) (z_cats hrest) (by rw [hb]; exact hd)
    (fun vm₁ hW₁ => ⟨rfl, by show ZH G s h T1.heap; rw [hT]; exact hZR.1, hroom.1, hroom.2⟩)) k
theorem z_callSH (O : ZOk K cc own nm nL ret fr lc) (As : List ZV) (v : ZV) (hc : CSHf y cc' nL' ret' hh n) (hlink : Cond.methodLink own index y ∈ lw_all)
    (hM : ∀ (l : Launch) (G : ZG), MZH l G y cc' nL' ret' hh fr' lc' As h (.inl (some (zv v)), h')) (hn : As.length = n) (hR : fr' + 1 ≤ fr ∧ 8 + (nL' + 11) + lc' ≤ lc) (hrest : (rest.map zcat).sum ≤ 8) (hd : decode cc pc = .ok (.invokestatic index, 3))
    (k : Zw K z h' (pc + 3) lv (v :: rest)) : Zw K z h pc lv (As.reverse ++ rest) := by
  obtain ⟨G, p, l, e, R, s, m, args, below, meth, c, h0, nL2⟩ := K
  obtain ⟨hnL, hfl, hx, hb, hml, hown, hnm, hret, hlk, hts, hZW, hfr, hlc, hkc, hks⟩ := O
  subst hnL
  intro H locs cells slots ls hZR hl
  have hk0 : h.1 = h0.1 := hZR.2.1
  have hroom := hZR.room hkc hks
  have hK : Back l R p e below s args y 3 8 (ZPre G s R As h) (ZPost G s h h' (zret (some v))) := z_backH hfl (hM l G) hts (by rw [hk0]; exact hZW) (by omega) (by omega) hc.2.1 hc.2.2.1
  intro T1 hT X
  exact z_after (ro := some v) hZR hl (vx_callSW X hx (bytes := cc') (maxL := nL') (ret := ret') (hh := hh) hown (hts _ hlink) (hts _ hc.1) (hts _ hc.2.1) (hts _ hc.2.2.1) hc.2.2.2.1 hK (g := F0 m pc ls ((As.reverse ++ rest).map zv)) rfl (hl.1.trans hml.symm) (argsL := As.map zv) (rest := rest.map zv)
    (z_len hc.2.2.2 hn) (by simp [F0]) (z_cats hrest) (by rw [hb]; exact hd)
    (fun vm₁ hW₁ => ⟨rfl, by show ZH G s h T1.heap; rw [hT]; exact hZR.1, hroom.1, hroom.2⟩)) k
/-- a call that ends in a throw, caught here by the one row of the table -/
theorem z_callVc (O : ZOk K cc own nm nL ret fr lc) {fa ta ha ct : Nat} (E : ZTab K [(fa, ta, ha, ct)]) (As : List ZV) {x : Option Nat} {q0 tq Nq : Nat} {T Tq : u_T} {N : Nat} {Cq : String} (hc : CVf C y cc' nL' ret' n) (hlink : Cond.methodLink own index y ∈ lw_all)
    (hM : ∀ (l : Launch) (G : ZG), MZ l G y cc' nL' ret' fr' lc' (vr x :: As) h (.inr q0, h')) (hck : ck h [t] x = some ()) (ht : zCl t = some (C, T, N)) (hn : As.length = n) (hR : fr' + 1 ≤ fr ∧ 8 + (nL' + 11) + lc' ≤ lc) (hrest : (rest.map zcat).sum ≤ 8) (hd : decode cc pc = .ok (.invokevirtual index, 3))
    (hcov : fa ≤ pc ∧ pc < ta) (hct : ct ≠ 0) (hclk : Cond.classLink own ct Cq ∈ lw_all) (hcast : Cond.castable Cq Cq ∈ zNest) (htq : zCl tq = some (Cq, Tq, Nq)) (hq : ck h' [tq] (some q0) = some ()) (hB : hB h' ≤ q0)
    (k : Zw K z h' ha lv [vr (some q0)]) : Zw K z h pc lv (As.reverse ++ vr x :: rest) := by
  obtain ⟨G, p, l, e, R, s, m, args, below, meth, c, h0, nL2⟩ := K
  obtain ⟨hnL, hfl, hx, hb, hml, hown, hnm, hret, hlk, hts, hZW, hfr, hlc, hkc, hks⟩ := O
  subst hnL
  intro H locs cells slots ls hZR hl
  obtain ⟨a, c1, hc1, rfl, fs, he⟩ := ck_spec hck
  have hc1 : c1 = t := by simpa using hc1
  subst hc1
  obtain ⟨cell, q1, q2, q3, q4, q5, q6, q7⟩ := z_obj hZR.1 he ht
  have hcls : s.vm.findClass C = some cell.cls := by rw [q2]; exact (hZW.1 _ _ ht).2.1
  have hk0 : h.1 = h0.1 := hZR.2.1
  have hroom := hZR.room hkc hks
  have hK : vx_Back l R p e below s args y 3 8 (ZPre G s R (vr (some a) :: As) h) (fun _ _ _ _ => False) (ZPostX G s h h' q0) := z_backX hfl (hM l G) hts (by rw [hk0]; exact hZW) (by omega) (by omega) hc.2.2.1 hc.2.2.2.1
  intro T1 hT X
  have hE : c.exceptionTable.toList = tableOf [(fa, ta, ha, ct)] := E
  rcases vx_callV X hx (C := C) (bytes := cc') (maxL := nL') (ret := ret') hown (hts _ hlink) (hts _ hc.1) (hts _ hc.2.1) (hts _ hc.2.2.2.1) hc.2.2.2.2.1 hK (by rw [hT]; exact q1) q4 hcls (g := F0 m pc ls ((As.reverse ++ vr (some a) :: rest).map zv)) rfl (hl.1.trans hml.symm) (argsL := As.map zv) (rest := rest.map zv)
    (z_len hc.2.2.2.2 hn) (by simp [F0, zv, rf_some]) (z_cats hrest) (by rw [hb]; exact hd)
    (fun vm₁ hW₁ => ⟨rfl, by show ZH G s h T1.heap; rw [hT]; exact hZR.1, hroom.1, hroom.2⟩) with ⟨_, _, _, _, _, hF, _⟩ | ⟨q, vm₁, ⟨U', l2, c2, s2⟩, hW₁, X', ⟨b1, b2, b3, b4, b5, b6, b7, L, b8, b9⟩, st⟩
  · exact hF.elim
  · dsimp only [Pt.U, Pt.locs, Pt.cells, Pt.slots] at X' b1 b2 b6 b7 b8 st
    subst b6; subst b7; subst b8; subst b1
    have hZ2 := hZR.call b2 b3 b4 b5 b9
    obtain ⟨a2, c2, hc2, ea2, fs2, he2⟩ := ck_spec hq
    cases ea2
    have hc2 : c2 = tq := by simpa using hc2
    subst hc2
    obtain ⟨cell2, w1, w2, w3, w4, w5, w6, w7⟩ := z_obj hZ2.1 he2 htq
    have hfcq : s.vm.findClass Cq = some cell2.cls := by rw [w2]; exact (hZW.1 _ _ htq).2.1
    have hcast2 : (Cond.castable Cq Cq).before args s = true := va_Nw.use rfl (hZW.2.1 _ hcast)
    have hcat := vx_catch (p := p) (l := l) (e := e) (R := R) (below := below) (meth := meth) (c := c) (H := U'.heap) (locs := locs ++ L) (cells := cells + (h'.2.1 - h.2.1)) (slots := slots + (h'.2.2.1 - h.2.2.1)) (Q := ZQ G s below h0 z) (ls := ls) (pc := pc) (rest := rest.map zv) (q := q) hown [] _ [] (hE.trans (by rfl)) (fun z hz => by cases hz) (by simp [covers]; omega) hct (hts _ hclk) hcast2 w1 (w5 hB) hfcq (k U'.heap _ _ _ ls hZ2 hl)
    obtain ⟨t2, a1, a2⟩ := hcat U' rfl X'
    exact ⟨t2, st.trans a1, a2⟩
end ZCALLH
theorem zthr_good : ∀ w ∈ (vx_at0 "YearSkins" 411 "java/util/NoSuchElementException" ["java/lang/RuntimeException", "java/lang/Exception"]).filter goodWord, w ∈ lw_all := lw_in _ [128, 193, 202, 205, 208, 210, 194, 195, 163, 164, 196, 201, 206, 229, 183, 230, 185, 231, 187, 197, 199, 189, 1745, 1746, 1747, 1748, 1748, 1749, 1750, 1751, 1751, 1752, 1753, 194, 1744, 1736, 1738, 204, 1739, 1740, 1741, 1742, 192, 191, 1743] (by decide +kernel) (by decide +kernel)
theorem zthr_bad : (vx_at0 "YearSkins" 411 "java/util/NoSuchElementException" ["java/lang/RuntimeException", "java/lang/Exception"]).filter (fun w => !goodWord w) = [(Jvm.Cond.declares ({ cls := "java/lang/RuntimeException", name := "<init>", desc := "()V" } : Jvm.MethodName)), (Jvm.Cond.declares ({ cls := "java/lang/Exception", name := "<init>", desc := "()V" } : Jvm.MethodName)), (Jvm.Cond.declares ({ cls := "java/lang/Throwable", name := "<init>", desc := "()V" } : Jvm.MethodName)), (Jvm.Cond.castable "java/util/NoSuchElementException" "java/util/NoSuchElementException")] := by decide +kernel
def nse (h : AH) : Option (Nat × AH) := if h.2.1 + 1 ≤ h.1.2.1 ∧ h.2.2.1 + 6 ≤ h.1.2.2.1 then some (h.2.1, hN h 6 (23, .inl [])) else none
/-- a call that may throw, under a handler -/
def xc {α β : Type} (r : Option ((α ⊕ Nat) × AH)) (f : α → AH → Option β) (g : Nat → AH → Option β) : Option β := r.bind fun q => match q.1 with
  | .inl v => f v q.2
  | .inr e => g e q.2
theorem xcs {α β : Type} {o : Option ((α ⊕ Nat) × AH)} {f : α → AH → Option β} {g : Nat → AH → Option β} {r : β} {P : Prop} (hr : xc o f g = some r) (k1 : ∀ v h', o = some (.inl v, h') → f v h' = some r → P) (k2 : ∀ e h', o = some (.inr e, h') → g e h' = some r → P) : P := by
  unfold xc at hr
  refine bs hr (fun q hq hr => ?_)
  obtain ⟨q1, q2⟩ := q
  cases q1 with
  | inl v => exact k1 v q2 hq hr
  | inr e => exact k2 e q2 hq hr
/-- the thrown object is of the class that the handler takes -/
def cth (h : AH) (t e : Nat) : Option Unit := if hB h ≤ e then ck h [t] (some e) else none
theorem cth_spec {h : AH} {t e : Nat} {u : Unit} (hr : cth h t e = some u) : hB h ≤ e ∧ ck h [t] (some e) = some () := by
  unfold cth at hr
  split at hr
  · rename_i hb
    exact ⟨hb, hr⟩
  · cases hr

theorem z_nse {K : ZC} {cc : ByteArray} {nm : String} {nL : Nat} {ret : Option FieldType} {fr lc : Nat} (O : ZOk K cc "YearSkins" nm nL ret fr lc) (E : ZEx K) {z : ZT} {h : AH} {pc ik : Nat} {lv : List (Nat × ZV)} {rest : List ZV} {q : Nat × AH} (hq : nse h = some q) (hz : z = (.inr q.1, q.2))
    (hk : Cond.classLink "YearSkins" ik "java/util/NoSuchElementException" ∈ lw_all) (hrest : (rest.map zcat).sum ≤ 8) (hR : 6 ≤ fr ∧ 100 ≤ lc)
    (d0 : decode cc pc = .ok (.new ik, 3)) (d3 : decode cc (pc + 3) = .ok (.dup, 1)) (d4 : decode cc (pc + 4) = .ok (.invokespecial 411, 3)) (d7 : decode cc (pc + 7) = .ok (.athrow, 1)) : Zw K z h pc lv rest := by
  obtain ⟨G, p, l, e, R, s, m, args, below, meth, c, h0, nL2⟩ := K
  obtain ⟨hnL, hfl, hx, hb, hml, hown, hnm, hret, hlk, hts, hZW, hfr, hlc, hkc, hks⟩ := O
  subst hnL; subst hz
  intro H locs cells slots ls hR2 hl T hT X
  unfold nse at hq
  refine zite hq (fun hroom hq2 => ?_) (fun _ hq2 => by cases hq2)
  cases hq2
  have hE : c.exceptionTable.toList = [] := E
  have hk0 : h.1 = h0.1 := hR2.2.1
  obtain ⟨r1, r2, r3, r4, r5, r6, r7⟩ := id hR2
  have hc1 : cells + 1 ≤ R.cells := by
    have := hroom.1; rw [hk0] at this; omega
  have hc2 : slots + 6 ≤ R.slots := by
    have := hroom.2; rw [hk0] at this; omega
  have hcat : ((rest.map zv).map fun v => v.category).sum ≤ 8 := by
    rw [show ((rest.map zv).map fun v => v.category) = rest.map zcat by rw [List.map_map]; exact List.map_congr_left (fun v _ => zcat_eq v)]
    exact hrest
  have htr : e.platform.stackTraces = false := (show e.platform.stackTraces = l.stackTraces by rw [X.admits.platform]).trans (by unfold Launch.stackTraces; rw [hfl]; decide)
  have Y := vx_rebase X (R' := { frames := R.frames, locals := R.locals, cells := 1, slots := 6 }) (Nat.le_refl _) (Nat.le_refl _) hc1 hc2
  obtain ⟨s', hA⟩ : ∃ z, z = (T.setVm s.vm).setFrames (.invoking m args :: below) := ⟨_, rfl⟩
  rw [← hA] at Y
  have hvm : s'.vm = s.vm := by rw [hA]; rfl
  have hhp : s'.heap = H := by rw [hA]; exact hT
  have hW0 : s.WarmedH s'.vm := by rw [hvm]; exact State.WarmedH.refl s
  have hgood : ∀ w ∈ vx_at0 "YearSkins" 411 "java/util/NoSuchElementException" ["java/lang/RuntimeException", "java/lang/Exception"], vx_ot w = true := by decide +kernel
  have hat : ∀ w ∈ vx_at0 "YearSkins" 411 "java/util/NoSuchElementException" ["java/lang/RuntimeException", "java/lang/Exception"], w.before args s = true := vx_hat (B := [(Jvm.Cond.declares ({ cls := "java/lang/RuntimeException", name := "<init>", desc := "()V" } : Jvm.MethodName)), (Jvm.Cond.declares ({ cls := "java/lang/Exception", name := "<init>", desc := "()V" } : Jvm.MethodName)), (Jvm.Cond.declares ({ cls := "java/lang/Throwable", name := "<init>", desc := "()V" } : Jvm.MethodName)), (Jvm.Cond.castable "java/util/NoSuchElementException" "java/util/NoSuchElementException")]) (fun w hw => hts _ (zthr_good w hw)) (fun w hw => by rw [zthr_bad] at hw; exact hw) (by
    intro w hw
    simp only [List.mem_cons, List.not_mem_nil, or_false] at hw
    rcases hw with rfl | rfl | rfl | rfl
    · exact va_Nw.use rfl (hZW.2.1 _ zn174)
    · exact va_Nw.use rfl (hZW.2.1 _ zn176)
    · exact va_Nw.use rfl (hZW.2.1 _ zn178)
    · exact va_Nw.use rfl (hZW.2.1 _ zn1737))
  have hat' : ∀ w ∈ vx_at0 "YearSkins" 411 "java/util/NoSuchElementException" ["java/lang/RuntimeException", "java/lang/Exception"], w.before args s' = true := fun w hw => vx_ot_at hW0 hvm.symm (hgood w hw) (hat w hw)
  have hk' : (Cond.classLink "YearSkins" ik "java/util/NoSuchElementException").before args s' = true := vx_ot_at hW0 hvm.symm rfl (hts _ hk)
  have hini' : (Cond.initialized "java/util/NoSuchElementException").before args s' = true := vx_ot_at hW0 hvm.symm rfl (hts _ q156)
  have hS : ∀ a : Nat, a < G.2.size → ¬ h0.1.1 ≤ a → H[a]? = G.2[a]? := fun a _ ha => r1.2.2.2.2.2.1 a (by rw [hk0]; exact Nat.not_le.mp ha)
  have hU' : vx_Zq Bundle.tN "UNASSIGNED_STACK" Bundle.steD (fun a => h0.1.1 ≤ a) s' s'.heap := by rw [hhp]; exact vx_Zq.moved hW0.alike ((hZW.2.2.2.2.2.2.2 ("java/lang/Throwable", "UNASSIGNED_STACK", "[Ljava/lang/StackTraceElement;") (List.mem_of_getElem? (i := 0) rfl)).kept hS)
  have hN' : vx_Zq Bundle.tN "SUPPRESSED_SENTINEL" Bundle.listD (fun a => h0.1.1 ≤ a) s' s'.heap := by rw [hhp]; exact vx_Zq.moved hW0.alike ((hZW.2.2.2.2.2.2.2 ("java/lang/Throwable", "SUPPRESSED_SENTINEL", "Ljava/util/List;") (List.mem_of_getElem? (i := 1) rfl)).kept hS)
  have h9 : ∀ w ∈ Bundle.ownAtoms0 "YearSkins" 411 "java/util/NoSuchElementException" ["java/lang/RuntimeException", "java/lang/Exception"], w.before args s' = true := vx_own hat' (vx_isRefq hU'.1) (vx_isRefq hN'.1) hU'.2.word hN'.2.word
  have hown' : s'.vm.findClass "YearSkins" = some m.cls := by rw [hvm]; exact hown
  have hins : (Cond.instantiable "java/util/NoSuchElementException" 6).before args s' = true := h9 _ (by simp [Bundle.ownAtoms0])
  obtain ⟨vm₁, cX, kX, hfX, hkX, -, -, X₁, st1⟩ := Y.newCold hx (own := "YearSkins") (C := "java/util/NoSuchElementException") (index := ik) (n := 6) hown' hk' hins hini'
    (g := F0 m pc ls (rest.map zv)) rfl (by rw [hb]; exact d0) (Nat.le_refl _) (Nat.le_refl _)
  generalize hT1 : (T.setVm vm₁).pushCell { cls := cX, slots := kX.instanceTypes.map defaultValue, vm := .none } = T1 at X₁ st1
  have hcat1 : (Value.ref T.heap.size).category = 1 := rfl
  have hcellA : T1.heap[T.heap.size]? = some (freshCell cX kX) := by rw [← hT1]; exact State.heap_pushCell_size _ _
  have d3' : decode c.code (pc + 3) = .ok (.dup, 1) := by rw [hb]; exact d3
  obtain ⟨U, hsteps, hrun, hend, hW, hsame, ce, hce, hO⟩ := X₁.ctorThrow0 hx htr (own := "YearSkins") (cls := "java/util/NoSuchElementException") (names := ["java/lang/RuntimeException", "java/lang/Exception"]) (ic := 411) hown' (by decide) (by decide) h9 (fun x hx => nomatch hx) hfX hkX hcellA (by rw [hhp, hT]; exact Nat.le_refl _)
    (g := { method := m, pc := pc + 4, locals := ls, stack := .ref T.heap.size :: .ref T.heap.size :: rest.map zv, locked := none }) rfl (hl.1.trans hml.symm) rfl rfl (rest := rest.map zv) rfl
    (by rw [hb]; exact d4) (by rw [hb]; exact d7) (fun x hx => by rw [hE] at hx; cases hx) (by show 2 + 3 < R.frames; omega) (by simp only [List.map_cons, List.sum_cons, hcat1]; show _ ≤ R.locals; simp only [List.length_cons, List.length_nil]; omega) hlk
  obtain ⟨f1, f2⟩ := vx_frame hsame
  rw [hhp] at f1 f2
  have hWs : s.WarmedH U.vm := State.WarmedH.trans hW0 hW
  have hall : s.sameButNew ({ U with vm := s.vm } : State) locs (cells + 1) (slots + 6) := by
    subst hA
    obtain ⟨e1, e2⟩ := hsame
    rw [State.setFrames_setFrames] at e1
    have h2 : (T.setVm s.vm).sameButNew ({ U with vm := s.vm } : State) [] (0 + 1) (0 + 6) := ⟨e1, e2⟩
    have h3 := X.same.trans h2
    rw [List.append_nil] at h3
    exact h3
  have hlt : T.heap.size < U.heap.size := (Array.getElem?_eq_some_iff.mp hce).1
  have hle : U.heap.size ≤ s'.heap.size + (0 + 1) := hsame.2.2.1
  have hsz : H.size = h.2.1 := r1.1
  rw [hhp] at hle
  rw [hT] at hlt
  refine ⟨U, ?_, .threw T.heap.size, hrun, hend, r2, ?_, ?_, ?_, ?_, locs, hWs, ?_, r7⟩
  · refine st1 _ ?_
    show Steps p.tables e below (T1.setTop { method := m, pc := pc + 3, locals := ls, stack := .ref T.heap.size :: rest.map zv, locked := none }) _
    jvm_step X₁.here [X₁.here.top, hx, d3', Value.category]
    exact hsteps
  · show h0.2.1 ≤ h.2.1 + 1
    omega
  · show h0.2.2.1 ≤ h.2.2.1 + 6
    omega
  · have hfc : s.vm.findClass "java/util/NoSuchElementException" = some ce.cls := by
      have h9 := hO.cls
      rw [hvm] at h9
      exact h9
    have hcls : ce.cls = G.1.1 23 := Option.some.inj (hfc.symm.trans (hZW.1 23 _ rfl).2.1)
    have hTs : T.heap.size = h.2.1 := by rw [hT]; exact hsz
    have hce2 : U.heap[h.2.1]? = some ce := by rw [← hTs]; exact hce
    exact (ZH.push r1 hroom.1 hroom.2 (n := 6) (e := (23, .inl [])) (H1 := U.heap) (by omega) (fun q hq => f2 q hq (fun z hz => nomatch hz)) ⟨_, ce, rfl, hce2, hcls, (by rw [hO.vm]; exact fun q => by cases q), (by rw [hO.vm]; rfl), (fun _ => hO.vm), Nat.zero_le _, (fun k v hkv => by cases k <;> cases hkv)⟩)
  · show Outcome.threw T.heap.size = Outcome.threw h.2.1
    rw [hT, hsz]
  · show s.sameButNew ({ U with vm := s.vm } : State) locs (h.2.1 + 1 - h0.2.1) (h.2.2.1 + 6 - h0.2.2.1)
    rw [show h.2.1 + 1 - h0.2.1 = cells + 1 by omega, show h.2.2.1 + 6 - h0.2.2.1 = slots + 6 by omega]
    exact hall
