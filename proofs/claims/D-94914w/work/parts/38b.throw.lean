/-! METHODS THAT MAY THROW, over abstract heaps; methods with a table of their own -/
set_option maxRecDepth 100000
/-- the body has no table of handlers -/
def ZEx (K : ZC) : Prop := match K with
  | (_, _, _, _, _, _, _, _, _, _, c, _, _) => c.exceptionTable.toList = []
theorem MZ.ofT {l : Launch} {G : ZG} {y : MethodName} {cc : ByteArray} {nL : Nat} {ret : Option FieldType} {fr lc : Nat} {As : List ZV} {h : AH} {z : ZT} (hy : plainName y.cls = true)
    (lv : List (Nat × ZV)) (hlv : za 0 As = lv) (hlen : (As.map zcat).sum ≤ nL)
    (body : ∀ K : ZC, ZOk K cc y.cls y.name nL ret fr lc → ZEx K → Zw K z h 0 lv []) : MZ l G y cc nL ret fr lc As h z := by
  intro hfl rm hfr hlc hk hs
  refine MetFree.of_bodyS (code := cc) (maxLocals := nL) (ret := ret) hy ?_ ?_
  · intro args s m h1 hn
    obtain ⟨meth, c, h1, h2, h3, h4, h5, h6, -, -⟩ := Cond.code_spec hn (atoms_spec (ws := ws_ y cc nL ret) h1 _ List.mem_cons_self)
    exact ⟨meth, c, h1, h2, h3, h4, h5, h6⟩
  · intro p e s m args below meth c s₁ B hml hP _
    obtain ⟨rfl, hH, hZ⟩ := hP
    have hts := atoms_spec (ws := ws_ y cc nL ret) B.pre
    have hh0 : s₁.heap = s.heap := by rw [B.state]; rfl
    have ht : c.exceptionTable.toList = [] := by
      obtain ⟨meth9, c9, h1, h2, -, -, -, -, h7, -⟩ := Cond.code_spec B.named (hts _ List.mem_cons_self)
      cases Option.some.inj (h1.symm.trans B.method)
      cases Option.some.inj (h2.symm.trans (Stand.of_body B).code)
      simpa using h7
    have hb := body (G, p, l, e, (headSpec (ws_ y cc nL ret) rm).room, s, m, (As.map zv).toArray, below, meth, c, h, nL) ⟨rfl, hfl, B.exec, B.bytes, hml, findClass_of_methodNamed B.named, (name_of_methodNamed B.named B.method).1, B.returns, B.notSynchronized, fun w hw => hts w (List.mem_cons_of_mem _ hw), hZ, hfr, hlc, hk, hs⟩ ht
    have hl := lv_entry (As.map zv) (n := nL) (by rw [za_len]; exact hlen)
    rw [za_eq, hlv] at hl
    have hw := hb s.heap [] 0 0 _ ⟨hH, rfl, Nat.le_refl _, Nat.le_refl _, (Nat.sub_self _).symm, (Nat.sub_self _).symm, fun q hq => by cases hq⟩ hl
    rw [List.map_nil, ← lg_entry_eq m (As.map zv) nL] at hw
    obtain ⟨t, a1, o, b1, b2, b3⟩ := hw s₁ hh0 (Stand.of_body B)
    exact ⟨t, o, a1, b1, b2, b3⟩
/-- an object of the law's own world, to be thrown -/
def thr (h : AH) (x : Option Nat) : Option Nat := x.bind fun a => (tg h x).bind fun _ => if hB h ≤ a then some a else none
section THROWS
variable {p : Program} {l : Launch} {e : Env} {R : Room} {s : State} {m : MethodId} {args : Array Value} {below : List Frame} {meth : Method} {c : Code} {G : ZG} {h0 h : AH} {H : Heap} {locs : List Loc} {cells slots : Nat} {ls : Array Slot}
/-- thrown over the frame g, not caught here -/
theorem z_leave {T : State} {g : JFrame} {q : Nat} (X : Stand p l e R s m args below meth c T locs cells slots) (hT : T.heap = H) (hR : ZR G s h0 h H locs cells slots) (hg : g.method = m) (hlocked : g.locked = none) (hent : g.entered = []) (hE : c.exceptionTable.toList = []) (hlk : meth.locks = false) :
    ∃ t, Steps p.tables e below ((T.setTop g).pushFrame (.throwing q)) t ∧ ZQ G s below h0 (.inr q, h) t := by
  obtain ⟨st1, hrun, hend, hW, hsm⟩ := X.leaveThrown q (g := g) hg hlocked hent (fun x hx => by rw [hE] at hx; cases hx) hlk
  obtain ⟨r1, r2, r3, r4, r5, r6, r7⟩ := hR
  refine ⟨_, st1, .threw q, hrun, hend, r2, r3, r4, ?_, rfl, locs, hW, ?_, r7⟩
  · show ZH G s h T.heap
    rw [hT]; exact r1
  · rw [← r5, ← r6]
    exact hsm
end THROWS
section ZTHROW
variable {K : ZC} {cc : ByteArray} {own nm : String} {nL : Nat} {ret : Option FieldType} {fr lc : Nat} {z : ZT} {h h' : AH} {pc : Nat} {lv : List (Nat × ZV)} {rest : List ZV} {C : String} {y : MethodName} {cc' : ByteArray} {nL' : Nat} {ret' : Option FieldType} {fr' lc' n index t : Nat}
theorem z_athrow (O : ZOk K cc own nm nL ret fr lc) (E : ZEx K) {x : Option Nat} {q : Nat} (hd : decode cc pc = .ok (.athrow, 1)) (hq : thr h x = some q) (hz : z = (.inr q, h)) : Zw K z h pc lv (vr x :: rest) := by
  obtain ⟨G, p, l, e, R, s, m, args, below, meth, c, h0, nL2⟩ := K
  obtain ⟨hnL, hfl, hx, hb, hml, hown, hnm, hret, hlk, hts, hZW, hfr, hlc, hkc, hks⟩ := O
  subst hnL; subst hz
  intro H locs cells slots ls hR hl2 T hT X
  unfold thr at hq
  refine bs hq (fun a ha hq2 => bs hq2 (fun c0 hc0 hq3 => zite hq3 (fun hB hq4 => ?_) (fun _ hq4 => by cases hq4)))
  cases hq4
  subst ha
  have E : c.exceptionTable.toList = [] := E
  obtain ⟨t, st, hq9⟩ := z_leave (g := F0 m pc ls (rest.map zv)) (q := q) X hT hR rfl rfl rfl E hlk
  refine ⟨t, ?_, hq9⟩
  have hdg' : decode c.code pc = .ok (.athrow, 1) := by rw [hb]; exact hd
  show Steps p.tables e below (T.setTop (F0 m pc ls (.ref q :: rest.map zv))) t
  jvm_step X.here [X.here.top, hx, hdg', athrow.wp_sem]
  exact st
def ZPostX (G : ZG) (s : State) (h h' : AH) (q0 : Nat) : Pt → Array Value → Addr → Pt → Prop := fun A _ q B => q = q0 ∧ ZH G s h' B.U.heap ∧ h'.1 = h.1 ∧ h.2.1 ≤ h'.2.1 ∧ h.2.2.1 ≤ h'.2.2.1 ∧ B.cells = A.cells + (h'.2.1 - h.2.1) ∧ B.slots = A.slots + (h'.2.2.1 - h.2.2.1) ∧ ∃ L, B.locs = A.locs ++ L ∧ ∀ q ∈ L, h.1.1 ≤ q.base
theorem z_backX {p : Program} {l : Launch} {e : Env} {R : Room} {s : State} {args : Array Value} {below : List Frame} {G : ZG} {As : List ZV} {q0 : Nat} (hfl : l.flags = flags0) (hM : MZ l G y cc' nL' ret' fr' lc' As h (.inr q0, h')) (hts : ∀ w ∈ lw_all, w.before args s = true) (hZW : ZW G s h.1) (hfr : fr' + 1 ≤ R.frames) (hlc : 8 + (nL' + 11) + lc' ≤ R.locals)
    (hini : Cond.initialized y.cls ∈ lw_all) (hcode : Cond.code y cc' nL' ret' ∈ lw_all) : vx_Back l R p e below s args y 3 8 (ZPre G s R As h) (fun _ _ _ _ => False) (ZPostX G s h h' q0) := by
  have hws : ∀ w ∈ ws_ y cc' nL' ret', ∀ (a' : Array Value) (U : State), s.WarmedH U.vm → w.before a' U = true := pay_in hts (lw_meth hcode)
  have hM2 := hM hfl ({ frames := fr', cells := h.1.2.1 - h.2.1, slots := h.1.2.2.1 - h.2.2.1, locals := lc' } : Room) (Nat.le_refl _) (Nat.le_refl _) (by show h.1.2.1 ≤ h.2.1 + (h.1.2.1 - h.2.1); omega) (by show h.1.2.2.1 ≤ h.2.2.1 + (h.1.2.2.1 - h.2.2.1); omega)
  intro m meth c A g ig mk a X hg hsize hdg hW hn hp
  have h1 : (headSpec (ws_ y cc' nL' ret') ({ frames := fr', cells := h.1.2.1 - h.2.1, slots := h.1.2.2.1 - h.2.2.1, locals := lc' } : Room)).pre.before a A.U = true := atoms_intro fun w hw => hws w hw _ _ X.warmed
  have h2 : (Cond.code y cc' nL' ret').before a A.U = true := hws _ List.mem_cons_self _ _ X.warmed
  have h3 : (Cond.initialized y.cls).before a A.U = true := word_at X.warmed (Or.inl (by first | rfl | simp [Cond.onTables, Cond.keeps, Cond.steady])) (hts _ hini)
  obtain ⟨hp1, hp2, h4, h5⟩ := hp
  have hPc : ZH G (A.U.calling g mk a) h (A.U.calling g mk a).heap := (hp2.moved X.warmed.alike).moved (Vm.Alike.refl _)
  have hZc : ZW G (A.U.calling g mk a) h.1 := hZW.warm (U := A.U.calling g mk a) X.warmed
  obtain ⟨U, Ls, c0, s0⟩ := A
  dsimp only [Pt.U, Pt.locs, Pt.cells, Pt.slots] at h1 h2 h3 h4 h5 X hn hPc hZc hp2 ⊢
  obtain ⟨methY, cY, hmY, hcY, -, hlY, -, -, -, -⟩ := Cond.code_spec hn h2
  obtain ⟨kY, hkY, -⟩ := className_of_methodNamed hn
  have hinitY : kY.init = .initialized := Cond.initialized_spec (findClass_of_methodNamed hn) hkY h3
  have hh : At U g.method c below := by rw [hg]; exact X.here
  have happ : (headSpec (ws_ y cc' nL' ret') ({ frames := fr', cells := h.1.2.1 - h.2.1, slots := h.1.2.2.1 - h.2.2.1, locals := lc' } : Room)).appliesLoose y e.platform (U.calling g mk a) = true :=
    Spec.appliesLoose_calling (g := g) hh hdg hn hkY hinitY
      (X.room_calling (g := g) (R' := ({ frames := fr', cells := h.1.2.1 - h.2.1, slots := h.1.2.2.1 - h.2.2.1, locals := lc' } : Room)) hsize hmY hcY hfr (by rw [hlY]; show 2 * g.monitorRoom + _ + (nL' + 11) + lc' ≤ R.locals; omega) h4 h5) h1
  obtain ⟨mid, hmid⟩ := hh.above
  have hfr9 : (U.setTop g).frames = (.java g :: mid) ++ below := by rw [State.frames_setTop' g hh.top, hmid]; rfl
  obtain ⟨o, s₂, hsteps, -, hend, hq⟩ := Steps.callFree hM2 p X.admits X.cas X.clock (acts := []) hfr9 happ ⟨hp1, hPc, hZc⟩ trivial
  rw [State.frames_setTop' g hh.top] at hend
  obtain ⟨q1, q2, q3, q4, q5, L, hW₂, hsm, hL⟩ := hq
  cases q5
  have hsm : (U.calling g mk a).sameButNew ({ s₂ with vm := (U.calling g mk a).vm } : State) L (h'.2.1 - h.2.1) (h'.2.2.1 - h.2.2.1) := hsm
  have hW₂ : (U.calling g mk a).WarmedH s₂.vm := hW₂
  obtain ⟨g₀, hg0⟩ := Option.isSome_iff_exists.mp hh.top
  obtain ⟨r, hr⟩ := State.topJava?_eq_some.mp hg0
  have hr' : (({ U with heap := s₂.heap, slotsUsed := s₂.slotsUsed } : State).setVm s₂.vm).frames = .java g₀ :: r := hr
  obtain ⟨e2, w2, w3, w4, w5, w6⟩ := id hsm
  have e2 : ({ s₂ with vm := (U.calling g mk a).vm } : State) = { (U.calling g mk a).setFrames s₂.frames with heap := s₂.heap, slotsUsed := s₂.slotsUsed } := e2
  have e3 : s₂ = ({ (U.calling g mk a).setFrames s₂.frames with heap := s₂.heap, slotsUsed := s₂.slotsUsed } : State).setVm s₂.vm := by
    have : s₂ = ({ s₂ with vm := (U.calling g mk a).vm } : State).setVm s₂.vm := rfl
    rw [e2] at this
    exact this
  have hf₂ : s₂.frames = .throwing q0 :: .java g :: U.frames.tail := hend
  have hW' : U.WarmedH s₂.vm := hW₂
  have hs₂ : s₂ = ((({ U with heap := s₂.heap, slotsUsed := s₂.slotsUsed } : State).setVm s₂.vm).setTop g).pushFrame (.throwing q0) := by
    refine e3.trans ?_
    rw [hf₂, State.calling_eq hh.top, State.setFrames_setFrames, State.pushFrame, State.frames_setTop _ hr', State.setTop_of_frames _ hr', State.setFrames_setFrames, hr]
    rfl
  have hsame : U.sameButNew ({ U with heap := s₂.heap, slotsUsed := s₂.slotsUsed } : State) L (h'.2.1 - h.2.1) (h'.2.2.1 - h.2.2.1) := by
    refine ⟨?_, w2, w3, w4, w5, w6⟩
    obtain ⟨t, ht, -⟩ := State.frames_cons hr
    show ({ U with heap := s₂.heap, slotsUsed := s₂.slotsUsed } : State) = { U.setFrames U.frames with heap := s₂.heap, slotsUsed := s₂.slotsUsed }
    rw [State.setFrames_self ht]
  subst hg
  refine Or.inr ⟨q0, ⟨(({ U with heap := s₂.heap, slotsUsed := s₂.slotsUsed } : State).setVm s₂.vm), Ls ++ L, c0 + (h'.2.1 - h.2.1), s0 + (h'.2.2.1 - h.2.2.1)⟩,
    ⟨X.admits, X.cas, X.clock, X.frames, X.room, X.hears, X.method, X.code, (X.here.setHeapUsed s₂.heap s₂.slotsUsed).setVm hW'.alike, X.tail, State.WarmedH.trans X.warmed hW', X.limits, X.bytes, X.same.trans (hsame.setVm s.vm)⟩,
    ⟨rfl, ?_, q1, q2, q3, rfl, rfl, L, rfl, hL⟩, ?_⟩
  · show ZH G s h' s₂.heap
    exact (q4.moved (u := U.calling g mk a) (U := U) (Vm.Alike.refl _)).moved X.warmed.alike.symm
  · show Steps p.tables e below _ (((({ U with heap := s₂.heap, slotsUsed := s₂.slotsUsed } : State).setVm s₂.vm).setTop g).pushFrame (.throwing q0))
    rw [← hs₂]
    exact hsteps
/-- a call that ends in a throw, not caught here -/
theorem z_callVt (O : ZOk K cc own nm nL ret fr lc) (E : ZEx K) (As : List ZV) {x : Option Nat} {q0 : Nat} {T : u_T} {N : Nat} (hc : CVf C y cc' nL' ret' n) (hlink : Cond.methodLink own index y ∈ lw_all)
    (hM : ∀ (l : Launch) (G : ZG), MZ l G y cc' nL' ret' fr' lc' (vr x :: As) h (.inr q0, h')) (hck : ck h [t] x = some ()) (ht : zCl t = some (C, T, N)) (hn : As.length = n) (hR : fr' + 1 ≤ fr ∧ 8 + (nL' + 11) + lc' ≤ lc) (hrest : (rest.map zcat).sum ≤ 8) (hd : decode cc pc = .ok (.invokevirtual index, 3))
    (hz : z = (.inr q0, h')) : Zw K z h pc lv (As.reverse ++ vr x :: rest) := by
  obtain ⟨G, p, l, e, R, s, m, args, below, meth, c, h0, nL2⟩ := K
  obtain ⟨hnL, hfl, hx, hb, hml, hown, hnm, hret, hlk, hts, hZW, hfr, hlc, hkc, hks⟩ := O
  subst hnL; subst hz
  intro H locs cells slots ls hZR hl
  obtain ⟨a, c1, hc1, rfl, fs, he⟩ := ck_spec hck
  have hc1 : c1 = t := by simpa using hc1
  subst hc1
  obtain ⟨cell, q1, q2, q3, q4, q5, q6, q7⟩ := z_obj hZR.1 he ht
  have hcls : s.vm.findClass C = some cell.cls := by rw [q2]; exact (hZW.1 _ _ ht).2.1
  have hk0 : h.1 = h0.1 := hZR.2.1
  have hroom := hZR.room hkc hks
  have hK : vx_Back l R p e below s args y 3 8 (ZPre G s R (vr (some a) :: As) h) (fun _ _ _ _ => False) (ZPostX G s h h' q0) := z_backX hfl (hM l G) hts (by rw [hk0]; exact hZW) (by omega) (by omega) hc.2.2.1 hc.2.2.2.1
  intro T1 hT X
  have hE : c.exceptionTable.toList = [] := E
  rcases vx_callV X hx (C := C) (bytes := cc') (maxL := nL') (ret := ret') hown (hts _ hlink) (hts _ hc.1) (hts _ hc.2.1) (hts _ hc.2.2.2.1) hc.2.2.2.2.1 hK (by rw [hT]; exact q1) q4 hcls (g := F0 m pc ls ((As.reverse ++ vr (some a) :: rest).map zv)) rfl (hl.1.trans hml.symm) (argsL := As.map zv) (rest := rest.map zv)
    (z_len hc.2.2.2.2 hn) (by simp [F0, zv, rf_some]) (z_cats hrest) (by rw [hb]; exact hd)
    (fun vm₁ hW₁ => ⟨rfl, by show ZH G s h T1.heap; rw [hT]; exact hZR.1, hroom.1, hroom.2⟩) with ⟨_, _, _, _, _, hF, _⟩ | ⟨q, vm₁, ⟨U', l2, c2, s2⟩, hW₁, X', ⟨b1, b2, b3, b4, b5, b6, b7, L, b8, b9⟩, st⟩
  · exact hF.elim
  · dsimp only [Pt.U, Pt.locs, Pt.cells, Pt.slots] at X' b1 b2 b6 b7 b8 st
    subst b6; subst b7; subst b8; subst b1
    obtain ⟨t2, a1, a2⟩ := z_leave (g := { F0 m pc ls ((As.reverse ++ vr (some a) :: rest).map zv) with stack := rest.map zv }) (q := q) X' rfl (hZR.call b2 b3 b4 b5 b9) rfl rfl rfl hE hlk
    exact ⟨t2, st.trans a1, a2⟩
end ZTHROW
