/-! THE ROWS over abstract heaps: locals, stack, arithmetic, branches -/
set_option maxRecDepth 100000
theorem W.mono {p : Program} {l : Launch} {e : Env} {R : Room} {s : State} {m : MethodId} {args : Array Value} {below : List Frame} {meth : Method} {c : Code} {H : Heap} {locs : List Loc} {cells slots : Nat} {Q Q2 : State → Prop} {g : JFrame} (h : ∀ t, Q t → Q2 t) (k : W p l e R s m args below meth c H locs cells slots Q g) : W p l e R s m args below meth c H locs cells slots Q2 g := fun T hT X => by
  obtain ⟨t, a, b⟩ := k T hT X
  exact ⟨t, a, h t b⟩
theorem zl_at {lv : List (Nat × ZV)} {k i : Nat} {v : ZV} (h : lv[k]? = some (i, v)) : (zl lv)[k]? = some (i, zv v) := by
  simp [zl, h]
theorem zl_sub {ls : Array Slot} {nL : Nat} {lv lv2 : List (Nat × ZV)} (h : lv_has ls nL (zl lv)) (ks : List Nat) (hl : ks.filterMap (fun k => lv[k]?) = lv2) : lv_has ls nL (zl lv2) := by
  refine ⟨h.1, h.2.1, fun q hq => ?_⟩
  obtain ⟨w, hw, rfl⟩ := List.mem_map.mp hq
  rw [← hl] at hw
  obtain ⟨k, -, hk⟩ := List.mem_filterMap.mp hw
  exact h.2.2 _ (List.mem_map.mpr ⟨w, List.mem_of_getElem? hk, rfl⟩)
theorem zl_filter (lv : List (Nat × ZV)) (i : Nat) : (zl lv).filter (fun q => !(q.1 == i) && !(q.1 + 1 == i && q.2.category == 2)) = zl (lv.filter (fun q => !(q.1 == i) && !(q.1 + 1 == i && zcat q.2 == 2))) := by
  simp only [zl, List.filter_map]
  congr 1
  refine congrArg (fun f => List.filter f lv) (funext fun q => ?_)
  simp only [Function.comp, zcat_eq]
theorem zl_filter2 (lv : List (Nat × ZV)) (i : Nat) : (zl lv).filter (fun q => !(q.1 == i) && (!(q.1 == i + 1) && !(q.1 + 1 == i && q.2.category == 2))) = zl (lv.filter (fun q => !(q.1 == i) && (!(q.1 == i + 1) && !(q.1 + 1 == i && zcat q.2 == 2)))) := by
  simp only [zl, List.filter_map]
  congr 1
  refine congrArg (fun f => List.filter f lv) (funext fun q => ?_)
  simp only [Function.comp, zcat_eq]
theorem va_ldcSw {p : Program} {l : Launch} {e : Env} {R : Room} {s : State} {m : MethodId} {args : Array Value} {below : List Frame} {meth : Method} {c : Code} {H : Heap} {locs : List Loc} {cells slots : Nat} {Q : State → Prop} {cc : ByteArray} {pc : Nat} {ls : Array Slot} {rest : List Value} (hexec : p.tables.exec = Jvm.exec) (hb : c.code = cc) {own tx : String} {index q : Nat} (hown : s.vm.findClass own = some m.cls) (hZ : vk_R own index tx q s) (hdg : decode cc pc = .ok (.ldc_w index, 3))
    (k : W p l e R s m args below meth c H locs cells slots Q (F0 m (pc + 3) ls (.ref q :: rest))) : W p l e R s m args below meth c H locs cells slots Q (F0 m pc ls rest) := by
  intro T hT X
  obtain ⟨t, a1, b1⟩ := k T hT X
  refine ⟨t, ?_, b1⟩
  obtain ⟨kk, cf, i, a', hk, hcf, hcp, -, hr, hev'⟩ := Cond.stringRef_spec (args := #[]) hown hZ.1
  cases hZ.2.symm.trans hev'
  obtain ⟨k', hk', he⟩ := X.warmed.alike.2.2 _ _ hk
  have hr' : k'.resolved[index]? = some (some (.string q)) := by
    rcases X.warmed.entry hk hk' index with h | ⟨h, -⟩
    · rw [h]; exact hr
    · rw [hr] at h; cases h
  have hdg' : decode c.code (F0 m pc ls rest).pc = .ok (.ldc_w index, 3) := by rw [hb]; exact hdg
  jvm_step X.here [hexec, hdg', ldc_w.wp_string (e := e) (s := T) (f := F0 m pc ls rest) X.here.top hk' (by rw [he]; exact hcf) hcp hr']
  exact a1
theorem bs {α β : Type} {o : Option α} {f : α → Option β} {r : β} {P : Prop} (hr : o.bind f = some r) (k : ∀ v, o = some v → f v = some r → P) : P := by
  cases o with
  | none => cases hr
  | some v => exact k v rfl hr
theorem zite {α : Type} {c : Prop} [Decidable c] {A B : α} {r : α} {P : Prop} (hr : (if c then A else B) = r) (kt : c → A = r → P) (kf : ¬ c → B = r → P) : P := by
  by_cases h : c
  · rw [if_pos h] at hr
    exact kt h hr
  · rw [if_neg h] at hr
    exact kf h hr
theorem z_iconst {K : ZC} {cc : ByteArray} {own nm : String} {nL : Nat} {ret : Option FieldType} {fr lc : Nat} (O : ZOk K cc own nm nL ret fr lc) {z : ZT} {h : AH} {pc : Nat} {lv : List (Nat × ZV)} {rest : List ZV} {n : Int} {v : Int32} (hd : decode cc pc = .ok (.iconst n, 1)) (hv : Int32.ofInt n = v) (k : Zw K z h (pc + 1) lv (vi v :: rest)) : Zw K z h pc lv (rest) := by
  obtain ⟨G, p, l, e, R, s, m, args, below, meth, c, h0, nL2⟩ := K
  obtain ⟨hnL, hfl, hx, hb, hml, hown, hnm, hret, hlk, hts, hZW, hfr, hlc, hkc, hks⟩ := O
  subst hnL
  intro H locs cells slots ls hR hl
  exact lv_iconst hx hb hd hv (k H locs cells slots ls hR hl)
theorem z_bipush {K : ZC} {cc : ByteArray} {own nm : String} {nL : Nat} {ret : Option FieldType} {fr lc : Nat} (O : ZOk K cc own nm nL ret fr lc) {z : ZT} {h : AH} {pc : Nat} {lv : List (Nat × ZV)} {rest : List ZV} {n : Int} {v : Int32} (hd : decode cc pc = .ok (.bipush n, 2)) (hv : (Int8.ofInt n).toInt32 = v) (k : Zw K z h (pc + 2) lv (vi v :: rest)) : Zw K z h pc lv (rest) := by
  obtain ⟨G, p, l, e, R, s, m, args, below, meth, c, h0, nL2⟩ := K
  obtain ⟨hnL, hfl, hx, hb, hml, hown, hnm, hret, hlk, hts, hZW, hfr, hlc, hkc, hks⟩ := O
  subst hnL
  intro H locs cells slots ls hR hl
  exact lv_bipush hx hb hd hv (k H locs cells slots ls hR hl)
theorem z_sipush {K : ZC} {cc : ByteArray} {own nm : String} {nL : Nat} {ret : Option FieldType} {fr lc : Nat} (O : ZOk K cc own nm nL ret fr lc) {z : ZT} {h : AH} {pc : Nat} {lv : List (Nat × ZV)} {rest : List ZV} {n : Int} {v : Int32} (hd : decode cc pc = .ok (.sipush n, 3)) (hv : (Int16.ofInt n).toInt32 = v) (k : Zw K z h (pc + 3) lv (vi v :: rest)) : Zw K z h pc lv (rest) := by
  obtain ⟨G, p, l, e, R, s, m, args, below, meth, c, h0, nL2⟩ := K
  obtain ⟨hnL, hfl, hx, hb, hml, hown, hnm, hret, hlk, hts, hZW, hfr, hlc, hkc, hks⟩ := O
  subst hnL
  intro H locs cells slots ls hR hl
  exact lv_sipush hx hb hd hv (k H locs cells slots ls hR hl)
theorem z_lconst {K : ZC} {cc : ByteArray} {own nm : String} {nL : Nat} {ret : Option FieldType} {fr lc : Nat} (O : ZOk K cc own nm nL ret fr lc) {z : ZT} {h : AH} {pc : Nat} {lv : List (Nat × ZV)} {rest : List ZV} {n : Fin 2} {v : Int64} (hd : decode cc pc = .ok (.lconst n, 1)) (hv : Int64.ofNat (n : Nat) = v) (k : Zw K z h (pc + 1) lv (vj v :: rest)) : Zw K z h pc lv (rest) := by
  obtain ⟨G, p, l, e, R, s, m, args, below, meth, c, h0, nL2⟩ := K
  obtain ⟨hnL, hfl, hx, hb, hml, hown, hnm, hret, hlk, hts, hZW, hfr, hlc, hkc, hks⟩ := O
  subst hnL
  intro H locs cells slots ls hR hl
  exact lv_lconst hx hb hd hv (k H locs cells slots ls hR hl)
theorem z_null {K : ZC} {cc : ByteArray} {own nm : String} {nL : Nat} {ret : Option FieldType} {fr lc : Nat} (O : ZOk K cc own nm nL ret fr lc) {z : ZT} {h : AH} {pc : Nat} {lv : List (Nat × ZV)} {rest : List ZV} (hd : decode cc pc = .ok (.aconst_null, 1)) (k : Zw K z h (pc + 1) lv (vr none :: rest)) : Zw K z h pc lv (rest) := by
  obtain ⟨G, p, l, e, R, s, m, args, below, meth, c, h0, nL2⟩ := K
  obtain ⟨hnL, hfl, hx, hb, hml, hown, hnm, hret, hlk, hts, hZW, hfr, hlc, hkc, hks⟩ := O
  subst hnL
  intro H locs cells slots ls hR hl
  exact lv_null hx hb hd (k H locs cells slots ls hR hl)
theorem z_ldc {K : ZC} {cc : ByteArray} {own nm : String} {nL : Nat} {ret : Option FieldType} {fr lc : Nat} (O : ZOk K cc own nm nL ret fr lc) {z : ZT} {h : AH} {pc : Nat} {lv : List (Nat × ZV)} {rest : List ZV} {i : Nat} {v : Int32} (hc : Cond.constant own i v ∈ lw_all) (hd : decode cc pc = .ok (.ldc i, 2)) (k : Zw K z h (pc + 2) lv (vi v :: rest)) : Zw K z h pc lv (rest) := by
  obtain ⟨G, p, l, e, R, s, m, args, below, meth, c, h0, nL2⟩ := K
  obtain ⟨hnL, hfl, hx, hb, hml, hown, hnm, hret, hlk, hts, hZW, hfr, hlc, hkc, hks⟩ := O
  subst hnL
  intro H locs cells slots ls hR hl
  exact lv_ldc hx hb hown (hts _ hc) hd (k H locs cells slots ls hR hl)
theorem z_ldcw {K : ZC} {cc : ByteArray} {own nm : String} {nL : Nat} {ret : Option FieldType} {fr lc : Nat} (O : ZOk K cc own nm nL ret fr lc) {z : ZT} {h : AH} {pc : Nat} {lv : List (Nat × ZV)} {rest : List ZV} {i : Nat} {v : Int32} (hc : Cond.constant own i v ∈ lw_all) (hd : decode cc pc = .ok (.ldc_w i, 3)) (k : Zw K z h (pc + 3) lv (vi v :: rest)) : Zw K z h pc lv (rest) := by
  obtain ⟨G, p, l, e, R, s, m, args, below, meth, c, h0, nL2⟩ := K
  obtain ⟨hnL, hfl, hx, hb, hml, hown, hnm, hret, hlk, hts, hZW, hfr, hlc, hkc, hks⟩ := O
  subst hnL
  intro H locs cells slots ls hR hl
  exact lv_ldcw hx hb hown (hts _ hc) hd (k H locs cells slots ls hR hl)
theorem z_ldc2 {K : ZC} {cc : ByteArray} {own nm : String} {nL : Nat} {ret : Option FieldType} {fr lc : Nat} (O : ZOk K cc own nm nL ret fr lc) {z : ZT} {h : AH} {pc : Nat} {lv : List (Nat × ZV)} {rest : List ZV} {i : Nat} {v : Int64} (hc : Cond.constantLong own i v ∈ lw_all) (hd : decode cc pc = .ok (.ldc2_w i, 3)) (k : Zw K z h (pc + 3) lv (vj v :: rest)) : Zw K z h pc lv (rest) := by
  obtain ⟨G, p, l, e, R, s, m, args, below, meth, c, h0, nL2⟩ := K
  obtain ⟨hnL, hfl, hx, hb, hml, hown, hnm, hret, hlk, hts, hZW, hfr, hlc, hkc, hks⟩ := O
  subst hnL
  intro H locs cells slots ls hR hl
  exact lv_ldc2 hx hb hown (hts _ hc) hd (k H locs cells slots ls hR hl)
theorem z_ldcS {K : ZC} {cc : ByteArray} {own nm : String} {nL : Nat} {ret : Option FieldType} {fr lc : Nat} (O : ZOk K cc own nm nL ret fr lc) {z : ZT} {h : AH} {pc : Nat} {lv : List (Nat × ZV)} {rest : List ZV} {i n : Nat} {tx : String} (hc : (own, i, tx, n) ∈ zStr) (hd : decode cc pc = .ok (.ldc i, 2)) (k : Zw K z h (pc + 2) lv (vr (some (h.1.2.2.2.1 n)) :: rest)) : Zw K z h pc lv (rest) := by
  obtain ⟨G, p, l, e, R, s, m, args, below, meth, c, h0, nL2⟩ := K
  obtain ⟨hnL, hfl, hx, hb, hml, hown, hnm, hret, hlk, hts, hZW, hfr, hlc, hkc, hks⟩ := O
  subst hnL
  intro H locs cells slots ls hR hl
  have hk : h.1 = h0.1 := hR.2.1
  exact va_ldcS hx hb hown (by rw [hk]; exact hZW.2.2.2.2.1 _ hc) hd (k H locs cells slots ls hR hl)
theorem z_ldcSw {K : ZC} {cc : ByteArray} {own nm : String} {nL : Nat} {ret : Option FieldType} {fr lc : Nat} (O : ZOk K cc own nm nL ret fr lc) {z : ZT} {h : AH} {pc : Nat} {lv : List (Nat × ZV)} {rest : List ZV} {i n : Nat} {tx : String} (hc : (own, i, tx, n) ∈ zStr) (hd : decode cc pc = .ok (.ldc_w i, 3)) (k : Zw K z h (pc + 3) lv (vr (some (h.1.2.2.2.1 n)) :: rest)) : Zw K z h pc lv (rest) := by
  obtain ⟨G, p, l, e, R, s, m, args, below, meth, c, h0, nL2⟩ := K
  obtain ⟨hnL, hfl, hx, hb, hml, hown, hnm, hret, hlk, hts, hZW, hfr, hlc, hkc, hks⟩ := O
  subst hnL
  intro H locs cells slots ls hR hl
  have hk : h.1 = h0.1 := hR.2.1
  exact va_ldcSw hx hb hown (by rw [hk]; exact hZW.2.2.2.2.1 _ hc) hd (k H locs cells slots ls hR hl)
theorem z_iload_n {K : ZC} {cc : ByteArray} {own nm : String} {nL : Nat} {ret : Option FieldType} {fr lc : Nat} (O : ZOk K cc own nm nL ret fr lc) {z : ZT} {h : AH} {pc : Nat} {lv : List (Nat × ZV)} {rest : List ZV} {k : Fin 4} {i : Nat} {x : Int32} (j : Nat) (hd : decode cc pc = .ok (.iload_n k, 1)) (hi : (k : Nat) = i) (hj : lv[j]? = some (i, vi x)) (kk : Zw K z h (pc + 1) lv (vi x :: rest)) : Zw K z h pc lv (rest) := by
  obtain ⟨G, p, l, e, R, s, m, args, below, meth, c, h0, nL2⟩ := K
  obtain ⟨hnL, hfl, hx, hb, hml, hown, hnm, hret, hlk, hts, hZW, hfr, hlc, hkc, hks⟩ := O
  subst hnL
  intro H locs cells slots ls hR hl
  exact lv_iload_n hx hb hd hi (lv_at hl j (zl_at hj)) (kk H locs cells slots ls hR hl)
theorem z_iload {K : ZC} {cc : ByteArray} {own nm : String} {nL : Nat} {ret : Option FieldType} {fr lc : Nat} (O : ZOk K cc own nm nL ret fr lc) {z : ZT} {h : AH} {pc : Nat} {lv : List (Nat × ZV)} {rest : List ZV} {i : Nat} {x : Int32} (j : Nat) (hd : decode cc pc = .ok (.iload i, 2)) (hj : lv[j]? = some (i, vi x)) (kk : Zw K z h (pc + 2) lv (vi x :: rest)) : Zw K z h pc lv (rest) := by
  obtain ⟨G, p, l, e, R, s, m, args, below, meth, c, h0, nL2⟩ := K
  obtain ⟨hnL, hfl, hx, hb, hml, hown, hnm, hret, hlk, hts, hZW, hfr, hlc, hkc, hks⟩ := O
  subst hnL
  intro H locs cells slots ls hR hl
  exact lv_iload hx hb hd (lv_at hl j (zl_at hj)) (kk H locs cells slots ls hR hl)
theorem z_lload_n {K : ZC} {cc : ByteArray} {own nm : String} {nL : Nat} {ret : Option FieldType} {fr lc : Nat} (O : ZOk K cc own nm nL ret fr lc) {z : ZT} {h : AH} {pc : Nat} {lv : List (Nat × ZV)} {rest : List ZV} {k : Fin 4} {i : Nat} {x : Int64} (j : Nat) (hd : decode cc pc = .ok (.lload_n k, 1)) (hi : (k : Nat) = i) (hj : lv[j]? = some (i, vj x)) (kk : Zw K z h (pc + 1) lv (vj x :: rest)) : Zw K z h pc lv (rest) := by
  obtain ⟨G, p, l, e, R, s, m, args, below, meth, c, h0, nL2⟩ := K
  obtain ⟨hnL, hfl, hx, hb, hml, hown, hnm, hret, hlk, hts, hZW, hfr, hlc, hkc, hks⟩ := O
  subst hnL
  intro H locs cells slots ls hR hl
  exact lv_lload_n hx hb hd hi (lv_at hl j (zl_at hj)) (kk H locs cells slots ls hR hl)
theorem z_lload {K : ZC} {cc : ByteArray} {own nm : String} {nL : Nat} {ret : Option FieldType} {fr lc : Nat} (O : ZOk K cc own nm nL ret fr lc) {z : ZT} {h : AH} {pc : Nat} {lv : List (Nat × ZV)} {rest : List ZV} {i : Nat} {x : Int64} (j : Nat) (hd : decode cc pc = .ok (.lload i, 2)) (hj : lv[j]? = some (i, vj x)) (kk : Zw K z h (pc + 2) lv (vj x :: rest)) : Zw K z h pc lv (rest) := by
  obtain ⟨G, p, l, e, R, s, m, args, below, meth, c, h0, nL2⟩ := K
  obtain ⟨hnL, hfl, hx, hb, hml, hown, hnm, hret, hlk, hts, hZW, hfr, hlc, hkc, hks⟩ := O
  subst hnL
  intro H locs cells slots ls hR hl
  exact lv_lload hx hb hd (lv_at hl j (zl_at hj)) (kk H locs cells slots ls hR hl)
theorem z_aload_n {K : ZC} {cc : ByteArray} {own nm : String} {nL : Nat} {ret : Option FieldType} {fr lc : Nat} (O : ZOk K cc own nm nL ret fr lc) {z : ZT} {h : AH} {pc : Nat} {lv : List (Nat × ZV)} {rest : List ZV} {k : Fin 4} {i : Nat} {x : Option Nat} (j : Nat) (hd : decode cc pc = .ok (.aload_n k, 1)) (hi : (k : Nat) = i) (hj : lv[j]? = some (i, vr x)) (kk : Zw K z h (pc + 1) lv (vr x :: rest)) : Zw K z h pc lv (rest) := by
  obtain ⟨G, p, l, e, R, s, m, args, below, meth, c, h0, nL2⟩ := K
  obtain ⟨hnL, hfl, hx, hb, hml, hown, hnm, hret, hlk, hts, hZW, hfr, hlc, hkc, hks⟩ := O
  subst hnL
  intro H locs cells slots ls hR hl
  have h1 := lv_at hl j (zl_at hj)
  cases x with
  | none => exact lv_aload_nN hx hb hd hi h1 (kk H locs cells slots ls hR hl)
  | some a => exact lv_aload_n hx hb hd hi h1 (kk H locs cells slots ls hR hl)
theorem z_aload {K : ZC} {cc : ByteArray} {own nm : String} {nL : Nat} {ret : Option FieldType} {fr lc : Nat} (O : ZOk K cc own nm nL ret fr lc) {z : ZT} {h : AH} {pc : Nat} {lv : List (Nat × ZV)} {rest : List ZV} {i : Nat} {x : Option Nat} (j : Nat) (hd : decode cc pc = .ok (.aload i, 2)) (hj : lv[j]? = some (i, vr x)) (kk : Zw K z h (pc + 2) lv (vr x :: rest)) : Zw K z h pc lv (rest) := by
  obtain ⟨G, p, l, e, R, s, m, args, below, meth, c, h0, nL2⟩ := K
  obtain ⟨hnL, hfl, hx, hb, hml, hown, hnm, hret, hlk, hts, hZW, hfr, hlc, hkc, hks⟩ := O
  subst hnL
  intro H locs cells slots ls hR hl
  have h1 := lv_at hl j (zl_at hj)
  cases x with
  | none => exact lv_aloadN hx hb hd h1 (kk H locs cells slots ls hR hl)
  | some a => exact lv_aload hx hb hd h1 (kk H locs cells slots ls hR hl)
theorem z_istore_n {K : ZC} {cc : ByteArray} {own nm : String} {nL : Nat} {ret : Option FieldType} {fr lc : Nat} (O : ZOk K cc own nm nL ret fr lc) {z : ZT} {h : AH} {pc : Nat} {lv : List (Nat × ZV)} {rest : List ZV} {q : Fin 4} {i : Nat} {x : Int32} (lv2 : List (Nat × ZV)) (hd : decode cc pc = .ok (.istore_n q, 1)) (hi : (q : Nat) = i) (hn : i < nL) (hl1 : (i, vi x) :: lv.filter (fun q => !(q.1 == i) && !(q.1 + 1 == i && zcat q.2 == 2)) = lv2) (k : Zw K z h (pc + 1) lv2 rest) : Zw K z h pc lv (vi x :: rest) := by
  obtain ⟨G, p, l, e, R, s, m, args, below, meth, c, h0, nL2⟩ := K
  obtain ⟨hnL, hfl, hx, hb, hml, hown, hnm, hret, hlk, hts, hZW, hfr, hlc, hkc, hks⟩ := O
  subst hnL
  intro H locs cells slots ls hR hl
  have hl2 : (i, zv (vi x)) :: (zl lv).filter (fun q => !(q.1 == i) && !(q.1 + 1 == i && q.2.category == 2)) = zl lv2 := by
    rw [zl_filter, ← hl1]; rfl
  exact lv_istore_n hx hb hd hi hl hn hl2 (fun ls hl => k H locs cells slots ls hR hl)
theorem z_istore {K : ZC} {cc : ByteArray} {own nm : String} {nL : Nat} {ret : Option FieldType} {fr lc : Nat} (O : ZOk K cc own nm nL ret fr lc) {z : ZT} {h : AH} {pc : Nat} {lv : List (Nat × ZV)} {rest : List ZV}  {i : Nat} {x : Int32} (lv2 : List (Nat × ZV)) (hd : decode cc pc = .ok (.istore i, 2)) (hn : i < nL) (hl1 : (i, vi x) :: lv.filter (fun q => !(q.1 == i) && !(q.1 + 1 == i && zcat q.2 == 2)) = lv2) (k : Zw K z h (pc + 2) lv2 rest) : Zw K z h pc lv (vi x :: rest) := by
  obtain ⟨G, p, l, e, R, s, m, args, below, meth, c, h0, nL2⟩ := K
  obtain ⟨hnL, hfl, hx, hb, hml, hown, hnm, hret, hlk, hts, hZW, hfr, hlc, hkc, hks⟩ := O
  subst hnL
  intro H locs cells slots ls hR hl
  have hl2 : (i, zv (vi x)) :: (zl lv).filter (fun q => !(q.1 == i) && !(q.1 + 1 == i && q.2.category == 2)) = zl lv2 := by
    rw [zl_filter, ← hl1]; rfl
  exact lv_istore hx hb hd hl hn hl2 (fun ls hl => k H locs cells slots ls hR hl)
theorem z_astore_n {K : ZC} {cc : ByteArray} {own nm : String} {nL : Nat} {ret : Option FieldType} {fr lc : Nat} (O : ZOk K cc own nm nL ret fr lc) {z : ZT} {h : AH} {pc : Nat} {lv : List (Nat × ZV)} {rest : List ZV} {q : Fin 4} {i : Nat} {x : Option Nat} (lv2 : List (Nat × ZV)) (hd : decode cc pc = .ok (.astore_n q, 1)) (hi : (q : Nat) = i) (hn : i < nL) (hl1 : (i, vr x) :: lv.filter (fun q => !(q.1 == i) && !(q.1 + 1 == i && zcat q.2 == 2)) = lv2) (k : Zw K z h (pc + 1) lv2 rest) : Zw K z h pc lv (vr x :: rest) := by
  obtain ⟨G, p, l, e, R, s, m, args, below, meth, c, h0, nL2⟩ := K
  obtain ⟨hnL, hfl, hx, hb, hml, hown, hnm, hret, hlk, hts, hZW, hfr, hlc, hkc, hks⟩ := O
  subst hnL
  intro H locs cells slots ls hR hl
  have hl2 : (i, zv (vr x)) :: (zl lv).filter (fun q => !(q.1 == i) && !(q.1 + 1 == i && q.2.category == 2)) = zl lv2 := by
    rw [zl_filter, ← hl1]; rfl
  cases x with
  | none => exact lv_astore_nN hx hb hd hi hl hn hl2 (fun ls hl => k H locs cells slots ls hR hl)
  | some a => exact lv_astore_n hx hb hd hi hl hn hl2 (fun ls hl => k H locs cells slots ls hR hl)
theorem z_astore {K : ZC} {cc : ByteArray} {own nm : String} {nL : Nat} {ret : Option FieldType} {fr lc : Nat} (O : ZOk K cc own nm nL ret fr lc) {z : ZT} {h : AH} {pc : Nat} {lv : List (Nat × ZV)} {rest : List ZV}  {i : Nat} {x : Option Nat} (lv2 : List (Nat × ZV)) (hd : decode cc pc = .ok (.astore i, 2)) (hn : i < nL) (hl1 : (i, vr x) :: lv.filter (fun q => !(q.1 == i) && !(q.1 + 1 == i && zcat q.2 == 2)) = lv2) (k : Zw K z h (pc + 2) lv2 rest) : Zw K z h pc lv (vr x :: rest) := by
  obtain ⟨G, p, l, e, R, s, m, args, below, meth, c, h0, nL2⟩ := K
  obtain ⟨hnL, hfl, hx, hb, hml, hown, hnm, hret, hlk, hts, hZW, hfr, hlc, hkc, hks⟩ := O
  subst hnL
  intro H locs cells slots ls hR hl
  have hl2 : (i, zv (vr x)) :: (zl lv).filter (fun q => !(q.1 == i) && !(q.1 + 1 == i && q.2.category == 2)) = zl lv2 := by
    rw [zl_filter, ← hl1]; rfl
  cases x with
  | none => exact lv_astoreN hx hb hd hl hn hl2 (fun ls hl => k H locs cells slots ls hR hl)
  | some a => exact lv_astore hx hb hd hl hn hl2 (fun ls hl => k H locs cells slots ls hR hl)
theorem z_lstore_n {K : ZC} {cc : ByteArray} {own nm : String} {nL : Nat} {ret : Option FieldType} {fr lc : Nat} (O : ZOk K cc own nm nL ret fr lc) {z : ZT} {h : AH} {pc : Nat} {lv : List (Nat × ZV)} {rest : List ZV} {q : Fin 4} {i : Nat} {x : Int64} (lv2 : List (Nat × ZV)) (hd : decode cc pc = .ok (.lstore_n q, 1)) (hi : (q : Nat) = i) (hn : i + 1 < nL) (hl1 : (i, vj x) :: lv.filter (fun q => !(q.1 == i) && (!(q.1 == i + 1) && !(q.1 + 1 == i && zcat q.2 == 2))) = lv2) (k : Zw K z h (pc + 1) lv2 rest) : Zw K z h pc lv (vj x :: rest) := by
  obtain ⟨G, p, l, e, R, s, m, args, below, meth, c, h0, nL2⟩ := K
  obtain ⟨hnL, hfl, hx, hb, hml, hown, hnm, hret, hlk, hts, hZW, hfr, hlc, hkc, hks⟩ := O
  subst hnL
  intro H locs cells slots ls hR hl
  have hl2 : (i, zv (vj x)) :: (zl lv).filter (fun q => !(q.1 == i) && (!(q.1 == i + 1) && !(q.1 + 1 == i && q.2.category == 2))) = zl lv2 := by
    rw [zl_filter2, ← hl1]; rfl
  exact lv_lstore_n hx hb hd hi hl hn hl2 (fun ls hl => k H locs cells slots ls hR hl)
theorem z_lstore {K : ZC} {cc : ByteArray} {own nm : String} {nL : Nat} {ret : Option FieldType} {fr lc : Nat} (O : ZOk K cc own nm nL ret fr lc) {z : ZT} {h : AH} {pc : Nat} {lv : List (Nat × ZV)} {rest : List ZV}  {i : Nat} {x : Int64} (lv2 : List (Nat × ZV)) (hd : decode cc pc = .ok (.lstore i, 2)) (hn : i + 1 < nL) (hl1 : (i, vj x) :: lv.filter (fun q => !(q.1 == i) && (!(q.1 == i + 1) && !(q.1 + 1 == i && zcat q.2 == 2))) = lv2) (k : Zw K z h (pc + 2) lv2 rest) : Zw K z h pc lv (vj x :: rest) := by
  obtain ⟨G, p, l, e, R, s, m, args, below, meth, c, h0, nL2⟩ := K
  obtain ⟨hnL, hfl, hx, hb, hml, hown, hnm, hret, hlk, hts, hZW, hfr, hlc, hkc, hks⟩ := O
  subst hnL
  intro H locs cells slots ls hR hl
  have hl2 : (i, zv (vj x)) :: (zl lv).filter (fun q => !(q.1 == i) && (!(q.1 == i + 1) && !(q.1 + 1 == i && q.2.category == 2))) = zl lv2 := by
    rw [zl_filter2, ← hl1]; rfl
  exact lv_lstore hx hb hd hl hn hl2 (fun ls hl => k H locs cells slots ls hR hl)
theorem z_let {α β : Type} {e : α} {f : α → Option β} {r : β} {P : α → Prop} (hr : jlet e f = some r) (k : ∀ v, f v = some r → P v) : P e := k e hr
theorem z_iinc {K : ZC} {cc : ByteArray} {own nm : String} {nL : Nat} {ret : Option FieldType} {fr lc : Nat} (O : ZOk K cc own nm nL ret fr lc) {z : ZT} {h : AH} {pc : Nat} {lv : List (Nat × ZV)} {rest : List ZV} {i : Nat} {n : Int} {x v : Int32} (j : Nat) (lv2 : List (Nat × ZV)) (hd : decode cc pc = .ok (.iinc i n, 3)) (hj : lv[j]? = some (i, vi x)) (hv : x + Int32.ofInt n = v) (hn : i < nL) (hl1 : (i, vi v) :: lv.filter (fun q => !(q.1 == i) && !(q.1 + 1 == i && zcat q.2 == 2)) = lv2) (k : Zw K z h (pc + 3) lv2 rest) : Zw K z h pc lv (rest) := by
  obtain ⟨G, p, l, e, R, s, m, args, below, meth, c, h0, nL2⟩ := K
  obtain ⟨hnL, hfl, hx, hb, hml, hown, hnm, hret, hlk, hts, hZW, hfr, hlc, hkc, hks⟩ := O
  subst hnL
  intro H locs cells slots ls hR hl
  have hl2 : (i, zv (vi v)) :: (zl lv).filter (fun q => !(q.1 == i) && !(q.1 + 1 == i && q.2.category == 2)) = zl lv2 := by
    rw [zl_filter, ← hl1]; rfl
  exact lv_iinc hx hb hd hl (zl_at hj) hv hn hl2 (fun ls hl => k H locs cells slots ls hR hl)
theorem z_iadd {K : ZC} {cc : ByteArray} {own nm : String} {nL : Nat} {ret : Option FieldType} {fr lc : Nat} (O : ZOk K cc own nm nL ret fr lc) {z : ZT} {h : AH} {pc : Nat} {lv : List (Nat × ZV)} {rest : List ZV} {x y : Int32} (hd : decode cc pc = .ok (.iadd, 1)) (k : Zw K z h (pc + 1) lv (vi (x + y) :: rest)) : Zw K z h pc lv (vi y :: vi x :: rest) := by
  obtain ⟨G, p, l, e, R, s, m, args, below, meth, c, h0, nL2⟩ := K
  obtain ⟨hnL, hfl, hx, hb, hml, hown, hnm, hret, hlk, hts, hZW, hfr, hlc, hkc, hks⟩ := O
  subst hnL
  intro H locs cells slots ls hR hl
  exact lv_iadd hx hb hd (k H locs cells slots ls hR hl)
theorem z_isub {K : ZC} {cc : ByteArray} {own nm : String} {nL : Nat} {ret : Option FieldType} {fr lc : Nat} (O : ZOk K cc own nm nL ret fr lc) {z : ZT} {h : AH} {pc : Nat} {lv : List (Nat × ZV)} {rest : List ZV} {x y : Int32} (hd : decode cc pc = .ok (.isub, 1)) (k : Zw K z h (pc + 1) lv (vi (x - y) :: rest)) : Zw K z h pc lv (vi y :: vi x :: rest) := by
  obtain ⟨G, p, l, e, R, s, m, args, below, meth, c, h0, nL2⟩ := K
  obtain ⟨hnL, hfl, hx, hb, hml, hown, hnm, hret, hlk, hts, hZW, hfr, hlc, hkc, hks⟩ := O
  subst hnL
  intro H locs cells slots ls hR hl
  exact lv_isub hx hb hd (k H locs cells slots ls hR hl)
theorem z_imul {K : ZC} {cc : ByteArray} {own nm : String} {nL : Nat} {ret : Option FieldType} {fr lc : Nat} (O : ZOk K cc own nm nL ret fr lc) {z : ZT} {h : AH} {pc : Nat} {lv : List (Nat × ZV)} {rest : List ZV} {x y : Int32} (hd : decode cc pc = .ok (.imul, 1)) (k : Zw K z h (pc + 1) lv (vi (x * y) :: rest)) : Zw K z h pc lv (vi y :: vi x :: rest) := by
  obtain ⟨G, p, l, e, R, s, m, args, below, meth, c, h0, nL2⟩ := K
  obtain ⟨hnL, hfl, hx, hb, hml, hown, hnm, hret, hlk, hts, hZW, hfr, hlc, hkc, hks⟩ := O
  subst hnL
  intro H locs cells slots ls hR hl
  exact lv_imul hx hb hd (k H locs cells slots ls hR hl)
theorem z_iand {K : ZC} {cc : ByteArray} {own nm : String} {nL : Nat} {ret : Option FieldType} {fr lc : Nat} (O : ZOk K cc own nm nL ret fr lc) {z : ZT} {h : AH} {pc : Nat} {lv : List (Nat × ZV)} {rest : List ZV} {x y : Int32} (hd : decode cc pc = .ok (.iand, 1)) (k : Zw K z h (pc + 1) lv (vi (x &&& y) :: rest)) : Zw K z h pc lv (vi y :: vi x :: rest) := by
  obtain ⟨G, p, l, e, R, s, m, args, below, meth, c, h0, nL2⟩ := K
  obtain ⟨hnL, hfl, hx, hb, hml, hown, hnm, hret, hlk, hts, hZW, hfr, hlc, hkc, hks⟩ := O
  subst hnL
  intro H locs cells slots ls hR hl
  exact lv_iand hx hb hd (k H locs cells slots ls hR hl)
theorem z_ior {K : ZC} {cc : ByteArray} {own nm : String} {nL : Nat} {ret : Option FieldType} {fr lc : Nat} (O : ZOk K cc own nm nL ret fr lc) {z : ZT} {h : AH} {pc : Nat} {lv : List (Nat × ZV)} {rest : List ZV} {x y : Int32} (hd : decode cc pc = .ok (.ior, 1)) (k : Zw K z h (pc + 1) lv (vi (x ||| y) :: rest)) : Zw K z h pc lv (vi y :: vi x :: rest) := by
  obtain ⟨G, p, l, e, R, s, m, args, below, meth, c, h0, nL2⟩ := K
  obtain ⟨hnL, hfl, hx, hb, hml, hown, hnm, hret, hlk, hts, hZW, hfr, hlc, hkc, hks⟩ := O
  subst hnL
  intro H locs cells slots ls hR hl
  exact lv_ior hx hb hd (k H locs cells slots ls hR hl)
theorem z_ixor {K : ZC} {cc : ByteArray} {own nm : String} {nL : Nat} {ret : Option FieldType} {fr lc : Nat} (O : ZOk K cc own nm nL ret fr lc) {z : ZT} {h : AH} {pc : Nat} {lv : List (Nat × ZV)} {rest : List ZV} {x y : Int32} (hd : decode cc pc = .ok (.ixor, 1)) (k : Zw K z h (pc + 1) lv (vi (x ^^^ y) :: rest)) : Zw K z h pc lv (vi y :: vi x :: rest) := by
  obtain ⟨G, p, l, e, R, s, m, args, below, meth, c, h0, nL2⟩ := K
  obtain ⟨hnL, hfl, hx, hb, hml, hown, hnm, hret, hlk, hts, hZW, hfr, hlc, hkc, hks⟩ := O
  subst hnL
  intro H locs cells slots ls hR hl
  exact lv_ixor hx hb hd (k H locs cells slots ls hR hl)
theorem z_ishl {K : ZC} {cc : ByteArray} {own nm : String} {nL : Nat} {ret : Option FieldType} {fr lc : Nat} (O : ZOk K cc own nm nL ret fr lc) {z : ZT} {h : AH} {pc : Nat} {lv : List (Nat × ZV)} {rest : List ZV} {x y : Int32} (hd : decode cc pc = .ok (.ishl, 1)) (k : Zw K z h (pc + 1) lv (vi (x <<< (y &&& 31)) :: rest)) : Zw K z h pc lv (vi y :: vi x :: rest) := by
  obtain ⟨G, p, l, e, R, s, m, args, below, meth, c, h0, nL2⟩ := K
  obtain ⟨hnL, hfl, hx, hb, hml, hown, hnm, hret, hlk, hts, hZW, hfr, hlc, hkc, hks⟩ := O
  subst hnL
  intro H locs cells slots ls hR hl
  exact lv_ishl hx hb hd (k H locs cells slots ls hR hl)
theorem z_ishr {K : ZC} {cc : ByteArray} {own nm : String} {nL : Nat} {ret : Option FieldType} {fr lc : Nat} (O : ZOk K cc own nm nL ret fr lc) {z : ZT} {h : AH} {pc : Nat} {lv : List (Nat × ZV)} {rest : List ZV} {x y : Int32} (hd : decode cc pc = .ok (.ishr, 1)) (k : Zw K z h (pc + 1) lv (vi (x >>> (y &&& 31)) :: rest)) : Zw K z h pc lv (vi y :: vi x :: rest) := by
  obtain ⟨G, p, l, e, R, s, m, args, below, meth, c, h0, nL2⟩ := K
  obtain ⟨hnL, hfl, hx, hb, hml, hown, hnm, hret, hlk, hts, hZW, hfr, hlc, hkc, hks⟩ := O
  subst hnL
  intro H locs cells slots ls hR hl
  exact lv_ishr hx hb hd (k H locs cells slots ls hR hl)
theorem z_ineg {K : ZC} {cc : ByteArray} {own nm : String} {nL : Nat} {ret : Option FieldType} {fr lc : Nat} (O : ZOk K cc own nm nL ret fr lc) {z : ZT} {h : AH} {pc : Nat} {lv : List (Nat × ZV)} {rest : List ZV} {x : Int32} (hd : decode cc pc = .ok (.ineg, 1)) (k : Zw K z h (pc + 1) lv (vi (-x) :: rest)) : Zw K z h pc lv (vi x :: rest) := by
  obtain ⟨G, p, l, e, R, s, m, args, below, meth, c, h0, nL2⟩ := K
  obtain ⟨hnL, hfl, hx, hb, hml, hown, hnm, hret, hlk, hts, hZW, hfr, hlc, hkc, hks⟩ := O
  subst hnL
  intro H locs cells slots ls hR hl
  exact lv_ineg hx hb hd (k H locs cells slots ls hR hl)
theorem z_ladd {K : ZC} {cc : ByteArray} {own nm : String} {nL : Nat} {ret : Option FieldType} {fr lc : Nat} (O : ZOk K cc own nm nL ret fr lc) {z : ZT} {h : AH} {pc : Nat} {lv : List (Nat × ZV)} {rest : List ZV} {x y : Int64} (hd : decode cc pc = .ok (.ladd, 1)) (k : Zw K z h (pc + 1) lv (vj (x + y) :: rest)) : Zw K z h pc lv (vj y :: vj x :: rest) := by
  obtain ⟨G, p, l, e, R, s, m, args, below, meth, c, h0, nL2⟩ := K
  obtain ⟨hnL, hfl, hx, hb, hml, hown, hnm, hret, hlk, hts, hZW, hfr, hlc, hkc, hks⟩ := O
  subst hnL
  intro H locs cells slots ls hR hl
  exact lv_ladd hx hb hd (k H locs cells slots ls hR hl)
theorem z_lsub {K : ZC} {cc : ByteArray} {own nm : String} {nL : Nat} {ret : Option FieldType} {fr lc : Nat} (O : ZOk K cc own nm nL ret fr lc) {z : ZT} {h : AH} {pc : Nat} {lv : List (Nat × ZV)} {rest : List ZV} {x y : Int64} (hd : decode cc pc = .ok (.lsub, 1)) (k : Zw K z h (pc + 1) lv (vj (x - y) :: rest)) : Zw K z h pc lv (vj y :: vj x :: rest) := by
  obtain ⟨G, p, l, e, R, s, m, args, below, meth, c, h0, nL2⟩ := K
  obtain ⟨hnL, hfl, hx, hb, hml, hown, hnm, hret, hlk, hts, hZW, hfr, hlc, hkc, hks⟩ := O
  subst hnL
  intro H locs cells slots ls hR hl
  exact lv_lsub hx hb hd (k H locs cells slots ls hR hl)
theorem z_lmul {K : ZC} {cc : ByteArray} {own nm : String} {nL : Nat} {ret : Option FieldType} {fr lc : Nat} (O : ZOk K cc own nm nL ret fr lc) {z : ZT} {h : AH} {pc : Nat} {lv : List (Nat × ZV)} {rest : List ZV} {x y : Int64} (hd : decode cc pc = .ok (.lmul, 1)) (k : Zw K z h (pc + 1) lv (vj (x * y) :: rest)) : Zw K z h pc lv (vj y :: vj x :: rest) := by
  obtain ⟨G, p, l, e, R, s, m, args, below, meth, c, h0, nL2⟩ := K
  obtain ⟨hnL, hfl, hx, hb, hml, hown, hnm, hret, hlk, hts, hZW, hfr, hlc, hkc, hks⟩ := O
  subst hnL
  intro H locs cells slots ls hR hl
  exact lv_lmul hx hb hd (k H locs cells slots ls hR hl)
theorem z_idiv {K : ZC} {cc : ByteArray} {own nm : String} {nL : Nat} {ret : Option FieldType} {fr lc : Nat} (O : ZOk K cc own nm nL ret fr lc) {z : ZT} {h : AH} {pc : Nat} {lv : List (Nat × ZV)} {rest : List ZV} {x y : Int32} (hd : decode cc pc = .ok (.idiv, 1)) {α : Type} {r : α} {f : Int32 → Option α} (hr : (dv x y).bind f = some r) (k : ∀ v, f v = some r → Zw K z h (pc + 1) lv (vi v :: rest)) : Zw K z h pc lv (vi y :: vi x :: rest) := by
  obtain ⟨G, p, l, e, R, s, m, args, below, meth, c, h0, nL2⟩ := K
  obtain ⟨hnL, hfl, hx, hb, hml, hown, hnm, hret, hlk, hts, hZW, hfr, hlc, hkc, hks⟩ := O
  subst hnL
  intro H locs cells slots ls hR hl
  unfold dv at hr
  by_cases h0 : y = 0
  · rw [if_pos h0] at hr; cases hr
  · rw [if_neg h0] at hr
    exact lv_idiv hx hb hd h0 (k _ hr H locs cells slots ls hR hl)
theorem z_irem {K : ZC} {cc : ByteArray} {own nm : String} {nL : Nat} {ret : Option FieldType} {fr lc : Nat} (O : ZOk K cc own nm nL ret fr lc) {z : ZT} {h : AH} {pc : Nat} {lv : List (Nat × ZV)} {rest : List ZV} {x y : Int32} (hd : decode cc pc = .ok (.irem, 1)) {α : Type} {r : α} {f : Int32 → Option α} (hr : (rm x y).bind f = some r) (k : ∀ v, f v = some r → Zw K z h (pc + 1) lv (vi v :: rest)) : Zw K z h pc lv (vi y :: vi x :: rest) := by
  obtain ⟨G, p, l, e, R, s, m, args, below, meth, c, h0, nL2⟩ := K
  obtain ⟨hnL, hfl, hx, hb, hml, hown, hnm, hret, hlk, hts, hZW, hfr, hlc, hkc, hks⟩ := O
  subst hnL
  intro H locs cells slots ls hR hl
  unfold rm at hr
  by_cases h0 : y = 0
  · rw [if_pos h0] at hr; cases hr
  · rw [if_neg h0] at hr
    exact lv_irem hx hb hd h0 (k _ hr H locs cells slots ls hR hl)
theorem z_lrem {K : ZC} {cc : ByteArray} {own nm : String} {nL : Nat} {ret : Option FieldType} {fr lc : Nat} (O : ZOk K cc own nm nL ret fr lc) {z : ZT} {h : AH} {pc : Nat} {lv : List (Nat × ZV)} {rest : List ZV} {x y : Int64} (hd : decode cc pc = .ok (.lrem, 1)) {α : Type} {r : α} {f : Int64 → Option α} (hr : (rmL x y).bind f = some r) (k : ∀ v, f v = some r → Zw K z h (pc + 1) lv (vj v :: rest)) : Zw K z h pc lv (vj y :: vj x :: rest) := by
  obtain ⟨G, p, l, e, R, s, m, args, below, meth, c, h0, nL2⟩ := K
  obtain ⟨hnL, hfl, hx, hb, hml, hown, hnm, hret, hlk, hts, hZW, hfr, hlc, hkc, hks⟩ := O
  subst hnL
  intro H locs cells slots ls hR hl
  unfold rmL at hr
  by_cases h0 : y = 0
  · rw [if_pos h0] at hr; cases hr
  · rw [if_neg h0] at hr
    exact lv_lrem hx hb hd h0 (k _ hr H locs cells slots ls hR hl)
theorem z_i2l {K : ZC} {cc : ByteArray} {own nm : String} {nL : Nat} {ret : Option FieldType} {fr lc : Nat} (O : ZOk K cc own nm nL ret fr lc) {z : ZT} {h : AH} {pc : Nat} {lv : List (Nat × ZV)} {rest : List ZV} {x : Int32} (hd : decode cc pc = .ok (.i2l, 1)) (k : Zw K z h (pc + 1) lv (vj x.toInt64 :: rest)) : Zw K z h pc lv (vi x :: rest) := by
  obtain ⟨G, p, l, e, R, s, m, args, below, meth, c, h0, nL2⟩ := K
  obtain ⟨hnL, hfl, hx, hb, hml, hown, hnm, hret, hlk, hts, hZW, hfr, hlc, hkc, hks⟩ := O
  subst hnL
  intro H locs cells slots ls hR hl
  exact lv_i2l hx hb hd rfl (k H locs cells slots ls hR hl)
theorem z_l2i {K : ZC} {cc : ByteArray} {own nm : String} {nL : Nat} {ret : Option FieldType} {fr lc : Nat} (O : ZOk K cc own nm nL ret fr lc) {z : ZT} {h : AH} {pc : Nat} {lv : List (Nat × ZV)} {rest : List ZV} {x : Int64} (hd : decode cc pc = .ok (.l2i, 1)) (k : Zw K z h (pc + 1) lv (vi x.toInt32 :: rest)) : Zw K z h pc lv (vj x :: rest) := by
  obtain ⟨G, p, l, e, R, s, m, args, below, meth, c, h0, nL2⟩ := K
  obtain ⟨hnL, hfl, hx, hb, hml, hown, hnm, hret, hlk, hts, hZW, hfr, hlc, hkc, hks⟩ := O
  subst hnL
  intro H locs cells slots ls hR hl
  exact lv_l2i hx hb hd rfl (k H locs cells slots ls hR hl)
theorem z_i2b {K : ZC} {cc : ByteArray} {own nm : String} {nL : Nat} {ret : Option FieldType} {fr lc : Nat} (O : ZOk K cc own nm nL ret fr lc) {z : ZT} {h : AH} {pc : Nat} {lv : List (Nat × ZV)} {rest : List ZV} {x : Int32} (hd : decode cc pc = .ok (.i2b, 1)) (k : Zw K z h (pc + 1) lv (vi x.toInt8.toInt32 :: rest)) : Zw K z h pc lv (vi x :: rest) := by
  obtain ⟨G, p, l, e, R, s, m, args, below, meth, c, h0, nL2⟩ := K
  obtain ⟨hnL, hfl, hx, hb, hml, hown, hnm, hret, hlk, hts, hZW, hfr, hlc, hkc, hks⟩ := O
  subst hnL
  intro H locs cells slots ls hR hl
  exact lv_i2b hx hb hd rfl (k H locs cells slots ls hR hl)
theorem z_i2c {K : ZC} {cc : ByteArray} {own nm : String} {nL : Nat} {ret : Option FieldType} {fr lc : Nat} (O : ZOk K cc own nm nL ret fr lc) {z : ZT} {h : AH} {pc : Nat} {lv : List (Nat × ZV)} {rest : List ZV} {x : Int32} (hd : decode cc pc = .ok (.i2c, 1)) (k : Zw K z h (pc + 1) lv (vi (x.toUInt32 % 65536).toInt32 :: rest)) : Zw K z h pc lv (vi x :: rest) := by
  obtain ⟨G, p, l, e, R, s, m, args, below, meth, c, h0, nL2⟩ := K
  obtain ⟨hnL, hfl, hx, hb, hml, hown, hnm, hret, hlk, hts, hZW, hfr, hlc, hkc, hks⟩ := O
  subst hnL
  intro H locs cells slots ls hR hl
  exact lv_i2c hx hb hd rfl (k H locs cells slots ls hR hl)
theorem z_lcmp {K : ZC} {cc : ByteArray} {own nm : String} {nL : Nat} {ret : Option FieldType} {fr lc : Nat} (O : ZOk K cc own nm nL ret fr lc) {z : ZT} {h : AH} {pc : Nat} {lv : List (Nat × ZV)} {rest : List ZV} {x y : Int64} (hd : decode cc pc = .ok (.lcmp, 1)) (k : Zw K z h (pc + 1) lv (vi (lg_cmp x y) :: rest)) : Zw K z h pc lv (vj y :: vj x :: rest) := by
  obtain ⟨G, p, l, e, R, s, m, args, below, meth, c, h0, nL2⟩ := K
  obtain ⟨hnL, hfl, hx, hb, hml, hown, hnm, hret, hlk, hts, hZW, hfr, hlc, hkc, hks⟩ := O
  subst hnL
  intro H locs cells slots ls hR hl
  exact W.lcmp hx hb hd (k H locs cells slots ls hR hl)
theorem z_dup {K : ZC} {cc : ByteArray} {own nm : String} {nL : Nat} {ret : Option FieldType} {fr lc : Nat} (O : ZOk K cc own nm nL ret fr lc) {z : ZT} {h : AH} {pc : Nat} {lv : List (Nat × ZV)} {rest : List ZV} {v : ZV} (hd : decode cc pc = .ok (.dup, 1)) (hc : zcat v = 1) (k : Zw K z h (pc + 1) lv (v :: v :: rest)) : Zw K z h pc lv (v :: rest) := by
  obtain ⟨G, p, l, e, R, s, m, args, below, meth, c, h0, nL2⟩ := K
  obtain ⟨hnL, hfl, hx, hb, hml, hown, hnm, hret, hlk, hts, hZW, hfr, hlc, hkc, hks⟩ := O
  subst hnL
  intro H locs cells slots ls hR hl
  exact lv_dup hx hb hd ((zcat_eq v).trans hc) (k H locs cells slots ls hR hl)
theorem z_pop {K : ZC} {cc : ByteArray} {own nm : String} {nL : Nat} {ret : Option FieldType} {fr lc : Nat} (O : ZOk K cc own nm nL ret fr lc) {z : ZT} {h : AH} {pc : Nat} {lv : List (Nat × ZV)} {rest : List ZV} {v : ZV} (hd : decode cc pc = .ok (.pop, 1)) (hc : zcat v = 1) (k : Zw K z h (pc + 1) lv rest) : Zw K z h pc lv (v :: rest) := by
  obtain ⟨G, p, l, e, R, s, m, args, below, meth, c, h0, nL2⟩ := K
  obtain ⟨hnL, hfl, hx, hb, hml, hown, hnm, hret, hlk, hts, hZW, hfr, hlc, hkc, hks⟩ := O
  subst hnL
  intro H locs cells slots ls hR hl
  exact lv_pop hx hb hd ((zcat_eq v).trans hc) (k H locs cells slots ls hR hl)
theorem z_dup2 {K : ZC} {cc : ByteArray} {own nm : String} {nL : Nat} {ret : Option FieldType} {fr lc : Nat} (O : ZOk K cc own nm nL ret fr lc) {z : ZT} {h : AH} {pc : Nat} {lv : List (Nat × ZV)} {rest : List ZV} {v w : ZV} (hd : decode cc pc = .ok (.dup2, 1)) (hc : zcat v = 1) (hw : zcat w = 1) (k : Zw K z h (pc + 1) lv (v :: w :: v :: w :: rest)) : Zw K z h pc lv (v :: w :: rest) := by
  obtain ⟨G, p, l, e, R, s, m, args, below, meth, c, h0, nL2⟩ := K
  obtain ⟨hnL, hfl, hx, hb, hml, hown, hnm, hret, hlk, hts, hZW, hfr, hlc, hkc, hks⟩ := O
  subst hnL
  intro H locs cells slots ls hR hl
  exact lv_dup2_11 hx hb hd ((zcat_eq v).trans hc) ((zcat_eq w).trans hw) (k H locs cells slots ls hR hl)
theorem z_goto {K : ZC} {cc : ByteArray} {own nm : String} {nL : Nat} {ret : Option FieldType} {fr lc : Nat} (O : ZOk K cc own nm nL ret fr lc) {z : ZT} {h : AH} {pc : Nat} {lv : List (Nat × ZV)} {rest : List ZV} {off : Int} {tgt : Nat} (hd : decode cc pc = .ok (.goto off, 3)) (ht : (pc : Int) + off = (tgt : Int)) (k : Zw K z h tgt lv rest) : Zw K z h pc lv (rest) := by
  obtain ⟨G, p, l, e, R, s, m, args, below, meth, c, h0, nL2⟩ := K
  obtain ⟨hnL, hfl, hx, hb, hml, hown, hnm, hret, hlk, hts, hZW, hfr, hlc, hkc, hks⟩ := O
  subst hnL
  intro H locs cells slots ls hR hl
  exact lv_goto hx hb hd ht (k H locs cells slots ls hR hl)
theorem z_if_eq {K : ZC} {cc : ByteArray} {own nm : String} {nL : Nat} {ret : Option FieldType} {fr lc : Nat} (O : ZOk K cc own nm nL ret fr lc) {z : ZT} {h : AH} {pc : Nat} {lv : List (Nat × ZV)} {rest : List ZV} {x : Int32} {off : Int} {tgt : Nat} (hd : decode cc pc = .ok (.ifCond .eq off, 3)) (ht : (pc : Int) + off = (tgt : Int)) {α : Type} {A B : Option α} {r : α} (hr : (if x = 0 then A else B) = some r) (kt : A = some r → Zw K z h tgt lv rest) (kf : B = some r → Zw K z h (pc + 3) lv rest) : Zw K z h pc lv (vi x :: rest) := by
  obtain ⟨G, p, l, e, R, s, m, args, below, meth, c, h0, nL2⟩ := K
  obtain ⟨hnL, hfl, hx, hb, hml, hown, hnm, hret, hlk, hts, hZW, hfr, hlc, hkc, hks⟩ := O
  subst hnL
  intro H locs cells slots ls hR hl
  refine lv_if_eq hx hb hd ht (fun q => ?_) (fun q => ?_)
  · rw [if_pos q] at hr; exact kt hr H locs cells slots ls hR hl
  · rw [if_neg q] at hr; exact kf hr H locs cells slots ls hR hl
theorem z_icmp_eq {K : ZC} {cc : ByteArray} {own nm : String} {nL : Nat} {ret : Option FieldType} {fr lc : Nat} (O : ZOk K cc own nm nL ret fr lc) {z : ZT} {h : AH} {pc : Nat} {lv : List (Nat × ZV)} {rest : List ZV} {x y : Int32} {off : Int} {tgt : Nat} (hd : decode cc pc = .ok (.if_icmp .eq off, 3)) (ht : (pc : Int) + off = (tgt : Int)) {α : Type} {A B : Option α} {r : α} (hr : (if x = y then A else B) = some r) (kt : A = some r → Zw K z h tgt lv rest) (kf : B = some r → Zw K z h (pc + 3) lv rest) : Zw K z h pc lv (vi y :: vi x :: rest) := by
  obtain ⟨G, p, l, e, R, s, m, args, below, meth, c, h0, nL2⟩ := K
  obtain ⟨hnL, hfl, hx, hb, hml, hown, hnm, hret, hlk, hts, hZW, hfr, hlc, hkc, hks⟩ := O
  subst hnL
  intro H locs cells slots ls hR hl
  refine lv_icmp_eq hx hb hd ht (fun q => ?_) (fun q => ?_)
  · rw [if_pos q] at hr; exact kt hr H locs cells slots ls hR hl
  · rw [if_neg q] at hr; exact kf hr H locs cells slots ls hR hl
theorem z_if_ne {K : ZC} {cc : ByteArray} {own nm : String} {nL : Nat} {ret : Option FieldType} {fr lc : Nat} (O : ZOk K cc own nm nL ret fr lc) {z : ZT} {h : AH} {pc : Nat} {lv : List (Nat × ZV)} {rest : List ZV} {x : Int32} {off : Int} {tgt : Nat} (hd : decode cc pc = .ok (.ifCond .ne off, 3)) (ht : (pc : Int) + off = (tgt : Int)) {α : Type} {A B : Option α} {r : α} (hr : (if x = 0 then A else B) = some r) (kf : A = some r → Zw K z h (pc + 3) lv rest) (kt : B = some r → Zw K z h tgt lv rest) : Zw K z h pc lv (vi x :: rest) := by
  obtain ⟨G, p, l, e, R, s, m, args, below, meth, c, h0, nL2⟩ := K
  obtain ⟨hnL, hfl, hx, hb, hml, hown, hnm, hret, hlk, hts, hZW, hfr, hlc, hkc, hks⟩ := O
  subst hnL
  intro H locs cells slots ls hR hl
  refine lv_if_ne hx hb hd ht (fun q => ?_) (fun q => ?_)
  · rw [if_neg q] at hr; exact kt hr H locs cells slots ls hR hl
  · rw [if_pos q] at hr; exact kf hr H locs cells slots ls hR hl
theorem z_icmp_ne {K : ZC} {cc : ByteArray} {own nm : String} {nL : Nat} {ret : Option FieldType} {fr lc : Nat} (O : ZOk K cc own nm nL ret fr lc) {z : ZT} {h : AH} {pc : Nat} {lv : List (Nat × ZV)} {rest : List ZV} {x y : Int32} {off : Int} {tgt : Nat} (hd : decode cc pc = .ok (.if_icmp .ne off, 3)) (ht : (pc : Int) + off = (tgt : Int)) {α : Type} {A B : Option α} {r : α} (hr : (if x = y then A else B) = some r) (kf : A = some r → Zw K z h (pc + 3) lv rest) (kt : B = some r → Zw K z h tgt lv rest) : Zw K z h pc lv (vi y :: vi x :: rest) := by
  obtain ⟨G, p, l, e, R, s, m, args, below, meth, c, h0, nL2⟩ := K
  obtain ⟨hnL, hfl, hx, hb, hml, hown, hnm, hret, hlk, hts, hZW, hfr, hlc, hkc, hks⟩ := O
  subst hnL
  intro H locs cells slots ls hR hl
  refine lv_icmp_ne hx hb hd ht (fun q => ?_) (fun q => ?_)
  · rw [if_neg q] at hr; exact kt hr H locs cells slots ls hR hl
  · rw [if_pos q] at hr; exact kf hr H locs cells slots ls hR hl
theorem z_if_lt {K : ZC} {cc : ByteArray} {own nm : String} {nL : Nat} {ret : Option FieldType} {fr lc : Nat} (O : ZOk K cc own nm nL ret fr lc) {z : ZT} {h : AH} {pc : Nat} {lv : List (Nat × ZV)} {rest : List ZV} {x : Int32} {off : Int} {tgt : Nat} (hd : decode cc pc = .ok (.ifCond .lt off, 3)) (ht : (pc : Int) + off = (tgt : Int)) {α : Type} {A B : Option α} {r : α} (hr : (if x < 0 then A else B) = some r) (kt : A = some r → Zw K z h tgt lv rest) (kf : B = some r → Zw K z h (pc + 3) lv rest) : Zw K z h pc lv (vi x :: rest) := by
  obtain ⟨G, p, l, e, R, s, m, args, below, meth, c, h0, nL2⟩ := K
  obtain ⟨hnL, hfl, hx, hb, hml, hown, hnm, hret, hlk, hts, hZW, hfr, hlc, hkc, hks⟩ := O
  subst hnL
  intro H locs cells slots ls hR hl
  refine lv_if_lt hx hb hd ht (fun q => ?_) (fun q => ?_)
  · rw [if_pos q] at hr; exact kt hr H locs cells slots ls hR hl
  · rw [if_neg q] at hr; exact kf hr H locs cells slots ls hR hl
theorem z_icmp_lt {K : ZC} {cc : ByteArray} {own nm : String} {nL : Nat} {ret : Option FieldType} {fr lc : Nat} (O : ZOk K cc own nm nL ret fr lc) {z : ZT} {h : AH} {pc : Nat} {lv : List (Nat × ZV)} {rest : List ZV} {x y : Int32} {off : Int} {tgt : Nat} (hd : decode cc pc = .ok (.if_icmp .lt off, 3)) (ht : (pc : Int) + off = (tgt : Int)) {α : Type} {A B : Option α} {r : α} (hr : (if x < y then A else B) = some r) (kt : A = some r → Zw K z h tgt lv rest) (kf : B = some r → Zw K z h (pc + 3) lv rest) : Zw K z h pc lv (vi y :: vi x :: rest) := by
  obtain ⟨G, p, l, e, R, s, m, args, below, meth, c, h0, nL2⟩ := K
  obtain ⟨hnL, hfl, hx, hb, hml, hown, hnm, hret, hlk, hts, hZW, hfr, hlc, hkc, hks⟩ := O
  subst hnL
  intro H locs cells slots ls hR hl
  refine lv_icmp_lt hx hb hd ht (fun q => ?_) (fun q => ?_)
  · rw [if_pos q] at hr; exact kt hr H locs cells slots ls hR hl
  · rw [if_neg q] at hr; exact kf hr H locs cells slots ls hR hl
theorem z_if_ge {K : ZC} {cc : ByteArray} {own nm : String} {nL : Nat} {ret : Option FieldType} {fr lc : Nat} (O : ZOk K cc own nm nL ret fr lc) {z : ZT} {h : AH} {pc : Nat} {lv : List (Nat × ZV)} {rest : List ZV} {x : Int32} {off : Int} {tgt : Nat} (hd : decode cc pc = .ok (.ifCond .ge off, 3)) (ht : (pc : Int) + off = (tgt : Int)) {α : Type} {A B : Option α} {r : α} (hr : (if 0 ≤ x then A else B) = some r) (kt : A = some r → Zw K z h tgt lv rest) (kf : B = some r → Zw K z h (pc + 3) lv rest) : Zw K z h pc lv (vi x :: rest) := by
  obtain ⟨G, p, l, e, R, s, m, args, below, meth, c, h0, nL2⟩ := K
  obtain ⟨hnL, hfl, hx, hb, hml, hown, hnm, hret, hlk, hts, hZW, hfr, hlc, hkc, hks⟩ := O
  subst hnL
  intro H locs cells slots ls hR hl
  refine lv_if_ge hx hb hd ht (fun q => ?_) (fun q => ?_)
  · rw [if_pos q] at hr; exact kt hr H locs cells slots ls hR hl
  · rw [if_neg q] at hr; exact kf hr H locs cells slots ls hR hl
theorem z_icmp_ge {K : ZC} {cc : ByteArray} {own nm : String} {nL : Nat} {ret : Option FieldType} {fr lc : Nat} (O : ZOk K cc own nm nL ret fr lc) {z : ZT} {h : AH} {pc : Nat} {lv : List (Nat × ZV)} {rest : List ZV} {x y : Int32} {off : Int} {tgt : Nat} (hd : decode cc pc = .ok (.if_icmp .ge off, 3)) (ht : (pc : Int) + off = (tgt : Int)) {α : Type} {A B : Option α} {r : α} (hr : (if y ≤ x then A else B) = some r) (kt : A = some r → Zw K z h tgt lv rest) (kf : B = some r → Zw K z h (pc + 3) lv rest) : Zw K z h pc lv (vi y :: vi x :: rest) := by
  obtain ⟨G, p, l, e, R, s, m, args, below, meth, c, h0, nL2⟩ := K
  obtain ⟨hnL, hfl, hx, hb, hml, hown, hnm, hret, hlk, hts, hZW, hfr, hlc, hkc, hks⟩ := O
  subst hnL
  intro H locs cells slots ls hR hl
  refine lv_icmp_ge hx hb hd ht (fun q => ?_) (fun q => ?_)
  · rw [if_pos q] at hr; exact kt hr H locs cells slots ls hR hl
  · rw [if_neg q] at hr; exact kf hr H locs cells slots ls hR hl
theorem z_if_gt {K : ZC} {cc : ByteArray} {own nm : String} {nL : Nat} {ret : Option FieldType} {fr lc : Nat} (O : ZOk K cc own nm nL ret fr lc) {z : ZT} {h : AH} {pc : Nat} {lv : List (Nat × ZV)} {rest : List ZV} {x : Int32} {off : Int} {tgt : Nat} (hd : decode cc pc = .ok (.ifCond .gt off, 3)) (ht : (pc : Int) + off = (tgt : Int)) {α : Type} {A B : Option α} {r : α} (hr : (if 0 < x then A else B) = some r) (kt : A = some r → Zw K z h tgt lv rest) (kf : B = some r → Zw K z h (pc + 3) lv rest) : Zw K z h pc lv (vi x :: rest) := by
  obtain ⟨G, p, l, e, R, s, m, args, below, meth, c, h0, nL2⟩ := K
  obtain ⟨hnL, hfl, hx, hb, hml, hown, hnm, hret, hlk, hts, hZW, hfr, hlc, hkc, hks⟩ := O
  subst hnL
  intro H locs cells slots ls hR hl
  refine lv_if_gt hx hb hd ht (fun q => ?_) (fun q => ?_)
  · rw [if_pos q] at hr; exact kt hr H locs cells slots ls hR hl
  · rw [if_neg q] at hr; exact kf hr H locs cells slots ls hR hl
theorem z_icmp_gt {K : ZC} {cc : ByteArray} {own nm : String} {nL : Nat} {ret : Option FieldType} {fr lc : Nat} (O : ZOk K cc own nm nL ret fr lc) {z : ZT} {h : AH} {pc : Nat} {lv : List (Nat × ZV)} {rest : List ZV} {x y : Int32} {off : Int} {tgt : Nat} (hd : decode cc pc = .ok (.if_icmp .gt off, 3)) (ht : (pc : Int) + off = (tgt : Int)) {α : Type} {A B : Option α} {r : α} (hr : (if y < x then A else B) = some r) (kt : A = some r → Zw K z h tgt lv rest) (kf : B = some r → Zw K z h (pc + 3) lv rest) : Zw K z h pc lv (vi y :: vi x :: rest) := by
  obtain ⟨G, p, l, e, R, s, m, args, below, meth, c, h0, nL2⟩ := K
  obtain ⟨hnL, hfl, hx, hb, hml, hown, hnm, hret, hlk, hts, hZW, hfr, hlc, hkc, hks⟩ := O
  subst hnL
  intro H locs cells slots ls hR hl
  refine lv_icmp_gt hx hb hd ht (fun q => ?_) (fun q => ?_)
  · rw [if_pos q] at hr; exact kt hr H locs cells slots ls hR hl
  · rw [if_neg q] at hr; exact kf hr H locs cells slots ls hR hl
theorem z_if_le {K : ZC} {cc : ByteArray} {own nm : String} {nL : Nat} {ret : Option FieldType} {fr lc : Nat} (O : ZOk K cc own nm nL ret fr lc) {z : ZT} {h : AH} {pc : Nat} {lv : List (Nat × ZV)} {rest : List ZV} {x : Int32} {off : Int} {tgt : Nat} (hd : decode cc pc = .ok (.ifCond .le off, 3)) (ht : (pc : Int) + off = (tgt : Int)) {α : Type} {A B : Option α} {r : α} (hr : (if x ≤ 0 then A else B) = some r) (kt : A = some r → Zw K z h tgt lv rest) (kf : B = some r → Zw K z h (pc + 3) lv rest) : Zw K z h pc lv (vi x :: rest) := by
  obtain ⟨G, p, l, e, R, s, m, args, below, meth, c, h0, nL2⟩ := K
  obtain ⟨hnL, hfl, hx, hb, hml, hown, hnm, hret, hlk, hts, hZW, hfr, hlc, hkc, hks⟩ := O
  subst hnL
  intro H locs cells slots ls hR hl
  refine lv_if_le hx hb hd ht (fun q => ?_) (fun q => ?_)
  · rw [if_pos q] at hr; exact kt hr H locs cells slots ls hR hl
  · rw [if_neg q] at hr; exact kf hr H locs cells slots ls hR hl
theorem z_icmp_le {K : ZC} {cc : ByteArray} {own nm : String} {nL : Nat} {ret : Option FieldType} {fr lc : Nat} (O : ZOk K cc own nm nL ret fr lc) {z : ZT} {h : AH} {pc : Nat} {lv : List (Nat × ZV)} {rest : List ZV} {x y : Int32} {off : Int} {tgt : Nat} (hd : decode cc pc = .ok (.if_icmp .le off, 3)) (ht : (pc : Int) + off = (tgt : Int)) {α : Type} {A B : Option α} {r : α} (hr : (if x ≤ y then A else B) = some r) (kt : A = some r → Zw K z h tgt lv rest) (kf : B = some r → Zw K z h (pc + 3) lv rest) : Zw K z h pc lv (vi y :: vi x :: rest) := by
  obtain ⟨G, p, l, e, R, s, m, args, below, meth, c, h0, nL2⟩ := K
  obtain ⟨hnL, hfl, hx, hb, hml, hown, hnm, hret, hlk, hts, hZW, hfr, hlc, hkc, hks⟩ := O
  subst hnL
  intro H locs cells slots ls hR hl
  refine lv_icmp_le hx hb hd ht (fun q => ?_) (fun q => ?_)
  · rw [if_pos q] at hr; exact kt hr H locs cells slots ls hR hl
  · rw [if_neg q] at hr; exact kf hr H locs cells slots ls hR hl
theorem z_ifnull {K : ZC} {cc : ByteArray} {own nm : String} {nL : Nat} {ret : Option FieldType} {fr lc : Nat} (O : ZOk K cc own nm nL ret fr lc) {z : ZT} {h : AH} {pc : Nat} {lv : List (Nat × ZV)} {rest : List ZV} {x : Option Nat} {off : Int} {tgt : Nat} (hd : decode cc pc = .ok (.ifnull off, 3)) (ht : (pc : Int) + off = (tgt : Int)) {α : Type} {A B : Option α} {r : α} (hr : (if x = none then A else B) = some r) (kt : A = some r → Zw K z h tgt lv rest) (kf : B = some r → Zw K z h (pc + 3) lv rest) : Zw K z h pc lv (vr x :: rest) := by
  obtain ⟨G, p, l, e, R, s, m, args, below, meth, c, h0, nL2⟩ := K
  obtain ⟨hnL, hfl, hx, hb, hml, hown, hnm, hret, hlk, hts, hZW, hfr, hlc, hkc, hks⟩ := O
  subst hnL
  intro H locs cells slots ls hR hl
  cases x with
  | none => exact lv_ifnullN hx hb hd ht (kt hr H locs cells slots ls hR hl)
  | some a => exact lv_ifnull hx hb hd (kf hr H locs cells slots ls hR hl)
theorem z_ifnonnull {K : ZC} {cc : ByteArray} {own nm : String} {nL : Nat} {ret : Option FieldType} {fr lc : Nat} (O : ZOk K cc own nm nL ret fr lc) {z : ZT} {h : AH} {pc : Nat} {lv : List (Nat × ZV)} {rest : List ZV} {x : Option Nat} {off : Int} {tgt : Nat} (hd : decode cc pc = .ok (.ifnonnull off, 3)) (ht : (pc : Int) + off = (tgt : Int)) {α : Type} {A B : Option α} {r : α} (hr : (if x = none then A else B) = some r) (kf : A = some r → Zw K z h (pc + 3) lv rest) (kt : B = some r → Zw K z h tgt lv rest) : Zw K z h pc lv (vr x :: rest) := by
  obtain ⟨G, p, l, e, R, s, m, args, below, meth, c, h0, nL2⟩ := K
  obtain ⟨hnL, hfl, hx, hb, hml, hown, hnm, hret, hlk, hts, hZW, hfr, hlc, hkc, hks⟩ := O
  subst hnL
  intro H locs cells slots ls hR hl
  cases x with
  | none => exact lv_ifnonnullN hx hb hd (kf hr H locs cells slots ls hR hl)
  | some a => exact lv_ifnonnull hx hb hd ht (kt hr H locs cells slots ls hR hl)
theorem z_acmp_eq {K : ZC} {cc : ByteArray} {own nm : String} {nL : Nat} {ret : Option FieldType} {fr lc : Nat} (O : ZOk K cc own nm nL ret fr lc) {z : ZT} {h : AH} {pc : Nat} {lv : List (Nat × ZV)} {rest : List ZV} {x y : Option Nat} {off : Int} {tgt : Nat} (hd : decode cc pc = .ok (.if_acmp .eq off, 3)) (ht : (pc : Int) + off = (tgt : Int)) {α : Type} {A B : Option α} {r : α} (hr : (if x = y then A else B) = some r) (kt : A = some r → Zw K z h tgt lv rest) (kf : B = some r → Zw K z h (pc + 3) lv rest) : Zw K z h pc lv (vr y :: vr x :: rest) := by
  obtain ⟨G, p, l, e, R, s, m, args, below, meth, c, h0, nL2⟩ := K
  obtain ⟨hnL, hfl, hx, hb, hml, hown, hnm, hret, hlk, hts, hZW, hfr, hlc, hkc, hks⟩ := O
  subst hnL
  intro H locs cells slots ls hR hl
  refine lv_acmp_eq hx hb hd ht (fun q => ?_) (fun q => ?_)
  · rw [if_pos q] at hr; exact kt hr H locs cells slots ls hR hl
  · rw [if_neg q] at hr; exact kf hr H locs cells slots ls hR hl
theorem z_acmp_ne {K : ZC} {cc : ByteArray} {own nm : String} {nL : Nat} {ret : Option FieldType} {fr lc : Nat} (O : ZOk K cc own nm nL ret fr lc) {z : ZT} {h : AH} {pc : Nat} {lv : List (Nat × ZV)} {rest : List ZV} {x y : Option Nat} {off : Int} {tgt : Nat} (hd : decode cc pc = .ok (.if_acmp .ne off, 3)) (ht : (pc : Int) + off = (tgt : Int)) {α : Type} {A B : Option α} {r : α} (hr : (if x = y then A else B) = some r) (kf : A = some r → Zw K z h (pc + 3) lv rest) (kt : B = some r → Zw K z h tgt lv rest) : Zw K z h pc lv (vr y :: vr x :: rest) := by
  obtain ⟨G, p, l, e, R, s, m, args, below, meth, c, h0, nL2⟩ := K
  obtain ⟨hnL, hfl, hx, hb, hml, hown, hnm, hret, hlk, hts, hZW, hfr, hlc, hkc, hks⟩ := O
  subst hnL
  intro H locs cells slots ls hR hl
  refine lv_acmp_ne hx hb hd ht (fun q => ?_) (fun q => ?_)
  · rw [if_neg q] at hr; exact kt hr H locs cells slots ls hR hl
  · rw [if_pos q] at hr; exact kf hr H locs cells slots ls hR hl
theorem z_tabOut {K : ZC} {cc : ByteArray} {own nm : String} {nL : Nat} {ret : Option FieldType} {fr lc : Nat} (O : ZOk K cc own nm nL ret fr lc) {z : ZT} {h : AH} {pc : Nat} {lv : List (Nat × ZV)} {rest : List ZV} {dflt lo hi : Int} {offs : Array Int} {len tgt : Nat} {x : Int32} (hd : decode cc pc = .ok (.tableswitch dflt lo hi offs, len)) (hq : x.toInt < lo ∨ hi < x.toInt) (ht : (pc : Int) + dflt = (tgt : Int)) (k : Zw K z h tgt lv rest) : Zw K z h pc lv (vi x :: rest) := by
  obtain ⟨G, p, l, e, R, s, m, args, below, meth, c, h0, nL2⟩ := K
  obtain ⟨hnL, hfl, hx, hb, hml, hown, hnm, hret, hlk, hts, hZW, hfr, hlc, hkc, hks⟩ := O
  subst hnL
  intro H locs cells slots ls hR hl
  exact lv_tableOut hx hb hd hq ht (k H locs cells slots ls hR hl)
theorem z_tabIn {K : ZC} {cc : ByteArray} {own nm : String} {nL : Nat} {ret : Option FieldType} {fr lc : Nat} (O : ZOk K cc own nm nL ret fr lc) {z : ZT} {h : AH} {pc : Nat} {lv : List (Nat × ZV)} {rest : List ZV} {dflt lo hi off : Int} {offs : Array Int} {len tgt : Nat} {x v : Int32} (hd : decode cc pc = .ok (.tableswitch dflt lo hi offs, len)) (hq : x = v) (h1 : decide (lo ≤ v.toInt ∧ v.toInt ≤ hi) = true) (ho : offs[(v.toInt - lo).toNat]? = some off) (ht : (pc : Int) + off = (tgt : Int)) (k : Zw K z h tgt lv rest) : Zw K z h pc lv (vi x :: rest) := by
  obtain ⟨G, p, l, e, R, s, m, args, below, meth, c, h0, nL2⟩ := K
  obtain ⟨hnL, hfl, hx, hb, hml, hown, hnm, hret, hlk, hts, hZW, hfr, hlc, hkc, hks⟩ := O
  subst hnL
  intro H locs cells slots ls hR hl
  subst hq
  have h2 := of_decide_eq_true h1
  exact lv_tableIn hx hb hd (Int.not_lt.mpr h2.1) (Int.not_lt.mpr h2.2) ho ht (k H locs cells slots ls hR hl)
theorem z_look {K : ZC} {cc : ByteArray} {own nm : String} {nL : Nat} {ret : Option FieldType} {fr lc : Nat} (O : ZOk K cc own nm nL ret fr lc) {z : ZT} {h : AH} {pc : Nat} {lv : List (Nat × ZV)} {rest : List ZV} {dflt off : Int} {ps : Array (Int × Int)} {len tgt : Nat} {x : Int32} (hd : decode cc pc = .ok (.lookupswitch dflt ps, len)) (hp : (ps.toList.zip (ps.toList.drop 1)).all (fun (a, next) => a.1 < next.1) = true) (ho : Op.lookupswitch.offset ps.toList dflt x.toInt = off) (ht : (pc : Int) + off = (tgt : Int)) (k : Zw K z h tgt lv rest) : Zw K z h pc lv (vi x :: rest) := by
  obtain ⟨G, p, l, e, R, s, m, args, below, meth, c, h0, nL2⟩ := K
  obtain ⟨hnL, hfl, hx, hb, hml, hown, hnm, hret, hlk, hts, hZW, hfr, hlc, hkc, hks⟩ := O
  subst hnL
  intro H locs cells slots ls hR hl
  exact lv_lookup hx hb hd hp ho ht (k H locs cells slots ls hR hl)
theorem zt_out {x : Int32} {lo hi : Int} (n : Nat) (hn : lo + n = hi + 1) (hq : ∀ j : Nat, j < n → ¬ x.toInt = lo + j) : x.toInt < lo ∨ hi < x.toInt := by
  by_cases h1 : x.toInt < lo
  · exact Or.inl h1
  · by_cases h2 : hi < x.toInt
    · exact Or.inr h2
    · exact absurd (by omega : x.toInt = lo + ((x.toInt - lo).toNat : Int)) (hq (x.toInt - lo).toNat (by omega))
theorem z_sub {K : ZC} {z : ZT} {h : AH} {pc : Nat} {lv : List (Nat × ZV)}  {lv2 : List (Nat × ZV)} (ks : List Nat) (hl1 : ks.filterMap (fun k => lv[k]?) = lv2) {st : List ZV} (k : Zw K z h pc lv2 st) : Zw K z h pc lv st := by
  obtain ⟨G, p, l, e, R, s, m, args, below, meth, c, h0, nL2⟩ := K
  exact fun H locs cells slots ls hR hl => k H locs cells slots ls hR (zl_sub hl ks hl1)
