/-! THE ROWS over abstract heaps: fields, arrays, new, returns -/
set_option maxRecDepth 100000
theorem hM_at {G : ZG} {s : State} {h : AH} {H : Heap} (hh : ZH G s h H) {a : Nat} {e : HE} (he : hM h a = some e) : zAt G s h.1.1 a e H := hh.2.2.2.2.2.2 a e he
theorem rf_some (a : Nat) : va_rf (some a) = .ref a := rfl
theorem lookup_mem {ps : List (Nat × Nat)} {c k : Nat} (h : ps.lookup c = some k) : (c, k) ∈ ps := by
  induction ps with
  | nil => cases h
  | cons q ps ih =>
    obtain ⟨a, b⟩ := q
    rw [List.lookup_cons] at h
    by_cases hc : c == a
    · rw [hc] at h
      cases h
      rw [eq_of_beq hc]
      exact List.mem_cons_self
    · have hc' : (c == a) = false := by simpa using hc
      rw [hc'] at h
      exact List.mem_cons_of_mem _ (ih h)
/-- a field link (its name and descriptor) leads, in the classes of these tags, to these places -/
def FOk (ref name desc : String) (ps : List (Nat × Nat)) : Prop := ∀ q ∈ ps, ∃ (C : String) (T : u_T) (N : Nat), zCl q.1 = some (C, T, N) ∧ q.2 < N ∧ (T q.2).2.1 = name ∧ (T q.2).2.2.1 = desc ∧ (∀ w ∈ u_ws C T N, w ∈ lw_all) ∧ ((T q.2).1 = ref ∨ Cond.sameField ref (T q.2).1 name desc ∈ lw_all)
/-- .. and can be written: not final, of this type; the class's names differ -/
def FOw (ps : List (Nat × Nat)) (fin : Bool) (own : String) (ty : FieldType) : Prop := ∀ q ∈ ps, ∀ (C : String) (T : u_T) (N : Nat), zCl q.1 = some (C, T, N) → (T q.2).2.2.2 = fin ∧ (fin = true → (T q.2).1 = own) ∧ parseFieldDescriptor (T q.2).2.2.1 = some ty ∧ (∀ k, k < N → ∃ ty0, parseFieldDescriptor (T k).2.2.1 = some ty0) ∧ (∀ a, a < N → ∀ b, b < N → a ≠ b → (T a).2.1 ≠ (T b).2.1)
theorem gV_spec {h : AH} {ps : List (Nat × Nat)} {x : Option Nat} {v : Value} (hv : gV h ps x = some v) : ∃ (a c k : Nat) (fs : List Value), x = some a ∧ hM h a = some (c, .inl fs) ∧ (c, k) ∈ ps ∧ fs[k]? = some v := by
  unfold gV at hv
  refine bs hv (fun a h1 hv => bs hv (fun e h2 hv => ?_))
  obtain ⟨c, cont⟩ := e
  match cont, h2, hv with
  | .inl fs, h2, hv =>
    refine bs hv (fun k h3 hv => ?_)
    exact ⟨a, c, k, fs, h1, h2, lookup_mem h3, hv⟩
  | .inr q, h2, hv => cases hv
theorem pV_spec {h h' : AH} {ps : List (Nat × Nat)} {x : Option Nat} {v : Value} (hv : pV h ps x v = some h') : ∃ (a c k : Nat) (fs : List Value), x = some a ∧ hM h a = some (c, .inl fs) ∧ (c, k) ∈ ps ∧ k < fs.length ∧ hB h ≤ a ∧ h' = hU h a (c, .inl (fs.set k v)) := by
  unfold pV at hv
  refine bs hv (fun a h1 hv => bs hv (fun e h2 hv => ?_))
  obtain ⟨c, cont⟩ := e
  match cont, h2, hv with
  | .inl fs, h2, hv =>
    refine bs hv (fun k h3 hv => ?_)
    refine zite hv (fun h4 hv => ?_) (fun _ hv => by cases hv)
    cases hv
    exact ⟨a, c, k, fs, h1, h2, lookup_mem h3, h4.1, h4.2, rfl⟩
  | .inr q, h2, hv => cases hv
/-- the cell behind a read -/
theorem z_obj {G : ZG} {s : State} {h : AH} {H : Heap} (hh : ZH G s h H) {a c : Nat} {fs : List Value} (he : hM h a = some (c, .inl fs)) {C : String} {T : u_T} {N : Nat} (hc : zCl c = some (C, T, N)) :
    ∃ cell : Cell, H[a]? = some cell ∧ cell.cls = G.1.1 c ∧ cell.vm ≠ .unknown ∧ cell.vm.isStatics = false ∧ (h.1.1 ≤ a → cell.vm = .none) ∧ fs.length ≤ N ∧ ∀ (k : Nat) (v : Value), fs[k]? = some v → cell.slots[G.1.2 c k]? = some v := by
  obtain ⟨r, cell, h1, h2⟩ := hM_at hh he
  cases h1.symm.trans hc
  exact ⟨cell, h2⟩
section GETPUT
variable {p : Program} {l : Launch} {e : Env} {R : Room} {s : State} {m : MethodId} {args : Array Value} {below : List Frame} {meth : Method} {c : Code} {H : Heap} {locs : List Loc} {cells slots : Nat} {Q : State → Prop}
variable {cc : ByteArray} {pc : Nat} {ls : Array Slot} {rest : List Value} {G : ZG} {h : AH} {own ref name desc host : String} {index : Nat} {ps : List (Nat × Nat)} {x : Option Nat} {v : Value} {k0 : HC}
theorem z_fld (hh : ZH G s h H) (hZ : ZW G s k0) (hts : ∀ w ∈ lw_all, w.before args s = true) (hf : FOk ref name desc ps) {a ci k : Nat} {fs : List Value} (he : hM h a = some (ci, .inl fs)) (hq : (ci, k) ∈ ps) (hl : k < fs.length) :
    ∃ (cell : Cell) (cf : ClassId) (kf : Class) (fi : Nat) (f : Field) (C : String) (T : u_T) (N : Nat) (kC : Class), H[a]? = some cell ∧ cell.vm ≠ .unknown ∧ cell.vm.isStatics = false ∧ (h.1.1 ≤ a → cell.vm = .none) ∧ s.fieldFound? ref name desc = some (cf, kf, fi, f) ∧ f.isStatic = false ∧ f.slot = G.1.2 ci k ∧ (∀ (k : Nat) (v : Value), fs[k]? = some v → cell.slots[G.1.2 ci k]? = some v) ∧
      zCl ci = some (C, T, N) ∧ k < N ∧ cell.cls = G.1.1 ci ∧ s.vm.findClass C = some cell.cls ∧ s.vm.classes[cell.cls]? = some kC ∧ kC.kind = .ordinary ∧ (T k).2.1 = name ∧ (T k).2.2.1 = desc ∧ (∀ w ∈ u_ws C T N, w ∈ lw_all) ∧ s.fieldFound? (T k).1 (T k).2.1 (T k).2.2.1 = some (cf, kf, fi, f) ∧ fs.length ≤ N := by
  obtain ⟨C, T, N, hc, hk, hn, hds, hin, hsame⟩ := hf _ hq
  obtain ⟨cell, q1, q2, q3, q4, q5, q6, q7⟩ := z_obj hh he hc
  obtain ⟨hS, hfc, kC, hkC, hkind⟩ := hZ.1 ci _ hc
  obtain ⟨cf, kf, fi, f, hi, hsl⟩ := hS k hk
  have hi2 : s.fieldFound? ref name desc = some (cf, kf, fi, f) := by
    dsimp only at hi hn hds hsame
    rw [hn, hds] at hi
    rcases hsame with h1 | h1
    · rw [← h1]; exact hi
    · exact u_same (hts _ h1) _ hi
  exact ⟨cell, cf, kf, fi, f, C, T, N, kC, q1, q3, q4, q5, hi2, (u_facts hfc hkC (u_lays hts hin hk) hi).1, hsl, q7, hc, hk, q2, by rw [q2]; exact hfc, by rw [q2]; exact hkC, hkind, hn, hds, hin, hi, q6⟩
theorem z_Wget (hx : p.tables.exec = Jvm.exec) (hb : c.code = cc) (hown : s.vm.findClass own = some m.cls) (hts : ∀ w ∈ lw_all, w.before args s = true) (hh : ZH G s h H) (hZ : ZW G s k0) (hf : FOk ref name desc ps)
    (hlink : (Cond.fieldLink own index ref name desc).before args s = true ∨ ∃ host, (Cond.fieldLinkNest own index ref name desc host).before args s = true) (hv : gV h ps x = some v) (hd : decode cc pc = .ok (.getfield index, 3))
    (k : W p l e R s m args below meth c H locs cells slots Q (F0 m (pc + 3) ls (v :: rest))) : W p l e R s m args below meth c H locs cells slots Q (F0 m pc ls (va_rf x :: rest)) := by
  obtain ⟨a, ci, i, fs, rfl, he, hq, hi⟩ := gV_spec hv
  obtain ⟨cell, cf, kf, fi, f, C, T, N, kC, q1, q2, q3, q4, q5, q6, q7, q8, -⟩ := z_fld hh hZ hts hf he hq (List.getElem?_eq_some_iff.mp hi).1
  rcases hlink with hl | ⟨host, hl⟩
  · exact W.getf hx hb hown hl q5 q6 q1 q2 (v := v) (by rw [q7]; exact q8 _ _ hi) rfl rfl hd k
  · exact va_Wgetf hx hb hown hl q5 q6 q1 q2 (v := v) (by rw [q7]; exact q8 _ _ hi) rfl rfl hd k
theorem z_Wput (hx : p.tables.exec = Jvm.exec) (hb : c.code = cc) (hown : s.vm.findClass own = some m.cls) (hts : ∀ w ∈ lw_all, w.before args s = true) (hh : ZH G s h H) (hZ : ZW G s k0) (hf : FOk ref name desc ps) {fin : Bool} {ty : FieldType} (hw : FOw ps fin own ty) (hfin : fin = true → meth.name = "<init>")
    (hlink : (Cond.fieldLink own index ref name desc).before args s = true ∨ (fin = false ∧ ∃ host, (Cond.fieldLinkNest own index ref name desc host).before args s = true)) (hn : narrow ty v = v) (hfit : fits ty v = true) {h' : AH} (hv : pV h ps x v = some h') (hd : decode cc pc = .ok (.putfield index, 3))
    (k : ∀ (H1 : Heap) (a i : Nat), h.1.1 ≤ a → ZH G s h' H1 → h'.1 = h.1 → h'.2.1 = h.2.1 → h'.2.2.1 = h.2.2.1 → W p l e R s m args below meth c H1 (locs ++ [⟨a, i⟩]) cells slots Q (F0 m (pc + 3) ls rest)) : W p l e R s m args below meth c H locs cells slots Q (F0 m pc ls (v :: va_rf x :: rest)) := by
  obtain ⟨a, ci, i, fs, rfl, he, hq, hi, hB, rfl⟩ := pV_spec hv
  obtain ⟨cell, cf, kf, fi, f, C, T, N, kC, q1, q2, q3, q4, q5, q6, q7, q8, hc, hk, hcls, hfc, hkC, hkind, hnm, hds, hin, hff, hlen⟩ := z_fld hh hZ hts hf he hq hi
  obtain ⟨w1, w2, w3, w4, w5⟩ := hw _ hq C T N hc
  dsimp only at w1 w2 w3
  have hB' : h.1.1 ≤ a := hB
  have hvm := q4 hB'
  have hslot : f.slot < cell.slots.size := by
    rw [q7]
    exact k2_hasslot (q8 i _ (List.getElem?_eq_getElem hi))
  have hap : ∀ j, j < N → j ≠ i → G.1.2 ci j ≠ G.1.2 ci i := by
    intro j hj hji
    obtain ⟨hS, -⟩ := hZ.1 ci _ hc
    obtain ⟨_, _, _, fa, hia, ea⟩ := hS j hj
    obtain ⟨_, _, _, fb, hib, eb⟩ := hS i hk
    rw [← ea, ← eb]
    obtain ⟨tj, htj⟩ := w4 j hj
    obtain ⟨ti, hti⟩ := w4 i hk
    refine u_apart (u_lays hts hin hj) (u_lays hts hin hk) hia hib ?_
    rw [(State.fieldFound?_type hia htj).1, (State.fieldFound?_type hib hti).1]
    exact w5 j hj i hk hji
  have hput : ∀ H1 : Heap, H1[a]? = some (cell.setSlot f.slot v) → H1.size = H.size → (∀ q, q ≠ a → H1[q]? = H[q]?) → ZH G s (hU h a (ci, .inl (fs.set i v))) H1 := by
    intro H1 e1 e2 e3
    refine hh.set hB' e2 e3 ?_
    refine ⟨_, _, hc, e1, hcls, by rw [show (cell.setSlot f.slot v).vm = cell.vm from rfl]; exact q2, q3, fun _ => hvm, by rw [List.length_set]; exact hlen, fun j w hj => ?_⟩
    rw [q7]
    have hjl : j < fs.length := by
      have := (List.getElem?_eq_some_iff.mp hj).1
      rwa [List.length_set] at this
    by_cases hji : j = i
    · subst hji
      rw [List.getElem?_set_self hi] at hj
      cases hj
      show (cell.slots.setIfInBounds (G.1.2 ci j) v)[G.1.2 ci j]? = some v
      rw [Array.getElem?_setIfInBounds_self_of_lt (by rw [← q7]; exact hslot)]
    · rw [List.getElem?_set_ne (Ne.symm hji)] at hj
      show (cell.slots.setIfInBounds (G.1.2 ci i) v)[G.1.2 ci j]? = some w
      rw [Array.getElem?_setIfInBounds_ne (Ne.symm (hap j (Nat.lt_of_lt_of_le hjl hlen) hji))]
      exact q8 j w hj
  cases fin with
  | false =>
    have hlay := hts _ (hin _ (u_in_lay hk))
    unfold u_lay at hlay
    rw [if_neg (by rw [w1]; decide)] at hlay
    have h6 := u_store hfc hkC hkind hlay hff w3 hn hfit
    rcases hlink with hl | ⟨-, host, hl⟩
    · exact W.putK hx hb (f := f) ⟨hown, hl, ⟨_, _, _, q5⟩, q6⟩ h6 q1 hvm hslot rfl rfl hd fun H' e1 e2 e3 => k H' a f.slot hB' (hput H' e1 e2 e3) rfl rfl rfl
    · exact va_WputK hx hb (f := f) hown hl q5 q6 h6 q1 hvm hslot rfl rfl hd fun H' e1 e2 e3 => k H' a f.slot hB' (hput H' e1 e2 e3) rfl rfl rfl
  | true =>
    have hlay := hts _ (hin _ (u_in_lay hk))
    unfold u_lay at hlay
    rw [if_pos w1] at hlay
    have hcf : m.cls = cf := by
      obtain ⟨_, _, c', _, _, _, -, -, hf', -, -, -, hown2, -⟩ := Cond.laysFinal_spec hlay
      have e1 : c' = cf := by have := hff.symm.trans hf'; simp at this; exact this.1.symm
      rw [w2 rfl] at hown2
      rw [← e1]; exact Option.some.inj (hown.symm.trans hown2)
    have h6 := u_fits hfc hkC hkind (Or.inr hlay) hff w3 hn hfit
    rcases hlink with hl | ⟨hc, -⟩
    · exact W.putFinK hx hb hown hl q5 q6 hcf (hfin rfl) h6 q1 hvm hslot rfl rfl hd fun H' e1 e2 e3 => k H' a f.slot hB' (hput H' e1 e2 e3) rfl rfl rfl
    · cases hc
end GETPUT
