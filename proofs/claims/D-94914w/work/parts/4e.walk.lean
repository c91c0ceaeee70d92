set_option maxRecDepth 100000
set_option maxHeartbeats 4000000
theorem fV_X2_begins : CVf RX2 yX2_begins cX2_begins 3 (none : Option Jvm.ClassFile.FieldType) 2 := ⟨q888, qs16, q127, q889, ⟨⟨by decide +kernel, by decide +kernel⟩, by decide +kernel⟩⟩
def F_X2_begins (N : Nat) (x0 : Option Nat) (x1 : Int32) (x2 : Int32) (h : AH) : Option ((Unit ⊕ Nat) × AH) :=
  (ck h [2] x0).bind fun _ =>
  if x1 = 0 then
    b2 (F_X2_fail x0 (5 : Int32) h) fun v11 h10 =>
    (thr h10 v11).bind fun v12 => some (.inr v12, h10)
  else
    (gR h f_Reader_land x0).bind fun v1 =>
    (gI h f_Land_wide v1).bind fun v2 =>
    if v2 = 0 then
      b2 (F_X2_fail x0 (6 : Int32) h) fun v4 h3 =>
      (thr h3 v4).bind fun v5 => some (.inr v5, h3)
    else
      if x2 = 0 then
        b2 (F_X2_fail x0 (6 : Int32) h) fun v8 h7 =>
        (thr h7 v8).bind fun v9 => some (.inr v9, h7)
      else
        (F_X2_next N x0 h).bind fun h6 =>
        some (.inl (), h6)
theorem mX2_begins (l : Launch) (G : ZG) (N : Nat) (x0 : Option Nat) (x1 : Int32) (x2 : Int32) (h : AH) (r : (Unit ⊕ Nat) × AH) (hr : F_X2_begins N x0 x1 x2 h = some r) : MZ l G yX2_begins cX2_begins 3 (none : Option Jvm.ClassFile.FieldType) 6 169 [vr x0, vi x1, vi x2] h (eUX r) := by
  unfold F_X2_begins at hr
  refine MZ.ofT (by decide) [(0, vr x0), (1, vi x1), (2, vi x2)] rfl (Nat.le_of_ble_eq_true rfl) (fun K O E => ?_)
  have O : ZOk K cX2_begins RX2 "begins" 3 (none : Option Jvm.ClassFile.FieldType) 6 169 := O
  refine bs hr (fun _ hck hr => ?_)
  refine z_iload_n O 1 dX2_begins_0 rfl rfl ?_
  refine z_if_ne (tgt := 10) O dX2_begins_1 (by decide) hr (fun hr => ?_) (fun hr => ?_)
  · refine z_aload_n O 0 dX2_begins_4 rfl rfl ?_
    refine z_iconst O dX2_begins_5 kic_5 ?_
    refine b2s hr (fun v11 h10 hF hr => ?_)
    refine z_callV O [vi (5 : Int32)] (vr v11) fV_X2_fail q766 (fun l G => mX2_fail l G x0 (5 : Int32) h _ hF) (zck hF) rfl rfl ⟨Nat.le_of_ble_eq_true rfl, Nat.le_of_ble_eq_true rfl⟩ (Nat.le_of_ble_eq_true rfl) dX2_begins_6 ?_
    refine bs hr (fun v12 hq hr => ?_)
    exact z_athrow O E dX2_begins_9 hq (by cases hr; rfl)
  · refine z_aload_n O 0 dX2_begins_10 rfl rfl ?_
    refine z_getR O o_Reader_land q389 dX2_begins_11 hr (fun v1 hr => ?_)
    refine z_getI O o_Land_wide q581 dX2_begins_14 hr (fun v2 hr => ?_)
    refine z_if_eq (tgt := 24) O dX2_begins_17 (by decide) hr (fun hr => ?_) (fun hr => ?_)
    · refine z_aload_n O 0 dX2_begins_24 rfl rfl ?_
      refine z_bipush O dX2_begins_25 kbi_6 ?_
      refine b2s hr (fun v4 h3 hF hr => ?_)
      refine z_callV O [vi (6 : Int32)] (vr v4) fV_X2_fail q766 (fun l G => mX2_fail l G x0 (6 : Int32) h _ hF) (zck hF) rfl rfl ⟨Nat.le_of_ble_eq_true rfl, Nat.le_of_ble_eq_true rfl⟩ (Nat.le_of_ble_eq_true rfl) dX2_begins_27 ?_
      refine bs hr (fun v5 hq hr => ?_)
      exact z_athrow O E dX2_begins_30 hq (by cases hr; rfl)
    · refine z_iload_n O 2 dX2_begins_20 rfl rfl ?_
      refine z_if_ne (tgt := 31) O dX2_begins_21 (by decide) hr (fun hr => ?_) (fun hr => ?_)
      · refine z_aload_n O 0 dX2_begins_24 rfl rfl ?_
        refine z_bipush O dX2_begins_25 kbi_6 ?_
        refine b2s hr (fun v8 h7 hF hr => ?_)
        refine z_callV O [vi (6 : Int32)] (vr v8) fV_X2_fail q766 (fun l G => mX2_fail l G x0 (6 : Int32) h _ hF) (zck hF) rfl rfl ⟨Nat.le_of_ble_eq_true rfl, Nat.le_of_ble_eq_true rfl⟩ (Nat.le_of_ble_eq_true rfl) dX2_begins_27 ?_
        refine bs hr (fun v9 hq hr => ?_)
        exact z_athrow O E dX2_begins_30 hq (by cases hr; rfl)
      · refine z_aload_n O 0 dX2_begins_31 rfl rfl ?_
        refine bs hr (fun h6 hF hr => ?_)
        refine z_callVv O [] fV_X2_next q668 (fun l G => mX2_next l G N x0 h _ hF) (zck hF) rfl rfl ⟨Nat.le_of_ble_eq_true rfl, Nat.le_of_ble_eq_true rfl⟩ (Nat.le_of_ble_eq_true rfl) dX2_begins_32 ?_
        exact z_vret O dX2_begins_35 (by cases hr; rfl)
theorem fV_X2_numberHere : CVf RX2 yX2_numberHere cX2_numberHere 3 (some .int) 2 := ⟨q869, qs13, q127, q870, ⟨⟨by decide +kernel, by decide +kernel⟩, by decide +kernel⟩⟩
def F_X2_numberHere (x0 : Option Nat) (x1 : Int32) (x2 : Int32) (h : AH) : Option ((Int32 ⊕ Nat) × AH) :=
  (ck h [2] x0).bind fun _ =>
  (gI h f_Reader_token x0).bind fun v1 =>
  if v1 = (3 : Int32) then
    (gI h f_Reader_whole x0).bind fun v2 =>
    (F_X1_within v2 x1 x2).bind fun v3 =>
    if v3 = 0 then
      b2 (F_X2_fail x0 (4 : Int32) h) fun v6 h5 =>
      (thr h5 v6).bind fun v7 => some (.inr v7, h5)
    else
      (gI h f_Reader_whole x0).bind fun v4 =>
      some (.inl v4, h)
  else
    b2 (F_X2_fail x0 (1 : Int32) h) fun v9 h8 =>
    (thr h8 v9).bind fun v10 => some (.inr v10, h8)
theorem mX2_numberHere (l : Launch) (G : ZG) (x0 : Option Nat) (x1 : Int32) (x2 : Int32) (h : AH) (r : (Int32 ⊕ Nat) × AH) (hr : F_X2_numberHere x0 x1 x2 h = some r) : MZ l G yX2_numberHere cX2_numberHere 3 (some .int) 3 91 [vr x0, vi x1, vi x2] h (eIX r) := by
  unfold F_X2_numberHere at hr
  refine MZ.ofT (by decide) [(0, vr x0), (1, vi x1), (2, vi x2)] rfl (Nat.le_of_ble_eq_true rfl) (fun K O E => ?_)
  have O : ZOk K cX2_numberHere RX2 "numberHere" 3 (some .int) 3 91 := O
  refine bs hr (fun _ hck hr => ?_)
  refine z_aload_n O 0 dX2_numberHere_0 rfl rfl ?_
  refine z_getI O o_Reader_token q384 dX2_numberHere_1 hr (fun v1 hr => ?_)
  refine z_iconst O dX2_numberHere_4 kic_3 ?_
  refine z_icmp_eq (tgt := 14) O dX2_numberHere_5 (by decide) hr (fun hr => ?_) (fun hr => ?_)
  · refine z_aload_n O 0 dX2_numberHere_14 rfl rfl ?_
    refine z_getI O o_Reader_whole q386 dX2_numberHere_15 hr (fun v2 hr => ?_)
    refine z_iload_n O 1 dX2_numberHere_18 rfl rfl ?_
    refine z_iload_n O 2 dX2_numberHere_19 rfl rfl ?_
    refine bs hr (fun v3 hF hr => ?_)
    refine z_callSN O [vi v2, vi x1, vi x2] (vi v3) fS_X1_within zn679 (fun l G => mX1_within l G v2 x1 x2 h _ hF) rfl ⟨Nat.le_of_ble_eq_true rfl, Nat.le_of_ble_eq_true rfl⟩ (Nat.le_of_ble_eq_true rfl) dX2_numberHere_20 ?_
    refine z_if_ne (tgt := 32) O dX2_numberHere_23 (by decide) hr (fun hr => ?_) (fun hr => ?_)
    · refine z_aload_n O 0 dX2_numberHere_26 rfl rfl ?_
      refine z_iconst O dX2_numberHere_27 kic_4 ?_
      refine b2s hr (fun v6 h5 hF hr => ?_)
      refine z_callV O [vi (4 : Int32)] (vr v6) fV_X2_fail q766 (fun l G => mX2_fail l G x0 (4 : Int32) h _ hF) (zck hF) rfl rfl ⟨Nat.le_of_ble_eq_true rfl, Nat.le_of_ble_eq_true rfl⟩ (Nat.le_of_ble_eq_true rfl) dX2_numberHere_28 ?_
      refine bs hr (fun v7 hq hr => ?_)
      exact z_athrow O E dX2_numberHere_31 hq (by cases hr; rfl)
    · refine z_aload_n O 0 dX2_numberHere_32 rfl rfl ?_
      refine z_getI O o_Reader_whole q386 dX2_numberHere_33 hr (fun v4 hr => ?_)
      exact z_iret O dX2_numberHere_36 (by cases hr; rfl)
  · refine z_aload_n O 0 dX2_numberHere_8 rfl rfl ?_
    refine z_iconst O dX2_numberHere_9 kic_1 ?_
    refine b2s hr (fun v9 h8 hF hr => ?_)
    refine z_callV O [vi (1 : Int32)] (vr v9) fV_X2_fail q766 (fun l G => mX2_fail l G x0 (1 : Int32) h _ hF) (zck hF) rfl rfl ⟨Nat.le_of_ble_eq_true rfl, Nat.le_of_ble_eq_true rfl⟩ (Nat.le_of_ble_eq_true rfl) dX2_numberHere_10 ?_
    refine bs hr (fun v10 hq hr => ?_)
    exact z_athrow O E dX2_numberHere_13 hq (by cases hr; rfl)
theorem fV_X2_number : CVf RX2 yX2_number cX2_number 4 (some .int) 2 := ⟨q865, qs12, q127, q866, ⟨⟨by decide +kernel, by decide +kernel⟩, by decide +kernel⟩⟩
def F_X2_number (N : Nat) (x0 : Option Nat) (x1 : Int32) (x2 : Int32) (h : AH) : Option ((Int32 ⊕ Nat) × AH) :=
  (ck h [2] x0).bind fun _ =>
  xb (F_X2_numberHere x0 x1 x2 h) fun v2 h1 =>
  (F_X2_next N x0 h1).bind fun h3 =>
  some (.inl v2, h3)
theorem mX2_number (l : Launch) (G : ZG) (N : Nat) (x0 : Option Nat) (x1 : Int32) (x2 : Int32) (h : AH) (r : (Int32 ⊕ Nat) × AH) (hr : F_X2_number N x0 x1 x2 h = some r) : MZ l G yX2_number cX2_number 4 (some .int) 6 169 [vr x0, vi x1, vi x2] h (eIX r) := by
  unfold F_X2_number at hr
  refine MZ.ofT (by decide) [(0, vr x0), (1, vi x1), (2, vi x2)] rfl (Nat.le_of_ble_eq_true rfl) (fun K O E => ?_)
  have O : ZOk K cX2_number RX2 "number" 4 (some .int) 6 169 := O
  refine bs hr (fun _ hck hr => ?_)
  refine z_aload_n O 0 dX2_number_0 rfl rfl ?_
  refine z_iload_n O 1 dX2_number_1 rfl rfl ?_
  refine z_iload_n O 2 dX2_number_2 rfl rfl ?_
  refine xbs hr (fun v2 h1 hF hr => ?_) (fun ex hx hF hr => ?_)
  · refine z_callV O [vi x1, vi x2] (vi v2) fV_X2_numberHere q867 (fun l G => mX2_numberHere l G x0 x1 x2 h _ hF) (zck hF) rfl rfl ⟨Nat.le_of_ble_eq_true rfl, Nat.le_of_ble_eq_true rfl⟩ (Nat.le_of_ble_eq_true rfl) dX2_number_3 ?_
    refine z_istore_n O [(3, vi v2), (0, vr x0), (1, vi x1), (2, vi x2)] dX2_number_6 rfl (by decide) rfl ?_
    refine z_aload_n O 1 dX2_number_7 rfl rfl ?_
    refine bs hr (fun h3 hF hr => ?_)
    refine z_callVv O [] fV_X2_next q668 (fun l G => mX2_next l G N x0 h1 _ hF) (zck hF) rfl rfl ⟨Nat.le_of_ble_eq_true rfl, Nat.le_of_ble_eq_true rfl⟩ (Nat.le_of_ble_eq_true rfl) dX2_number_8 ?_
    refine z_iload_n O 0 dX2_number_11 rfl rfl ?_
    exact z_iret O dX2_number_12 (by cases hr; rfl)
  · exact z_callVt O E [vi x1, vi x2] fV_X2_numberHere q867 (fun l G => mX2_numberHere l G x0 x1 x2 h _ hF) (zck hF) rfl rfl ⟨Nat.le_of_ble_eq_true rfl, Nat.le_of_ble_eq_true rfl⟩ (Nat.le_of_ble_eq_true rfl) dX2_number_3 (by subst hr; rfl)
theorem fS_X10_among : CSf yX10_among cX10_among 4 (some (.object "YearSkins$Named")) 3 := ⟨q922, q138, q923, ⟨⟨by decide +kernel, by decide +kernel⟩, by decide +kernel⟩⟩
def BX10_among_2 (N : Nat) (x0 : Option Nat) (x1 : Int32) (x2 : Option Nat) (h : AH) (rec2 : Int32 → Option (Option Nat)) : Int32 → Option (Option Nat) := fun x3 =>
  if x1 ≤ x3 then
    some none
  else
    (aR h x0 x3).bind fun v1 =>
    (gR h f_Named_name v1).bind fun v2 =>
    (F_J3_equals N v2 x2 h).bind fun v3 =>
    if v3 = 0 then
      jlet (x3 + (1 : Int32)) fun v4 =>
      rec2 v4
    else
      (aR h x0 x3).bind fun v5 =>
      some v5
def LX10_among_2 (N : Nat) (x0 : Option Nat) (x1 : Int32) (x2 : Option Nat) (h : AH) : Int32 → Option (Option Nat) := lf (fun _ => none) (BX10_among_2 N x0 x1 x2 h) N
theorem wX10_among_2B {K : ZC} (O : ZOk K cX10_among RX10 "among" 4 (some (.object "YearSkins$Named")) 3 92) (N : Nat) (x0 : Option Nat) (x1 : Int32) (x2 : Option Nat) (h : AH) (rec2 : Int32 → Option (Option Nat)) (hrec2 : ∀ (y3 : Int32) (ry : Option Nat), rec2 y3 = some ry → Zw K (eR h ry) h 2 [(0, vr x0), (1, vi x1), (2, vr x2), (3, vi y3)] []) (x3 : Int32) (r : Option Nat) (hr : BX10_among_2 N x0 x1 x2 h rec2 x3 = some r) : Zw K (eR h r) h 2 [(0, vr x0), (1, vi x1), (2, vr x2), (3, vi x3)] [] := by
  unfold BX10_among_2 at hr
  refine z_iload_n O 3 dX10_among_2 rfl rfl ?_
  refine z_iload_n O 1 dX10_among_3 rfl rfl ?_
  refine z_icmp_ge (tgt := 30) O dX10_among_4 (by decide) hr (fun hr => ?_) (fun hr => ?_)
  · refine z_null O dX10_among_30 ?_
    exact z_aret O rfl dX10_among_31 (by cases hr; rfl)
  · refine z_aload_n O 0 dX10_among_7 rfl rfl ?_
    refine z_iload_n O 3 dX10_among_8 rfl rfl ?_
    refine z_aaload O dX10_among_9 hr (fun v1 hr => ?_)
    refine z_getR O o_Named_name q956 dX10_among_10 hr (fun v2 hr => ?_)
    refine z_aload_n O 2 dX10_among_13 rfl rfl ?_
    refine bs hr (fun v3 hF hr => ?_)
    refine z_callV O [vr x2] (vi v3) fV_J3_equals q924 (fun l G => mJ3_equals l G N v2 x2 h _ hF) (zck hF) rfl rfl ⟨Nat.le_of_ble_eq_true rfl, Nat.le_of_ble_eq_true rfl⟩ (Nat.le_of_ble_eq_true rfl) dX10_among_14 ?_
    refine z_if_eq (tgt := 24) O dX10_among_17 (by decide) hr (fun hr => ?_) (fun hr => ?_)
    · refine z_iincL O 3 (fun v4 => [(3, vi v4), (0, vr x0), (1, vi x1), (2, vr x2)]) dX10_among_24 rfl rfl (by decide) (fun _ => rfl) hr (fun v4 hr => ?_)
      refine z_goto (tgt := 2) O dX10_among_27 (by decide) ?_
      refine z_sub [1, 2, 3, 0] rfl ?_
      exact hrec2 v4 _ hr
    · refine z_aload_n O 0 dX10_among_20 rfl rfl ?_
      refine z_iload_n O 3 dX10_among_21 rfl rfl ?_
      refine z_aaload O dX10_among_22 hr (fun v5 hr => ?_)
      exact z_aret O rfl dX10_among_23 (by cases hr; rfl)
theorem wX10_among_2 {K : ZC} (O : ZOk K cX10_among RX10 "among" 4 (some (.object "YearSkins$Named")) 3 92) (N : Nat) (x0 : Option Nat) (x1 : Int32) (x2 : Option Nat) (h : AH) : ∀ (n : Nat) (x3 : Int32) (r : Option Nat), lf (fun _ => none) (BX10_among_2 N x0 x1 x2 h) n x3 = some r → Zw K (eR h r) h 2 [(0, vr x0), (1, vi x1), (2, vr x2), (3, vi x3)] [] := by
  intro n
  induction n with
  | zero => intro x3 r hr; cases hr
  | succ n ih => intro x3 r hr; exact wX10_among_2B O N x0 x1 x2 h (lf (fun _ => none) (BX10_among_2 N x0 x1 x2 h) n)  ih x3 r hr
def F_X10_among (N : Nat) (x0 : Option Nat) (x1 : Int32) (x2 : Option Nat) (h : AH) : Option (Option Nat) :=
  LX10_among_2 N x0 x1 x2 h (0 : Int32)
theorem mX10_among (l : Launch) (G : ZG) (N : Nat) (x0 : Option Nat) (x1 : Int32) (x2 : Option Nat) (h : AH) (r : Option Nat) (hr : F_X10_among N x0 x1 x2 h = some r) : MZ l G yX10_among cX10_among 4 (some (.object "YearSkins$Named")) 3 92 [vr x0, vi x1, vr x2] h (eR h r) := by
  unfold F_X10_among at hr
  refine MZ.of (by decide) [(0, vr x0), (1, vi x1), (2, vr x2)] rfl (Nat.le_of_ble_eq_true rfl) (fun K O => ?_)
  have O : ZOk K cX10_among RX10 "among" 4 (some (.object "YearSkins$Named")) 3 92 := O
  refine z_iconst O dX10_among_0 kic_0 ?_
  refine z_istore_n O [(3, vi (0 : Int32)), (0, vr x0), (1, vi x1), (2, vr x2)] dX10_among_1 rfl (by decide) rfl ?_
  refine z_sub [1, 2, 3, 0] rfl ?_
  exact wX10_among_2 O N x0 x1 x2 h _ (0 : Int32) _ hr
theorem fV_X10_find : CVf RX10 yX10_find cX10_find 3 (some (.object "YearSkins$Named")) 1 := ⟨q918, q919, q138, q920, ⟨⟨by decide +kernel, by decide +kernel⟩, by decide +kernel⟩⟩
def bX10_find_47 (N : Nat) (x0 : Option Nat) (x1 : Option Nat) (x2 : Option Nat) (h : AH) : Option (Option Nat) :=
  if x2 = none then
    (gR h f_Land_walls x0).bind fun v1 =>
    (gI h f_Land_wallMany x0).bind fun v2 =>
    (F_X10_among N v1 v2 x1 h).bind fun v3 =>
    some v3
  else
    some x2
theorem wX10_find_47 {K : ZC} (O : ZOk K cX10_find RX10 "find" 3 (some (.object "YearSkins$Named")) 4 115) (N : Nat) (x0 : Option Nat) (x1 : Option Nat) (x2 : Option Nat) (h : AH) (r : Option Nat) (hr : bX10_find_47 N x0 x1 x2 h = some r) : Zw K (eR h r) h 47 [(0, vr x0), (1, vr x1), (2, vr x2)] [] := by
  unfold bX10_find_47 at hr
  refine z_aload_n O 2 dX10_find_47 rfl rfl ?_
  refine z_ifnonnull (tgt := 66) O dX10_find_48 (by decide) hr (fun hr => ?_) (fun hr => ?_)
  · refine z_aload_n O 0 dX10_find_51 rfl rfl ?_
    refine z_getR O o_Land_walls q576 dX10_find_52 hr (fun v1 hr => ?_)
    refine z_aload_n O 0 dX10_find_55 rfl rfl ?_
    refine z_getI O o_Land_wallMany q605 dX10_find_56 hr (fun v2 hr => ?_)
    refine z_aload_n O 1 dX10_find_59 rfl rfl ?_
    refine bs hr (fun v3 hF hr => ?_)
    refine z_callS O [vr v1, vi v2, vr x1] (vr v3) fS_X10_among q921 (fun l G => mX10_among l G N v1 v2 x1 h _ hF) rfl ⟨Nat.le_of_ble_eq_true rfl, Nat.le_of_ble_eq_true rfl⟩ (Nat.le_of_ble_eq_true rfl) dX10_find_60 ?_
    refine z_goto (tgt := 67) O dX10_find_63 (by decide) ?_
    exact z_aret O rfl dX10_find_67 (by cases hr; rfl)
  · refine z_aload_n O 2 dX10_find_66 rfl rfl ?_
    exact z_aret O rfl dX10_find_67 (by cases hr; rfl)
def bX10_find_30 (N : Nat) (x0 : Option Nat) (x1 : Option Nat) (x2 : Option Nat) (h : AH) : Option (Option Nat) :=
  if x2 = none then
    (gR h f_Land_heirs x0).bind fun v1 =>
    (gI h f_Land_heirMany x0).bind fun v2 =>
    (F_X10_among N v1 v2 x1 h).bind fun v3 =>
    bX10_find_47 N x0 x1 v3 h
  else
    bX10_find_47 N x0 x1 x2 h
theorem wX10_find_30 {K : ZC} (O : ZOk K cX10_find RX10 "find" 3 (some (.object "YearSkins$Named")) 4 115) (N : Nat) (x0 : Option Nat) (x1 : Option Nat) (x2 : Option Nat) (h : AH) (r : Option Nat) (hr : bX10_find_30 N x0 x1 x2 h = some r) : Zw K (eR h r) h 30 [(0, vr x0), (1, vr x1), (2, vr x2)] [] := by
  unfold bX10_find_30 at hr
  refine z_aload_n O 2 dX10_find_30 rfl rfl ?_
  refine z_ifnonnull (tgt := 47) O dX10_find_31 (by decide) hr (fun hr => ?_) (fun hr => ?_)
  · refine z_aload_n O 0 dX10_find_34 rfl rfl ?_
    refine z_getR O o_Land_heirs q572 dX10_find_35 hr (fun v1 hr => ?_)
    refine z_aload_n O 0 dX10_find_38 rfl rfl ?_
    refine z_getI O o_Land_heirMany q601 dX10_find_39 hr (fun v2 hr => ?_)
    refine z_aload_n O 1 dX10_find_42 rfl rfl ?_
    refine bs hr (fun v3 hF hr => ?_)
    refine z_callS O [vr v1, vi v2, vr x1] (vr v3) fS_X10_among q921 (fun l G => mX10_among l G N v1 v2 x1 h _ hF) rfl ⟨Nat.le_of_ble_eq_true rfl, Nat.le_of_ble_eq_true rfl⟩ (Nat.le_of_ble_eq_true rfl) dX10_find_43 ?_
    refine z_astore_n O [(2, vr v3), (0, vr x0), (1, vr x1)] dX10_find_46 rfl (by decide) rfl ?_
    refine z_sub [1, 2, 0] rfl ?_
    exact wX10_find_47 O N x0 x1 v3 h _ hr
  · exact wX10_find_47 O N x0 x1 x2 h _ hr
def F_X10_find (N : Nat) (x0 : Option Nat) (x1 : Option Nat) (h : AH) : Option (Option Nat) :=
  (ck h [10] x0).bind fun _ =>
  (gR h f_Land_stones x0).bind fun v1 =>
  (gI h f_Land_stoneMany x0).bind fun v2 =>
  (F_X10_among N v1 v2 x1 h).bind fun v3 =>
  if v3 = none then
    (gR h f_Land_sites x0).bind fun v4 =>
    (gI h f_Land_siteMany x0).bind fun v5 =>
    (F_X10_among N v4 v5 x1 h).bind fun v6 =>
    bX10_find_30 N x0 x1 v6 h
  else
    bX10_find_30 N x0 x1 v3 h
theorem mX10_find (l : Launch) (G : ZG) (N : Nat) (x0 : Option Nat) (x1 : Option Nat) (h : AH) (r : Option Nat) (hr : F_X10_find N x0 x1 h = some r) : MZ l G yX10_find cX10_find 3 (some (.object "YearSkins$Named")) 4 115 [vr x0, vr x1] h (eR h r) := by
  unfold F_X10_find at hr
  refine MZ.of (by decide) [(0, vr x0), (1, vr x1)] rfl (Nat.le_of_ble_eq_true rfl) (fun K O => ?_)
  have O : ZOk K cX10_find RX10 "find" 3 (some (.object "YearSkins$Named")) 4 115 := O
  refine bs hr (fun _ hck hr => ?_)
  refine z_aload_n O 0 dX10_find_0 rfl rfl ?_
  refine z_getR O o_Land_stones q567 dX10_find_1 hr (fun v1 hr => ?_)
  refine z_aload_n O 0 dX10_find_4 rfl rfl ?_
  refine z_getI O o_Land_stoneMany q595 dX10_find_5 hr (fun v2 hr => ?_)
  refine z_aload_n O 1 dX10_find_8 rfl rfl ?_
  refine bs hr (fun v3 hF hr => ?_)
  refine z_callS O [vr v1, vi v2, vr x1] (vr v3) fS_X10_among q921 (fun l G => mX10_among l G N v1 v2 x1 h _ hF) rfl ⟨Nat.le_of_ble_eq_true rfl, Nat.le_of_ble_eq_true rfl⟩ (Nat.le_of_ble_eq_true rfl) dX10_find_9 ?_
  refine z_astore_n O [(2, vr v3), (0, vr x0), (1, vr x1)] dX10_find_12 rfl (by decide) rfl ?_
  refine z_aload_n O 0 dX10_find_13 rfl rfl ?_
  refine z_ifnonnull (tgt := 30) O dX10_find_14 (by decide) hr (fun hr => ?_) (fun hr => ?_)
  · refine z_aload_n O 1 dX10_find_17 rfl rfl ?_
    refine z_getR O o_Land_sites q570 dX10_find_18 hr (fun v4 hr => ?_)
    refine z_aload_n O 1 dX10_find_21 rfl rfl ?_
    refine z_getI O o_Land_siteMany q598 dX10_find_22 hr (fun v5 hr => ?_)
    refine z_aload_n O 2 dX10_find_25 rfl rfl ?_
    refine bs hr (fun v6 hF hr => ?_)
    refine z_callS O [vr v4, vi v5, vr x1] (vr v6) fS_X10_among q921 (fun l G => mX10_among l G N v4 v5 x1 h _ hF) rfl ⟨Nat.le_of_ble_eq_true rfl, Nat.le_of_ble_eq_true rfl⟩ (Nat.le_of_ble_eq_true rfl) dX10_find_26 ?_
    refine z_astore_n O [(2, vr v6), (0, vr x0), (1, vr x1)] dX10_find_29 rfl (by decide) rfl ?_
    refine z_sub [1, 2, 0] rfl ?_
    exact wX10_find_30 O N x0 x1 v6 h _ hr
  · refine z_sub [1, 2, 0] rfl ?_
    exact wX10_find_30 O N x0 x1 v3 h _ hr
theorem fV_X2_mustName : CVf RX2 yX2_mustName cX2_mustName 3 (none : Option Jvm.ClassFile.FieldType) 0 := ⟨q915, qs21, q127, q916, ⟨⟨by decide +kernel, by decide +kernel⟩, by decide +kernel⟩⟩
def bX2_mustName_280 (N : Nat) (x0 : Option Nat) (x2 : Int32) (h : AH) : Option ((Unit ⊕ Nat) × AH) :=
  if x2 = (0 : Int32) then
    b2 (F_X2_fail x0 (1 : Int32) h) fun v13 h12 =>
    (thr h12 v13).bind fun v14 => some (.inr v14, h12)
  else if x2 = (1 : Int32) then
    b2 (F_X2_fail x0 (1 : Int32) h) fun v16 h15 =>
    (thr h15 v16).bind fun v17 => some (.inr v17, h15)
  else if x2 = (2 : Int32) then
    b2 (F_X2_fail x0 (1 : Int32) h) fun v19 h18 =>
    (thr h18 v19).bind fun v20 => some (.inr v20, h18)
  else if x2 = (3 : Int32) then
    b2 (F_X2_fail x0 (1 : Int32) h) fun v22 h21 =>
    (thr h21 v22).bind fun v23 => some (.inr v23, h21)
  else if x2 = (4 : Int32) then
    b2 (F_X2_fail x0 (1 : Int32) h) fun v25 h24 =>
    (thr h24 v25).bind fun v26 => some (.inr v26, h24)
  else if x2 = (5 : Int32) then
    b2 (F_X2_fail x0 (1 : Int32) h) fun v28 h27 =>
    (thr h27 v28).bind fun v29 => some (.inr v29, h27)
  else if x2 = (6 : Int32) then
    b2 (F_X2_fail x0 (1 : Int32) h) fun v31 h30 =>
    (thr h30 v31).bind fun v32 => some (.inr v32, h30)
  else if x2 = (7 : Int32) then
    b2 (F_X2_fail x0 (1 : Int32) h) fun v34 h33 =>
    (thr h33 v34).bind fun v35 => some (.inr v35, h33)
  else if x2 = (8 : Int32) then
    b2 (F_X2_fail x0 (1 : Int32) h) fun v37 h36 =>
    (thr h36 v37).bind fun v38 => some (.inr v38, h36)
  else if x2 = (9 : Int32) then
    b2 (F_X2_fail x0 (1 : Int32) h) fun v40 h39 =>
    (thr h39 v40).bind fun v41 => some (.inr v41, h39)
  else if x2 = (10 : Int32) then
    b2 (F_X2_fail x0 (1 : Int32) h) fun v43 h42 =>
    (thr h42 v43).bind fun v44 => some (.inr v44, h42)
  else 
    some (.inl (), h)
theorem wX2_mustName_280 {K : ZC} (O : ZOk K cX2_mustName RX2 "mustName" 3 (none : Option Jvm.ClassFile.FieldType) 5 138) (E : ZEx K) (N : Nat) (x0 : Option Nat) (x2 : Int32) (h : AH) (r : (Unit ⊕ Nat) × AH) (hr : bX2_mustName_280 N x0 x2 h = some r) : Zw K (eUX r) h 280 [(0, vr x0), (2, vi x2)] [] := by
  unfold bX2_mustName_280 at hr
  refine z_iload_n O 1 dX2_mustName_280 rfl rfl ?_
  refine zite hr (fun c1 hr => ?_) (fun c1 hr => ?_)
  · refine z_tabIn (v := (0 : Int32)) (off := 59) (tgt := 340) O dX2_mustName_281 c1 (by decide) (by decide +kernel) (by decide) ?_
    refine z_aload_n O 0 dX2_mustName_340 rfl rfl ?_
    refine z_iconst O dX2_mustName_341 kic_1 ?_
    refine b2s hr (fun v13 h12 hF hr => ?_)
    refine z_callV O [vi (1 : Int32)] (vr v13) fV_X2_fail q766 (fun l G => mX2_fail l G x0 (1 : Int32) h _ hF) (zck hF) rfl rfl ⟨Nat.le_of_ble_eq_true rfl, Nat.le_of_ble_eq_true rfl⟩ (Nat.le_of_ble_eq_true rfl) dX2_mustName_342 ?_
    refine bs hr (fun v14 hq hr => ?_)
    exact z_athrow O E dX2_mustName_345 hq (by cases hr; rfl)
  refine zite hr (fun c2 hr => ?_) (fun c2 hr => ?_)
  · refine z_tabIn (v := (1 : Int32)) (off := 59) (tgt := 340) O dX2_mustName_281 c2 (by decide) (by decide +kernel) (by decide) ?_
    refine z_aload_n O 0 dX2_mustName_340 rfl rfl ?_
    refine z_iconst O dX2_mustName_341 kic_1 ?_
    refine b2s hr (fun v16 h15 hF hr => ?_)
    refine z_callV O [vi (1 : Int32)] (vr v16) fV_X2_fail q766 (fun l G => mX2_fail l G x0 (1 : Int32) h _ hF) (zck hF) rfl rfl ⟨Nat.le_of_ble_eq_true rfl, Nat.le_of_ble_eq_true rfl⟩ (Nat.le_of_ble_eq_true rfl) dX2_mustName_342 ?_
    refine bs hr (fun v17 hq hr => ?_)
    exact z_athrow O E dX2_mustName_345 hq (by cases hr; rfl)
  refine zite hr (fun c3 hr => ?_) (fun c3 hr => ?_)
  · refine z_tabIn (v := (2 : Int32)) (off := 59) (tgt := 340) O dX2_mustName_281 c3 (by decide) (by decide +kernel) (by decide) ?_
    refine z_aload_n O 0 dX2_mustName_340 rfl rfl ?_
    refine z_iconst O dX2_mustName_341 kic_1 ?_
    refine b2s hr (fun v19 h18 hF hr => ?_)
    refine z_callV O [vi (1 : Int32)] (vr v19) fV_X2_fail q766 (fun l G => mX2_fail l G x0 (1 : Int32) h _ hF) (zck hF) rfl rfl ⟨Nat.le_of_ble_eq_true rfl, Nat.le_of_ble_eq_true rfl⟩ (Nat.le_of_ble_eq_true rfl) dX2_mustName_342 ?_
    refine bs hr (fun v20 hq hr => ?_)
    exact z_athrow O E dX2_mustName_345 hq (by cases hr; rfl)
  refine zite hr (fun c4 hr => ?_) (fun c4 hr => ?_)
  · refine z_tabIn (v := (3 : Int32)) (off := 59) (tgt := 340) O dX2_mustName_281 c4 (by decide) (by decide +kernel) (by decide) ?_
    refine z_aload_n O 0 dX2_mustName_340 rfl rfl ?_
    refine z_iconst O dX2_mustName_341 kic_1 ?_
    refine b2s hr (fun v22 h21 hF hr => ?_)
    refine z_callV O [vi (1 : Int32)] (vr v22) fV_X2_fail q766 (fun l G => mX2_fail l G x0 (1 : Int32) h _ hF) (zck hF) rfl rfl ⟨Nat.le_of_ble_eq_true rfl, Nat.le_of_ble_eq_true rfl⟩ (Nat.le_of_ble_eq_true rfl) dX2_mustName_342 ?_
    refine bs hr (fun v23 hq hr => ?_)
    exact z_athrow O E dX2_mustName_345 hq (by cases hr; rfl)
  refine zite hr (fun c5 hr => ?_) (fun c5 hr => ?_)
  · refine z_tabIn (v := (4 : Int32)) (off := 59) (tgt := 340) O dX2_mustName_281 c5 (by decide) (by decide +kernel) (by decide) ?_
    refine z_aload_n O 0 dX2_mustName_340 rfl rfl ?_
    refine z_iconst O dX2_mustName_341 kic_1 ?_
    refine b2s hr (fun v25 h24 hF hr => ?_)
    refine z_callV O [vi (1 : Int32)] (vr v25) fV_X2_fail q766 (fun l G => mX2_fail l G x0 (1 : Int32) h _ hF) (zck hF) rfl rfl ⟨Nat.le_of_ble_eq_true rfl, Nat.le_of_ble_eq_true rfl⟩ (Nat.le_of_ble_eq_true rfl) dX2_mustName_342 ?_
    refine bs hr (fun v26 hq hr => ?_)
    exact z_athrow O E dX2_mustName_345 hq (by cases hr; rfl)
  refine zite hr (fun c6 hr => ?_) (fun c6 hr => ?_)
  · refine z_tabIn (v := (5 : Int32)) (off := 59) (tgt := 340) O dX2_mustName_281 c6 (by decide) (by decide +kernel) (by decide) ?_
    refine z_aload_n O 0 dX2_mustName_340 rfl rfl ?_
    refine z_iconst O dX2_mustName_341 kic_1 ?_
    refine b2s hr (fun v28 h27 hF hr => ?_)
    refine z_callV O [vi (1 : Int32)] (vr v28) fV_X2_fail q766 (fun l G => mX2_fail l G x0 (1 : Int32) h _ hF) (zck hF) rfl rfl ⟨Nat.le_of_ble_eq_true rfl, Nat.le_of_ble_eq_true rfl⟩ (Nat.le_of_ble_eq_true rfl) dX2_mustName_342 ?_
    refine bs hr (fun v29 hq hr => ?_)
    exact z_athrow O E dX2_mustName_345 hq (by cases hr; rfl)
  refine zite hr (fun c7 hr => ?_) (fun c7 hr => ?_)
  · refine z_tabIn (v := (6 : Int32)) (off := 59) (tgt := 340) O dX2_mustName_281 c7 (by decide) (by decide +kernel) (by decide) ?_
    refine z_aload_n O 0 dX2_mustName_340 rfl rfl ?_
    refine z_iconst O dX2_mustName_341 kic_1 ?_
    refine b2s hr (fun v31 h30 hF hr => ?_)
    refine z_callV O [vi (1 : Int32)] (vr v31) fV_X2_fail q766 (fun l G => mX2_fail l G x0 (1 : Int32) h _ hF) (zck hF) rfl rfl ⟨Nat.le_of_ble_eq_true rfl, Nat.le_of_ble_eq_true rfl⟩ (Nat.le_of_ble_eq_true rfl) dX2_mustName_342 ?_
    refine bs hr (fun v32 hq hr => ?_)
    exact z_athrow O E dX2_mustName_345 hq (by cases hr; rfl)
  refine zite hr (fun c8 hr => ?_) (fun c8 hr => ?_)
  · refine z_tabIn (v := (7 : Int32)) (off := 59) (tgt := 340) O dX2_mustName_281 c8 (by decide) (by decide +kernel) (by decide) ?_
    refine z_aload_n O 0 dX2_mustName_340 rfl rfl ?_
    refine z_iconst O dX2_mustName_341 kic_1 ?_
    refine b2s hr (fun v34 h33 hF hr => ?_)
    refine z_callV O [vi (1 : Int32)] (vr v34) fV_X2_fail q766 (fun l G => mX2_fail l G x0 (1 : Int32) h _ hF) (zck hF) rfl rfl ⟨Nat.le_of_ble_eq_true rfl, Nat.le_of_ble_eq_true rfl⟩ (Nat.le_of_ble_eq_true rfl) dX2_mustName_342 ?_
    refine bs hr (fun v35 hq hr => ?_)
    exact z_athrow O E dX2_mustName_345 hq (by cases hr; rfl)
  refine zite hr (fun c9 hr => ?_) (fun c9 hr => ?_)
  · refine z_tabIn (v := (8 : Int32)) (off := 59) (tgt := 340) O dX2_mustName_281 c9 (by decide) (by decide +kernel) (by decide) ?_
    refine z_aload_n O 0 dX2_mustName_340 rfl rfl ?_
    refine z_iconst O dX2_mustName_341 kic_1 ?_
    refine b2s hr (fun v37 h36 hF hr => ?_)
    refine z_callV O [vi (1 : Int32)] (vr v37) fV_X2_fail q766 (fun l G => mX2_fail l G x0 (1 : Int32) h _ hF) (zck hF) rfl rfl ⟨Nat.le_of_ble_eq_true rfl, Nat.le_of_ble_eq_true rfl⟩ (Nat.le_of_ble_eq_true rfl) dX2_mustName_342 ?_
    refine bs hr (fun v38 hq hr => ?_)
    exact z_athrow O E dX2_mustName_345 hq (by cases hr; rfl)
  refine zite hr (fun c10 hr => ?_) (fun c10 hr => ?_)
  · refine z_tabIn (v := (9 : Int32)) (off := 59) (tgt := 340) O dX2_mustName_281 c10 (by decide) (by decide +kernel) (by decide) ?_
    refine z_aload_n O 0 dX2_mustName_340 rfl rfl ?_
    refine z_iconst O dX2_mustName_341 kic_1 ?_
    refine b2s hr (fun v40 h39 hF hr => ?_)
    refine z_callV O [vi (1 : Int32)] (vr v40) fV_X2_fail q766 (fun l G => mX2_fail l G x0 (1 : Int32) h _ hF) (zck hF) rfl rfl ⟨Nat.le_of_ble_eq_true rfl, Nat.le_of_ble_eq_true rfl⟩ (Nat.le_of_ble_eq_true rfl) dX2_mustName_342 ?_
    refine bs hr (fun v41 hq hr => ?_)
    exact z_athrow O E dX2_mustName_345 hq (by cases hr; rfl)
  refine zite hr (fun c11 hr => ?_) (fun c11 hr => ?_)
  · refine z_tabIn (v := (10 : Int32)) (off := 59) (tgt := 340) O dX2_mustName_281 c11 (by decide) (by decide +kernel) (by decide) ?_
    refine z_aload_n O 0 dX2_mustName_340 rfl rfl ?_
    refine z_iconst O dX2_mustName_341 kic_1 ?_
    refine b2s hr (fun v43 h42 hF hr => ?_)
    refine z_callV O [vi (1 : Int32)] (vr v43) fV_X2_fail q766 (fun l G => mX2_fail l G x0 (1 : Int32) h _ hF) (zck hF) rfl rfl ⟨Nat.le_of_ble_eq_true rfl, Nat.le_of_ble_eq_true rfl⟩ (Nat.le_of_ble_eq_true rfl) dX2_mustName_342 ?_
    refine bs hr (fun v44 hq hr => ?_)
    exact z_athrow O E dX2_mustName_345 hq (by cases hr; rfl)
  refine z_tabOut (tgt := 346) O dX2_mustName_281 (zt_out 11 (by decide) (lt_s (p := fun j : Nat => ¬ x2.toInt = (0 : Int) + (j : Int)) (lt_s (p := fun j : Nat => ¬ x2.toInt = (0 : Int) + (j : Int)) (lt_s (p := fun j : Nat => ¬ x2.toInt = (0 : Int) + (j : Int)) (lt_s (p := fun j : Nat => ¬ x2.toInt = (0 : Int) + (j : Int)) (lt_s (p := fun j : Nat => ¬ x2.toInt = (0 : Int) + (j : Int)) (lt_s (p := fun j : Nat => ¬ x2.toInt = (0 : Int) + (j : Int)) (lt_s (p := fun j : Nat => ¬ x2.toInt = (0 : Int) + (j : Int)) (lt_s (p := fun j : Nat => ¬ x2.toInt = (0 : Int) + (j : Int)) (lt_s (p := fun j : Nat => ¬ x2.toInt = (0 : Int) + (j : Int)) (lt_s (p := fun j : Nat => ¬ x2.toInt = (0 : Int) + (j : Int)) (lt_s (p := fun j : Nat => ¬ x2.toInt = (0 : Int) + (j : Int)) lt_0 (lv_neT c1 (by decide))) (lv_neT c2 (by decide))) (lv_neT c3 (by decide))) (lv_neT c4 (by decide))) (lv_neT c5 (by decide))) (lv_neT c6 (by decide))) (lv_neT c7 (by decide))) (lv_neT c8 (by decide))) (lv_neT c9 (by decide))) (lv_neT c10 (by decide))) (lv_neT c11 (by decide)))) (by decide) ?_
  exact z_vret O dX2_mustName_346 (by cases hr; rfl)
def F_X2_mustName (N : Nat) (x0 : Option Nat) (h : AH) : Option ((Unit ⊕ Nat) × AH) :=
  (ck h [2] x0).bind fun _ =>
  (gI h f_Reader_token x0).bind fun v1 =>
  if v1 = (2 : Int32) then
    (gR h f_Reader_word x0).bind fun v2 =>
    b2 (F_J3_hashCode N v2 h) fun v4 h3 =>
    if v4 = (3059345 : Int32) then
      (F_J3_equals N v2 (some (h3.1.2.2.2.1 10)) h3).bind fun v16 =>
      if v16 = 0 then
        bX2_mustName_280 N x0 (-1 : Int32) h3
      else
        bX2_mustName_280 N x0 (9 : Int32) h3
    else if v4 = (3198694 : Int32) then
      (F_J3_equals N v2 (some (h3.1.2.2.2.1 7)) h3).bind fun v17 =>
      if v17 = 0 then
        bX2_mustName_280 N x0 (-1 : Int32) h3
      else
        bX2_mustName_280 N x0 (6 : Int32) h3
    else if v4 = (3314155 : Int32) then
      (F_J3_equals N v2 (some (h3.1.2.2.2.1 1)) h3).bind fun v18 =>
      if v18 = 0 then
        bX2_mustName_280 N x0 (-1 : Int32) h3
      else
        bX2_mustName_280 N x0 (0 : Int32) h3
    else if v4 = (3532157 : Int32) then
      (F_J3_equals N v2 (some (h3.1.2.2.2.1 6)) h3).bind fun v19 =>
      if v19 = 0 then
        bX2_mustName_280 N x0 (-1 : Int32) h3
      else
        bX2_mustName_280 N x0 (5 : Int32) h3
    else if v4 = (3641802 : Int32) then
      (F_J3_equals N v2 (some (h3.1.2.2.2.1 8)) h3).bind fun v20 =>
      if v20 = 0 then
        bX2_mustName_280 N x0 (-1 : Int32) h3
      else
        bX2_mustName_280 N x0 (7 : Int32) h3
    else if v4 = (99469088 : Int32) then
      (F_J3_equals N v2 (some (h3.1.2.2.2.1 5)) h3).bind fun v21 =>
      if v21 = 0 then
        bX2_mustName_280 N x0 (-1 : Int32) h3
      else
        bX2_mustName_280 N x0 (4 : Int32) h3
    else if v4 = (105827604 : Int32) then
      (F_J3_equals N v2 (some (h3.1.2.2.2.1 9)) h3).bind fun v22 =>
      if v22 = 0 then
        bX2_mustName_280 N x0 (-1 : Int32) h3
      else
        bX2_mustName_280 N x0 (8 : Int32) h3
    else if v4 = (109552651 : Int32) then
      (F_J3_equals N v2 (some (h3.1.2.2.2.1 11)) h3).bind fun v23 =>
      if v23 = 0 then
        bX2_mustName_280 N x0 (-1 : Int32) h3
      else
        bX2_mustName_280 N x0 (10 : Int32) h3
    else if v4 = (109770853 : Int32) then
      (F_J3_equals N v2 (some (h3.1.2.2.2.1 4)) h3).bind fun v24 =>
      if v24 = 0 then
        bX2_mustName_280 N x0 (-1 : Int32) h3
      else
        bX2_mustName_280 N x0 (3 : Int32) h3
    else if v4 = (112903447 : Int32) then
      (F_J3_equals N v2 (some (h3.1.2.2.2.1 3)) h3).bind fun v25 =>
      if v25 = 0 then
        bX2_mustName_280 N x0 (-1 : Int32) h3
      else
        bX2_mustName_280 N x0 (2 : Int32) h3
    else if v4 = (114851798 : Int32) then
      (F_J3_equals N v2 (some (h3.1.2.2.2.1 2)) h3).bind fun v26 =>
      if v26 = 0 then
        bX2_mustName_280 N x0 (-1 : Int32) h3
      else
        bX2_mustName_280 N x0 (1 : Int32) h3
    else 
      bX2_mustName_280 N x0 (-1 : Int32) h3
  else
    b2 (F_X2_fail x0 (1 : Int32) h) fun v28 h27 =>
    (thr h27 v28).bind fun v29 => some (.inr v29, h27)
theorem mX2_mustName (l : Launch) (G : ZG) (N : Nat) (x0 : Option Nat) (h : AH) (r : (Unit ⊕ Nat) × AH) (hr : F_X2_mustName N x0 h = some r) : MZ l G yX2_mustName cX2_mustName 3 (none : Option Jvm.ClassFile.FieldType) 5 138 [vr x0] h (eUX r) := by
  unfold F_X2_mustName at hr
  refine MZ.ofT (by decide) [(0, vr x0)] rfl (Nat.le_of_ble_eq_true rfl) (fun K O E => ?_)
  have O : ZOk K cX2_mustName RX2 "mustName" 3 (none : Option Jvm.ClassFile.FieldType) 5 138 := O
  refine bs hr (fun _ hck hr => ?_)
  refine z_aload_n O 0 dX2_mustName_0 rfl rfl ?_
  refine z_getI O o_Reader_token q384 dX2_mustName_1 hr (fun v1 hr => ?_)
  refine z_iconst O dX2_mustName_4 kic_2 ?_
  refine z_icmp_eq (tgt := 14) O dX2_mustName_5 (by decide) hr (fun hr => ?_) (fun hr => ?_)
  · refine z_aload_n O 0 dX2_mustName_14 rfl rfl ?_
    refine z_getR O o_Reader_word q388 dX2_mustName_15 hr (fun v2 hr => ?_)
    refine z_astore_n O [(1, vr v2), (0, vr x0)] dX2_mustName_18 rfl (by decide) rfl ?_
    refine z_iconst O dX2_mustName_19 kic_m1 ?_
    refine z_istore_n O [(2, vi (-1 : Int32)), (1, vr v2), (0, vr x0)] dX2_mustName_20 rfl (by decide) rfl ?_
    refine z_aload_n O 1 dX2_mustName_21 rfl rfl ?_
    refine b2s hr (fun v4 h3 hF hr => ?_)
    refine z_callV O [] (vi v4) fV_J3_hashCode q774 (fun l G => mJ3_hashCode l G N v2 h _ hF) (zck hF) rfl rfl ⟨Nat.le_of_ble_eq_true rfl, Nat.le_of_ble_eq_true rfl⟩ (Nat.le_of_ble_eq_true rfl) dX2_mustName_22 ?_
    refine zite hr (fun c5 hr => ?_) (fun c5 hr => ?_)
    · subst c5
      refine z_look (off := 228) (tgt := 253) O dX2_mustName_25 (by decide +kernel) (by decide +kernel) (by decide) ?_
      refine z_aload_n O 1 dX2_mustName_253 rfl rfl ?_
      refine z_ldcS O zs844 dX2_mustName_254 ?_
      refine bs hr (fun v16 hF hr => ?_)
      refine z_callV O [vr (some (h3.1.2.2.2.1 10))] (vi v16) fV_J3_equals q828 (fun l G => mJ3_equals l G N v2 (some (h3.1.2.2.2.1 10)) h3 _ hF) (zck hF) rfl rfl ⟨Nat.le_of_ble_eq_true rfl, Nat.le_of_ble_eq_true rfl⟩ (Nat.le_of_ble_eq_true rfl) dX2_mustName_256 ?_
      refine z_if_eq (tgt := 280) O dX2_mustName_259 (by decide) hr (fun hr => ?_) (fun hr => ?_)
      · refine z_sub [2, 0] rfl ?_
        exact wX2_mustName_280 O E N x0 (-1 : Int32) h3 _ hr
      · refine z_bipush O dX2_mustName_262 kbi_9 ?_
        refine z_istore_n O [(2, vi (9 : Int32)), (1, vr v2), (0, vr x0)] dX2_mustName_264 rfl (by decide) rfl ?_
        refine z_goto (tgt := 280) O dX2_mustName_265 (by decide) ?_
        refine z_sub [2, 0] rfl ?_
        exact wX2_mustName_280 O E N x0 (9 : Int32) h3 _ hr
    refine zite hr (fun c6 hr => ?_) (fun c6 hr => ?_)
    · subst c6
      refine z_look (off := 183) (tgt := 208) O dX2_mustName_25 (by decide +kernel) (by decide +kernel) (by decide) ?_
      refine z_aload_n O 1 dX2_mustName_208 rfl rfl ?_
      refine z_ldcS O zs841 dX2_mustName_209 ?_
      refine bs hr (fun v17 hF hr => ?_)
      refine z_callV O [vr (some (h3.1.2.2.2.1 7))] (vi v17) fV_J3_equals q828 (fun l G => mJ3_equals l G N v2 (some (h3.1.2.2.2.1 7)) h3 _ hF) (zck hF) rfl rfl ⟨Nat.le_of_ble_eq_true rfl, Nat.le_of_ble_eq_true rfl⟩ (Nat.le_of_ble_eq_true rfl) dX2_mustName_211 ?_
      refine z_if_eq (tgt := 280) O dX2_mustName_214 (by decide) hr (fun hr => ?_) (fun hr => ?_)
      · refine z_sub [2, 0] rfl ?_
        exact wX2_mustName_280 O E N x0 (-1 : Int32) h3 _ hr
      · refine z_bipush O dX2_mustName_217 kbi_6 ?_
        refine z_istore_n O [(2, vi (6 : Int32)), (1, vr v2), (0, vr x0)] dX2_mustName_219 rfl (by decide) rfl ?_
        refine z_goto (tgt := 280) O dX2_mustName_220 (by decide) ?_
        refine z_sub [2, 0] rfl ?_
        exact wX2_mustName_280 O E N x0 (6 : Int32) h3 _ hr
    refine zite hr (fun c7 hr => ?_) (fun c7 hr => ?_)
    · subst c7
      refine z_look (off := 99) (tgt := 124) O dX2_mustName_25 (by decide +kernel) (by decide +kernel) (by decide) ?_
      refine z_aload_n O 1 dX2_mustName_124 rfl rfl ?_
      refine z_ldcS O zs827 dX2_mustName_125 ?_
      refine bs hr (fun v18 hF hr => ?_)
      refine z_callV O [vr (some (h3.1.2.2.2.1 1))] (vi v18) fV_J3_equals q828 (fun l G => mJ3_equals l G N v2 (some (h3.1.2.2.2.1 1)) h3 _ hF) (zck hF) rfl rfl ⟨Nat.le_of_ble_eq_true rfl, Nat.le_of_ble_eq_true rfl⟩ (Nat.le_of_ble_eq_true rfl) dX2_mustName_127 ?_
      refine z_if_eq (tgt := 280) O dX2_mustName_130 (by decide) hr (fun hr => ?_) (fun hr => ?_)
      · refine z_sub [2, 0] rfl ?_
        exact wX2_mustName_280 O E N x0 (-1 : Int32) h3 _ hr
      · refine z_iconst O dX2_mustName_133 kic_0 ?_
        refine z_istore_n O [(2, vi (0 : Int32)), (1, vr v2), (0, vr x0)] dX2_mustName_134 rfl (by decide) rfl ?_
        refine z_goto (tgt := 280) O dX2_mustName_135 (by decide) ?_
        refine z_sub [2, 0] rfl ?_
        exact wX2_mustName_280 O E N x0 (0 : Int32) h3 _ hr
    refine zite hr (fun c8 hr => ?_) (fun c8 hr => ?_)
    · subst c8
      refine z_look (off := 169) (tgt := 194) O dX2_mustName_25 (by decide +kernel) (by decide +kernel) (by decide) ?_
      refine z_aload_n O 1 dX2_mustName_194 rfl rfl ?_
      refine z_ldcS O zs840 dX2_mustName_195 ?_
      refine bs hr (fun v19 hF hr => ?_)
      refine z_callV O [vr (some (h3.1.2.2.2.1 6))] (vi v19) fV_J3_equals q828 (fun l G => mJ3_equals l G N v2 (some (h3.1.2.2.2.1 6)) h3 _ hF) (zck hF) rfl rfl ⟨Nat.le_of_ble_eq_true rfl, Nat.le_of_ble_eq_true rfl⟩ (Nat.le_of_ble_eq_true rfl) dX2_mustName_197 ?_
      refine z_if_eq (tgt := 280) O dX2_mustName_200 (by decide) hr (fun hr => ?_) (fun hr => ?_)
      · refine z_sub [2, 0] rfl ?_
        exact wX2_mustName_280 O E N x0 (-1 : Int32) h3 _ hr
      · refine z_iconst O dX2_mustName_203 kic_5 ?_
        refine z_istore_n O [(2, vi (5 : Int32)), (1, vr v2), (0, vr x0)] dX2_mustName_204 rfl (by decide) rfl ?_
        refine z_goto (tgt := 280) O dX2_mustName_205 (by decide) ?_
        refine z_sub [2, 0] rfl ?_
        exact wX2_mustName_280 O E N x0 (5 : Int32) h3 _ hr
    refine zite hr (fun c9 hr => ?_) (fun c9 hr => ?_)
    · subst c9
      refine z_look (off := 198) (tgt := 223) O dX2_mustName_25 (by decide +kernel) (by decide +kernel) (by decide) ?_
      refine z_aload_n O 1 dX2_mustName_223 rfl rfl ?_
      refine z_ldcS O zs842 dX2_mustName_224 ?_
      refine bs hr (fun v20 hF hr => ?_)
      refine z_callV O [vr (some (h3.1.2.2.2.1 8))] (vi v20) fV_J3_equals q828 (fun l G => mJ3_equals l G N v2 (some (h3.1.2.2.2.1 8)) h3 _ hF) (zck hF) rfl rfl ⟨Nat.le_of_ble_eq_true rfl, Nat.le_of_ble_eq_true rfl⟩ (Nat.le_of_ble_eq_true rfl) dX2_mustName_226 ?_
      refine z_if_eq (tgt := 280) O dX2_mustName_229 (by decide) hr (fun hr => ?_) (fun hr => ?_)
      · refine z_sub [2, 0] rfl ?_
        exact wX2_mustName_280 O E N x0 (-1 : Int32) h3 _ hr
      · refine z_bipush O dX2_mustName_232 kbi_7 ?_
        refine z_istore_n O [(2, vi (7 : Int32)), (1, vr v2), (0, vr x0)] dX2_mustName_234 rfl (by decide) rfl ?_
        refine z_goto (tgt := 280) O dX2_mustName_235 (by decide) ?_
        refine z_sub [2, 0] rfl ?_
        exact wX2_mustName_280 O E N x0 (7 : Int32) h3 _ hr
    refine zite hr (fun c10 hr => ?_) (fun c10 hr => ?_)
    · subst c10
      refine z_look (off := 155) (tgt := 180) O dX2_mustName_25 (by decide +kernel) (by decide +kernel) (by decide) ?_
      refine z_aload_n O 1 dX2_mustName_180 rfl rfl ?_
      refine z_ldcS O zs839 dX2_mustName_181 ?_
      refine bs hr (fun v21 hF hr => ?_)
      refine z_callV O [vr (some (h3.1.2.2.2.1 5))] (vi v21) fV_J3_equals q828 (fun l G => mJ3_equals l G N v2 (some (h3.1.2.2.2.1 5)) h3 _ hF) (zck hF) rfl rfl ⟨Nat.le_of_ble_eq_true rfl, Nat.le_of_ble_eq_true rfl⟩ (Nat.le_of_ble_eq_true rfl) dX2_mustName_183 ?_
      refine z_if_eq (tgt := 280) O dX2_mustName_186 (by decide) hr (fun hr => ?_) (fun hr => ?_)
      · refine z_sub [2, 0] rfl ?_
        exact wX2_mustName_280 O E N x0 (-1 : Int32) h3 _ hr
      · refine z_iconst O dX2_mustName_189 kic_4 ?_
        refine z_istore_n O [(2, vi (4 : Int32)), (1, vr v2), (0, vr x0)] dX2_mustName_190 rfl (by decide) rfl ?_
        refine z_goto (tgt := 280) O dX2_mustName_191 (by decide) ?_
        refine z_sub [2, 0] rfl ?_
        exact wX2_mustName_280 O E N x0 (4 : Int32) h3 _ hr
    refine zite hr (fun c11 hr => ?_) (fun c11 hr => ?_)
    · subst c11
      refine z_look (off := 213) (tgt := 238) O dX2_mustName_25 (by decide +kernel) (by decide +kernel) (by decide) ?_
      refine z_aload_n O 1 dX2_mustName_238 rfl rfl ?_
      refine z_ldcS O zs843 dX2_mustName_239 ?_
      refine bs hr (fun v22 hF hr => ?_)
      refine z_callV O [vr (some (h3.1.2.2.2.1 9))] (vi v22) fV_J3_equals q828 (fun l G => mJ3_equals l G N v2 (some (h3.1.2.2.2.1 9)) h3 _ hF) (zck hF) rfl rfl ⟨Nat.le_of_ble_eq_true rfl, Nat.le_of_ble_eq_true rfl⟩ (Nat.le_of_ble_eq_true rfl) dX2_mustName_241 ?_
      refine z_if_eq (tgt := 280) O dX2_mustName_244 (by decide) hr (fun hr => ?_) (fun hr => ?_)
      · refine z_sub [2, 0] rfl ?_
        exact wX2_mustName_280 O E N x0 (-1 : Int32) h3 _ hr
      · refine z_bipush O dX2_mustName_247 kbi_8 ?_
        refine z_istore_n O [(2, vi (8 : Int32)), (1, vr v2), (0, vr x0)] dX2_mustName_249 rfl (by decide) rfl ?_
        refine z_goto (tgt := 280) O dX2_mustName_250 (by decide) ?_
        refine z_sub [2, 0] rfl ?_
        exact wX2_mustName_280 O E N x0 (8 : Int32) h3 _ hr
    refine zite hr (fun c12 hr => ?_) (fun c12 hr => ?_)
    · subst c12
      refine z_look (off := 243) (tgt := 268) O dX2_mustName_25 (by decide +kernel) (by decide +kernel) (by decide) ?_
      refine z_aload_n O 1 dX2_mustName_268 rfl rfl ?_
      refine z_ldcS O zs845 dX2_mustName_269 ?_
      refine bs hr (fun v23 hF hr => ?_)
      refine z_callV O [vr (some (h3.1.2.2.2.1 11))] (vi v23) fV_J3_equals q828 (fun l G => mJ3_equals l G N v2 (some (h3.1.2.2.2.1 11)) h3 _ hF) (zck hF) rfl rfl ⟨Nat.le_of_ble_eq_true rfl, Nat.le_of_ble_eq_true rfl⟩ (Nat.le_of_ble_eq_true rfl) dX2_mustName_271 ?_
      refine z_if_eq (tgt := 280) O dX2_mustName_274 (by decide) hr (fun hr => ?_) (fun hr => ?_)
      · refine z_sub [2, 0] rfl ?_
        exact wX2_mustName_280 O E N x0 (-1 : Int32) h3 _ hr
      · refine z_bipush O dX2_mustName_277 kbi_10 ?_
        refine z_istore_n O [(2, vi (10 : Int32)), (1, vr v2), (0, vr x0)] dX2_mustName_279 rfl (by decide) rfl ?_
        refine z_sub [2, 0] rfl ?_
        exact wX2_mustName_280 O E N x0 (10 : Int32) h3 _ hr
    refine zite hr (fun c13 hr => ?_) (fun c13 hr => ?_)
    · subst c13
      refine z_look (off := 141) (tgt := 166) O dX2_mustName_25 (by decide +kernel) (by decide +kernel) (by decide) ?_
      refine z_aload_n O 1 dX2_mustName_166 rfl rfl ?_
      refine z_ldcS O zs838 dX2_mustName_167 ?_
      refine bs hr (fun v24 hF hr => ?_)
      refine z_callV O [vr (some (h3.1.2.2.2.1 4))] (vi v24) fV_J3_equals q828 (fun l G => mJ3_equals l G N v2 (some (h3.1.2.2.2.1 4)) h3 _ hF) (zck hF) rfl rfl ⟨Nat.le_of_ble_eq_true rfl, Nat.le_of_ble_eq_true rfl⟩ (Nat.le_of_ble_eq_true rfl) dX2_mustName_169 ?_
      refine z_if_eq (tgt := 280) O dX2_mustName_172 (by decide) hr (fun hr => ?_) (fun hr => ?_)
      · refine z_sub [2, 0] rfl ?_
        exact wX2_mustName_280 O E N x0 (-1 : Int32) h3 _ hr
      · refine z_iconst O dX2_mustName_175 kic_3 ?_
        refine z_istore_n O [(2, vi (3 : Int32)), (1, vr v2), (0, vr x0)] dX2_mustName_176 rfl (by decide) rfl ?_
        refine z_goto (tgt := 280) O dX2_mustName_177 (by decide) ?_
        refine z_sub [2, 0] rfl ?_
        exact wX2_mustName_280 O E N x0 (3 : Int32) h3 _ hr
    refine zite hr (fun c14 hr => ?_) (fun c14 hr => ?_)
    · subst c14
      refine z_look (off := 127) (tgt := 152) O dX2_mustName_25 (by decide +kernel) (by decide +kernel) (by decide) ?_
      refine z_aload_n O 1 dX2_mustName_152 rfl rfl ?_
      refine z_ldcS O zs837 dX2_mustName_153 ?_
      refine bs hr (fun v25 hF hr => ?_)
      refine z_callV O [vr (some (h3.1.2.2.2.1 3))] (vi v25) fV_J3_equals q828 (fun l G => mJ3_equals l G N v2 (some (h3.1.2.2.2.1 3)) h3 _ hF) (zck hF) rfl rfl ⟨Nat.le_of_ble_eq_true rfl, Nat.le_of_ble_eq_true rfl⟩ (Nat.le_of_ble_eq_true rfl) dX2_mustName_155 ?_
      refine z_if_eq (tgt := 280) O dX2_mustName_158 (by decide) hr (fun hr => ?_) (fun hr => ?_)
      · refine z_sub [2, 0] rfl ?_
        exact wX2_mustName_280 O E N x0 (-1 : Int32) h3 _ hr
      · refine z_iconst O dX2_mustName_161 kic_2 ?_
        refine z_istore_n O [(2, vi (2 : Int32)), (1, vr v2), (0, vr x0)] dX2_mustName_162 rfl (by decide) rfl ?_
        refine z_goto (tgt := 280) O dX2_mustName_163 (by decide) ?_
        refine z_sub [2, 0] rfl ?_
        exact wX2_mustName_280 O E N x0 (2 : Int32) h3 _ hr
    refine zite hr (fun c15 hr => ?_) (fun c15 hr => ?_)
    · subst c15
      refine z_look (off := 113) (tgt := 138) O dX2_mustName_25 (by decide +kernel) (by decide +kernel) (by decide) ?_
      refine z_aload_n O 1 dX2_mustName_138 rfl rfl ?_
      refine z_ldcS O zs836 dX2_mustName_139 ?_
      refine bs hr (fun v26 hF hr => ?_)
      refine z_callV O [vr (some (h3.1.2.2.2.1 2))] (vi v26) fV_J3_equals q828 (fun l G => mJ3_equals l G N v2 (some (h3.1.2.2.2.1 2)) h3 _ hF) (zck hF) rfl rfl ⟨Nat.le_of_ble_eq_true rfl, Nat.le_of_ble_eq_true rfl⟩ (Nat.le_of_ble_eq_true rfl) dX2_mustName_141 ?_
      refine z_if_eq (tgt := 280) O dX2_mustName_144 (by decide) hr (fun hr => ?_) (fun hr => ?_)
      · refine z_sub [2, 0] rfl ?_
        exact wX2_mustName_280 O E N x0 (-1 : Int32) h3 _ hr
      · refine z_iconst O dX2_mustName_147 kic_1 ?_
        refine z_istore_n O [(2, vi (1 : Int32)), (1, vr v2), (0, vr x0)] dX2_mustName_148 rfl (by decide) rfl ?_
        refine z_goto (tgt := 280) O dX2_mustName_149 (by decide) ?_
        refine z_sub [2, 0] rfl ?_
        exact wX2_mustName_280 O E N x0 (1 : Int32) h3 _ hr
    refine z_look (off := 255) (tgt := 280) O dX2_mustName_25 (by decide +kernel) ((lv_osw c5 (by decide)).trans ((lv_osw c6 (by decide)).trans ((lv_osw c7 (by decide)).trans ((lv_osw c8 (by decide)).trans ((lv_osw c9 (by decide)).trans ((lv_osw c10 (by decide)).trans ((lv_osw c11 (by decide)).trans ((lv_osw c12 (by decide)).trans ((lv_osw c13 (by decide)).trans ((lv_osw c14 (by decide)).trans ((lv_osw c15 (by decide)).trans rfl))))))))))) (by decide) ?_
    refine z_sub [2, 0] rfl ?_
    exact wX2_mustName_280 O E N x0 (-1 : Int32) h3 _ hr
  · refine z_aload_n O 0 dX2_mustName_8 rfl rfl ?_
    refine z_iconst O dX2_mustName_9 kic_1 ?_
    refine b2s hr (fun v28 h27 hF hr => ?_)
    refine z_callV O [vi (1 : Int32)] (vr v28) fV_X2_fail q766 (fun l G => mX2_fail l G x0 (1 : Int32) h _ hF) (zck hF) rfl rfl ⟨Nat.le_of_ble_eq_true rfl, Nat.le_of_ble_eq_true rfl⟩ (Nat.le_of_ble_eq_true rfl) dX2_mustName_10 ?_
    refine bs hr (fun v29 hq hr => ?_)
    exact z_athrow O E dX2_mustName_13 hq (by cases hr; rfl)
theorem fV_X2_found : CVf RX2 yX2_found cX2_found 1 (some (.object "YearSkins$Named")) 0 := ⟨q1065, qs25, q127, q1066, ⟨⟨by decide +kernel, by decide +kernel⟩, by decide +kernel⟩⟩
def F_X2_found (N : Nat) (x0 : Option Nat) (h : AH) : Option (((Option Nat) ⊕ Nat) × AH) :=
  (ck h [2] x0).bind fun _ =>
  xb (F_X2_mustName N x0 h) fun _ h1 =>
  (gR h1 f_Reader_land x0).bind fun v2 =>
  (gR h1 f_Reader_word x0).bind fun v3 =>
  (F_X10_find N v2 v3 h1).bind fun v4 =>
  some (.inl v4, h1)
theorem mX2_found (l : Launch) (G : ZG) (N : Nat) (x0 : Option Nat) (h : AH) (r : ((Option Nat) ⊕ Nat) × AH) (hr : F_X2_found N x0 h = some r) : MZ l G yX2_found cX2_found 1 (some (.object "YearSkins$Named")) 6 160 [vr x0] h (eRX r) := by
  unfold F_X2_found at hr
  refine MZ.ofT (by decide) [(0, vr x0)] rfl (Nat.le_of_ble_eq_true rfl) (fun K O E => ?_)
  have O : ZOk K cX2_found RX2 "found" 1 (some (.object "YearSkins$Named")) 6 160 := O
  refine bs hr (fun _ hck hr => ?_)
  refine z_aload_n O 0 dX2_found_0 rfl rfl ?_
  refine xbs hr (fun _ h1 hF hr => ?_) (fun ex hx hF hr => ?_)
  · refine z_callVv O [] fV_X2_mustName q913 (fun l G => mX2_mustName l G N x0 h _ hF) (zck hF) rfl rfl ⟨Nat.le_of_ble_eq_true rfl, Nat.le_of_ble_eq_true rfl⟩ (Nat.le_of_ble_eq_true rfl) dX2_found_1 ?_
    refine z_aload_n O 0 dX2_found_4 rfl rfl ?_
    refine z_getR O o_Reader_land q389 dX2_found_5 hr (fun v2 hr => ?_)
    refine z_aload_n O 0 dX2_found_8 rfl rfl ?_
    refine z_getR O o_Reader_word q388 dX2_found_9 hr (fun v3 hr => ?_)
    refine bs hr (fun v4 hF hr => ?_)
    refine z_callV O [vr v3] (vr v4) fV_X10_find q917 (fun l G => mX10_find l G N v2 v3 h1 _ hF) (zck hF) rfl rfl ⟨Nat.le_of_ble_eq_true rfl, Nat.le_of_ble_eq_true rfl⟩ (Nat.le_of_ble_eq_true rfl) dX2_found_12 ?_
    exact z_aret O rfl dX2_found_15 (by cases hr; rfl)
  · exact z_callVt O E [] fV_X2_mustName q913 (fun l G => mX2_mustName l G N x0 h _ hF) (zck hF) rfl rfl ⟨Nat.le_of_ble_eq_true rfl, Nat.le_of_ble_eq_true rfl⟩ (Nat.le_of_ble_eq_true rfl) dX2_found_1 (by subst hr; rfl)
theorem fV_X2_wallHere : CVf RX2 yX2_wallHere cX2_wallHere 2 (some (.object "YearSkins$Wall")) 0 := ⟨q1181, qs32, q127, q1182, ⟨⟨by decide +kernel, by decide +kernel⟩, by decide +kernel⟩⟩
def F_X2_wallHere (N : Nat) (x0 : Option Nat) (h : AH) : Option (((Option Nat) ⊕ Nat) × AH) :=
  (ck h [2] x0).bind fun _ =>
  xb (F_X2_found N x0 h) fun v2 h1 =>
  (ist h1 19 v2).bind fun v3 =>
  if v3 = 0 then
    b2 (F_X2_fail x0 (2 : Int32) h1) fun v6 h5 =>
    (thr h5 v6).bind fun v7 => some (.inr v7, h5)
  else
    (cst h1 19 v2).bind fun v4 =>
    some (.inl v2, h1)
theorem mX2_wallHere (l : Launch) (G : ZG) (N : Nat) (x0 : Option Nat) (h : AH) (r : ((Option Nat) ⊕ Nat) × AH) (hr : F_X2_wallHere N x0 h = some r) : MZ l G yX2_wallHere cX2_wallHere 2 (some (.object "YearSkins$Wall")) 7 180 [vr x0] h (eRX r) := by
  unfold F_X2_wallHere at hr
  refine MZ.ofT (by decide) [(0, vr x0)] rfl (Nat.le_of_ble_eq_true rfl) (fun K O E => ?_)
  have O : ZOk K cX2_wallHere RX2 "wallHere" 2 (some (.object "YearSkins$Wall")) 7 180 := O
  refine bs hr (fun _ hck hr => ?_)
  refine z_aload_n O 0 dX2_wallHere_0 rfl rfl ?_
  refine xbs hr (fun v2 h1 hF hr => ?_) (fun ex hx hF hr => ?_)
  · refine z_callV O [] (vr v2) fV_X2_found q1063 (fun l G => mX2_found l G N x0 h _ hF) (zck hF) rfl rfl ⟨Nat.le_of_ble_eq_true rfl, Nat.le_of_ble_eq_true rfl⟩ (Nat.le_of_ble_eq_true rfl) dX2_wallHere_1 ?_
    refine z_astore_n O [(1, vr v2), (0, vr x0)] dX2_wallHere_4 rfl (by decide) rfl ?_
    refine z_aload_n O 0 dX2_wallHere_5 rfl rfl ?_
    refine z_inst (t := 19) O rfl q1156 dX2_wallHere_6 hr (fun v3 hr => ?_)
    refine z_if_ne (tgt := 18) O dX2_wallHere_9 (by decide) hr (fun hr => ?_) (fun hr => ?_)
    · refine z_aload_n O 1 dX2_wallHere_12 rfl rfl ?_
      refine z_iconst O dX2_wallHere_13 kic_2 ?_
      refine b2s hr (fun v6 h5 hF hr => ?_)
      refine z_callV O [vi (2 : Int32)] (vr v6) fV_X2_fail q766 (fun l G => mX2_fail l G x0 (2 : Int32) h1 _ hF) (zck hF) rfl rfl ⟨Nat.le_of_ble_eq_true rfl, Nat.le_of_ble_eq_true rfl⟩ (Nat.le_of_ble_eq_true rfl) dX2_wallHere_14 ?_
      refine bs hr (fun v7 hq hr => ?_)
      exact z_athrow O E dX2_wallHere_17 hq (by cases hr; rfl)
    · refine z_aload_n O 0 dX2_wallHere_18 rfl rfl ?_
      refine z_cast (t := 19) O rfl q1156 dX2_wallHere_19 hr (fun v4 hr => ?_)
      exact z_aret O rfl dX2_wallHere_22 (by cases hr; rfl)
  · exact z_callVt O E [] fV_X2_found q1063 (fun l G => mX2_found l G N x0 h _ hF) (zck hF) rfl rfl ⟨Nat.le_of_ble_eq_true rfl, Nat.le_of_ble_eq_true rfl⟩ (Nat.le_of_ble_eq_true rfl) dX2_wallHere_1 (by subst hr; rfl)
theorem fV_X2_coin : CVf RX2 yX2_coin cX2_coin 2 (none : Option Jvm.ClassFile.FieldType) 0 := ⟨q1189, qs33, q127, q1190, ⟨⟨by decide +kernel, by decide +kernel⟩, by decide +kernel⟩⟩
def F_X2_coin (N : Nat) (x0 : Option Nat) (h : AH) : Option ((Unit ⊕ Nat) × AH) :=
  (ck h [2] x0).bind fun _ =>
  xb (F_X2_begins N x0 (1 : Int32) (1 : Int32) h) fun _ h1 =>
  xb (F_X2_wallHere N x0 h1) fun v3 h2 =>
  (gI h2 f_Wall_coin v3).bind fun v4 =>
  if v4 = (-1 : Int32) then
    (F_X2_next N x0 h2).bind fun h5 =>
    xb (F_X2_number N x0 (0 : Int32) (999 : Int32) h5) fun v7 h6 =>
    (pI h6 f_Wall_coin v3 v7).bind fun h8 =>
    some (.inl (), h8)
  else
    b2 (F_X2_fail x0 (3 : Int32) h2) fun v10 h9 =>
    (thr h9 v10).bind fun v11 => some (.inr v11, h9)
theorem mX2_coin (l : Launch) (G : ZG) (N : Nat) (x0 : Option Nat) (h : AH) (r : (Unit ⊕ Nat) × AH) (hr : F_X2_coin N x0 h = some r) : MZ l G yX2_coin cX2_coin 2 (none : Option Jvm.ClassFile.FieldType) 8 201 [vr x0] h (eUX r) := by
  unfold F_X2_coin at hr
  refine MZ.ofT (by decide) [(0, vr x0)] rfl (Nat.le_of_ble_eq_true rfl) (fun K O E => ?_)
  have O : ZOk K cX2_coin RX2 "coin" 2 (none : Option Jvm.ClassFile.FieldType) 8 201 := O
  refine bs hr (fun _ hck hr => ?_)
  refine z_aload_n O 0 dX2_coin_0 rfl rfl ?_
  refine z_iconst O dX2_coin_1 kic_1 ?_
  refine z_iconst O dX2_coin_2 kic_1 ?_
  refine xbs hr (fun _ h1 hF hr => ?_) (fun ex hx hF hr => ?_)
  · refine z_callVv O [vi (1 : Int32), vi (1 : Int32)] fV_X2_begins q886 (fun l G => mX2_begins l G N x0 (1 : Int32) (1 : Int32) h _ hF) (zck hF) rfl rfl ⟨Nat.le_of_ble_eq_true rfl, Nat.le_of_ble_eq_true rfl⟩ (Nat.le_of_ble_eq_true rfl) dX2_coin_3 ?_
    refine z_aload_n O 0 dX2_coin_6 rfl rfl ?_
    refine xbs hr (fun v3 h2 hF hr => ?_) (fun ex hx hF hr => ?_)
    · refine z_callV O [] (vr v3) fV_X2_wallHere q1179 (fun l G => mX2_wallHere l G N x0 h1 _ hF) (zck hF) rfl rfl ⟨Nat.le_of_ble_eq_true rfl, Nat.le_of_ble_eq_true rfl⟩ (Nat.le_of_ble_eq_true rfl) dX2_coin_7 ?_
      refine z_astore_n O [(1, vr v3), (0, vr x0)] dX2_coin_10 rfl (by decide) rfl ?_
      refine z_aload_n O 0 dX2_coin_11 rfl rfl ?_
      refine z_getI O o_Wall_coin q1164 dX2_coin_12 hr (fun v4 hr => ?_)
      refine z_iconst O dX2_coin_15 kic_m1 ?_
      refine z_icmp_eq (tgt := 25) O dX2_coin_16 (by decide) hr (fun hr => ?_) (fun hr => ?_)
      · refine z_aload_n O 1 dX2_coin_25 rfl rfl ?_
        refine bs hr (fun h5 hF hr => ?_)
        refine z_callVv O [] fV_X2_next q668 (fun l G => mX2_next l G N x0 h2 _ hF) (zck hF) rfl rfl ⟨Nat.le_of_ble_eq_true rfl, Nat.le_of_ble_eq_true rfl⟩ (Nat.le_of_ble_eq_true rfl) dX2_coin_26 ?_
        refine z_aload_n O 0 dX2_coin_29 rfl rfl ?_
        refine z_aload_n O 1 dX2_coin_30 rfl rfl ?_
        refine z_iconst O dX2_coin_31 kic_0 ?_
        refine z_sipush O dX2_coin_32 ksi_999 ?_
        refine xbs hr (fun v7 h6 hF hr => ?_) (fun ex hx hF hr => ?_)
        · refine z_callV O [vi (0 : Int32), vi (999 : Int32)] (vi v7) fV_X2_number q863 (fun l G => mX2_number l G N x0 (0 : Int32) (999 : Int32) h5 _ hF) (zck hF) rfl rfl ⟨Nat.le_of_ble_eq_true rfl, Nat.le_of_ble_eq_true rfl⟩ (Nat.le_of_ble_eq_true rfl) dX2_coin_35 ?_
          refine z_putI O o_Wall_coin (w_Wall_coin _) q1164 dX2_coin_38 hr (fun h8 hr => ?_)
          exact z_vret O dX2_coin_41 (by cases hr; rfl)
        · exact z_callVt O E [vi (0 : Int32), vi (999 : Int32)] fV_X2_number q863 (fun l G => mX2_number l G N x0 (0 : Int32) (999 : Int32) h5 _ hF) (zck hF) rfl rfl ⟨Nat.le_of_ble_eq_true rfl, Nat.le_of_ble_eq_true rfl⟩ (Nat.le_of_ble_eq_true rfl) dX2_coin_35 (by subst hr; rfl)
      · refine z_aload_n O 1 dX2_coin_19 rfl rfl ?_
        refine z_iconst O dX2_coin_20 kic_3 ?_
        refine b2s hr (fun v10 h9 hF hr => ?_)
        refine z_callV O [vi (3 : Int32)] (vr v10) fV_X2_fail q766 (fun l G => mX2_fail l G x0 (3 : Int32) h2 _ hF) (zck hF) rfl rfl ⟨Nat.le_of_ble_eq_true rfl, Nat.le_of_ble_eq_true rfl⟩ (Nat.le_of_ble_eq_true rfl) dX2_coin_21 ?_
        refine bs hr (fun v11 hq hr => ?_)
        exact z_athrow O E dX2_coin_24 hq (by cases hr; rfl)
    · exact z_callVt O E [] fV_X2_wallHere q1179 (fun l G => mX2_wallHere l G N x0 h1 _ hF) (zck hF) rfl rfl ⟨Nat.le_of_ble_eq_true rfl, Nat.le_of_ble_eq_true rfl⟩ (Nat.le_of_ble_eq_true rfl) dX2_coin_7 (by subst hr; rfl)
  · exact z_callVt O E [vi (1 : Int32), vi (1 : Int32)] fV_X2_begins q886 (fun l G => mX2_begins l G N x0 (1 : Int32) (1 : Int32) h _ hF) (zck hF) rfl rfl ⟨Nat.le_of_ble_eq_true rfl, Nat.le_of_ble_eq_true rfl⟩ (Nat.le_of_ble_eq_true rfl) dX2_coin_3 (by subst hr; rfl)
theorem fI_X11_init : CIf yX11_init cX11_init 3 2 := ⟨q939, rfl, q144, q940, ⟨⟨by decide +kernel, by decide +kernel⟩, by decide +kernel⟩⟩
def F_X11_init (x0 : Option Nat) (x1 : Option Nat) (x2 : Int32) (h : AH) : Option (AH) :=
  (ck h [13, 14, 15, 16, 18, 19] x0).bind fun _ =>
  (pR h f_Named_name x0 x1).bind fun h1 =>
  (pI h1 f_Named_number x0 x2).bind fun h2 =>
  some h2
theorem mX11_init (l : Launch) (G : ZG) (x0 : Option Nat) (x1 : Option Nat) (x2 : Int32) (h : AH) (r : AH) (hr : F_X11_init x0 x1 x2 h = some r) : MZ l G yX11_init cX11_init 3 (none : Option Jvm.ClassFile.FieldType) 1 48 [vr x0, vr x1, vi x2] h (eH r) := by
  unfold F_X11_init at hr
  refine MZ.of (by decide) [(0, vr x0), (1, vr x1), (2, vi x2)] rfl (Nat.le_of_ble_eq_true rfl) (fun K O => ?_)
  have O : ZOk K cX11_init RX11 "<init>" 3 (none : Option Jvm.ClassFile.FieldType) 1 48 := O
  refine bs hr (fun _ hck hr2 => ?_)
  clear hr
  obtain ⟨a0, rfl⟩ := ck_some hck
  have hr := hr2
  refine z_aload_n O 0 dX11_init_0 rfl rfl ?_
  refine z_objInit O q941 q163 q164 ⟨_, rfl⟩ ⟨Nat.le_of_ble_eq_true rfl, Nat.le_of_ble_eq_true rfl⟩ (Nat.le_of_ble_eq_true rfl) dX11_init_1 ?_
  refine z_aload_n O 0 dX11_init_4 rfl rfl ?_
  refine z_aload_n O 1 dX11_init_5 rfl rfl ?_
  refine z_putRF O rfl o_Named_name w_Named_name rfl q955 dX11_init_6 hr (fun h1 hr => ?_)
  refine z_aload_n O 0 dX11_init_9 rfl rfl ?_
  refine z_iload_n O 2 dX11_init_10 rfl rfl ?_
  refine z_putIF O o_Named_number w_Named_number rfl q957 dX11_init_11 hr (fun h2 hr => ?_)
  exact z_vret O dX11_init_14 (by cases hr; rfl)
theorem fI_X18_init : CIf yX18_init cX18_init 4 3 := ⟨q1138, rfl, q152, q1139, ⟨⟨by decide +kernel, by decide +kernel⟩, by decide +kernel⟩⟩
def F_X18_init (x0 : Option Nat) (x1 : Option Nat) (x2 : Int32) (x3 : Int32) (h : AH) : Option (AH) :=
  (ck h [18] x0).bind fun _ =>
  (F_X11_init x0 x1 x2 h).bind fun h1 =>
  (pI h1 f_Heir_house x0 x3).bind fun h2 =>
  some h2
theorem mX18_init (l : Launch) (G : ZG) (x0 : Option Nat) (x1 : Option Nat) (x2 : Int32) (x3 : Int32) (h : AH) (r : AH) (hr : F_X18_init x0 x1 x2 x3 h = some r) : MZ l G yX18_init cX18_init 4 (none : Option Jvm.ClassFile.FieldType) 2 70 [vr x0, vr x1, vi x2, vi x3] h (eH r) := by
  unfold F_X18_init at hr
  refine MZ.of (by decide) [(0, vr x0), (1, vr x1), (2, vi x2), (3, vi x3)] rfl (Nat.le_of_ble_eq_true rfl) (fun K O => ?_)
  have O : ZOk K cX18_init RX18 "<init>" 4 (none : Option Jvm.ClassFile.FieldType) 2 70 := O
  refine bs hr (fun _ hck hr2 => ?_)
  clear hr
  obtain ⟨a0, rfl⟩ := ck_some hck
  have hr := hr2
  refine z_aload_n O 0 dX18_init_0 rfl rfl ?_
  refine z_aload_n O 1 dX18_init_1 rfl rfl ?_
  refine z_iload_n O 2 dX18_init_2 rfl rfl ?_
  refine bs hr (fun h1 hF hr => ?_)
  refine z_callI_ O [vr x1, vi x2] fI_X11_init q1140 (fun l G => mX11_init l G (some a0) x1 x2 h _ hF) rfl ⟨Nat.le_of_ble_eq_true rfl, Nat.le_of_ble_eq_true rfl⟩ (Nat.le_of_ble_eq_true rfl) dX18_init_3 ?_
  refine z_aload_n O 0 dX18_init_6 rfl rfl ?_
  refine z_iload_n O 3 dX18_init_7 rfl rfl ?_
  refine z_putIF O o_Heir_house w_Heir_house rfl q1141 dX18_init_8 hr (fun h2 hr => ?_)
  exact z_vret O dX18_init_11 (by cases hr; rfl)
theorem fV_X2_newName : CVf RX2 yX2_newName cX2_newName 2 (some (.object "java/lang/String")) 0 := ⟨q911, qs20, q127, q912, ⟨⟨by decide +kernel, by decide +kernel⟩, by decide +kernel⟩⟩
def F_X2_newName (N : Nat) (x0 : Option Nat) (h : AH) : Option (((Option Nat) ⊕ Nat) × AH) :=
  (ck h [2] x0).bind fun _ =>
  xb (F_X2_mustName N x0 h) fun _ h1 =>
  (gR h1 f_Reader_land x0).bind fun v2 =>
  (gR h1 f_Reader_word x0).bind fun v3 =>
  (F_X10_find N v2 v3 h1).bind fun v4 =>
  if v4 = none then
    (gR h1 f_Reader_word x0).bind fun v5 =>
    (F_X2_next N x0 h1).bind fun h6 =>
    some (.inl v5, h6)
  else
    b2 (F_X2_fail x0 (3 : Int32) h1) fun v8 h7 =>
    (thr h7 v8).bind fun v9 => some (.inr v9, h7)
theorem mX2_newName (l : Launch) (G : ZG) (N : Nat) (x0 : Option Nat) (h : AH) (r : ((Option Nat) ⊕ Nat) × AH) (hr : F_X2_newName N x0 h = some r) : MZ l G yX2_newName cX2_newName 2 (some (.object "java/lang/String")) 6 169 [vr x0] h (eRX r) := by
  unfold F_X2_newName at hr
  refine MZ.ofT (by decide) [(0, vr x0)] rfl (Nat.le_of_ble_eq_true rfl) (fun K O E => ?_)
  have O : ZOk K cX2_newName RX2 "newName" 2 (some (.object "java/lang/String")) 6 169 := O
  refine bs hr (fun _ hck hr => ?_)
  refine z_aload_n O 0 dX2_newName_0 rfl rfl ?_
  refine xbs hr (fun _ h1 hF hr => ?_) (fun ex hx hF hr => ?_)
  · refine z_callVv O [] fV_X2_mustName q913 (fun l G => mX2_mustName l G N x0 h _ hF) (zck hF) rfl rfl ⟨Nat.le_of_ble_eq_true rfl, Nat.le_of_ble_eq_true rfl⟩ (Nat.le_of_ble_eq_true rfl) dX2_newName_1 ?_
    refine z_aload_n O 0 dX2_newName_4 rfl rfl ?_
    refine z_getR O o_Reader_land q389 dX2_newName_5 hr (fun v2 hr => ?_)
    refine z_aload_n O 0 dX2_newName_8 rfl rfl ?_
    refine z_getR O o_Reader_word q388 dX2_newName_9 hr (fun v3 hr => ?_)
    refine bs hr (fun v4 hF hr => ?_)
    refine z_callV O [vr v3] (vr v4) fV_X10_find q917 (fun l G => mX10_find l G N v2 v3 h1 _ hF) (zck hF) rfl rfl ⟨Nat.le_of_ble_eq_true rfl, Nat.le_of_ble_eq_true rfl⟩ (Nat.le_of_ble_eq_true rfl) dX2_newName_12 ?_
    refine z_ifnull (tgt := 24) O dX2_newName_15 (by decide) hr (fun hr => ?_) (fun hr => ?_)
    · refine z_aload_n O 0 dX2_newName_24 rfl rfl ?_
      refine z_getR O o_Reader_word q388 dX2_newName_25 hr (fun v5 hr => ?_)
      refine z_astore_n O [(1, vr v5), (0, vr x0)] dX2_newName_28 rfl (by decide) rfl ?_
      refine z_aload_n O 1 dX2_newName_29 rfl rfl ?_
      refine bs hr (fun h6 hF hr => ?_)
      refine z_callVv O [] fV_X2_next q668 (fun l G => mX2_next l G N x0 h1 _ hF) (zck hF) rfl rfl ⟨Nat.le_of_ble_eq_true rfl, Nat.le_of_ble_eq_true rfl⟩ (Nat.le_of_ble_eq_true rfl) dX2_newName_30 ?_
      refine z_aload_n O 0 dX2_newName_33 rfl rfl ?_
      exact z_aret O rfl dX2_newName_34 (by cases hr; rfl)
    · refine z_aload_n O 0 dX2_newName_18 rfl rfl ?_
      refine z_iconst O dX2_newName_19 kic_3 ?_
      refine b2s hr (fun v8 h7 hF hr => ?_)
      refine z_callV O [vi (3 : Int32)] (vr v8) fV_X2_fail q766 (fun l G => mX2_fail l G x0 (3 : Int32) h1 _ hF) (zck hF) rfl rfl ⟨Nat.le_of_ble_eq_true rfl, Nat.le_of_ble_eq_true rfl⟩ (Nat.le_of_ble_eq_true rfl) dX2_newName_20 ?_
      refine bs hr (fun v9 hq hr => ?_)
      exact z_athrow O E dX2_newName_23 hq (by cases hr; rfl)
  · exact z_callVt O E [] fV_X2_mustName q913 (fun l G => mX2_mustName l G N x0 h _ hF) (zck hF) rfl rfl ⟨Nat.le_of_ble_eq_true rfl, Nat.le_of_ble_eq_true rfl⟩ (Nat.le_of_ble_eq_true rfl) dX2_newName_1 (by subst hr; rfl)
theorem fV_X2_siteHere : CVf RX2 yX2_siteHere cX2_siteHere 2 (some (.object "YearSkins$Site")) 0 := ⟨q1084, qs27, q127, q1085, ⟨⟨by decide +kernel, by decide +kernel⟩, by decide +kernel⟩⟩
def F_X2_siteHere (N : Nat) (x0 : Option Nat) (h : AH) : Option (((Option Nat) ⊕ Nat) × AH) :=
  (ck h [2] x0).bind fun _ =>
  xb (F_X2_found N x0 h) fun v2 h1 =>
  (ist h1 16 v2).bind fun v3 =>
  if v3 = 0 then
    b2 (F_X2_fail x0 (2 : Int32) h1) fun v6 h5 =>
    (thr h5 v6).bind fun v7 => some (.inr v7, h5)
  else
    (cst h1 16 v2).bind fun v4 =>
    some (.inl v2, h1)
theorem mX2_siteHere (l : Launch) (G : ZG) (N : Nat) (x0 : Option Nat) (h : AH) (r : ((Option Nat) ⊕ Nat) × AH) (hr : F_X2_siteHere N x0 h = some r) : MZ l G yX2_siteHere cX2_siteHere 2 (some (.object "YearSkins$Site")) 7 180 [vr x0] h (eRX r) := by
  unfold F_X2_siteHere at hr
  refine MZ.ofT (by decide) [(0, vr x0)] rfl (Nat.le_of_ble_eq_true rfl) (fun K O E => ?_)
  have O : ZOk K cX2_siteHere RX2 "siteHere" 2 (some (.object "YearSkins$Site")) 7 180 := O
  refine bs hr (fun _ hck hr => ?_)
  refine z_aload_n O 0 dX2_siteHere_0 rfl rfl ?_
  refine xbs hr (fun v2 h1 hF hr => ?_) (fun ex hx hF hr => ?_)
  · refine z_callV O [] (vr v2) fV_X2_found q1063 (fun l G => mX2_found l G N x0 h _ hF) (zck hF) rfl rfl ⟨Nat.le_of_ble_eq_true rfl, Nat.le_of_ble_eq_true rfl⟩ (Nat.le_of_ble_eq_true rfl) dX2_siteHere_1 ?_
    refine z_astore_n O [(1, vr v2), (0, vr x0)] dX2_siteHere_4 rfl (by decide) rfl ?_
    refine z_aload_n O 0 dX2_siteHere_5 rfl rfl ?_
    refine z_inst (t := 16) O rfl q1013 dX2_siteHere_6 hr (fun v3 hr => ?_)
    refine z_if_ne (tgt := 18) O dX2_siteHere_9 (by decide) hr (fun hr => ?_) (fun hr => ?_)
    · refine z_aload_n O 1 dX2_siteHere_12 rfl rfl ?_
      refine z_iconst O dX2_siteHere_13 kic_2 ?_
      refine b2s hr (fun v6 h5 hF hr => ?_)
      refine z_callV O [vi (2 : Int32)] (vr v6) fV_X2_fail q766 (fun l G => mX2_fail l G x0 (2 : Int32) h1 _ hF) (zck hF) rfl rfl ⟨Nat.le_of_ble_eq_true rfl, Nat.le_of_ble_eq_true rfl⟩ (Nat.le_of_ble_eq_true rfl) dX2_siteHere_14 ?_
      refine bs hr (fun v7 hq hr => ?_)
      exact z_athrow O E dX2_siteHere_17 hq (by cases hr; rfl)
    · refine z_aload_n O 0 dX2_siteHere_18 rfl rfl ?_
      refine z_cast (t := 16) O rfl q1013 dX2_siteHere_19 hr (fun v4 hr => ?_)
      exact z_aret O rfl dX2_siteHere_22 (by cases hr; rfl)
  · exact z_callVt O E [] fV_X2_found q1063 (fun l G => mX2_found l G N x0 h _ hF) (zck hF) rfl rfl ⟨Nat.le_of_ble_eq_true rfl, Nat.le_of_ble_eq_true rfl⟩ (Nat.le_of_ble_eq_true rfl) dX2_siteHere_1 (by subst hr; rfl)
theorem fV_X2_heir : CVf RX2 yX2_heir cX2_heir 4 (none : Option Jvm.ClassFile.FieldType) 0 := ⟨q1133, qs29, q127, q1134, ⟨⟨by decide +kernel, by decide +kernel⟩, by decide +kernel⟩⟩
def bX2_heir_18 (N : Nat) (x0 : Option Nat) (s0 : Option Nat) (s1 : Int32) (h : AH) : Option ((Unit ⊕ Nat) × AH) :=
  xb (F_X2_begins N s0 s1 (1 : Int32) h) fun _ h1 =>
  xb (F_X2_newName N x0 h1) fun v3 h2 =>
  xb (F_X2_siteHere N x0 h2) fun v5 h4 =>
  (F_X2_next N x0 h4).bind fun h6 =>
  b2 (nO h6 18 4 [.null, .int 0, .int 0, .int 0]) fun v7 h8 =>
  (gR h8 f_Reader_land x0).bind fun v9 =>
  (gI h8 f_Land_heirMany v9).bind fun v10 =>
  (gI h8 f_Site_number v5).bind fun v11 =>
  (F_X18_init v7 v3 v10 v11 h8).bind fun h12 =>
  (gR h12 f_Reader_village x0).bind fun v13 =>
  (gI h12 f_Site_number v5).bind fun v14 =>
  (F_X4_house v13 v14 h12).bind fun v15 =>
  (gI h12 f_House_many v15).bind fun v16 =>
  xb (F_X2_number N x0 (0 : Int32) v16 h12) fun v18 h17 =>
  (pI h17 f_Heir_begins v7 v18).bind fun h19 =>
  (gR h19 f_Reader_village x0).bind fun v20 =>
  (gR h19 f_Village_depth v20).bind fun v21 =>
  (gR h19 f_Reader_land x0).bind fun v22 =>
  (gI h19 f_Land_heirMany v22).bind fun v23 =>
  (gI h19 f_Heir_begins v7).bind fun v24 =>
  (sA h19 0 v21 v23 v24).bind fun h25 =>
  (gR h25 f_Reader_land x0).bind fun v26 =>
  (gR h25 f_Land_heirs v26).bind fun v27 =>
  (gR h25 f_Reader_land x0).bind fun v28 =>
  (gI h25 f_Land_heirMany v28).bind fun v29 =>
  (sR h25 v27 v29 v7).bind fun h30 =>
  (gR h30 f_Reader_land x0).bind fun v31 =>
  (gI h30 f_Land_heirMany v31).bind fun v32 =>
  (pI h30 f_Land_heirMany v31 (v32 + (1 : Int32))).bind fun h33 =>
  some (.inl (), h33)
theorem wX2_heir_18 {K : ZC} (O : ZOk K cX2_heir RX2 "heir" 4 (none : Option Jvm.ClassFile.FieldType) 8 201) (E : ZEx K) (N : Nat) (x0 : Option Nat) (s0 : Option Nat) (s1 : Int32) (h : AH) (r : (Unit ⊕ Nat) × AH) (hr : bX2_heir_18 N x0 s0 s1 h = some r) : Zw K (eUX r) h 18 [(0, vr x0)] [vi s1, vr s0] := by
  unfold bX2_heir_18 at hr
  refine z_iconst O dX2_heir_18 kic_1 ?_
  refine xbs hr (fun _ h1 hF hr => ?_) (fun ex hx hF hr => ?_)
  · refine z_callVv O [vi s1, vi (1 : Int32)] fV_X2_begins q886 (fun l G => mX2_begins l G N s0 s1 (1 : Int32) h _ hF) (zck hF) rfl rfl ⟨Nat.le_of_ble_eq_true rfl, Nat.le_of_ble_eq_true rfl⟩ (Nat.le_of_ble_eq_true rfl) dX2_heir_19 ?_
    refine z_aload_n O 0 dX2_heir_22 rfl rfl ?_
    refine xbs hr (fun v3 h2 hF hr => ?_) (fun ex hx hF hr => ?_)
    · refine z_callV O [] (vr v3) fV_X2_newName q909 (fun l G => mX2_newName l G N x0 h1 _ hF) (zck hF) rfl rfl ⟨Nat.le_of_ble_eq_true rfl, Nat.le_of_ble_eq_true rfl⟩ (Nat.le_of_ble_eq_true rfl) dX2_heir_23 ?_
      refine z_astore_n O [(1, vr v3), (0, vr x0)] dX2_heir_26 rfl (by decide) rfl ?_
      refine z_aload_n O 1 dX2_heir_27 rfl rfl ?_
      refine xbs hr (fun v5 h4 hF hr => ?_) (fun ex hx hF hr => ?_)
      · refine z_callV O [] (vr v5) fV_X2_siteHere q1082 (fun l G => mX2_siteHere l G N x0 h2 _ hF) (zck hF) rfl rfl ⟨Nat.le_of_ble_eq_true rfl, Nat.le_of_ble_eq_true rfl⟩ (Nat.le_of_ble_eq_true rfl) dX2_heir_28 ?_
        refine z_astore_n O [(2, vr v5), (1, vr v3), (0, vr x0)] dX2_heir_31 rfl (by decide) rfl ?_
        refine z_aload_n O 2 dX2_heir_32 rfl rfl ?_
        refine bs hr (fun h6 hF hr => ?_)
        refine z_callVv O [] fV_X2_next q668 (fun l G => mX2_next l G N x0 h4 _ hF) (zck hF) rfl rfl ⟨Nat.le_of_ble_eq_true rfl, Nat.le_of_ble_eq_true rfl⟩ (Nat.le_of_ble_eq_true rfl) dX2_heir_33 ?_
        refine z_new O (t := 18) (n := 4) (tyf := tyX18) rfl [.null, .int 0, .int 0, .int 0] tyX18_ok rfl in_X18 q1135 q1136 q152 dX2_heir_36 hr (fun v7 h8 hr => ?_)
        refine z_dup O dX2_heir_39 rfl ?_
        refine z_aload_n O 1 dX2_heir_40 rfl rfl ?_
        refine z_aload_n O 2 dX2_heir_41 rfl rfl ?_
        refine z_getR O o_Reader_land q389 dX2_heir_42 hr (fun v9 hr => ?_)
        refine z_getI O o_Land_heirMany q604 dX2_heir_45 hr (fun v10 hr => ?_)
        refine z_aload_n O 0 dX2_heir_48 rfl rfl ?_
        refine z_getI O o_Site_number q960 dX2_heir_49 hr (fun v11 hr => ?_)
        refine bs hr (fun h12 hF hr => ?_)
        refine z_callI_ O [vr v3, vi v10, vi v11] fI_X18_init q1137 (fun l G => mX18_init l G (some v7) v3 v10 v11 h8 _ hF) rfl ⟨Nat.le_of_ble_eq_true rfl, Nat.le_of_ble_eq_true rfl⟩ (Nat.le_of_ble_eq_true rfl) dX2_heir_52 ?_
        refine z_astore_n O [(3, vr (some v7)), (2, vr v5), (1, vr v3), (0, vr x0)] dX2_heir_55 rfl (by decide) rfl ?_
        refine z_aload_n O 0 dX2_heir_56 rfl rfl ?_
        refine z_aload_n O 3 dX2_heir_57 rfl rfl ?_
        refine z_iconst O dX2_heir_58 kic_0 ?_
        refine z_aload_n O 3 dX2_heir_59 rfl rfl ?_
        refine z_getR O o_Reader_village q381 dX2_heir_60 hr (fun v13 hr => ?_)
        refine z_aload_n O 1 dX2_heir_63 rfl rfl ?_
        refine z_getI O o_Site_number q960 dX2_heir_64 hr (fun v14 hr => ?_)
        refine bs hr (fun v15 hF hr => ?_)
        refine z_callV O [vi v14] (vr v15) fV_X4_house q1086 (fun l G => mX4_house l G v13 v14 h12 _ hF) (zck hF) rfl rfl ⟨Nat.le_of_ble_eq_true rfl, Nat.le_of_ble_eq_true rfl⟩ (Nat.le_of_ble_eq_true rfl) dX2_heir_67 ?_
        refine z_getI O o_House_many q315 dX2_heir_70 hr (fun v16 hr => ?_)
        refine xbs hr (fun v18 h17 hF hr => ?_) (fun ex hx hF hr => ?_)
        · refine z_callV O [vi (0 : Int32), vi v16] (vi v18) fV_X2_number q863 (fun l G => mX2_number l G N x0 (0 : Int32) v16 h12 _ hF) (zck hF) rfl rfl ⟨Nat.le_of_ble_eq_true rfl, Nat.le_of_ble_eq_true rfl⟩ (Nat.le_of_ble_eq_true rfl) dX2_heir_73 ?_
          refine z_putI O o_Heir_begins (w_Heir_begins _) q1144 dX2_heir_76 hr (fun h19 hr => ?_)
          refine z_aload_n O 3 dX2_heir_79 rfl rfl ?_
          refine z_getR O o_Reader_village q381 dX2_heir_80 hr (fun v20 hr => ?_)
          refine z_getR O o_Village_depth q341 dX2_heir_83 hr (fun v21 hr => ?_)
          refine z_aload_n O 3 dX2_heir_86 rfl rfl ?_
          refine z_getR O o_Reader_land q389 dX2_heir_87 hr (fun v22 hr => ?_)
          refine z_getI O o_Land_heirMany q604 dX2_heir_90 hr (fun v23 hr => ?_)
          refine z_aload_n O 0 dX2_heir_93 rfl rfl ?_
          refine z_getI O o_Heir_begins q1144 dX2_heir_94 hr (fun v24 hr => ?_)
          refine z_iastore O dX2_heir_97 hr (fun h25 hr => ?_)
          refine z_aload_n O 3 dX2_heir_98 rfl rfl ?_
          refine z_getR O o_Reader_land q389 dX2_heir_99 hr (fun v26 hr => ?_)
          refine z_getR O o_Land_heirs q575 dX2_heir_102 hr (fun v27 hr => ?_)
          refine z_aload_n O 3 dX2_heir_105 rfl rfl ?_
          refine z_getR O o_Reader_land q389 dX2_heir_106 hr (fun v28 hr => ?_)
          refine z_getI O o_Land_heirMany q604 dX2_heir_109 hr (fun v29 hr => ?_)
          refine z_aload_n O 0 dX2_heir_112 rfl rfl ?_
          refine z_aastore O dX2_heir_113 hr (fun h30 hr => ?_)
          refine z_aload_n O 3 dX2_heir_114 rfl rfl ?_
          refine z_getR O o_Reader_land q389 dX2_heir_115 hr (fun v31 hr => ?_)
          refine z_dup O dX2_heir_118 rfl ?_
          refine z_getI O o_Land_heirMany q604 dX2_heir_119 hr (fun v32 hr => ?_)
          refine z_iconst O dX2_heir_122 kic_1 ?_
          refine z_iadd O dX2_heir_123 ?_
          refine z_putI O o_Land_heirMany (w_Land_heirMany _) q604 dX2_heir_124 hr (fun h33 hr => ?_)
          exact z_vret O dX2_heir_127 (by cases hr; rfl)
        · exact z_callVt O E [vi (0 : Int32), vi v16] fV_X2_number q863 (fun l G => mX2_number l G N x0 (0 : Int32) v16 h12 _ hF) (zck hF) rfl rfl ⟨Nat.le_of_ble_eq_true rfl, Nat.le_of_ble_eq_true rfl⟩ (Nat.le_of_ble_eq_true rfl) dX2_heir_73 (by subst hr; rfl)
      · exact z_callVt O E [] fV_X2_siteHere q1082 (fun l G => mX2_siteHere l G N x0 h2 _ hF) (zck hF) rfl rfl ⟨Nat.le_of_ble_eq_true rfl, Nat.le_of_ble_eq_true rfl⟩ (Nat.le_of_ble_eq_true rfl) dX2_heir_28 (by subst hr; rfl)
    · exact z_callVt O E [] fV_X2_newName q909 (fun l G => mX2_newName l G N x0 h1 _ hF) (zck hF) rfl rfl ⟨Nat.le_of_ble_eq_true rfl, Nat.le_of_ble_eq_true rfl⟩ (Nat.le_of_ble_eq_true rfl) dX2_heir_23 (by subst hr; rfl)
  · exact z_callVt O E [vi s1, vi (1 : Int32)] fV_X2_begins q886 (fun l G => mX2_begins l G N s0 s1 (1 : Int32) h _ hF) (zck hF) rfl rfl ⟨Nat.le_of_ble_eq_true rfl, Nat.le_of_ble_eq_true rfl⟩ (Nat.le_of_ble_eq_true rfl) dX2_heir_19 (by subst hr; rfl)
def F_X2_heir (N : Nat) (x0 : Option Nat) (h : AH) : Option ((Unit ⊕ Nat) × AH) :=
  (ck h [2] x0).bind fun _ =>
  (gR h f_Reader_land x0).bind fun v1 =>
  (gI h f_Land_heirMany v1).bind fun v2 =>
  if (6 : Int32) ≤ v2 then
    bX2_heir_18 N x0 x0 (0 : Int32) h
  else
    bX2_heir_18 N x0 x0 (1 : Int32) h
theorem mX2_heir (l : Launch) (G : ZG) (N : Nat) (x0 : Option Nat) (h : AH) (r : (Unit ⊕ Nat) × AH) (hr : F_X2_heir N x0 h = some r) : MZ l G yX2_heir cX2_heir 4 (none : Option Jvm.ClassFile.FieldType) 8 201 [vr x0] h (eUX r) := by
  unfold F_X2_heir at hr
  refine MZ.ofT (by decide) [(0, vr x0)] rfl (Nat.le_of_ble_eq_true rfl) (fun K O E => ?_)
  have O : ZOk K cX2_heir RX2 "heir" 4 (none : Option Jvm.ClassFile.FieldType) 8 201 := O
  refine bs hr (fun _ hck hr => ?_)
  refine z_aload_n O 0 dX2_heir_0 rfl rfl ?_
  refine z_aload_n O 0 dX2_heir_1 rfl rfl ?_
  refine z_getR O o_Reader_land q389 dX2_heir_2 hr (fun v1 hr => ?_)
  refine z_getI O o_Land_heirMany q604 dX2_heir_5 hr (fun v2 hr => ?_)
  refine z_bipush O dX2_heir_8 kbi_6 ?_
  refine z_icmp_ge (tgt := 17) O dX2_heir_10 (by decide) hr (fun hr => ?_) (fun hr => ?_)
  · refine z_iconst O dX2_heir_17 kic_0 ?_
    exact wX2_heir_18 O E N x0 x0 (0 : Int32) h _ hr
  · refine z_iconst O dX2_heir_13 kic_1 ?_
    refine z_goto (tgt := 18) O dX2_heir_14 (by decide) ?_
    exact wX2_heir_18 O E N x0 x0 (1 : Int32) h _ hr
theorem fI_X16_init : CIf yX16_init cX16_init 3 2 := ⟨q1016, rfl, q149, q1017, ⟨⟨by decide +kernel, by decide +kernel⟩, by decide +kernel⟩⟩
def F_X16_init (x0 : Option Nat) (x1 : Option Nat) (x2 : Int32) (h : AH) : Option (AH) :=
  (ck h [16] x0).bind fun _ =>
  (F_X11_init x0 x1 x2 h).bind fun h1 =>
  some h1
theorem mX16_init (l : Launch) (G : ZG) (x0 : Option Nat) (x1 : Option Nat) (x2 : Int32) (h : AH) (r : AH) (hr : F_X16_init x0 x1 x2 h = some r) : MZ l G yX16_init cX16_init 3 (none : Option Jvm.ClassFile.FieldType) 2 70 [vr x0, vr x1, vi x2] h (eH r) := by
  unfold F_X16_init at hr
  refine MZ.of (by decide) [(0, vr x0), (1, vr x1), (2, vi x2)] rfl (Nat.le_of_ble_eq_true rfl) (fun K O => ?_)
  have O : ZOk K cX16_init RX16 "<init>" 3 (none : Option Jvm.ClassFile.FieldType) 2 70 := O
  refine bs hr (fun _ hck hr2 => ?_)
  clear hr
  obtain ⟨a0, rfl⟩ := ck_some hck
  have hr := hr2
  refine z_aload_n O 0 dX16_init_0 rfl rfl ?_
  refine z_aload_n O 1 dX16_init_1 rfl rfl ?_
  refine z_iload_n O 2 dX16_init_2 rfl rfl ?_
  refine bs hr (fun h1 hF hr => ?_)
  refine z_callI_ O [vr x1, vi x2] fI_X11_init q1018 (fun l G => mX11_init l G (some a0) x1 x2 h _ hF) rfl ⟨Nat.le_of_ble_eq_true rfl, Nat.le_of_ble_eq_true rfl⟩ (Nat.le_of_ble_eq_true rfl) dX16_init_3 ?_
  exact z_vret O dX16_init_6 (by cases hr; rfl)
theorem fV_X2_takes : CVf RX2 yX2_takes cX2_takes 2 (some .boolean) 1 := ⟨q861, qs11, q127, q862, ⟨⟨by decide +kernel, by decide +kernel⟩, by decide +kernel⟩⟩
def F_X2_takes (N : Nat) (x0 : Option Nat) (x1 : Option Nat) (h : AH) : Option (Int32 × AH) :=
  (ck h [2] x0).bind fun _ =>
  (gI h f_Reader_token x0).bind fun v1 =>
  if v1 = (2 : Int32) then
    (gR h f_Reader_word x0).bind fun v3 =>
    (F_J3_equals N v3 x1 h).bind fun v4 =>
    if v4 = 0 then
      (zb (0 : Int32)).bind fun v7 => some (v7, h)
    else
      (F_X2_next N x0 h).bind fun h5 =>
      (zb (1 : Int32)).bind fun v6 => some (v6, h5)
  else
    (zb (0 : Int32)).bind fun v2 => some (v2, h)
theorem mX2_takes (l : Launch) (G : ZG) (N : Nat) (x0 : Option Nat) (x1 : Option Nat) (h : AH) (r : Int32 × AH) (hr : F_X2_takes N x0 x1 h = some r) : MZ l G yX2_takes cX2_takes 2 (some .boolean) 6 169 [vr x0, vr x1] h (eIH r) := by
  unfold F_X2_takes at hr
  refine MZ.of (by decide) [(0, vr x0), (1, vr x1)] rfl (Nat.le_of_ble_eq_true rfl) (fun K O => ?_)
  have O : ZOk K cX2_takes RX2 "takes" 2 (some .boolean) 6 169 := O
  refine bs hr (fun _ hck hr => ?_)
  refine z_aload_n O 0 dX2_takes_0 rfl rfl ?_
  refine z_getI O o_Reader_token q384 dX2_takes_1 hr (fun v1 hr => ?_)
  refine z_iconst O dX2_takes_4 kic_2 ?_
  refine z_icmp_ne (tgt := 19) O dX2_takes_5 (by decide) hr (fun hr => ?_) (fun hr => ?_)
  · refine z_aload_n O 0 dX2_takes_8 rfl rfl ?_
    refine z_getR O o_Reader_word q388 dX2_takes_9 hr (fun v3 hr => ?_)
    refine z_aload_n O 1 dX2_takes_12 rfl rfl ?_
    refine bs hr (fun v4 hF hr => ?_)
    refine z_callV O [vr x1] (vi v4) fV_J3_equals q828 (fun l G => mJ3_equals l G N v3 x1 h _ hF) (zck hF) rfl rfl ⟨Nat.le_of_ble_eq_true rfl, Nat.le_of_ble_eq_true rfl⟩ (Nat.le_of_ble_eq_true rfl) dX2_takes_13 ?_
    refine z_if_ne (tgt := 21) O dX2_takes_16 (by decide) hr (fun hr => ?_) (fun hr => ?_)
    · refine z_iconst O dX2_takes_19 kic_0 ?_
      refine bs hr (fun v7 e0 hr => ?_)
      obtain ⟨e1, e2, -⟩ := zb_spec e0
      exact z_zret O e2 dX2_takes_20 (by cases hr; cases e1; rfl)
    · refine z_aload_n O 0 dX2_takes_21 rfl rfl ?_
      refine bs hr (fun h5 hF hr => ?_)
      refine z_callVv O [] fV_X2_next q668 (fun l G => mX2_next l G N x0 h _ hF) (zck hF) rfl rfl ⟨Nat.le_of_ble_eq_true rfl, Nat.le_of_ble_eq_true rfl⟩ (Nat.le_of_ble_eq_true rfl) dX2_takes_22 ?_
      refine z_iconst O dX2_takes_25 kic_1 ?_
      refine bs hr (fun v6 e0 hr => ?_)
      obtain ⟨e1, e2, -⟩ := zb_spec e0
      exact z_zret O e2 dX2_takes_26 (by cases hr; cases e1; rfl)
  · refine z_iconst O dX2_takes_19 kic_0 ?_
    refine bs hr (fun v2 e0 hr => ?_)
    obtain ⟨e1, e2, -⟩ := zb_spec e0
    exact z_zret O e2 dX2_takes_20 (by cases hr; cases e1; rfl)
theorem fV_X2_must : CVf RX2 yX2_must cX2_must 2 (none : Option Jvm.ClassFile.FieldType) 1 := ⟨q857, qs10, q127, q858, ⟨⟨by decide +kernel, by decide +kernel⟩, by decide +kernel⟩⟩
def F_X2_must (N : Nat) (x0 : Option Nat) (x1 : Option Nat) (h : AH) : Option ((Unit ⊕ Nat) × AH) :=
  (ck h [2] x0).bind fun _ =>
  b2 (F_X2_takes N x0 x1 h) fun v2 h1 =>
  if v2 = 0 then
    b2 (F_X2_fail x0 (1 : Int32) h1) fun v4 h3 =>
    (thr h3 v4).bind fun v5 => some (.inr v5, h3)
  else
    some (.inl (), h1)
theorem mX2_must (l : Launch) (G : ZG) (N : Nat) (x0 : Option Nat) (x1 : Option Nat) (h : AH) (r : (Unit ⊕ Nat) × AH) (hr : F_X2_must N x0 x1 h = some r) : MZ l G yX2_must cX2_must 2 (none : Option Jvm.ClassFile.FieldType) 7 190 [vr x0, vr x1] h (eUX r) := by
  unfold F_X2_must at hr
  refine MZ.ofT (by decide) [(0, vr x0), (1, vr x1)] rfl (Nat.le_of_ble_eq_true rfl) (fun K O E => ?_)
  have O : ZOk K cX2_must RX2 "must" 2 (none : Option Jvm.ClassFile.FieldType) 7 190 := O
  refine bs hr (fun _ hck hr => ?_)
  refine z_aload_n O 0 dX2_must_0 rfl rfl ?_
  refine z_aload_n O 1 dX2_must_1 rfl rfl ?_
  refine b2s hr (fun v2 h1 hF hr => ?_)
  refine z_callV O [vr x1] (vi v2) fV_X2_takes q859 (fun l G => mX2_takes l G N x0 x1 h _ hF) (zck hF) rfl rfl ⟨Nat.le_of_ble_eq_true rfl, Nat.le_of_ble_eq_true rfl⟩ (Nat.le_of_ble_eq_true rfl) dX2_must_2 ?_
  refine z_if_ne (tgt := 14) O dX2_must_5 (by decide) hr (fun hr => ?_) (fun hr => ?_)
  · refine z_aload_n O 0 dX2_must_8 rfl rfl ?_
    refine z_iconst O dX2_must_9 kic_1 ?_
    refine b2s hr (fun v4 h3 hF hr => ?_)
    refine z_callV O [vi (1 : Int32)] (vr v4) fV_X2_fail q766 (fun l G => mX2_fail l G x0 (1 : Int32) h1 _ hF) (zck hF) rfl rfl ⟨Nat.le_of_ble_eq_true rfl, Nat.le_of_ble_eq_true rfl⟩ (Nat.le_of_ble_eq_true rfl) dX2_must_10 ?_
    refine bs hr (fun v5 hq hr => ?_)
    exact z_athrow O E dX2_must_13 hq (by cases hr; rfl)
  · exact z_vret O dX2_must_14 (by cases hr; rfl)
theorem fV_X2_after : CVf RX2 yX2_after cX2_after 4 (some .int) 3 := ⟨q853, qs9, q127, q854, ⟨⟨by decide +kernel, by decide +kernel⟩, by decide +kernel⟩⟩
def F_X2_after (N : Nat) (x0 : Option Nat) (x1 : Option Nat) (x2 : Int32) (x3 : Int32) (h : AH) : Option ((Int32 ⊕ Nat) × AH) :=
  (ck h [2] x0).bind fun _ =>
  xb (F_X2_must N x0 x1 h) fun _ h1 =>
  xb (F_X2_number N x0 x2 x3 h1) fun v3 h2 =>
  some (.inl v3, h2)
theorem mX2_after (l : Launch) (G : ZG) (N : Nat) (x0 : Option Nat) (x1 : Option Nat) (x2 : Int32) (x3 : Int32) (h : AH) (r : (Int32 ⊕ Nat) × AH) (hr : F_X2_after N x0 x1 x2 x3 h = some r) : MZ l G yX2_after cX2_after 4 (some .int) 8 211 [vr x0, vr x1, vi x2, vi x3] h (eIX r) := by
  unfold F_X2_after at hr
  refine MZ.ofT (by decide) [(0, vr x0), (1, vr x1), (2, vi x2), (3, vi x3)] rfl (Nat.le_of_ble_eq_true rfl) (fun K O E => ?_)
  have O : ZOk K cX2_after RX2 "after" 4 (some .int) 8 211 := O
  refine bs hr (fun _ hck hr => ?_)
  refine z_aload_n O 0 dX2_after_0 rfl rfl ?_
  refine z_aload_n O 1 dX2_after_1 rfl rfl ?_
  refine xbs hr (fun _ h1 hF hr => ?_) (fun ex hx hF hr => ?_)
  · refine z_callVv O [vr x1] fV_X2_must q855 (fun l G => mX2_must l G N x0 x1 h _ hF) (zck hF) rfl rfl ⟨Nat.le_of_ble_eq_true rfl, Nat.le_of_ble_eq_true rfl⟩ (Nat.le_of_ble_eq_true rfl) dX2_after_2 ?_
    refine z_aload_n O 0 dX2_after_5 rfl rfl ?_
    refine z_iload_n O 2 dX2_after_6 rfl rfl ?_
    refine z_iload_n O 3 dX2_after_7 rfl rfl ?_
    refine xbs hr (fun v3 h2 hF hr => ?_) (fun ex hx hF hr => ?_)
    · refine z_callV O [vi x2, vi x3] (vi v3) fV_X2_number q863 (fun l G => mX2_number l G N x0 x2 x3 h1 _ hF) (zck hF) rfl rfl ⟨Nat.le_of_ble_eq_true rfl, Nat.le_of_ble_eq_true rfl⟩ (Nat.le_of_ble_eq_true rfl) dX2_after_8 ?_
      exact z_iret O dX2_after_11 (by cases hr; rfl)
    · exact z_callVt O E [vi x2, vi x3] fV_X2_number q863 (fun l G => mX2_number l G N x0 x2 x3 h1 _ hF) (zck hF) rfl rfl ⟨Nat.le_of_ble_eq_true rfl, Nat.le_of_ble_eq_true rfl⟩ (Nat.le_of_ble_eq_true rfl) dX2_after_8 (by subst hr; rfl)
  · exact z_callVt O E [vr x1] fV_X2_must q855 (fun l G => mX2_must l G N x0 x1 h _ hF) (zck hF) rfl rfl ⟨Nat.le_of_ble_eq_true rfl, Nat.le_of_ble_eq_true rfl⟩ (Nat.le_of_ble_eq_true rfl) dX2_after_2 (by subst hr; rfl)
theorem fV_X2_mustComma : CVf RX2 yX2_mustComma cX2_mustComma 1 (none : Option Jvm.ClassFile.FieldType) 0 := ⟨q899, qs18, q127, q900, ⟨⟨by decide +kernel, by decide +kernel⟩, by decide +kernel⟩⟩
def F_X2_mustComma (N : Nat) (x0 : Option Nat) (h : AH) : Option ((Unit ⊕ Nat) × AH) :=
  (ck h [2] x0).bind fun _ =>
  (gI h f_Reader_token x0).bind fun v1 =>
  if v1 = (44 : Int32) then
    (F_X2_next N x0 h).bind fun h2 =>
    some (.inl (), h2)
  else
    b2 (F_X2_fail x0 (1 : Int32) h) fun v4 h3 =>
    (thr h3 v4).bind fun v5 => some (.inr v5, h3)
theorem mX2_mustComma (l : Launch) (G : ZG) (N : Nat) (x0 : Option Nat) (h : AH) (r : (Unit ⊕ Nat) × AH) (hr : F_X2_mustComma N x0 h = some r) : MZ l G yX2_mustComma cX2_mustComma 1 (none : Option Jvm.ClassFile.FieldType) 6 169 [vr x0] h (eUX r) := by
  unfold F_X2_mustComma at hr
  refine MZ.ofT (by decide) [(0, vr x0)] rfl (Nat.le_of_ble_eq_true rfl) (fun K O E => ?_)
  have O : ZOk K cX2_mustComma RX2 "mustComma" 1 (none : Option Jvm.ClassFile.FieldType) 6 169 := O
  refine bs hr (fun _ hck hr => ?_)
  refine z_aload_n O 0 dX2_mustComma_0 rfl rfl ?_
  refine z_getI O o_Reader_token q384 dX2_mustComma_1 hr (fun v1 hr => ?_)
  refine z_bipush O dX2_mustComma_4 kbi_44 ?_
  refine z_icmp_eq (tgt := 15) O dX2_mustComma_6 (by decide) hr (fun hr => ?_) (fun hr => ?_)
  · refine z_aload_n O 0 dX2_mustComma_15 rfl rfl ?_
    refine bs hr (fun h2 hF hr => ?_)
    refine z_callVv O [] fV_X2_next q668 (fun l G => mX2_next l G N x0 h _ hF) (zck hF) rfl rfl ⟨Nat.le_of_ble_eq_true rfl, Nat.le_of_ble_eq_true rfl⟩ (Nat.le_of_ble_eq_true rfl) dX2_mustComma_16 ?_
    exact z_vret O dX2_mustComma_19 (by cases hr; rfl)
  · refine z_aload_n O 0 dX2_mustComma_9 rfl rfl ?_
    refine z_iconst O dX2_mustComma_10 kic_1 ?_
    refine b2s hr (fun v4 h3 hF hr => ?_)
    refine z_callV O [vi (1 : Int32)] (vr v4) fV_X2_fail q766 (fun l G => mX2_fail l G x0 (1 : Int32) h _ hF) (zck hF) rfl rfl ⟨Nat.le_of_ble_eq_true rfl, Nat.le_of_ble_eq_true rfl⟩ (Nat.le_of_ble_eq_true rfl) dX2_mustComma_11 ?_
    refine bs hr (fun v5 hq hr => ?_)
    exact z_athrow O E dX2_mustComma_14 hq (by cases hr; rfl)
theorem fV_X2_stone : CVf RX2 yX2_stone cX2_stone 2 (some (.object "YearSkins$Stone")) 0 := ⟨q1061, qs24, q127, q1062, ⟨⟨by decide +kernel, by decide +kernel⟩, by decide +kernel⟩⟩
def F_X2_stone (N : Nat) (x0 : Option Nat) (h : AH) : Option (((Option Nat) ⊕ Nat) × AH) :=
  (ck h [2] x0).bind fun _ =>
  xb (F_X2_found N x0 h) fun v2 h1 =>
  (ist h1 12 v2).bind fun v3 =>
  if v3 = 0 then
    b2 (F_X2_fail x0 (2 : Int32) h1) fun v7 h6 =>
    (thr h6 v7).bind fun v8 => some (.inr v8, h6)
  else
    (F_X2_next N x0 h1).bind fun h4 =>
    (cst h4 12 v2).bind fun v5 =>
    some (.inl v2, h4)
theorem mX2_stone (l : Launch) (G : ZG) (N : Nat) (x0 : Option Nat) (h : AH) (r : ((Option Nat) ⊕ Nat) × AH) (hr : F_X2_stone N x0 h = some r) : MZ l G yX2_stone cX2_stone 2 (some (.object "YearSkins$Stone")) 7 180 [vr x0] h (eRX r) := by
  unfold F_X2_stone at hr
  refine MZ.ofT (by decide) [(0, vr x0)] rfl (Nat.le_of_ble_eq_true rfl) (fun K O E => ?_)
  have O : ZOk K cX2_stone RX2 "stone" 2 (some (.object "YearSkins$Stone")) 7 180 := O
  refine bs hr (fun _ hck hr => ?_)
  refine z_aload_n O 0 dX2_stone_0 rfl rfl ?_
  refine xbs hr (fun v2 h1 hF hr => ?_) (fun ex hx hF hr => ?_)
  · refine z_callV O [] (vr v2) fV_X2_found q1063 (fun l G => mX2_found l G N x0 h _ hF) (zck hF) rfl rfl ⟨Nat.le_of_ble_eq_true rfl, Nat.le_of_ble_eq_true rfl⟩ (Nat.le_of_ble_eq_true rfl) dX2_stone_1 ?_
    refine z_astore_n O [(1, vr v2), (0, vr x0)] dX2_stone_4 rfl (by decide) rfl ?_
    refine z_aload_n O 0 dX2_stone_5 rfl rfl ?_
    refine z_inst (t := 12) O rfl q1067 dX2_stone_6 hr (fun v3 hr => ?_)
    refine z_if_ne (tgt := 18) O dX2_stone_9 (by decide) hr (fun hr => ?_) (fun hr => ?_)
    · refine z_aload_n O 1 dX2_stone_12 rfl rfl ?_
      refine z_iconst O dX2_stone_13 kic_2 ?_
      refine b2s hr (fun v7 h6 hF hr => ?_)
      refine z_callV O [vi (2 : Int32)] (vr v7) fV_X2_fail q766 (fun l G => mX2_fail l G x0 (2 : Int32) h1 _ hF) (zck hF) rfl rfl ⟨Nat.le_of_ble_eq_true rfl, Nat.le_of_ble_eq_true rfl⟩ (Nat.le_of_ble_eq_true rfl) dX2_stone_14 ?_
      refine bs hr (fun v8 hq hr => ?_)
      exact z_athrow O E dX2_stone_17 hq (by cases hr; rfl)
    · refine z_aload_n O 1 dX2_stone_18 rfl rfl ?_
      refine bs hr (fun h4 hF hr => ?_)
      refine z_callVv O [] fV_X2_next q668 (fun l G => mX2_next l G N x0 h1 _ hF) (zck hF) rfl rfl ⟨Nat.le_of_ble_eq_true rfl, Nat.le_of_ble_eq_true rfl⟩ (Nat.le_of_ble_eq_true rfl) dX2_stone_19 ?_
      refine z_aload_n O 0 dX2_stone_22 rfl rfl ?_
      refine z_cast (t := 12) O rfl q1067 dX2_stone_23 hr (fun v5 hr => ?_)
      exact z_aret O rfl dX2_stone_26 (by cases hr; rfl)
  · exact z_callVt O E [] fV_X2_found q1063 (fun l G => mX2_found l G N x0 h _ hF) (zck hF) rfl rfl ⟨Nat.le_of_ble_eq_true rfl, Nat.le_of_ble_eq_true rfl⟩ (Nat.le_of_ble_eq_true rfl) dX2_stone_1 (by subst hr; rfl)
theorem fV_X5_begin : CVf RX5 yX5_begin cX5_begin 4 (none : Option Jvm.ClassFile.FieldType) 3 := ⟨q1075, q1076, q133, q1077, ⟨⟨by decide +kernel, by decide +kernel⟩, by decide +kernel⟩⟩
def F_X5_begin (x0 : Option Nat) (x1 : Option Nat) (x2 : Int32) (x3 : Int32) (h : AH) : Option (AH) :=
  (ck h [5] x0).bind fun _ =>
  (pR h f_House_site x0 x1).bind fun h1 =>
  (pI h1 f_House_many x0 (0 : Int32)).bind fun h2 =>
  (pI h2 f_House_family x0 x2).bind fun h3 =>
  (pI h3 f_House_gold x0 x3).bind fun h4 =>
  some h4
theorem mX5_begin (l : Launch) (G : ZG) (x0 : Option Nat) (x1 : Option Nat) (x2 : Int32) (x3 : Int32) (h : AH) (r : AH) (hr : F_X5_begin x0 x1 x2 x3 h = some r) : MZ l G yX5_begin cX5_begin 4 (none : Option Jvm.ClassFile.FieldType) 1 48 [vr x0, vr x1, vi x2, vi x3] h (eH r) := by
  unfold F_X5_begin at hr
  refine MZ.of (by decide) [(0, vr x0), (1, vr x1), (2, vi x2), (3, vi x3)] rfl (Nat.le_of_ble_eq_true rfl) (fun K O => ?_)
  have O : ZOk K cX5_begin RX5 "begin" 4 (none : Option Jvm.ClassFile.FieldType) 1 48 := O
  refine bs hr (fun _ hck hr => ?_)
  refine z_aload_n O 0 dX5_begin_0 rfl rfl ?_
  refine z_aload_n O 1 dX5_begin_1 rfl rfl ?_
  refine z_putR O rfl o_House_site (w_House_site _) q308 dX5_begin_2 hr (fun h1 hr => ?_)
  refine z_aload_n O 0 dX5_begin_5 rfl rfl ?_
  refine z_iconst O dX5_begin_6 kic_0 ?_
  refine z_putI O o_House_many (w_House_many _) q311 dX5_begin_7 hr (fun h2 hr => ?_)
  refine z_aload_n O 0 dX5_begin_10 rfl rfl ?_
  refine z_iload_n O 2 dX5_begin_11 rfl rfl ?_
  refine z_putI O o_House_family (w_House_family _) q316 dX5_begin_12 hr (fun h3 hr => ?_)
  refine z_aload_n O 0 dX5_begin_15 rfl rfl ?_
  refine z_iload_n O 3 dX5_begin_16 rfl rfl ?_
  refine z_putI O o_House_gold (w_House_gold _) q319 dX5_begin_17 hr (fun h4 hr => ?_)
  exact z_vret O dX5_begin_20 (by cases hr; rfl)
theorem fV_X4_add : CVf RX4 yX4_add cX4_add 4 (none : Option Jvm.ClassFile.FieldType) 3 := ⟨q1071, q1072, q132, q1073, ⟨⟨by decide +kernel, by decide +kernel⟩, by decide +kernel⟩⟩
def F_X4_add (x0 : Option Nat) (x1 : Option Nat) (x2 : Int32) (x3 : Int32) (h : AH) : Option (AH) :=
  (ck h [4] x0).bind fun _ =>
  (gR h f_Village_houses x0).bind fun v1 =>
  (gI h f_Village_many x0).bind fun v2 =>
  (aR h v1 v2).bind fun v3 =>
  (F_X5_begin v3 x1 x2 x3 h).bind fun h4 =>
  (gI h4 f_Village_many x0).bind fun v5 =>
  (pI h4 f_Village_many x0 (v5 + (1 : Int32))).bind fun h6 =>
  some h6
theorem mX4_add (l : Launch) (G : ZG) (x0 : Option Nat) (x1 : Option Nat) (x2 : Int32) (x3 : Int32) (h : AH) (r : AH) (hr : F_X4_add x0 x1 x2 x3 h = some r) : MZ l G yX4_add cX4_add 4 (none : Option Jvm.ClassFile.FieldType) 2 71 [vr x0, vr x1, vi x2, vi x3] h (eH r) := by
  unfold F_X4_add at hr
  refine MZ.of (by decide) [(0, vr x0), (1, vr x1), (2, vi x2), (3, vi x3)] rfl (Nat.le_of_ble_eq_true rfl) (fun K O => ?_)
  have O : ZOk K cX4_add RX4 "add" 4 (none : Option Jvm.ClassFile.FieldType) 2 71 := O
  refine bs hr (fun _ hck hr => ?_)
  refine z_aload_n O 0 dX4_add_0 rfl rfl ?_
  refine z_getR O o_Village_houses q337 dX4_add_1 hr (fun v1 hr => ?_)
  refine z_aload_n O 0 dX4_add_4 rfl rfl ?_
  refine z_getI O o_Village_many q345 dX4_add_5 hr (fun v2 hr => ?_)
  refine z_aaload O dX4_add_8 hr (fun v3 hr => ?_)
  refine z_aload_n O 1 dX4_add_9 rfl rfl ?_
  refine z_iload_n O 2 dX4_add_10 rfl rfl ?_
  refine z_iload_n O 3 dX4_add_11 rfl rfl ?_
  refine bs hr (fun h4 hF hr => ?_)
  refine z_callVv O [vr x1, vi x2, vi x3] fV_X5_begin q1074 (fun l G => mX5_begin l G v3 x1 x2 x3 h _ hF) (zck hF) rfl rfl ⟨Nat.le_of_ble_eq_true rfl, Nat.le_of_ble_eq_true rfl⟩ (Nat.le_of_ble_eq_true rfl) dX4_add_12 ?_
  refine z_aload_n O 0 dX4_add_15 rfl rfl ?_
  refine z_dup O dX4_add_16 rfl ?_
  refine z_getI O o_Village_many q345 dX4_add_17 hr (fun v5 hr => ?_)
  refine z_iconst O dX4_add_20 kic_1 ?_
  refine z_iadd O dX4_add_21 ?_
  refine z_putI O o_Village_many (w_Village_many _) q345 dX4_add_22 hr (fun h6 hr => ?_)
  exact z_vret O dX4_add_25 (by cases hr; rfl)
theorem fV_X2_house : CVf RX2 yX2_house cX2_house 4 (none : Option Jvm.ClassFile.FieldType) 0 := ⟨q1011, qs23, q127, q1012, ⟨⟨by decide +kernel, by decide +kernel⟩, by decide +kernel⟩⟩
def bX2_house_17 (N : Nat) (x0 : Option Nat) (s0 : Option Nat) (s1 : Int32) (h : AH) : Option ((Unit ⊕ Nat) × AH) :=
  xb (F_X2_begins N s0 s1 (1 : Int32) h) fun _ h1 =>
  b2 (nO h1 16 5 [.null, .int 0, .int 0, .int 0, .null]) fun v2 h3 =>
  xb (F_X2_newName N x0 h3) fun v5 h4 =>
  (gR h4 f_Reader_land x0).bind fun v6 =>
  (gI h4 f_Land_siteMany v6).bind fun v7 =>
  (F_X16_init v2 v5 v7 h4).bind fun h8 =>
  (gR h8 f_Reader_land x0).bind fun v9 =>
  (gI h8 f_Land_wide v9).bind fun v10 =>
  xb (F_X2_after N x0 (some (h8.1.2.2.2.1 30)) (0 : Int32) (v10 - (1 : Int32)) h8) fun v12 h11 =>
  (pI h11 f_Site_x v2 v12).bind fun h13 =>
  xb (F_X2_mustComma N x0 h13) fun _ h14 =>
  (gR h14 f_Reader_land x0).bind fun v15 =>
  (gI h14 f_Land_high v15).bind fun v16 =>
  xb (F_X2_numberHere x0 (0 : Int32) (v16 - (1 : Int32)) h14) fun v18 h17 =>
  (pI h17 f_Site_y v2 v18).bind fun h19 =>
  (gR h19 f_Reader_land x0).bind fun v20 =>
  (gI h19 f_Site_x v2).bind fun v21 =>
  (gI h19 f_Site_y v2).bind fun v22 =>
  (F_X10_isWater N v20 v21 v22 h19).bind fun v23 =>
  if v23 = 0 then
    (gR h19 f_Reader_village x0).bind fun v27 =>
    (gI h19 f_Site_x v2).bind fun v28 =>
    (gI h19 f_Site_y v2).bind fun v29 =>
    (F_X4_whose N v27 v28 v29 h19).bind fun v30 =>
    if v30 = 0 then
      (F_X2_next N x0 h19).bind fun h31 =>
      xb (F_X2_must N x0 (some (h31.1.2.2.2.1 31)) h31) fun _ h32 =>
      xb (F_X2_stone N x0 h32) fun v34 h33 =>
      (pR h33 f_Site_stone v2 v34).bind fun h35 =>
      xb (F_X2_after N x0 (some (h35.1.2.2.2.1 32)) (0 : Int32) (99 : Int32) h35) fun v37 h36 =>
      xb (F_X2_after N x0 (some (h36.1.2.2.2.1 33)) (0 : Int32) (999 : Int32) h36) fun v39 h38 =>
      (gR h38 f_Reader_land x0).bind fun v40 =>
      (gR h38 f_Land_sites v40).bind fun v41 =>
      (gR h38 f_Reader_land x0).bind fun v42 =>
      (gI h38 f_Land_siteMany v42).bind fun v43 =>
      (sR h38 v41 v43 v2).bind fun h44 =>
      (gR h44 f_Reader_land x0).bind fun v45 =>
      (gI h44 f_Land_siteMany v45).bind fun v46 =>
      (pI h44 f_Land_siteMany v45 (v46 + (1 : Int32))).bind fun h47 =>
      (gR h47 f_Reader_village x0).bind fun v48 =>
      (F_X4_add v48 v2 v37 v39 h47).bind fun h49 =>
      some (.inl (), h49)
    else
      b2 (F_X2_fail x0 (7 : Int32) h19) fun v51 h50 =>
      (thr h50 v51).bind fun v52 => some (.inr v52, h50)
  else
    b2 (F_X2_fail x0 (7 : Int32) h19) fun v25 h24 =>
    (thr h24 v25).bind fun v26 => some (.inr v26, h24)
theorem wX2_house_17 {K : ZC} (O : ZOk K cX2_house RX2 "house" 4 (none : Option Jvm.ClassFile.FieldType) 9 234) (E : ZEx K) (N : Nat) (x0 : Option Nat) (s0 : Option Nat) (s1 : Int32) (h : AH) (r : (Unit ⊕ Nat) × AH) (hr : bX2_house_17 N x0 s0 s1 h = some r) : Zw K (eUX r) h 17 [(0, vr x0)] [vi s1, vr s0] := by
  unfold bX2_house_17 at hr
  refine z_iconst O dX2_house_17 kic_1 ?_
  refine xbs hr (fun _ h1 hF hr => ?_) (fun ex hx hF hr => ?_)
  · refine z_callVv O [vi s1, vi (1 : Int32)] fV_X2_begins q886 (fun l G => mX2_begins l G N s0 s1 (1 : Int32) h _ hF) (zck hF) rfl rfl ⟨Nat.le_of_ble_eq_true rfl, Nat.le_of_ble_eq_true rfl⟩ (Nat.le_of_ble_eq_true rfl) dX2_house_18 ?_
    refine z_new O (t := 16) (n := 5) (tyf := tyX16) rfl [.null, .int 0, .int 0, .int 0, .null] tyX16_ok rfl in_X16 q1013 q1014 q149 dX2_house_21 hr (fun v2 h3 hr => ?_)
    refine z_dup O dX2_house_24 rfl ?_
    refine z_aload_n O 0 dX2_house_25 rfl rfl ?_
    refine xbs hr (fun v5 h4 hF hr => ?_) (fun ex hx hF hr => ?_)
    · refine z_callV O [] (vr v5) fV_X2_newName q909 (fun l G => mX2_newName l G N x0 h3 _ hF) (zck hF) rfl rfl ⟨Nat.le_of_ble_eq_true rfl, Nat.le_of_ble_eq_true rfl⟩ (Nat.le_of_ble_eq_true rfl) dX2_house_26 ?_
      refine z_aload_n O 0 dX2_house_29 rfl rfl ?_
      refine z_getR O o_Reader_land q389 dX2_house_30 hr (fun v6 hr => ?_)
      refine z_getI O o_Land_siteMany q599 dX2_house_33 hr (fun v7 hr => ?_)
      refine bs hr (fun h8 hF hr => ?_)
      refine z_callI_ O [vr v5, vi v7] fI_X16_init q1015 (fun l G => mX16_init l G (some v2) v5 v7 h4 _ hF) rfl ⟨Nat.le_of_ble_eq_true rfl, Nat.le_of_ble_eq_true rfl⟩ (Nat.le_of_ble_eq_true rfl) dX2_house_36 ?_
      refine z_astore_n O [(1, vr (some v2)), (0, vr x0)] dX2_house_39 rfl (by decide) rfl ?_
      refine z_aload_n O 0 dX2_house_40 rfl rfl ?_
      refine z_aload_n O 1 dX2_house_41 rfl rfl ?_
      refine z_ldcSw O zs1039 dX2_house_42 ?_
      refine z_iconst O dX2_house_45 kic_0 ?_
      refine z_aload_n O 1 dX2_house_46 rfl rfl ?_
      refine z_getR O o_Reader_land q389 dX2_house_47 hr (fun v9 hr => ?_)
      refine z_getI O o_Land_wide q581 dX2_house_50 hr (fun v10 hr => ?_)
      refine z_iconst O dX2_house_53 kic_1 ?_
      refine z_isub O dX2_house_54 ?_
      refine xbs hr (fun v12 h11 hF hr => ?_) (fun ex hx hF hr => ?_)
      · refine z_callV O [vr (some (h8.1.2.2.2.1 30)), vi (0 : Int32), vi (v10 - (1 : Int32))] (vi v12) fV_X2_after q851 (fun l G => mX2_after l G N x0 (some (h8.1.2.2.2.1 30)) (0 : Int32) (v10 - (1 : Int32)) h8 _ hF) (zck hF) rfl rfl ⟨Nat.le_of_ble_eq_true rfl, Nat.le_of_ble_eq_true rfl⟩ (Nat.le_of_ble_eq_true rfl) dX2_house_55 ?_
        refine z_putI O o_Site_x (w_Site_x _) q1022 dX2_house_58 hr (fun h13 hr => ?_)
        refine z_aload_n O 1 dX2_house_61 rfl rfl ?_
        refine xbs hr (fun _ h14 hF hr => ?_) (fun ex hx hF hr => ?_)
        · refine z_callVv O [] fV_X2_mustComma q897 (fun l G => mX2_mustComma l G N x0 h13 _ hF) (zck hF) rfl rfl ⟨Nat.le_of_ble_eq_true rfl, Nat.le_of_ble_eq_true rfl⟩ (Nat.le_of_ble_eq_true rfl) dX2_house_62 ?_
          refine z_aload_n O 0 dX2_house_65 rfl rfl ?_
          refine z_aload_n O 1 dX2_house_66 rfl rfl ?_
          refine z_iconst O dX2_house_67 kic_0 ?_
          refine z_aload_n O 1 dX2_house_68 rfl rfl ?_
          refine z_getR O o_Reader_land q389 dX2_house_69 hr (fun v15 hr => ?_)
          refine z_getI O o_Land_high q586 dX2_house_72 hr (fun v16 hr => ?_)
          refine z_iconst O dX2_house_75 kic_1 ?_
          refine z_isub O dX2_house_76 ?_
          refine xbs hr (fun v18 h17 hF hr => ?_) (fun ex hx hF hr => ?_)
          · refine z_callV O [vi (0 : Int32), vi (v16 - (1 : Int32))] (vi v18) fV_X2_numberHere q867 (fun l G => mX2_numberHere l G x0 (0 : Int32) (v16 - (1 : Int32)) h14 _ hF) (zck hF) rfl rfl ⟨Nat.le_of_ble_eq_true rfl, Nat.le_of_ble_eq_true rfl⟩ (Nat.le_of_ble_eq_true rfl) dX2_house_77 ?_
            refine z_putI O o_Site_y (w_Site_y _) q1026 dX2_house_80 hr (fun h19 hr => ?_)
            refine z_aload_n O 1 dX2_house_83 rfl rfl ?_
            refine z_getR O o_Reader_land q389 dX2_house_84 hr (fun v20 hr => ?_)
            refine z_aload_n O 0 dX2_house_87 rfl rfl ?_
            refine z_getI O o_Site_x q1022 dX2_house_88 hr (fun v21 hr => ?_)
            refine z_aload_n O 0 dX2_house_91 rfl rfl ?_
            refine z_getI O o_Site_y q1026 dX2_house_92 hr (fun v22 hr => ?_)
            refine bs hr (fun v23 hF hr => ?_)
            refine z_callV O [vi v21, vi v22] (vi v23) fV_X10_isWater q901 (fun l G => mX10_isWater l G N v20 v21 v22 h19 _ hF) (zck hF) rfl rfl ⟨Nat.le_of_ble_eq_true rfl, Nat.le_of_ble_eq_true rfl⟩ (Nat.le_of_ble_eq_true rfl) dX2_house_95 ?_
            refine z_if_ne (tgt := 119) O dX2_house_98 (by decide) hr (fun hr => ?_) (fun hr => ?_)
            · refine z_aload_n O 1 dX2_house_101 rfl rfl ?_
              refine z_getR O o_Reader_village q381 dX2_house_102 hr (fun v27 hr => ?_)
              refine z_aload_n O 0 dX2_house_105 rfl rfl ?_
              refine z_getI O o_Site_x q1022 dX2_house_106 hr (fun v28 hr => ?_)
              refine z_aload_n O 0 dX2_house_109 rfl rfl ?_
              refine z_getI O o_Site_y q1026 dX2_house_110 hr (fun v29 hr => ?_)
              refine bs hr (fun v30 hF hr => ?_)
              refine z_callV O [vi v28, vi v29] (vi v30) fV_X4_whose q1040 (fun l G => mX4_whose l G N v27 v28 v29 h19 _ hF) (zck hF) rfl rfl ⟨Nat.le_of_ble_eq_true rfl, Nat.le_of_ble_eq_true rfl⟩ (Nat.le_of_ble_eq_true rfl) dX2_house_113 ?_
              refine z_if_eq (tgt := 126) O dX2_house_116 (by decide) hr (fun hr => ?_) (fun hr => ?_)
              · refine z_aload_n O 1 dX2_house_126 rfl rfl ?_
                refine bs hr (fun h31 hF hr => ?_)
                refine z_callVv O [] fV_X2_next q668 (fun l G => mX2_next l G N x0 h19 _ hF) (zck hF) rfl rfl ⟨Nat.le_of_ble_eq_true rfl, Nat.le_of_ble_eq_true rfl⟩ (Nat.le_of_ble_eq_true rfl) dX2_house_127 ?_
                refine z_aload_n O 1 dX2_house_130 rfl rfl ?_
                refine z_ldcSw O zs1058 dX2_house_131 ?_
                refine xbs hr (fun _ h32 hF hr => ?_) (fun ex hx hF hr => ?_)
                · refine z_callVv O [vr (some (h31.1.2.2.2.1 31))] fV_X2_must q855 (fun l G => mX2_must l G N x0 (some (h31.1.2.2.2.1 31)) h31 _ hF) (zck hF) rfl rfl ⟨Nat.le_of_ble_eq_true rfl, Nat.le_of_ble_eq_true rfl⟩ (Nat.le_of_ble_eq_true rfl) dX2_house_134 ?_
                  refine z_aload_n O 0 dX2_house_137 rfl rfl ?_
                  refine z_aload_n O 1 dX2_house_138 rfl rfl ?_
                  refine xbs hr (fun v34 h33 hF hr => ?_) (fun ex hx hF hr => ?_)
                  · refine z_callV O [] (vr v34) fV_X2_stone q1059 (fun l G => mX2_stone l G N x0 h32 _ hF) (zck hF) rfl rfl ⟨Nat.le_of_ble_eq_true rfl, Nat.le_of_ble_eq_true rfl⟩ (Nat.le_of_ble_eq_true rfl) dX2_house_139 ?_
                    refine z_putR O rfl o_Site_stone (w_Site_stone _) q1029 dX2_house_142 hr (fun h35 hr => ?_)
                    refine z_aload_n O 1 dX2_house_145 rfl rfl ?_
                    refine z_ldcSw O zs1068 dX2_house_146 ?_
                    refine z_iconst O dX2_house_149 kic_0 ?_
                    refine z_bipush O dX2_house_150 kbi_99 ?_
                    refine xbs hr (fun v37 h36 hF hr => ?_) (fun ex hx hF hr => ?_)
                    · refine z_callV O [vr (some (h35.1.2.2.2.1 32)), vi (0 : Int32), vi (99 : Int32)] (vi v37) fV_X2_after q851 (fun l G => mX2_after l G N x0 (some (h35.1.2.2.2.1 32)) (0 : Int32) (99 : Int32) h35 _ hF) (zck hF) rfl rfl ⟨Nat.le_of_ble_eq_true rfl, Nat.le_of_ble_eq_true rfl⟩ (Nat.le_of_ble_eq_true rfl) dX2_house_152 ?_
                      refine z_istore_n O [(2, vi v37), (1, vr (some v2)), (0, vr x0)] dX2_house_155 rfl (by decide) rfl ?_
                      refine z_aload_n O 2 dX2_house_156 rfl rfl ?_
                      refine z_ldcSw O zs1069 dX2_house_157 ?_
                      refine z_iconst O dX2_house_160 kic_0 ?_
                      refine z_sipush O dX2_house_161 ksi_999 ?_
                      refine xbs hr (fun v39 h38 hF hr => ?_) (fun ex hx hF hr => ?_)
                      · refine z_callV O [vr (some (h36.1.2.2.2.1 33)), vi (0 : Int32), vi (999 : Int32)] (vi v39) fV_X2_after q851 (fun l G => mX2_after l G N x0 (some (h36.1.2.2.2.1 33)) (0 : Int32) (999 : Int32) h36 _ hF) (zck hF) rfl rfl ⟨Nat.le_of_ble_eq_true rfl, Nat.le_of_ble_eq_true rfl⟩ (Nat.le_of_ble_eq_true rfl) dX2_house_164 ?_
                        refine z_istore_n O [(3, vi v39), (2, vi v37), (1, vr (some v2)), (0, vr x0)] dX2_house_167 rfl (by decide) rfl ?_
                        refine z_aload_n O 3 dX2_house_168 rfl rfl ?_
                        refine z_getR O o_Reader_land q389 dX2_house_169 hr (fun v40 hr => ?_)
                        refine z_getR O o_Land_sites q571 dX2_house_172 hr (fun v41 hr => ?_)
                        refine z_aload_n O 3 dX2_house_175 rfl rfl ?_
                        refine z_getR O o_Reader_land q389 dX2_house_176 hr (fun v42 hr => ?_)
                        refine z_getI O o_Land_siteMany q599 dX2_house_179 hr (fun v43 hr => ?_)
                        refine z_aload_n O 2 dX2_house_182 rfl rfl ?_
                        refine z_aastore O dX2_house_183 hr (fun h44 hr => ?_)
                        refine z_aload_n O 3 dX2_house_184 rfl rfl ?_
                        refine z_getR O o_Reader_land q389 dX2_house_185 hr (fun v45 hr => ?_)
                        refine z_dup O dX2_house_188 rfl ?_
                        refine z_getI O o_Land_siteMany q599 dX2_house_189 hr (fun v46 hr => ?_)
                        refine z_iconst O dX2_house_192 kic_1 ?_
                        refine z_iadd O dX2_house_193 ?_
                        refine z_putI O o_Land_siteMany (w_Land_siteMany _) q599 dX2_house_194 hr (fun h47 hr => ?_)
                        refine z_aload_n O 3 dX2_house_197 rfl rfl ?_
                        refine z_getR O o_Reader_village q381 dX2_house_198 hr (fun v48 hr => ?_)
                        refine z_aload_n O 2 dX2_house_201 rfl rfl ?_
                        refine z_iload_n O 1 dX2_house_202 rfl rfl ?_
                        refine z_iload_n O 0 dX2_house_203 rfl rfl ?_
                        refine bs hr (fun h49 hF hr => ?_)
                        refine z_callVv O [vr (some v2), vi v37, vi v39] fV_X4_add q1070 (fun l G => mX4_add l G v48 (some v2) v37 v39 h47 _ hF) (zck hF) rfl rfl ⟨Nat.le_of_ble_eq_true rfl, Nat.le_of_ble_eq_true rfl⟩ (Nat.le_of_ble_eq_true rfl) dX2_house_204 ?_
                        exact z_vret O dX2_house_207 (by cases hr; rfl)
                      · exact z_callVt O E [vr (some (h36.1.2.2.2.1 33)), vi (0 : Int32), vi (999 : Int32)] fV_X2_after q851 (fun l G => mX2_after l G N x0 (some (h36.1.2.2.2.1 33)) (0 : Int32) (999 : Int32) h36 _ hF) (zck hF) rfl rfl ⟨Nat.le_of_ble_eq_true rfl, Nat.le_of_ble_eq_true rfl⟩ (Nat.le_of_ble_eq_true rfl) dX2_house_164 (by subst hr; rfl)
                    · exact z_callVt O E [vr (some (h35.1.2.2.2.1 32)), vi (0 : Int32), vi (99 : Int32)] fV_X2_after q851 (fun l G => mX2_after l G N x0 (some (h35.1.2.2.2.1 32)) (0 : Int32) (99 : Int32) h35 _ hF) (zck hF) rfl rfl ⟨Nat.le_of_ble_eq_true rfl, Nat.le_of_ble_eq_true rfl⟩ (Nat.le_of_ble_eq_true rfl) dX2_house_152 (by subst hr; rfl)
                  · exact z_callVt O E [] fV_X2_stone q1059 (fun l G => mX2_stone l G N x0 h32 _ hF) (zck hF) rfl rfl ⟨Nat.le_of_ble_eq_true rfl, Nat.le_of_ble_eq_true rfl⟩ (Nat.le_of_ble_eq_true rfl) dX2_house_139 (by subst hr; rfl)
                · exact z_callVt O E [vr (some (h31.1.2.2.2.1 31))] fV_X2_must q855 (fun l G => mX2_must l G N x0 (some (h31.1.2.2.2.1 31)) h31 _ hF) (zck hF) rfl rfl ⟨Nat.le_of_ble_eq_true rfl, Nat.le_of_ble_eq_true rfl⟩ (Nat.le_of_ble_eq_true rfl) dX2_house_134 (by subst hr; rfl)
              · refine z_aload_n O 1 dX2_house_119 rfl rfl ?_
                refine z_bipush O dX2_house_120 kbi_7 ?_
                refine b2s hr (fun v51 h50 hF hr => ?_)
                refine z_callV O [vi (7 : Int32)] (vr v51) fV_X2_fail q766 (fun l G => mX2_fail l G x0 (7 : Int32) h19 _ hF) (zck hF) rfl rfl ⟨Nat.le_of_ble_eq_true rfl, Nat.le_of_ble_eq_true rfl⟩ (Nat.le_of_ble_eq_true rfl) dX2_house_122 ?_
                refine bs hr (fun v52 hq hr => ?_)
                exact z_athrow O E dX2_house_125 hq (by cases hr; rfl)
            · refine z_aload_n O 1 dX2_house_119 rfl rfl ?_
              refine z_bipush O dX2_house_120 kbi_7 ?_
              refine b2s hr (fun v25 h24 hF hr => ?_)
              refine z_callV O [vi (7 : Int32)] (vr v25) fV_X2_fail q766 (fun l G => mX2_fail l G x0 (7 : Int32) h19 _ hF) (zck hF) rfl rfl ⟨Nat.le_of_ble_eq_true rfl, Nat.le_of_ble_eq_true rfl⟩ (Nat.le_of_ble_eq_true rfl) dX2_house_122 ?_
              refine bs hr (fun v26 hq hr => ?_)
              exact z_athrow O E dX2_house_125 hq (by cases hr; rfl)
          · exact z_callVt O E [vi (0 : Int32), vi (v16 - (1 : Int32))] fV_X2_numberHere q867 (fun l G => mX2_numberHere l G x0 (0 : Int32) (v16 - (1 : Int32)) h14 _ hF) (zck hF) rfl rfl ⟨Nat.le_of_ble_eq_true rfl, Nat.le_of_ble_eq_true rfl⟩ (Nat.le_of_ble_eq_true rfl) dX2_house_77 (by subst hr; rfl)
        · exact z_callVt O E [] fV_X2_mustComma q897 (fun l G => mX2_mustComma l G N x0 h13 _ hF) (zck hF) rfl rfl ⟨Nat.le_of_ble_eq_true rfl, Nat.le_of_ble_eq_true rfl⟩ (Nat.le_of_ble_eq_true rfl) dX2_house_62 (by subst hr; rfl)
      · exact z_callVt O E [vr (some (h8.1.2.2.2.1 30)), vi (0 : Int32), vi (v10 - (1 : Int32))] fV_X2_after q851 (fun l G => mX2_after l G N x0 (some (h8.1.2.2.2.1 30)) (0 : Int32) (v10 - (1 : Int32)) h8 _ hF) (zck hF) rfl rfl ⟨Nat.le_of_ble_eq_true rfl, Nat.le_of_ble_eq_true rfl⟩ (Nat.le_of_ble_eq_true rfl) dX2_house_55 (by subst hr; rfl)
    · exact z_callVt O E [] fV_X2_newName q909 (fun l G => mX2_newName l G N x0 h3 _ hF) (zck hF) rfl rfl ⟨Nat.le_of_ble_eq_true rfl, Nat.le_of_ble_eq_true rfl⟩ (Nat.le_of_ble_eq_true rfl) dX2_house_26 (by subst hr; rfl)
  · exact z_callVt O E [vi s1, vi (1 : Int32)] fV_X2_begins q886 (fun l G => mX2_begins l G N s0 s1 (1 : Int32) h _ hF) (zck hF) rfl rfl ⟨Nat.le_of_ble_eq_true rfl, Nat.le_of_ble_eq_true rfl⟩ (Nat.le_of_ble_eq_true rfl) dX2_house_18 (by subst hr; rfl)
def F_X2_house (N : Nat) (x0 : Option Nat) (h : AH) : Option ((Unit ⊕ Nat) × AH) :=
  (ck h [2] x0).bind fun _ =>
  (gR h f_Reader_land x0).bind fun v1 =>
  (gI h f_Land_siteMany v1).bind fun v2 =>
  if (4 : Int32) ≤ v2 then
    bX2_house_17 N x0 x0 (0 : Int32) h
  else
    bX2_house_17 N x0 x0 (1 : Int32) h
theorem mX2_house (l : Launch) (G : ZG) (N : Nat) (x0 : Option Nat) (h : AH) (r : (Unit ⊕ Nat) × AH) (hr : F_X2_house N x0 h = some r) : MZ l G yX2_house cX2_house 4 (none : Option Jvm.ClassFile.FieldType) 9 234 [vr x0] h (eUX r) := by
  unfold F_X2_house at hr
  refine MZ.ofT (by decide) [(0, vr x0)] rfl (Nat.le_of_ble_eq_true rfl) (fun K O E => ?_)
  have O : ZOk K cX2_house RX2 "house" 4 (none : Option Jvm.ClassFile.FieldType) 9 234 := O
  refine bs hr (fun _ hck hr => ?_)
  refine z_aload_n O 0 dX2_house_0 rfl rfl ?_
  refine z_aload_n O 0 dX2_house_1 rfl rfl ?_
  refine z_getR O o_Reader_land q389 dX2_house_2 hr (fun v1 hr => ?_)
  refine z_getI O o_Land_siteMany q599 dX2_house_5 hr (fun v2 hr => ?_)
  refine z_iconst O dX2_house_8 kic_4 ?_
  refine z_icmp_ge (tgt := 16) O dX2_house_9 (by decide) hr (fun hr => ?_) (fun hr => ?_)
  · refine z_iconst O dX2_house_16 kic_0 ?_
    exact wX2_house_17 O E N x0 x0 (0 : Int32) h _ hr
  · refine z_iconst O dX2_house_12 kic_1 ?_
    refine z_goto (tgt := 17) O dX2_house_13 (by decide) ?_
    exact wX2_house_17 O E N x0 x0 (1 : Int32) h _ hr
theorem fV_X2_answer : CVf RX2 yX2_answer cX2_answer 1 (some .boolean) 0 := ⟨q878, qs14, q127, q879, ⟨⟨by decide +kernel, by decide +kernel⟩, by decide +kernel⟩⟩
def F_X2_answer (N : Nat) (x0 : Option Nat) (h : AH) : Option ((Int32 ⊕ Nat) × AH) :=
  (ck h [2] x0).bind fun _ =>
  b2 (F_X2_takes N x0 (some (h.1.2.2.2.1 18)) h) fun v2 h1 =>
  if v2 = 0 then
    xb (F_X2_must N x0 (some (h1.1.2.2.2.1 19)) h1) fun _ h3 =>
    (zb (0 : Int32)).bind fun v4 => some (.inl v4, h3)
  else
    (zb (1 : Int32)).bind fun v5 => some (.inl v5, h1)
theorem mX2_answer (l : Launch) (G : ZG) (N : Nat) (x0 : Option Nat) (h : AH) (r : (Int32 ⊕ Nat) × AH) (hr : F_X2_answer N x0 h = some r) : MZ l G yX2_answer cX2_answer 1 (some .boolean) 8 211 [vr x0] h (eIX r) := by
  unfold F_X2_answer at hr
  refine MZ.ofT (by decide) [(0, vr x0)] rfl (Nat.le_of_ble_eq_true rfl) (fun K O E => ?_)
  have O : ZOk K cX2_answer RX2 "answer" 1 (some .boolean) 8 211 := O
  refine bs hr (fun _ hck hr => ?_)
  refine z_aload_n O 0 dX2_answer_0 rfl rfl ?_
  refine z_ldcS O zs880 dX2_answer_1 ?_
  refine b2s hr (fun v2 h1 hF hr => ?_)
  refine z_callV O [vr (some (h.1.2.2.2.1 18))] (vi v2) fV_X2_takes q859 (fun l G => mX2_takes l G N x0 (some (h.1.2.2.2.1 18)) h _ hF) (zck hF) rfl rfl ⟨Nat.le_of_ble_eq_true rfl, Nat.le_of_ble_eq_true rfl⟩ (Nat.le_of_ble_eq_true rfl) dX2_answer_3 ?_
  refine z_if_eq (tgt := 11) O dX2_answer_6 (by decide) hr (fun hr => ?_) (fun hr => ?_)
  · refine z_aload_n O 0 dX2_answer_11 rfl rfl ?_
    refine z_ldcS O zs881 dX2_answer_12 ?_
    refine xbs hr (fun _ h3 hF hr => ?_) (fun ex hx hF hr => ?_)
    · refine z_callVv O [vr (some (h1.1.2.2.2.1 19))] fV_X2_must q855 (fun l G => mX2_must l G N x0 (some (h1.1.2.2.2.1 19)) h1 _ hF) (zck hF) rfl rfl ⟨Nat.le_of_ble_eq_true rfl, Nat.le_of_ble_eq_true rfl⟩ (Nat.le_of_ble_eq_true rfl) dX2_answer_14 ?_
      refine z_iconst O dX2_answer_17 kic_0 ?_
      refine bs hr (fun v4 e0 hr => ?_)
      obtain ⟨e1, e2, -⟩ := zb_spec e0
      exact z_zret O e2 dX2_answer_18 (by cases hr; cases e1; rfl)
    · exact z_callVt O E [vr (some (h1.1.2.2.2.1 19))] fV_X2_must q855 (fun l G => mX2_must l G N x0 (some (h1.1.2.2.2.1 19)) h1 _ hF) (zck hF) rfl rfl ⟨Nat.le_of_ble_eq_true rfl, Nat.le_of_ble_eq_true rfl⟩ (Nat.le_of_ble_eq_true rfl) dX2_answer_14 (by subst hr; rfl)
  · refine z_iconst O dX2_answer_9 kic_1 ?_
    refine bs hr (fun v5 e0 hr => ?_)
    obtain ⟨e1, e2, -⟩ := zb_spec e0
    exact z_zret O e2 dX2_answer_10 (by cases hr; cases e1; rfl)
theorem fV_X2_landLine : CVf RX2 yX2_landLine cX2_landLine 2 (none : Option Jvm.ClassFile.FieldType) 0 := ⟨q848, qs8, q127, q849, ⟨⟨by decide +kernel, by decide +kernel⟩, by decide +kernel⟩⟩
def bX2_landLine_81 (N : Nat) (x0 : Option Nat) (x1 : Int32) (h : AH) : Option ((Unit ⊕ Nat) × AH) :=
  xb (F_X2_must N x0 (some (h.1.2.2.2.1 17)) h) fun _ h1 =>
  (gR h1 f_Reader_land x0).bind fun v2 =>
  xb (F_X2_answer N x0 h1) fun v4 h3 =>
  (pZ h3 f_Land_share v2 v4).bind fun h5 =>
  (gR h5 f_Reader_land x0).bind fun v6 =>
  (pI h5 f_Land_wide v6 x1).bind fun h7 =>
  some (.inl (), h7)
theorem wX2_landLine_81 {K : ZC} (O : ZOk K cX2_landLine RX2 "landLine" 2 (none : Option Jvm.ClassFile.FieldType) 9 234) (E : ZEx K) (N : Nat) (x0 : Option Nat) (x1 : Int32) (h : AH) (r : (Unit ⊕ Nat) × AH) (hr : bX2_landLine_81 N x0 x1 h = some r) : Zw K (eUX r) h 81 [(0, vr x0), (1, vi x1)] [] := by
  unfold bX2_landLine_81 at hr
  refine z_aload_n O 0 dX2_landLine_81 rfl rfl ?_
  refine z_ldcS O zs875 dX2_landLine_82 ?_
  refine xbs hr (fun _ h1 hF hr => ?_) (fun ex hx hF hr => ?_)
  · refine z_callVv O [vr (some (h.1.2.2.2.1 17))] fV_X2_must q855 (fun l G => mX2_must l G N x0 (some (h.1.2.2.2.1 17)) h _ hF) (zck hF) rfl rfl ⟨Nat.le_of_ble_eq_true rfl, Nat.le_of_ble_eq_true rfl⟩ (Nat.le_of_ble_eq_true rfl) dX2_landLine_84 ?_
    refine z_aload_n O 0 dX2_landLine_87 rfl rfl ?_
    refine z_getR O o_Reader_land q389 dX2_landLine_88 hr (fun v2 hr => ?_)
    refine z_aload_n O 0 dX2_landLine_91 rfl rfl ?_
    refine xbs hr (fun v4 h3 hF hr => ?_) (fun ex hx hF hr => ?_)
    · refine z_callV O [] (vi v4) fV_X2_answer q876 (fun l G => mX2_answer l G N x0 h1 _ hF) (zck hF) rfl rfl ⟨Nat.le_of_ble_eq_true rfl, Nat.le_of_ble_eq_true rfl⟩ (Nat.le_of_ble_eq_true rfl) dX2_landLine_92 ?_
      refine z_putZ O o_Land_share (w_Land_share _) q616 dX2_landLine_95 hr (fun h5 hr => ?_)
      refine z_aload_n O 0 dX2_landLine_98 rfl rfl ?_
      refine z_getR O o_Reader_land q389 dX2_landLine_99 hr (fun v6 hr => ?_)
      refine z_iload_n O 1 dX2_landLine_102 rfl rfl ?_
      refine z_putI O o_Land_wide (w_Land_wide _) q581 dX2_landLine_103 hr (fun h7 hr => ?_)
      exact z_vret O dX2_landLine_106 (by cases hr; rfl)
    · exact z_callVt O E [] fV_X2_answer q876 (fun l G => mX2_answer l G N x0 h1 _ hF) (zck hF) rfl rfl ⟨Nat.le_of_ble_eq_true rfl, Nat.le_of_ble_eq_true rfl⟩ (Nat.le_of_ble_eq_true rfl) dX2_landLine_92 (by subst hr; rfl)
  · exact z_callVt O E [vr (some (h.1.2.2.2.1 17))] fV_X2_must q855 (fun l G => mX2_must l G N x0 (some (h.1.2.2.2.1 17)) h _ hF) (zck hF) rfl rfl ⟨Nat.le_of_ble_eq_true rfl, Nat.le_of_ble_eq_true rfl⟩ (Nat.le_of_ble_eq_true rfl) dX2_landLine_84 (by subst hr; rfl)
def F_X2_landLine (N : Nat) (x0 : Option Nat) (h : AH) : Option ((Unit ⊕ Nat) × AH) :=
  (ck h [2] x0).bind fun _ =>
  (gR h f_Reader_land x0).bind fun v1 =>
  (gI h f_Land_wide v1).bind fun v2 =>
  if v2 ≤ 0 then
    (F_X2_next N x0 h).bind fun h3 =>
    xb (F_X2_after N x0 (some (h3.1.2.2.2.1 12)) (3 : Int32) (12 : Int32) h3) fun v5 h4 =>
    (gR h4 f_Reader_land x0).bind fun v6 =>
    xb (F_X2_after N x0 (some (h4.1.2.2.2.1 13)) (3 : Int32) (12 : Int32) h4) fun v8 h7 =>
    (pI h7 f_Land_high v6 v8).bind fun h9 =>
    xb (F_X2_must N x0 (some (h9.1.2.2.2.1 14)) h9) fun _ h10 =>
    (gR h10 f_Reader_land x0).bind fun v11 =>
    b2 (F_X2_takes N x0 (some (h10.1.2.2.2.1 15)) h10) fun v13 h12 =>
    (pZ h12 f_Land_far v11 v13).bind fun h14 =>
    (gR h14 f_Reader_land x0).bind fun v15 =>
    (gI h14 f_Land_far v15).bind fun v16 =>
    if v16 = 0 then
      xb (F_X2_must N x0 (some (h14.1.2.2.2.1 16)) h14) fun _ h17 =>
      bX2_landLine_81 N x0 v5 h17
    else
      bX2_landLine_81 N x0 v5 h14
  else
    b2 (F_X2_fail x0 (3 : Int32) h) fun v19 h18 =>
    (thr h18 v19).bind fun v20 => some (.inr v20, h18)
theorem mX2_landLine (l : Launch) (G : ZG) (N : Nat) (x0 : Option Nat) (h : AH) (r : (Unit ⊕ Nat) × AH) (hr : F_X2_landLine N x0 h = some r) : MZ l G yX2_landLine cX2_landLine 2 (none : Option Jvm.ClassFile.FieldType) 9 234 [vr x0] h (eUX r) := by
  unfold F_X2_landLine at hr
  refine MZ.ofT (by decide) [(0, vr x0)] rfl (Nat.le_of_ble_eq_true rfl) (fun K O E => ?_)
  have O : ZOk K cX2_landLine RX2 "landLine" 2 (none : Option Jvm.ClassFile.FieldType) 9 234 := O
  refine bs hr (fun _ hck hr => ?_)
  refine z_aload_n O 0 dX2_landLine_0 rfl rfl ?_
  refine z_getR O o_Reader_land q389 dX2_landLine_1 hr (fun v1 hr => ?_)
  refine z_getI O o_Land_wide q581 dX2_landLine_4 hr (fun v2 hr => ?_)
  refine z_if_le (tgt := 16) O dX2_landLine_7 (by decide) hr (fun hr => ?_) (fun hr => ?_)
  · refine z_aload_n O 0 dX2_landLine_16 rfl rfl ?_
    refine bs hr (fun h3 hF hr => ?_)
    refine z_callVv O [] fV_X2_next q668 (fun l G => mX2_next l G N x0 h _ hF) (zck hF) rfl rfl ⟨Nat.le_of_ble_eq_true rfl, Nat.le_of_ble_eq_true rfl⟩ (Nat.le_of_ble_eq_true rfl) dX2_landLine_17 ?_
    refine z_aload_n O 0 dX2_landLine_20 rfl rfl ?_
    refine z_ldcS O zs850 dX2_landLine_21 ?_
    refine z_iconst O dX2_landLine_23 kic_3 ?_
    refine z_bipush O dX2_landLine_24 kbi_12 ?_
    refine xbs hr (fun v5 h4 hF hr => ?_) (fun ex hx hF hr => ?_)
    · refine z_callV O [vr (some (h3.1.2.2.2.1 12)), vi (3 : Int32), vi (12 : Int32)] (vi v5) fV_X2_after q851 (fun l G => mX2_after l G N x0 (some (h3.1.2.2.2.1 12)) (3 : Int32) (12 : Int32) h3 _ hF) (zck hF) rfl rfl ⟨Nat.le_of_ble_eq_true rfl, Nat.le_of_ble_eq_true rfl⟩ (Nat.le_of_ble_eq_true rfl) dX2_landLine_26 ?_
      refine z_istore_n O [(1, vi v5), (0, vr x0)] dX2_landLine_29 rfl (by decide) rfl ?_
      refine z_aload_n O 1 dX2_landLine_30 rfl rfl ?_
      refine z_getR O o_Reader_land q389 dX2_landLine_31 hr (fun v6 hr => ?_)
      refine z_aload_n O 1 dX2_landLine_34 rfl rfl ?_
      refine z_ldcS O zs871 dX2_landLine_35 ?_
      refine z_iconst O dX2_landLine_37 kic_3 ?_
      refine z_bipush O dX2_landLine_38 kbi_12 ?_
      refine xbs hr (fun v8 h7 hF hr => ?_) (fun ex hx hF hr => ?_)
      · refine z_callV O [vr (some (h4.1.2.2.2.1 13)), vi (3 : Int32), vi (12 : Int32)] (vi v8) fV_X2_after q851 (fun l G => mX2_after l G N x0 (some (h4.1.2.2.2.1 13)) (3 : Int32) (12 : Int32) h4 _ hF) (zck hF) rfl rfl ⟨Nat.le_of_ble_eq_true rfl, Nat.le_of_ble_eq_true rfl⟩ (Nat.le_of_ble_eq_true rfl) dX2_landLine_40 ?_
        refine z_putI O o_Land_high (w_Land_high _) q586 dX2_landLine_43 hr (fun h9 hr => ?_)
        refine z_aload_n O 1 dX2_landLine_46 rfl rfl ?_
        refine z_ldcS O zs872 dX2_landLine_47 ?_
        refine xbs hr (fun _ h10 hF hr => ?_) (fun ex hx hF hr => ?_)
        · refine z_callVv O [vr (some (h9.1.2.2.2.1 14))] fV_X2_must q855 (fun l G => mX2_must l G N x0 (some (h9.1.2.2.2.1 14)) h9 _ hF) (zck hF) rfl rfl ⟨Nat.le_of_ble_eq_true rfl, Nat.le_of_ble_eq_true rfl⟩ (Nat.le_of_ble_eq_true rfl) dX2_landLine_49 ?_
          refine z_aload_n O 1 dX2_landLine_52 rfl rfl ?_
          refine z_getR O o_Reader_land q389 dX2_landLine_53 hr (fun v11 hr => ?_)
          refine z_aload_n O 1 dX2_landLine_56 rfl rfl ?_
          refine z_ldcS O zs873 dX2_landLine_57 ?_
          refine b2s hr (fun v13 h12 hF hr => ?_)
          refine z_callV O [vr (some (h10.1.2.2.2.1 15))] (vi v13) fV_X2_takes q859 (fun l G => mX2_takes l G N x0 (some (h10.1.2.2.2.1 15)) h10 _ hF) (zck hF) rfl rfl ⟨Nat.le_of_ble_eq_true rfl, Nat.le_of_ble_eq_true rfl⟩ (Nat.le_of_ble_eq_true rfl) dX2_landLine_59 ?_
          refine z_putZ O o_Land_far (w_Land_far _) q613 dX2_landLine_62 hr (fun h14 hr => ?_)
          refine z_aload_n O 1 dX2_landLine_65 rfl rfl ?_
          refine z_getR O o_Reader_land q389 dX2_landLine_66 hr (fun v15 hr => ?_)
          refine z_getI O o_Land_far q613 dX2_landLine_69 hr (fun v16 hr => ?_)
          refine z_if_ne (tgt := 81) O dX2_landLine_72 (by decide) hr (fun hr => ?_) (fun hr => ?_)
          · refine z_aload_n O 1 dX2_landLine_75 rfl rfl ?_
            refine z_ldcS O zs874 dX2_landLine_76 ?_
            refine xbs hr (fun _ h17 hF hr => ?_) (fun ex hx hF hr => ?_)
            · refine z_callVv O [vr (some (h14.1.2.2.2.1 16))] fV_X2_must q855 (fun l G => mX2_must l G N x0 (some (h14.1.2.2.2.1 16)) h14 _ hF) (zck hF) rfl rfl ⟨Nat.le_of_ble_eq_true rfl, Nat.le_of_ble_eq_true rfl⟩ (Nat.le_of_ble_eq_true rfl) dX2_landLine_78 ?_
              refine z_sub [1, 0] rfl ?_
              exact wX2_landLine_81 O E N x0 v5 h17 _ hr
            · exact z_callVt O E [vr (some (h14.1.2.2.2.1 16))] fV_X2_must q855 (fun l G => mX2_must l G N x0 (some (h14.1.2.2.2.1 16)) h14 _ hF) (zck hF) rfl rfl ⟨Nat.le_of_ble_eq_true rfl, Nat.le_of_ble_eq_true rfl⟩ (Nat.le_of_ble_eq_true rfl) dX2_landLine_78 (by subst hr; rfl)
          · refine z_sub [1, 0] rfl ?_
            exact wX2_landLine_81 O E N x0 v5 h14 _ hr
        · exact z_callVt O E [vr (some (h9.1.2.2.2.1 14))] fV_X2_must q855 (fun l G => mX2_must l G N x0 (some (h9.1.2.2.2.1 14)) h9 _ hF) (zck hF) rfl rfl ⟨Nat.le_of_ble_eq_true rfl, Nat.le_of_ble_eq_true rfl⟩ (Nat.le_of_ble_eq_true rfl) dX2_landLine_49 (by subst hr; rfl)
      · exact z_callVt O E [vr (some (h4.1.2.2.2.1 13)), vi (3 : Int32), vi (12 : Int32)] fV_X2_after q851 (fun l G => mX2_after l G N x0 (some (h4.1.2.2.2.1 13)) (3 : Int32) (12 : Int32) h4 _ hF) (zck hF) rfl rfl ⟨Nat.le_of_ble_eq_true rfl, Nat.le_of_ble_eq_true rfl⟩ (Nat.le_of_ble_eq_true rfl) dX2_landLine_40 (by subst hr; rfl)
    · exact z_callVt O E [vr (some (h3.1.2.2.2.1 12)), vi (3 : Int32), vi (12 : Int32)] fV_X2_after q851 (fun l G => mX2_after l G N x0 (some (h3.1.2.2.2.1 12)) (3 : Int32) (12 : Int32) h3 _ hF) (zck hF) rfl rfl ⟨Nat.le_of_ble_eq_true rfl, Nat.le_of_ble_eq_true rfl⟩ (Nat.le_of_ble_eq_true rfl) dX2_landLine_26 (by subst hr; rfl)
  · refine z_aload_n O 0 dX2_landLine_10 rfl rfl ?_
    refine z_iconst O dX2_landLine_11 kic_3 ?_
    refine b2s hr (fun v19 h18 hF hr => ?_)
    refine z_callV O [vi (3 : Int32)] (vr v19) fV_X2_fail q766 (fun l G => mX2_fail l G x0 (3 : Int32) h _ hF) (zck hF) rfl rfl ⟨Nat.le_of_ble_eq_true rfl, Nat.le_of_ble_eq_true rfl⟩ (Nat.le_of_ble_eq_true rfl) dX2_landLine_12 ?_
    refine bs hr (fun v20 hq hr => ?_)
    exact z_athrow O E dX2_landLine_15 hq (by cases hr; rfl)
theorem fV_X10_areTold : CVf RX10 yX10_areTold cX10_areTold 5 (some .boolean) 2 := ⟨q1184, q1185, q138, q1186, ⟨⟨by decide +kernel, by decide +kernel⟩, by decide +kernel⟩⟩
def bX10_areTold_40 (N : Nat) (rec5 : Int32 → Int32 → Option (Int32)) (x0 : Option Nat) (x1 : Int32) (x2 : Int32) (x4 : Int32) (h : AH) : Option (Int32) :=
  (gR h f_Land_older x0).bind fun v1 =>
  (aI h 0 v1 x4).bind fun v2 =>
  if v2 = x2 then
    (gR h f_Land_younger x0).bind fun v4 =>
    (aI h 0 v4 x4).bind fun v5 =>
    if v5 = x1 then
      jlet (x4 + (1 : Int32)) fun v7 =>
      rec5 (1 : Int32) v7
    else
      jlet (x4 + (1 : Int32)) fun v6 =>
      rec5 (0 : Int32) v6
  else
    jlet (x4 + (1 : Int32)) fun v3 =>
    rec5 (0 : Int32) v3
theorem wX10_areTold_40 {K : ZC} (O : ZOk K cX10_areTold RX10 "areTold" 5 (some .boolean) 1 48) (N : Nat) (rec5 : Int32 → Int32 → Option (Int32)) (x0 : Option Nat) (x1 : Int32) (x2 : Int32) (x4 : Int32) (h : AH) (hrec5 : ∀ (y3 : Int32) (y4 : Int32) (ry : Int32), rec5 y3 y4 = some ry → Zw K (eI h ry) h 5 [(0, vr x0), (1, vi x1), (2, vi x2), (3, vi y3), (4, vi y4)] []) (r : Int32) (hr : bX10_areTold_40 N rec5 x0 x1 x2 x4 h = some r) : Zw K (eI h r) h 40 [(0, vr x0), (1, vi x1), (2, vi x2), (4, vi x4)] [] := by
  unfold bX10_areTold_40 at hr
  refine z_aload_n O 0 dX10_areTold_40 rfl rfl ?_
  refine z_getR O o_Land_older q561 dX10_areTold_41 hr (fun v1 hr => ?_)
  refine z_iload O 3 dX10_areTold_44 rfl ?_
  refine z_iaload O dX10_areTold_46 hr (fun v2 hr => ?_)
  refine z_iload_n O 2 dX10_areTold_47 rfl rfl ?_
  refine z_icmp_ne (tgt := 66) O dX10_areTold_48 (by decide) hr (fun hr => ?_) (fun hr => ?_)
  · refine z_aload_n O 0 dX10_areTold_51 rfl rfl ?_
    refine z_getR O o_Land_younger q564 dX10_areTold_52 hr (fun v4 hr => ?_)
    refine z_iload O 3 dX10_areTold_55 rfl ?_
    refine z_iaload O dX10_areTold_57 hr (fun v5 hr => ?_)
    refine z_iload_n O 1 dX10_areTold_58 rfl rfl ?_
    refine z_icmp_ne (tgt := 66) O dX10_areTold_59 (by decide) hr (fun hr => ?_) (fun hr => ?_)
    · refine z_iconst O dX10_areTold_62 kic_1 ?_
      refine z_goto (tgt := 67) O dX10_areTold_63 (by decide) ?_
      refine z_istore_n O [(3, vi (1 : Int32)), (0, vr x0), (1, vi x1), (2, vi x2), (4, vi x4)] dX10_areTold_67 rfl (by decide) rfl ?_
      refine z_iincL O 4 (fun v7 => [(4, vi v7), (3, vi (1 : Int32)), (0, vr x0), (1, vi x1), (2, vi x2)]) dX10_areTold_68 rfl rfl (by decide) (fun _ => rfl) hr (fun v7 hr => ?_)
      refine z_goto (tgt := 5) O dX10_areTold_71 (by decide) ?_
      refine z_sub [2, 3, 4, 1, 0] rfl ?_
      exact hrec5 (1 : Int32) v7 _ hr
    · refine z_iconst O dX10_areTold_66 kic_0 ?_
      refine z_istore_n O [(3, vi (0 : Int32)), (0, vr x0), (1, vi x1), (2, vi x2), (4, vi x4)] dX10_areTold_67 rfl (by decide) rfl ?_
      refine z_iincL O 4 (fun v6 => [(4, vi v6), (3, vi (0 : Int32)), (0, vr x0), (1, vi x1), (2, vi x2)]) dX10_areTold_68 rfl rfl (by decide) (fun _ => rfl) hr (fun v6 hr => ?_)
      refine z_goto (tgt := 5) O dX10_areTold_71 (by decide) ?_
      refine z_sub [2, 3, 4, 1, 0] rfl ?_
      exact hrec5 (0 : Int32) v6 _ hr
  · refine z_iconst O dX10_areTold_66 kic_0 ?_
    refine z_istore_n O [(3, vi (0 : Int32)), (0, vr x0), (1, vi x1), (2, vi x2), (4, vi x4)] dX10_areTold_67 rfl (by decide) rfl ?_
    refine z_iincL O 4 (fun v3 => [(4, vi v3), (3, vi (0 : Int32)), (0, vr x0), (1, vi x1), (2, vi x2)]) dX10_areTold_68 rfl rfl (by decide) (fun _ => rfl) hr (fun v3 hr => ?_)
    refine z_goto (tgt := 5) O dX10_areTold_71 (by decide) ?_
    refine z_sub [2, 3, 4, 1, 0] rfl ?_
    exact hrec5 (0 : Int32) v3 _ hr
def BX10_areTold_5 (N : Nat) (x0 : Option Nat) (x1 : Int32) (x2 : Int32) (h : AH) (rec5 : Int32 → Int32 → Option (Int32)) : Int32 → Int32 → Option (Int32) := fun x3 x4 =>
  (gI h f_Land_olderMany x0).bind fun v1 =>
  if v1 ≤ x4 then
    zb x3
  else
    if x3 = 0 then
      (gR h f_Land_older x0).bind fun v3 =>
      (aI h 0 v3 x4).bind fun v4 =>
      if v4 = x1 then
        (gR h f_Land_younger x0).bind fun v5 =>
        (aI h 0 v5 x4).bind fun v6 =>
        if v6 = x2 then
          jlet (x4 + (1 : Int32)) fun v7 =>
          rec5 (1 : Int32) v7
        else
          bX10_areTold_40 N rec5 x0 x1 x2 x4 h
      else
        bX10_areTold_40 N rec5 x0 x1 x2 x4 h
    else
      jlet (x4 + (1 : Int32)) fun v2 =>
      rec5 (1 : Int32) v2
def LX10_areTold_5 (N : Nat) (x0 : Option Nat) (x1 : Int32) (x2 : Int32) (h : AH) : Int32 → Int32 → Option (Int32) := lf (fun _ _ => none) (BX10_areTold_5 N x0 x1 x2 h) N
theorem wX10_areTold_5B {K : ZC} (O : ZOk K cX10_areTold RX10 "areTold" 5 (some .boolean) 1 48) (N : Nat) (x0 : Option Nat) (x1 : Int32) (x2 : Int32) (h : AH) (rec5 : Int32 → Int32 → Option (Int32)) (hrec5 : ∀ (y3 : Int32) (y4 : Int32) (ry : Int32), rec5 y3 y4 = some ry → Zw K (eI h ry) h 5 [(0, vr x0), (1, vi x1), (2, vi x2), (3, vi y3), (4, vi y4)] []) (x3 : Int32) (x4 : Int32) (r : Int32) (hr : BX10_areTold_5 N x0 x1 x2 h rec5 x3 x4 = some r) : Zw K (eI h r) h 5 [(0, vr x0), (1, vi x1), (2, vi x2), (3, vi x3), (4, vi x4)] [] := by
  unfold BX10_areTold_5 at hr
  refine z_iload O 4 dX10_areTold_5 rfl ?_
  refine z_aload_n O 0 dX10_areTold_7 rfl rfl ?_
  refine z_getI O o_Land_olderMany q610 dX10_areTold_8 hr (fun v1 hr => ?_)
  refine z_icmp_ge (tgt := 74) O dX10_areTold_11 (by decide) hr (fun hr => ?_) (fun hr => ?_)
  · refine z_iload_n O 3 dX10_areTold_74 rfl rfl ?_
    obtain ⟨e1, e2, -⟩ := zb_spec hr
    exact z_zret O e2 dX10_areTold_75 (by cases e1; rfl)
  · refine z_iload_n O 3 dX10_areTold_14 rfl rfl ?_
    refine z_if_ne (tgt := 62) O dX10_areTold_15 (by decide) hr (fun hr => ?_) (fun hr => ?_)
    · refine z_aload_n O 0 dX10_areTold_18 rfl rfl ?_
      refine z_getR O o_Land_older q561 dX10_areTold_19 hr (fun v3 hr => ?_)
      refine z_iload O 4 dX10_areTold_22 rfl ?_
      refine z_iaload O dX10_areTold_24 hr (fun v4 hr => ?_)
      refine z_iload_n O 1 dX10_areTold_25 rfl rfl ?_
      refine z_icmp_ne (tgt := 40) O dX10_areTold_26 (by decide) hr (fun hr => ?_) (fun hr => ?_)
      · refine z_aload_n O 0 dX10_areTold_29 rfl rfl ?_
        refine z_getR O o_Land_younger q564 dX10_areTold_30 hr (fun v5 hr => ?_)
        refine z_iload O 4 dX10_areTold_33 rfl ?_
        refine z_iaload O dX10_areTold_35 hr (fun v6 hr => ?_)
        refine z_iload_n O 2 dX10_areTold_36 rfl rfl ?_
        refine z_icmp_eq (tgt := 62) O dX10_areTold_37 (by decide) hr (fun hr => ?_) (fun hr => ?_)
        · refine z_iconst O dX10_areTold_62 kic_1 ?_
          refine z_goto (tgt := 67) O dX10_areTold_63 (by decide) ?_
          refine z_istore_n O [(3, vi (1 : Int32)), (0, vr x0), (1, vi x1), (2, vi x2), (4, vi x4)] dX10_areTold_67 rfl (by decide) rfl ?_
          refine z_iincL O 4 (fun v7 => [(4, vi v7), (3, vi (1 : Int32)), (0, vr x0), (1, vi x1), (2, vi x2)]) dX10_areTold_68 rfl rfl (by decide) (fun _ => rfl) hr (fun v7 hr => ?_)
          refine z_goto (tgt := 5) O dX10_areTold_71 (by decide) ?_
          refine z_sub [2, 3, 4, 1, 0] rfl ?_
          exact hrec5 (1 : Int32) v7 _ hr
        · refine z_sub [0, 1, 2, 4] rfl ?_
          exact wX10_areTold_40 O N rec5 x0 x1 x2 x4 h hrec5 _ hr
      · refine z_sub [0, 1, 2, 4] rfl ?_
        exact wX10_areTold_40 O N rec5 x0 x1 x2 x4 h hrec5 _ hr
    · refine z_iconst O dX10_areTold_62 kic_1 ?_
      refine z_goto (tgt := 67) O dX10_areTold_63 (by decide) ?_
      refine z_istore_n O [(3, vi (1 : Int32)), (0, vr x0), (1, vi x1), (2, vi x2), (4, vi x4)] dX10_areTold_67 rfl (by decide) rfl ?_
      refine z_iincL O 4 (fun v2 => [(4, vi v2), (3, vi (1 : Int32)), (0, vr x0), (1, vi x1), (2, vi x2)]) dX10_areTold_68 rfl rfl (by decide) (fun _ => rfl) hr (fun v2 hr => ?_)
      refine z_goto (tgt := 5) O dX10_areTold_71 (by decide) ?_
      refine z_sub [2, 3, 4, 1, 0] rfl ?_
      exact hrec5 (1 : Int32) v2 _ hr
theorem wX10_areTold_5 {K : ZC} (O : ZOk K cX10_areTold RX10 "areTold" 5 (some .boolean) 1 48) (N : Nat) (x0 : Option Nat) (x1 : Int32) (x2 : Int32) (h : AH) : ∀ (n : Nat) (x3 : Int32) (x4 : Int32) (r : Int32), lf (fun _ _ => none) (BX10_areTold_5 N x0 x1 x2 h) n x3 x4 = some r → Zw K (eI h r) h 5 [(0, vr x0), (1, vi x1), (2, vi x2), (3, vi x3), (4, vi x4)] [] := by
  intro n
  induction n with
  | zero => intro x3 x4 r hr; cases hr
  | succ n ih => intro x3 x4 r hr; exact wX10_areTold_5B O N x0 x1 x2 h (lf (fun _ _ => none) (BX10_areTold_5 N x0 x1 x2 h) n)  ih x3 x4 r hr
def F_X10_areTold (N : Nat) (x0 : Option Nat) (x1 : Int32) (x2 : Int32) (h : AH) : Option (Int32) :=
  (ck h [10] x0).bind fun _ =>
  LX10_areTold_5 N x0 x1 x2 h (0 : Int32) (0 : Int32)
theorem mX10_areTold (l : Launch) (G : ZG) (N : Nat) (x0 : Option Nat) (x1 : Int32) (x2 : Int32) (h : AH) (r : Int32) (hr : F_X10_areTold N x0 x1 x2 h = some r) : MZ l G yX10_areTold cX10_areTold 5 (some .boolean) 1 48 [vr x0, vi x1, vi x2] h (eI h r) := by
  unfold F_X10_areTold at hr
  refine MZ.of (by decide) [(0, vr x0), (1, vi x1), (2, vi x2)] rfl (Nat.le_of_ble_eq_true rfl) (fun K O => ?_)
  have O : ZOk K cX10_areTold RX10 "areTold" 5 (some .boolean) 1 48 := O
  refine bs hr (fun _ hck hr => ?_)
  refine z_iconst O dX10_areTold_0 kic_0 ?_
  refine z_istore_n O [(3, vi (0 : Int32)), (0, vr x0), (1, vi x1), (2, vi x2)] dX10_areTold_1 rfl (by decide) rfl ?_
  refine z_iconst O dX10_areTold_2 kic_0 ?_
  refine z_istore O [(4, vi (0 : Int32)), (3, vi (0 : Int32)), (0, vr x0), (1, vi x1), (2, vi x2)] dX10_areTold_3 (by decide) rfl ?_
  refine z_sub [2, 3, 4, 1, 0] rfl ?_
  exact wX10_areTold_5 O N x0 x1 x2 h _ (0 : Int32) (0 : Int32) _ hr
