set_option maxRecDepth 100000
set_option maxHeartbeats 4000000
theorem fV_X9_readSign : CVf RX9 yX9_readSign cX9_readSign 4 (none : Option Jvm.ClassFile.FieldType) 1 := ⟨q2243, qs90, q137, q2244, ⟨⟨by decide +kernel, by decide +kernel⟩, by decide +kernel⟩⟩
def bX9_readSign_54 (N : Nat) (x0 : Option Nat) (x1 : Int32) (x2 : Int32) (h : AH) : Option (AH) :=
  (F_X9_goesOn N x0 h).bind fun h1 =>
  b2 (F_X9_readWhole N x0 (0 : Int32) (999 : Int32) h1) fun v3 h2 =>
  (gI h2 f_Model_sort x0).bind fun v4 =>
  if v4 = (5 : Int32) then
    some h2
  else
    if x1 = 0 then
      (gR h2 f_Model_read x0).bind fun v5 =>
      (gR h2 f_MLand_smell v5).bind fun v6 =>
      (sA h2 0 v6 x2 v3).bind fun h7 =>
      some h7
    else
      (gR h2 f_Model_read x0).bind fun v8 =>
      (gR h2 f_MLand_coin v8).bind fun v9 =>
      (sA h2 0 v9 x2 v3).bind fun h10 =>
      some h10
theorem wX9_readSign_54 {K : ZC} (O : ZOk K cX9_readSign RX9 "readSign" 4 (none : Option Jvm.ClassFile.FieldType) 9 219) (N : Nat) (x0 : Option Nat) (x1 : Int32) (x2 : Int32) (h : AH) (r : AH) (hr : bX9_readSign_54 N x0 x1 x2 h = some r) : Zw K (eH r) h 54 [(0, vr x0), (1, vi x1), (2, vi x2)] [] := by
  unfold bX9_readSign_54 at hr
  refine z_aload_n O 0 dX9_readSign_54 rfl rfl ?_
  refine bs hr (fun h1 hF hr => ?_)
  refine z_callVv O [] fV_X9_goesOn q2012 (fun l G => mX9_goesOn l G N x0 h _ hF) (zck hF) rfl rfl ⟨Nat.le_of_ble_eq_true rfl, Nat.le_of_ble_eq_true rfl⟩ (Nat.le_of_ble_eq_true rfl) dX9_readSign_55 ?_
  refine z_aload_n O 0 dX9_readSign_58 rfl rfl ?_
  refine z_iconst O dX9_readSign_59 kic_0 ?_
  refine z_sipush O dX9_readSign_60 ksi_999 ?_
  refine b2s hr (fun v3 h2 hF hr => ?_)
  refine z_callV O [vi (0 : Int32), vi (999 : Int32)] (vi v3) fV_X9_readWhole q2088 (fun l G => mX9_readWhole l G N x0 (0 : Int32) (999 : Int32) h1 _ hF) (zck hF) rfl rfl ⟨Nat.le_of_ble_eq_true rfl, Nat.le_of_ble_eq_true rfl⟩ (Nat.le_of_ble_eq_true rfl) dX9_readSign_63 ?_
  refine z_istore_n O [(3, vi v3), (0, vr x0), (1, vi x1), (2, vi x2)] dX9_readSign_66 rfl (by decide) rfl ?_
  refine z_aload_n O 1 dX9_readSign_67 rfl rfl ?_
  refine z_getI O o_Model_sort q1771 dX9_readSign_68 hr (fun v4 hr => ?_)
  refine z_iconst O dX9_readSign_71 kic_5 ?_
  refine z_icmp_ne (tgt := 76) O dX9_readSign_72 (by decide) hr (fun hr => ?_) (fun hr => ?_)
  · exact z_vret O dX9_readSign_75 (by cases hr; rfl)
  · refine z_iload_n O 2 dX9_readSign_76 rfl rfl ?_
    refine z_if_eq (tgt := 93) O dX9_readSign_77 (by decide) hr (fun hr => ?_) (fun hr => ?_)
    · refine z_aload_n O 1 dX9_readSign_93 rfl rfl ?_
      refine z_getR O o_Model_read q1766 dX9_readSign_94 hr (fun v5 hr => ?_)
      refine z_getRN O o_MLand_smell zn1938 dX9_readSign_97 hr (fun v6 hr => ?_)
      refine z_iload_n O 3 dX9_readSign_100 rfl rfl ?_
      refine z_iload_n O 0 dX9_readSign_101 rfl rfl ?_
      refine z_iastore O dX9_readSign_102 hr (fun h7 hr => ?_)
      exact z_vret O dX9_readSign_103 (by cases hr; rfl)
    · refine z_aload_n O 1 dX9_readSign_80 rfl rfl ?_
      refine z_getR O o_Model_read q1766 dX9_readSign_81 hr (fun v8 hr => ?_)
      refine z_getRN O o_MLand_coin zn1936 dX9_readSign_84 hr (fun v9 hr => ?_)
      refine z_iload_n O 3 dX9_readSign_87 rfl rfl ?_
      refine z_iload_n O 0 dX9_readSign_88 rfl rfl ?_
      refine z_iastore O dX9_readSign_89 hr (fun h10 hr => ?_)
      refine z_goto (tgt := 103) O dX9_readSign_90 (by decide) ?_
      exact z_vret O dX9_readSign_103 (by cases hr; rfl)
def F_X9_readSign (N : Nat) (x0 : Option Nat) (x1 : Int32) (h : AH) : Option (AH) :=
  (ck h [9] x0).bind fun _ =>
  (F_X9_begins N x0 (0 : Int32) (1 : Int32) h).bind fun h1 =>
  b2 (F_X9_known N x0 (3 : Int32) h1) fun v3 h2 =>
  (gI h2 f_Model_sort x0).bind fun v4 =>
  if v4 = (5 : Int32) then
    bX9_readSign_54 N x0 x1 v3 h2
  else
    if x1 = 0 then
      (gR h2 f_Model_read x0).bind fun v5 =>
      (gR h2 f_MLand_smell v5).bind fun v6 =>
      (aI h2 0 v6 v3).bind fun v7 =>
      if v7 = (-1 : Int32) then
        bX9_readSign_54 N x0 x1 v3 h2
      else
        (F_X9_flaw x0 (3 : Int32) h2).bind fun h8 =>
        bX9_readSign_54 N x0 x1 v3 h8
    else
      (gR h2 f_Model_read x0).bind fun v9 =>
      (gR h2 f_MLand_coin v9).bind fun v10 =>
      (aI h2 0 v10 v3).bind fun v11 =>
      if v11 = (-1 : Int32) then
        bX9_readSign_54 N x0 x1 v3 h2
      else
        (F_X9_flaw x0 (3 : Int32) h2).bind fun h12 =>
        bX9_readSign_54 N x0 x1 v3 h12
theorem mX9_readSign (l : Launch) (G : ZG) (N : Nat) (x0 : Option Nat) (x1 : Int32) (h : AH) (r : AH) (hr : F_X9_readSign N x0 x1 h = some r) : MZ l G yX9_readSign cX9_readSign 4 (none : Option Jvm.ClassFile.FieldType) 9 219 [vr x0, vi x1] h (eH r) := by
  unfold F_X9_readSign at hr
  refine MZ.of (by decide) [(0, vr x0), (1, vi x1)] rfl (Nat.le_of_ble_eq_true rfl) (fun K O => ?_)
  have O : ZOk K cX9_readSign RX9 "readSign" 4 (none : Option Jvm.ClassFile.FieldType) 9 219 := O
  refine bs hr (fun _ hck hr => ?_)
  refine z_aload_n O 0 dX9_readSign_0 rfl rfl ?_
  refine z_iconst O dX9_readSign_1 kic_0 ?_
  refine z_iconst O dX9_readSign_2 kic_1 ?_
  refine bs hr (fun h1 hF hr => ?_)
  refine z_callVv O [vi (0 : Int32), vi (1 : Int32)] fV_X9_begins q2111 (fun l G => mX9_begins l G N x0 (0 : Int32) (1 : Int32) h _ hF) (zck hF) rfl rfl ⟨Nat.le_of_ble_eq_true rfl, Nat.le_of_ble_eq_true rfl⟩ (Nat.le_of_ble_eq_true rfl) dX9_readSign_3 ?_
  refine z_aload_n O 0 dX9_readSign_6 rfl rfl ?_
  refine z_iconst O dX9_readSign_7 kic_3 ?_
  refine b2s hr (fun v3 h2 hF hr => ?_)
  refine z_callV O [vi (3 : Int32)] (vi v3) fV_X9_known q2191 (fun l G => mX9_known l G N x0 (3 : Int32) h1 _ hF) (zck hF) rfl rfl ⟨Nat.le_of_ble_eq_true rfl, Nat.le_of_ble_eq_true rfl⟩ (Nat.le_of_ble_eq_true rfl) dX9_readSign_8 ?_
  refine z_istore_n O [(2, vi v3), (0, vr x0), (1, vi x1)] dX9_readSign_11 rfl (by decide) rfl ?_
  refine z_aload_n O 1 dX9_readSign_12 rfl rfl ?_
  refine z_getI O o_Model_sort q1771 dX9_readSign_13 hr (fun v4 hr => ?_)
  refine z_iconst O dX9_readSign_16 kic_5 ?_
  refine z_icmp_eq (tgt := 54) O dX9_readSign_17 (by decide) hr (fun hr => ?_) (fun hr => ?_)
  · refine z_sub [1, 2, 0] rfl ?_
    exact wX9_readSign_54 O N x0 x1 v3 h2 _ hr
  · refine z_iload_n O 2 dX9_readSign_20 rfl rfl ?_
    refine z_if_eq (tgt := 36) O dX9_readSign_21 (by decide) hr (fun hr => ?_) (fun hr => ?_)
    · refine z_aload_n O 1 dX9_readSign_36 rfl rfl ?_
      refine z_getR O o_Model_read q1766 dX9_readSign_37 hr (fun v5 hr => ?_)
      refine z_getRN O o_MLand_smell zn1938 dX9_readSign_40 hr (fun v6 hr => ?_)
      refine z_iload_n O 0 dX9_readSign_43 rfl rfl ?_
      refine z_iaload O dX9_readSign_44 hr (fun v7 hr => ?_)
      refine z_iconst O dX9_readSign_45 kic_m1 ?_
      refine z_icmp_eq (tgt := 54) O dX9_readSign_46 (by decide) hr (fun hr => ?_) (fun hr => ?_)
      · refine z_sub [1, 2, 0] rfl ?_
        exact wX9_readSign_54 O N x0 x1 v3 h2 _ hr
      · refine z_aload_n O 1 dX9_readSign_49 rfl rfl ?_
        refine z_iconst O dX9_readSign_50 kic_3 ?_
        refine bs hr (fun h8 hF hr => ?_)
        refine z_callVv O [vi (3 : Int32)] fV_X9_flaw q2075 (fun l G => mX9_flaw l G x0 (3 : Int32) h2 _ hF) (zck hF) rfl rfl ⟨Nat.le_of_ble_eq_true rfl, Nat.le_of_ble_eq_true rfl⟩ (Nat.le_of_ble_eq_true rfl) dX9_readSign_51 ?_
        refine z_sub [1, 2, 0] rfl ?_
        exact wX9_readSign_54 O N x0 x1 v3 h8 _ hr
    · refine z_aload_n O 1 dX9_readSign_24 rfl rfl ?_
      refine z_getR O o_Model_read q1766 dX9_readSign_25 hr (fun v9 hr => ?_)
      refine z_getRN O o_MLand_coin zn1936 dX9_readSign_28 hr (fun v10 hr => ?_)
      refine z_iload_n O 0 dX9_readSign_31 rfl rfl ?_
      refine z_iaload O dX9_readSign_32 hr (fun v11 hr => ?_)
      refine z_goto (tgt := 45) O dX9_readSign_33 (by decide) ?_
      refine z_iconst O dX9_readSign_45 kic_m1 ?_
      refine z_icmp_eq (tgt := 54) O dX9_readSign_46 (by decide) hr (fun hr => ?_) (fun hr => ?_)
      · refine z_sub [1, 2, 0] rfl ?_
        exact wX9_readSign_54 O N x0 x1 v3 h2 _ hr
      · refine z_aload_n O 1 dX9_readSign_49 rfl rfl ?_
        refine z_iconst O dX9_readSign_50 kic_3 ?_
        refine bs hr (fun h12 hF hr => ?_)
        refine z_callVv O [vi (3 : Int32)] fV_X9_flaw q2075 (fun l G => mX9_flaw l G x0 (3 : Int32) h2 _ hF) (zck hF) rfl rfl ⟨Nat.le_of_ble_eq_true rfl, Nat.le_of_ble_eq_true rfl⟩ (Nat.le_of_ble_eq_true rfl) dX9_readSign_51 ?_
        refine z_sub [1, 2, 0] rfl ?_
        exact wX9_readSign_54 O N x0 x1 v3 h12 _ hr
theorem fV_X9_readSide : CVf RX9 yX9_readSide cX9_readSide 2 (some .int) 0 := ⟨q2213, qs86, q137, q2214, ⟨⟨by decide +kernel, by decide +kernel⟩, by decide +kernel⟩⟩
def bX9_readSide_57 (N : Nat) (x0 : Option Nat) (s0 : Int32) (h : AH) : Option (Int32 × AH) :=
  if s0 = (-1 : Int32) then
    (F_X9_flaw x0 (1 : Int32) h).bind fun h2 =>
    (F_X9_goesOn N x0 h2).bind fun h3 =>
    some (s0, h3)
  else
    (F_X9_goesOn N x0 h).bind fun h1 =>
    some (s0, h1)
theorem wX9_readSide_57 {K : ZC} (O : ZOk K cX9_readSide RX9 "readSide" 2 (some .int) 7 177) (N : Nat) (x0 : Option Nat) (s0 : Int32) (h : AH) (r : Int32 × AH) (hr : bX9_readSide_57 N x0 s0 h = some r) : Zw K (eIH r) h 57 [(0, vr x0)] [vi s0] := by
  unfold bX9_readSide_57 at hr
  refine z_istore_n O [(1, vi s0), (0, vr x0)] dX9_readSide_57 rfl (by decide) rfl ?_
  refine z_iload_n O 0 dX9_readSide_58 rfl rfl ?_
  refine z_iconst O dX9_readSide_59 kic_m1 ?_
  refine z_icmp_ne (tgt := 68) O dX9_readSide_60 (by decide) hr (fun hr => ?_) (fun hr => ?_)
  · refine z_aload_n O 1 dX9_readSide_63 rfl rfl ?_
    refine z_iconst O dX9_readSide_64 kic_1 ?_
    refine bs hr (fun h2 hF hr => ?_)
    refine z_callVv O [vi (1 : Int32)] fV_X9_flaw q2075 (fun l G => mX9_flaw l G x0 (1 : Int32) h _ hF) (zck hF) rfl rfl ⟨Nat.le_of_ble_eq_true rfl, Nat.le_of_ble_eq_true rfl⟩ (Nat.le_of_ble_eq_true rfl) dX9_readSide_65 ?_
    refine z_aload_n O 1 dX9_readSide_68 rfl rfl ?_
    refine bs hr (fun h3 hF hr => ?_)
    refine z_callVv O [] fV_X9_goesOn q2012 (fun l G => mX9_goesOn l G N x0 h2 _ hF) (zck hF) rfl rfl ⟨Nat.le_of_ble_eq_true rfl, Nat.le_of_ble_eq_true rfl⟩ (Nat.le_of_ble_eq_true rfl) dX9_readSide_69 ?_
    refine z_iload_n O 0 dX9_readSide_72 rfl rfl ?_
    exact z_iret O dX9_readSide_73 (by cases hr; rfl)
  · refine z_aload_n O 1 dX9_readSide_68 rfl rfl ?_
    refine bs hr (fun h1 hF hr => ?_)
    refine z_callVv O [] fV_X9_goesOn q2012 (fun l G => mX9_goesOn l G N x0 h _ hF) (zck hF) rfl rfl ⟨Nat.le_of_ble_eq_true rfl, Nat.le_of_ble_eq_true rfl⟩ (Nat.le_of_ble_eq_true rfl) dX9_readSide_69 ?_
    refine z_iload_n O 0 dX9_readSide_72 rfl rfl ?_
    exact z_iret O dX9_readSide_73 (by cases hr; rfl)
def F_X9_readSide (N : Nat) (x0 : Option Nat) (h : AH) : Option (Int32 × AH) :=
  (ck h [9] x0).bind fun _ =>
  (F_X9_isWord N x0 (some (h.1.2.2.2.1 34)) h).bind fun v1 =>
  if v1 = 0 then
    (F_X9_isWord N x0 (some (h.1.2.2.2.1 35)) h).bind fun v2 =>
    if v2 = 0 then
      (F_X9_isWord N x0 (some (h.1.2.2.2.1 36)) h).bind fun v3 =>
      if v3 = 0 then
        (F_X9_isWord N x0 (some (h.1.2.2.2.1 37)) h).bind fun v4 =>
        if v4 = 0 then
          bX9_readSide_57 N x0 (-1 : Int32) h
        else
          bX9_readSide_57 N x0 (3 : Int32) h
      else
        bX9_readSide_57 N x0 (2 : Int32) h
    else
      bX9_readSide_57 N x0 (1 : Int32) h
  else
    bX9_readSide_57 N x0 (0 : Int32) h
theorem mX9_readSide (l : Launch) (G : ZG) (N : Nat) (x0 : Option Nat) (h : AH) (r : Int32 × AH) (hr : F_X9_readSide N x0 h = some r) : MZ l G yX9_readSide cX9_readSide 2 (some .int) 7 177 [vr x0] h (eIH r) := by
  unfold F_X9_readSide at hr
  refine MZ.of (by decide) [(0, vr x0)] rfl (Nat.le_of_ble_eq_true rfl) (fun K O => ?_)
  have O : ZOk K cX9_readSide RX9 "readSide" 2 (some .int) 7 177 := O
  refine bs hr (fun _ hck hr => ?_)
  refine z_aload_n O 0 dX9_readSide_0 rfl rfl ?_
  refine z_ldcSw O zs2215 dX9_readSide_1 ?_
  refine bs hr (fun v1 hF hr => ?_)
  refine z_callV O [vr (some (h.1.2.2.2.1 34))] (vi v1) fV_X9_isWord q2036 (fun l G => mX9_isWord l G N x0 (some (h.1.2.2.2.1 34)) h _ hF) (zck hF) rfl rfl ⟨Nat.le_of_ble_eq_true rfl, Nat.le_of_ble_eq_true rfl⟩ (Nat.le_of_ble_eq_true rfl) dX9_readSide_4 ?_
  refine z_if_eq (tgt := 14) O dX9_readSide_7 (by decide) hr (fun hr => ?_) (fun hr => ?_)
  · refine z_aload_n O 0 dX9_readSide_14 rfl rfl ?_
    refine z_ldcSw O zs2216 dX9_readSide_15 ?_
    refine bs hr (fun v2 hF hr => ?_)
    refine z_callV O [vr (some (h.1.2.2.2.1 35))] (vi v2) fV_X9_isWord q2036 (fun l G => mX9_isWord l G N x0 (some (h.1.2.2.2.1 35)) h _ hF) (zck hF) rfl rfl ⟨Nat.le_of_ble_eq_true rfl, Nat.le_of_ble_eq_true rfl⟩ (Nat.le_of_ble_eq_true rfl) dX9_readSide_18 ?_
    refine z_if_eq (tgt := 28) O dX9_readSide_21 (by decide) hr (fun hr => ?_) (fun hr => ?_)
    · refine z_aload_n O 0 dX9_readSide_28 rfl rfl ?_
      refine z_ldcSw O zs2217 dX9_readSide_29 ?_
      refine bs hr (fun v3 hF hr => ?_)
      refine z_callV O [vr (some (h.1.2.2.2.1 36))] (vi v3) fV_X9_isWord q2036 (fun l G => mX9_isWord l G N x0 (some (h.1.2.2.2.1 36)) h _ hF) (zck hF) rfl rfl ⟨Nat.le_of_ble_eq_true rfl, Nat.le_of_ble_eq_true rfl⟩ (Nat.le_of_ble_eq_true rfl) dX9_readSide_32 ?_
      refine z_if_eq (tgt := 42) O dX9_readSide_35 (by decide) hr (fun hr => ?_) (fun hr => ?_)
      · refine z_aload_n O 0 dX9_readSide_42 rfl rfl ?_
        refine z_ldcSw O zs2218 dX9_readSide_43 ?_
        refine bs hr (fun v4 hF hr => ?_)
        refine z_callV O [vr (some (h.1.2.2.2.1 37))] (vi v4) fV_X9_isWord q2036 (fun l G => mX9_isWord l G N x0 (some (h.1.2.2.2.1 37)) h _ hF) (zck hF) rfl rfl ⟨Nat.le_of_ble_eq_true rfl, Nat.le_of_ble_eq_true rfl⟩ (Nat.le_of_ble_eq_true rfl) dX9_readSide_46 ?_
        refine z_if_eq (tgt := 56) O dX9_readSide_49 (by decide) hr (fun hr => ?_) (fun hr => ?_)
        · refine z_iconst O dX9_readSide_56 kic_m1 ?_
          exact wX9_readSide_57 O N x0 (-1 : Int32) h _ hr
        · refine z_iconst O dX9_readSide_52 kic_3 ?_
          refine z_goto (tgt := 57) O dX9_readSide_53 (by decide) ?_
          exact wX9_readSide_57 O N x0 (3 : Int32) h _ hr
      · refine z_iconst O dX9_readSide_38 kic_2 ?_
        refine z_goto (tgt := 57) O dX9_readSide_39 (by decide) ?_
        exact wX9_readSide_57 O N x0 (2 : Int32) h _ hr
    · refine z_iconst O dX9_readSide_24 kic_1 ?_
      refine z_goto (tgt := 57) O dX9_readSide_25 (by decide) ?_
      exact wX9_readSide_57 O N x0 (1 : Int32) h _ hr
  · refine z_iconst O dX9_readSide_10 kic_0 ?_
    refine z_goto (tgt := 57) O dX9_readSide_11 (by decide) ?_
    exact wX9_readSide_57 O N x0 (0 : Int32) h _ hr
theorem fV_X9_readSkin : CVf RX9 yX9_readSkin cX9_readSkin 6 (none : Option Jvm.ClassFile.FieldType) 0 := ⟨q2199, qs85, q137, q2200, ⟨⟨by decide +kernel, by decide +kernel⟩, by decide +kernel⟩⟩
def bX9_readSkin_73 (N : Nat) (x0 : Option Nat) (x1 : Int32) (h : AH) : Option (AH) :=
  (F_X9_goesOn N x0 h).bind fun h1 =>
  b2 (F_X9_readKnown N x0 (0 : Int32) h1) fun v3 h2 =>
  b2 (F_X9_readSide N x0 h2) fun v5 h4 =>
  (gR h4 f_Model_read x0).bind fun v6 =>
  (gR h4 f_MLand_first v6).bind fun v7 =>
  (aI h4 0 v7 ((0 : Int32) + x1)).bind fun v8 =>
  b2 (F_X9_readWhole N x0 (0 : Int32) (((2 : Int32) * (v8 + (1 : Int32))) - (2 : Int32)) h4) fun v10 h9 =>
  b2 (F_X9_readPart N x0 (some (h9.1.2.2.2.1 38)) (0 : Int32) (99 : Int32) h9) fun v12 h11 =>
  (gI h11 f_Model_sort x0).bind fun v13 =>
  if v13 = (5 : Int32) then
    some h11
  else
    (gR h11 f_Model_read x0).bind fun v14 =>
    (gR h11 f_MLand_first v14).bind fun v15 =>
    (F_X9_adds v15 x1 v3 v5 v10 v12 (-2 : Int32) h11).bind fun h16 =>
    some h16
theorem wX9_readSkin_73 {K : ZC} (O : ZOk K cX9_readSkin RX9 "readSkin" 6 (none : Option Jvm.ClassFile.FieldType) 10 241) (N : Nat) (x0 : Option Nat) (x1 : Int32) (h : AH) (r : AH) (hr : bX9_readSkin_73 N x0 x1 h = some r) : Zw K (eH r) h 73 [(0, vr x0), (1, vi x1)] [] := by
  unfold bX9_readSkin_73 at hr
  refine z_aload_n O 0 dX9_readSkin_73 rfl rfl ?_
  refine bs hr (fun h1 hF hr => ?_)
  refine z_callVv O [] fV_X9_goesOn q2012 (fun l G => mX9_goesOn l G N x0 h _ hF) (zck hF) rfl rfl ⟨Nat.le_of_ble_eq_true rfl, Nat.le_of_ble_eq_true rfl⟩ (Nat.le_of_ble_eq_true rfl) dX9_readSkin_74 ?_
  refine z_aload_n O 0 dX9_readSkin_77 rfl rfl ?_
  refine z_iconst O dX9_readSkin_78 kic_0 ?_
  refine b2s hr (fun v3 h2 hF hr => ?_)
  refine z_callV O [vi (0 : Int32)] (vi v3) fV_X9_readKnown q2187 (fun l G => mX9_readKnown l G N x0 (0 : Int32) h1 _ hF) (zck hF) rfl rfl ⟨Nat.le_of_ble_eq_true rfl, Nat.le_of_ble_eq_true rfl⟩ (Nat.le_of_ble_eq_true rfl) dX9_readSkin_79 ?_
  refine z_istore_n O [(2, vi v3), (0, vr x0), (1, vi x1)] dX9_readSkin_82 rfl (by decide) rfl ?_
  refine z_aload_n O 1 dX9_readSkin_83 rfl rfl ?_
  refine b2s hr (fun v5 h4 hF hr => ?_)
  refine z_callV O [] (vi v5) fV_X9_readSide q2211 (fun l G => mX9_readSide l G N x0 h2 _ hF) (zck hF) rfl rfl ⟨Nat.le_of_ble_eq_true rfl, Nat.le_of_ble_eq_true rfl⟩ (Nat.le_of_ble_eq_true rfl) dX9_readSkin_84 ?_
  refine z_istore_n O [(3, vi v5), (2, vi v3), (0, vr x0), (1, vi x1)] dX9_readSkin_87 rfl (by decide) rfl ?_
  refine z_aload_n O 2 dX9_readSkin_88 rfl rfl ?_
  refine z_iconst O dX9_readSkin_89 kic_0 ?_
  refine z_iconst O dX9_readSkin_90 kic_2 ?_
  refine z_aload_n O 2 dX9_readSkin_91 rfl rfl ?_
  refine z_getR O o_Model_read q1766 dX9_readSkin_92 hr (fun v6 hr => ?_)
  refine z_getRN O o_MLand_first zn1946 dX9_readSkin_95 hr (fun v7 hr => ?_)
  refine z_iconst O dX9_readSkin_98 kic_0 ?_
  refine z_iload_n O 3 dX9_readSkin_99 rfl rfl ?_
  refine z_iadd O dX9_readSkin_100 ?_
  refine z_iaload O dX9_readSkin_101 hr (fun v8 hr => ?_)
  refine z_iconst O dX9_readSkin_102 kic_1 ?_
  refine z_iadd O dX9_readSkin_103 ?_
  refine z_imul O dX9_readSkin_104 ?_
  refine z_iconst O dX9_readSkin_105 kic_2 ?_
  refine z_isub O dX9_readSkin_106 ?_
  refine b2s hr (fun v10 h9 hF hr => ?_)
  refine z_callV O [vi (0 : Int32), vi (((2 : Int32) * (v8 + (1 : Int32))) - (2 : Int32))] (vi v10) fV_X9_readWhole q2088 (fun l G => mX9_readWhole l G N x0 (0 : Int32) (((2 : Int32) * (v8 + (1 : Int32))) - (2 : Int32)) h4 _ hF) (zck hF) rfl rfl ⟨Nat.le_of_ble_eq_true rfl, Nat.le_of_ble_eq_true rfl⟩ (Nat.le_of_ble_eq_true rfl) dX9_readSkin_107 ?_
  refine z_istore O [(4, vi v10), (3, vi v5), (2, vi v3), (0, vr x0), (1, vi x1)] dX9_readSkin_110 (by decide) rfl ?_
  refine z_aload_n O 3 dX9_readSkin_112 rfl rfl ?_
  refine z_ldcSw O zs2219 dX9_readSkin_113 ?_
  refine z_iconst O dX9_readSkin_116 kic_0 ?_
  refine z_bipush O dX9_readSkin_117 kbi_99 ?_
  refine b2s hr (fun v12 h11 hF hr => ?_)
  refine z_callV O [vr (some (h9.1.2.2.2.1 38)), vi (0 : Int32), vi (99 : Int32)] (vi v12) fV_X9_readPart q2080 (fun l G => mX9_readPart l G N x0 (some (h9.1.2.2.2.1 38)) (0 : Int32) (99 : Int32) h9 _ hF) (zck hF) rfl rfl ⟨Nat.le_of_ble_eq_true rfl, Nat.le_of_ble_eq_true rfl⟩ (Nat.le_of_ble_eq_true rfl) dX9_readSkin_119 ?_
  refine z_istore O [(5, vi v12), (4, vi v10), (3, vi v5), (2, vi v3), (0, vr x0), (1, vi x1)] dX9_readSkin_122 (by decide) rfl ?_
  refine z_aload_n O 4 dX9_readSkin_124 rfl rfl ?_
  refine z_getI O o_Model_sort q1771 dX9_readSkin_125 hr (fun v13 hr => ?_)
  refine z_iconst O dX9_readSkin_128 kic_5 ?_
  refine z_icmp_ne (tgt := 133) O dX9_readSkin_129 (by decide) hr (fun hr => ?_) (fun hr => ?_)
  · exact z_vret O dX9_readSkin_132 (by cases hr; rfl)
  · refine z_aload_n O 4 dX9_readSkin_133 rfl rfl ?_
    refine z_getR O o_Model_read q1766 dX9_readSkin_134 hr (fun v14 hr => ?_)
    refine z_getRN O o_MLand_first zn1946 dX9_readSkin_137 hr (fun v15 hr => ?_)
    refine z_iload_n O 5 dX9_readSkin_140 rfl rfl ?_
    refine z_iload_n O 3 dX9_readSkin_141 rfl rfl ?_
    refine z_iload_n O 2 dX9_readSkin_142 rfl rfl ?_
    refine z_iload O 1 dX9_readSkin_143 rfl ?_
    refine z_iload O 0 dX9_readSkin_145 rfl ?_
    refine z_bipush O dX9_readSkin_147 kbi_m2 ?_
    refine bs hr (fun h16 hF hr => ?_)
    refine z_callSv O [vr v15, vi x1, vi v3, vi v5, vi v10, vi v12, vi (-2 : Int32)] fS_X9_adds q2220 (fun l G => mX9_adds l G v15 x1 v3 v5 v10 v12 (-2 : Int32) h11 _ hF) rfl ⟨Nat.le_of_ble_eq_true rfl, Nat.le_of_ble_eq_true rfl⟩ (Nat.le_of_ble_eq_true rfl) dX9_readSkin_149 ?_
    exact z_vret O dX9_readSkin_152 (by cases hr; rfl)
def bX9_readSkin_41 (N : Nat) (x0 : Option Nat) (x1 : Int32) (h : AH) : Option (AH) :=
  (gI h f_Model_sort x0).bind fun v1 =>
  if v1 = (5 : Int32) then
    bX9_readSkin_73 N x0 x1 h
  else
    (gR h f_Model_read x0).bind fun v2 =>
    (gR h f_Model_read x0).bind fun v3 =>
    (gR h f_MLand_first v3).bind fun v4 =>
    (F_X9_fitsIn N v2 v4 x1 h).bind fun v5 =>
    if v5 = 0 then
      (F_X9_flaw x0 (7 : Int32) h).bind fun h6 =>
      bX9_readSkin_73 N x0 x1 h6
    else
      bX9_readSkin_73 N x0 x1 h
theorem wX9_readSkin_41 {K : ZC} (O : ZOk K cX9_readSkin RX9 "readSkin" 6 (none : Option Jvm.ClassFile.FieldType) 10 241) (N : Nat) (x0 : Option Nat) (x1 : Int32) (h : AH) (r : AH) (hr : bX9_readSkin_41 N x0 x1 h = some r) : Zw K (eH r) h 41 [(0, vr x0), (1, vi x1)] [] := by
  unfold bX9_readSkin_41 at hr
  refine z_aload_n O 0 dX9_readSkin_41 rfl rfl ?_
  refine z_getI O o_Model_sort q1771 dX9_readSkin_42 hr (fun v1 hr => ?_)
  refine z_iconst O dX9_readSkin_45 kic_5 ?_
  refine z_icmp_eq (tgt := 73) O dX9_readSkin_46 (by decide) hr (fun hr => ?_) (fun hr => ?_)
  · exact wX9_readSkin_73 O N x0 x1 h _ hr
  · refine z_aload_n O 0 dX9_readSkin_49 rfl rfl ?_
    refine z_getR O o_Model_read q1766 dX9_readSkin_50 hr (fun v2 hr => ?_)
    refine z_aload_n O 0 dX9_readSkin_53 rfl rfl ?_
    refine z_getR O o_Model_read q1766 dX9_readSkin_54 hr (fun v3 hr => ?_)
    refine z_getRN O o_MLand_first zn1946 dX9_readSkin_57 hr (fun v4 hr => ?_)
    refine z_iload_n O 1 dX9_readSkin_60 rfl rfl ?_
    refine bs hr (fun v5 hF hr => ?_)
    refine z_callS O [vr v2, vr v4, vi x1] (vi v5) fS_X9_fitsIn q2201 (fun l G => mX9_fitsIn l G N v2 v4 x1 h _ hF) rfl ⟨Nat.le_of_ble_eq_true rfl, Nat.le_of_ble_eq_true rfl⟩ (Nat.le_of_ble_eq_true rfl) dX9_readSkin_61 ?_
    refine z_if_ne (tgt := 73) O dX9_readSkin_64 (by decide) hr (fun hr => ?_) (fun hr => ?_)
    · refine z_aload_n O 0 dX9_readSkin_67 rfl rfl ?_
      refine z_bipush O dX9_readSkin_68 kbi_7 ?_
      refine bs hr (fun h6 hF hr => ?_)
      refine z_callVv O [vi (7 : Int32)] fV_X9_flaw q2075 (fun l G => mX9_flaw l G x0 (7 : Int32) h _ hF) (zck hF) rfl rfl ⟨Nat.le_of_ble_eq_true rfl, Nat.le_of_ble_eq_true rfl⟩ (Nat.le_of_ble_eq_true rfl) dX9_readSkin_70 ?_
      exact wX9_readSkin_73 O N x0 x1 h6 _ hr
    · exact wX9_readSkin_73 O N x0 x1 h _ hr
def F_X9_readSkin (N : Nat) (x0 : Option Nat) (h : AH) : Option (AH) :=
  (ck h [9] x0).bind fun _ =>
  (F_X9_begins N x0 (0 : Int32) (1 : Int32) h).bind fun h1 =>
  b2 (F_X9_known N x0 (1 : Int32) h1) fun v3 h2 =>
  (gI h2 f_Model_sort x0).bind fun v4 =>
  if v4 = (5 : Int32) then
    bX9_readSkin_41 N x0 v3 h2
  else
    (gR h2 f_Model_read x0).bind fun v5 =>
    (gR h2 f_MLand_first v5).bind fun v6 =>
    (aI h2 0 v6 ((0 : Int32) + v3)).bind fun v7 =>
    if v7 = (6 : Int32) then
      (F_X9_flaw x0 (5 : Int32) h2).bind fun h8 =>
      bX9_readSkin_41 N x0 v3 h8
    else
      bX9_readSkin_41 N x0 v3 h2
theorem mX9_readSkin (l : Launch) (G : ZG) (N : Nat) (x0 : Option Nat) (h : AH) (r : AH) (hr : F_X9_readSkin N x0 h = some r) : MZ l G yX9_readSkin cX9_readSkin 6 (none : Option Jvm.ClassFile.FieldType) 10 241 [vr x0] h (eH r) := by
  unfold F_X9_readSkin at hr
  refine MZ.of (by decide) [(0, vr x0)] rfl (Nat.le_of_ble_eq_true rfl) (fun K O => ?_)
  have O : ZOk K cX9_readSkin RX9 "readSkin" 6 (none : Option Jvm.ClassFile.FieldType) 10 241 := O
  refine bs hr (fun _ hck hr => ?_)
  refine z_aload_n O 0 dX9_readSkin_0 rfl rfl ?_
  refine z_iconst O dX9_readSkin_1 kic_0 ?_
  refine z_iconst O dX9_readSkin_2 kic_1 ?_
  refine bs hr (fun h1 hF hr => ?_)
  refine z_callVv O [vi (0 : Int32), vi (1 : Int32)] fV_X9_begins q2111 (fun l G => mX9_begins l G N x0 (0 : Int32) (1 : Int32) h _ hF) (zck hF) rfl rfl ⟨Nat.le_of_ble_eq_true rfl, Nat.le_of_ble_eq_true rfl⟩ (Nat.le_of_ble_eq_true rfl) dX9_readSkin_3 ?_
  refine z_aload_n O 0 dX9_readSkin_6 rfl rfl ?_
  refine z_iconst O dX9_readSkin_7 kic_1 ?_
  refine b2s hr (fun v3 h2 hF hr => ?_)
  refine z_callV O [vi (1 : Int32)] (vi v3) fV_X9_known q2191 (fun l G => mX9_known l G N x0 (1 : Int32) h1 _ hF) (zck hF) rfl rfl ⟨Nat.le_of_ble_eq_true rfl, Nat.le_of_ble_eq_true rfl⟩ (Nat.le_of_ble_eq_true rfl) dX9_readSkin_8 ?_
  refine z_istore_n O [(1, vi v3), (0, vr x0)] dX9_readSkin_11 rfl (by decide) rfl ?_
  refine z_aload_n O 1 dX9_readSkin_12 rfl rfl ?_
  refine z_getI O o_Model_sort q1771 dX9_readSkin_13 hr (fun v4 hr => ?_)
  refine z_iconst O dX9_readSkin_16 kic_5 ?_
  refine z_icmp_eq (tgt := 41) O dX9_readSkin_17 (by decide) hr (fun hr => ?_) (fun hr => ?_)
  · refine z_sub [1, 0] rfl ?_
    exact wX9_readSkin_41 O N x0 v3 h2 _ hr
  · refine z_aload_n O 1 dX9_readSkin_20 rfl rfl ?_
    refine z_getR O o_Model_read q1766 dX9_readSkin_21 hr (fun v5 hr => ?_)
    refine z_getRN O o_MLand_first zn1946 dX9_readSkin_24 hr (fun v6 hr => ?_)
    refine z_iconst O dX9_readSkin_27 kic_0 ?_
    refine z_iload_n O 0 dX9_readSkin_28 rfl rfl ?_
    refine z_iadd O dX9_readSkin_29 ?_
    refine z_iaload O dX9_readSkin_30 hr (fun v7 hr => ?_)
    refine z_bipush O dX9_readSkin_31 kbi_6 ?_
    refine z_icmp_ne (tgt := 41) O dX9_readSkin_33 (by decide) hr (fun hr => ?_) (fun hr => ?_)
    · refine z_aload_n O 1 dX9_readSkin_36 rfl rfl ?_
      refine z_iconst O dX9_readSkin_37 kic_5 ?_
      refine bs hr (fun h8 hF hr => ?_)
      refine z_callVv O [vi (5 : Int32)] fV_X9_flaw q2075 (fun l G => mX9_flaw l G x0 (5 : Int32) h2 _ hF) (zck hF) rfl rfl ⟨Nat.le_of_ble_eq_true rfl, Nat.le_of_ble_eq_true rfl⟩ (Nat.le_of_ble_eq_true rfl) dX9_readSkin_38 ?_
      refine z_sub [1, 0] rfl ?_
      exact wX9_readSkin_41 O N x0 v3 h8 _ hr
    · refine z_sub [1, 0] rfl ?_
      exact wX9_readSkin_41 O N x0 v3 h2 _ hr
theorem fV_X9_readStone : CVf RX9 yX9_readStone cX9_readStone 9 (none : Option Jvm.ClassFile.FieldType) 0 := ⟨q2134, qs78, q137, q2135, ⟨⟨by decide +kernel, by decide +kernel⟩, by decide +kernel⟩⟩
def bX9_readStone_71 (N : Nat) (x0 : Option Nat) (x1 : Int64) (x3 : Int32) (h : AH) : Option (AH) :=
  (F_X9_goesOn N x0 h).bind fun h1 =>
  b2 (F_X9_readPart N x0 (some (h1.1.2.2.2.1 26)) (1 : Int32) (9 : Int32) h1) fun v3 h2 =>
  b2 (F_X9_readPart N x0 (some (h2.1.2.2.2.1 27)) (0 : Int32) (9 : Int32) h2) fun v5 h4 =>
  b2 (F_X9_readPart N x0 (some (h4.1.2.2.2.1 28)) (0 : Int32) (9 : Int32) h4) fun v7 h6 =>
  b2 (F_X9_readPart N x0 (some (h6.1.2.2.2.1 29)) (1 : Int32) (99 : Int32) h6) fun v9 h8 =>
  (gI h8 f_Model_sort x0).bind fun v10 =>
  if v10 = (5 : Int32) then
    some h8
  else
    (gR h8 f_Model_read x0).bind fun v11 =>
    (gI h8 f_MLand_stones v11).bind fun v12 =>
    (F_X9_names x0 x1 (0 : Int32) v12 h8).bind fun h13 =>
    (gR h13 f_Model_read x0).bind fun v14 =>
    (gR h13 f_MLand_kind v14).bind fun v15 =>
    (sA h13 0 v15 v12 x3).bind fun h16 =>
    (gR h16 f_Model_read x0).bind fun v17 =>
    (gR h16 f_MLand_costs v17).bind fun v18 =>
    (sA h16 0 v18 v12 v3).bind fun h19 =>
    (gR h19 f_Model_read x0).bind fun v20 =>
    (gR h19 f_MLand_warm v20).bind fun v21 =>
    (sA h19 0 v21 v12 v5).bind fun h22 =>
    (gR h22 f_Model_read x0).bind fun v23 =>
    (gR h22 f_MLand_rots v23).bind fun v24 =>
    (sA h22 0 v24 v12 v7).bind fun h25 =>
    (gR h25 f_Model_read x0).bind fun v26 =>
    (gR h25 f_MLand_strong v26).bind fun v27 =>
    (sA h25 0 v27 v12 v9).bind fun h28 =>
    (gR h28 f_Model_read x0).bind fun v29 =>
    (gI h28 f_MLand_stones v29).bind fun v30 =>
    (pI h28 f_MLand_stones v29 (v30 + (1 : Int32))).bind fun h31 =>
    some h31
theorem wX9_readStone_71 {K : ZC} (O : ZOk K cX9_readStone RX9 "readStone" 9 (none : Option Jvm.ClassFile.FieldType) 9 221) (N : Nat) (x0 : Option Nat) (x1 : Int64) (x3 : Int32) (h : AH) (r : AH) (hr : bX9_readStone_71 N x0 x1 x3 h = some r) : Zw K (eH r) h 71 [(0, vr x0), (1, vj x1), (3, vi x3)] [] := by
  unfold bX9_readStone_71 at hr
  refine z_aload_n O 0 dX9_readStone_71 rfl rfl ?_
  refine bs hr (fun h1 hF hr => ?_)
  refine z_callVv O [] fV_X9_goesOn q2012 (fun l G => mX9_goesOn l G N x0 h _ hF) (zck hF) rfl rfl ⟨Nat.le_of_ble_eq_true rfl, Nat.le_of_ble_eq_true rfl⟩ (Nat.le_of_ble_eq_true rfl) dX9_readStone_72 ?_
  refine z_aload_n O 0 dX9_readStone_75 rfl rfl ?_
  refine z_ldcSw O zs2158 dX9_readStone_76 ?_
  refine z_iconst O dX9_readStone_79 kic_1 ?_
  refine z_bipush O dX9_readStone_80 kbi_9 ?_
  refine b2s hr (fun v3 h2 hF hr => ?_)
  refine z_callV O [vr (some (h1.1.2.2.2.1 26)), vi (1 : Int32), vi (9 : Int32)] (vi v3) fV_X9_readPart q2080 (fun l G => mX9_readPart l G N x0 (some (h1.1.2.2.2.1 26)) (1 : Int32) (9 : Int32) h1 _ hF) (zck hF) rfl rfl ⟨Nat.le_of_ble_eq_true rfl, Nat.le_of_ble_eq_true rfl⟩ (Nat.le_of_ble_eq_true rfl) dX9_readStone_82 ?_
  refine z_istore O [(4, vi v3), (0, vr x0), (1, vj x1), (3, vi x3)] dX9_readStone_85 (by decide) rfl ?_
  refine z_aload_n O 1 dX9_readStone_87 rfl rfl ?_
  refine z_ldcSw O zs2159 dX9_readStone_88 ?_
  refine z_iconst O dX9_readStone_91 kic_0 ?_
  refine z_bipush O dX9_readStone_92 kbi_9 ?_
  refine b2s hr (fun v5 h4 hF hr => ?_)
  refine z_callV O [vr (some (h2.1.2.2.2.1 27)), vi (0 : Int32), vi (9 : Int32)] (vi v5) fV_X9_readPart q2080 (fun l G => mX9_readPart l G N x0 (some (h2.1.2.2.2.1 27)) (0 : Int32) (9 : Int32) h2 _ hF) (zck hF) rfl rfl ⟨Nat.le_of_ble_eq_true rfl, Nat.le_of_ble_eq_true rfl⟩ (Nat.le_of_ble_eq_true rfl) dX9_readStone_94 ?_
  refine z_istore O [(5, vi v5), (4, vi v3), (0, vr x0), (1, vj x1), (3, vi x3)] dX9_readStone_97 (by decide) rfl ?_
  refine z_aload_n O 2 dX9_readStone_99 rfl rfl ?_
  refine z_ldcSw O zs2160 dX9_readStone_100 ?_
  refine z_iconst O dX9_readStone_103 kic_0 ?_
  refine z_bipush O dX9_readStone_104 kbi_9 ?_
  refine b2s hr (fun v7 h6 hF hr => ?_)
  refine z_callV O [vr (some (h4.1.2.2.2.1 28)), vi (0 : Int32), vi (9 : Int32)] (vi v7) fV_X9_readPart q2080 (fun l G => mX9_readPart l G N x0 (some (h4.1.2.2.2.1 28)) (0 : Int32) (9 : Int32) h4 _ hF) (zck hF) rfl rfl ⟨Nat.le_of_ble_eq_true rfl, Nat.le_of_ble_eq_true rfl⟩ (Nat.le_of_ble_eq_true rfl) dX9_readStone_106 ?_
  refine z_istore O [(6, vi v7), (5, vi v5), (4, vi v3), (0, vr x0), (1, vj x1), (3, vi x3)] dX9_readStone_109 (by decide) rfl ?_
  refine z_aload_n O 3 dX9_readStone_111 rfl rfl ?_
  refine z_ldcSw O zs2161 dX9_readStone_112 ?_
  refine z_iconst O dX9_readStone_115 kic_1 ?_
  refine z_bipush O dX9_readStone_116 kbi_99 ?_
  refine b2s hr (fun v9 h8 hF hr => ?_)
  refine z_callV O [vr (some (h6.1.2.2.2.1 29)), vi (1 : Int32), vi (99 : Int32)] (vi v9) fV_X9_readPart q2080 (fun l G => mX9_readPart l G N x0 (some (h6.1.2.2.2.1 29)) (1 : Int32) (99 : Int32) h6 _ hF) (zck hF) rfl rfl ⟨Nat.le_of_ble_eq_true rfl, Nat.le_of_ble_eq_true rfl⟩ (Nat.le_of_ble_eq_true rfl) dX9_readStone_118 ?_
  refine z_istore O [(7, vi v9), (6, vi v7), (5, vi v5), (4, vi v3), (0, vr x0), (1, vj x1), (3, vi x3)] dX9_readStone_121 (by decide) rfl ?_
  refine z_aload_n O 4 dX9_readStone_123 rfl rfl ?_
  refine z_getI O o_Model_sort q1771 dX9_readStone_124 hr (fun v10 hr => ?_)
  refine z_iconst O dX9_readStone_127 kic_5 ?_
  refine z_icmp_ne (tgt := 132) O dX9_readStone_128 (by decide) hr (fun hr => ?_) (fun hr => ?_)
  · exact z_vret O dX9_readStone_131 (by cases hr; rfl)
  · refine z_aload_n O 4 dX9_readStone_132 rfl rfl ?_
    refine z_getR O o_Model_read q1766 dX9_readStone_133 hr (fun v11 hr => ?_)
    refine z_getIN O o_MLand_stones zn1906 dX9_readStone_136 hr (fun v12 hr => ?_)
    refine z_istore O [(8, vi v12), (7, vi v9), (6, vi v7), (5, vi v5), (4, vi v3), (0, vr x0), (1, vj x1), (3, vi x3)] dX9_readStone_139 (by decide) rfl ?_
    refine z_aload_n O 5 dX9_readStone_141 rfl rfl ?_
    refine z_lload_n O 6 dX9_readStone_142 rfl rfl ?_
    refine z_iconst O dX9_readStone_143 kic_0 ?_
    refine z_iload O 0 dX9_readStone_144 rfl ?_
    refine bs hr (fun h13 hF hr => ?_)
    refine z_callVv O [vj x1, vi (0 : Int32), vi v12] fV_X9_names q2162 (fun l G => mX9_names l G x0 x1 (0 : Int32) v12 h8 _ hF) (zck hF) rfl rfl ⟨Nat.le_of_ble_eq_true rfl, Nat.le_of_ble_eq_true rfl⟩ (Nat.le_of_ble_eq_true rfl) dX9_readStone_146 ?_
    refine z_aload_n O 5 dX9_readStone_149 rfl rfl ?_
    refine z_getR O o_Model_read q1766 dX9_readStone_150 hr (fun v14 hr => ?_)
    refine z_getRN O o_MLand_kind zn1918 dX9_readStone_153 hr (fun v15 hr => ?_)
    refine z_iload O 0 dX9_readStone_156 rfl ?_
    refine z_iload_n O 7 dX9_readStone_158 rfl rfl ?_
    refine z_iastore O dX9_readStone_159 hr (fun h16 hr => ?_)
    refine z_aload_n O 5 dX9_readStone_160 rfl rfl ?_
    refine z_getR O o_Model_read q1766 dX9_readStone_161 hr (fun v17 hr => ?_)
    refine z_getRN O o_MLand_costs zn1920 dX9_readStone_164 hr (fun v18 hr => ?_)
    refine z_iload O 0 dX9_readStone_167 rfl ?_
    refine z_iload O 4 dX9_readStone_169 rfl ?_
    refine z_iastore O dX9_readStone_171 hr (fun h19 hr => ?_)
    refine z_aload_n O 5 dX9_readStone_172 rfl rfl ?_
    refine z_getR O o_Model_read q1766 dX9_readStone_173 hr (fun v20 hr => ?_)
    refine z_getRN O o_MLand_warm zn1922 dX9_readStone_176 hr (fun v21 hr => ?_)
    refine z_iload O 0 dX9_readStone_179 rfl ?_
    refine z_iload O 3 dX9_readStone_181 rfl ?_
    refine z_iastore O dX9_readStone_183 hr (fun h22 hr => ?_)
    refine z_aload_n O 5 dX9_readStone_184 rfl rfl ?_
    refine z_getR O o_Model_read q1766 dX9_readStone_185 hr (fun v23 hr => ?_)
    refine z_getRN O o_MLand_rots zn1924 dX9_readStone_188 hr (fun v24 hr => ?_)
    refine z_iload O 0 dX9_readStone_191 rfl ?_
    refine z_iload O 2 dX9_readStone_193 rfl ?_
    refine z_iastore O dX9_readStone_195 hr (fun h25 hr => ?_)
    refine z_aload_n O 5 dX9_readStone_196 rfl rfl ?_
    refine z_getR O o_Model_read q1766 dX9_readStone_197 hr (fun v26 hr => ?_)
    refine z_getRN O o_MLand_strong zn1926 dX9_readStone_200 hr (fun v27 hr => ?_)
    refine z_iload O 0 dX9_readStone_203 rfl ?_
    refine z_iload O 1 dX9_readStone_205 rfl ?_
    refine z_iastore O dX9_readStone_207 hr (fun h28 hr => ?_)
    refine z_aload_n O 5 dX9_readStone_208 rfl rfl ?_
    refine z_getR O o_Model_read q1766 dX9_readStone_209 hr (fun v29 hr => ?_)
    refine z_dup O dX9_readStone_212 rfl ?_
    refine z_getIN O o_MLand_stones zn1906 dX9_readStone_213 hr (fun v30 hr => ?_)
    refine z_iconst O dX9_readStone_216 kic_1 ?_
    refine z_iadd O dX9_readStone_217 ?_
    refine z_putIN O o_MLand_stones (w_MLand_stones _) zn1906 dX9_readStone_218 hr (fun h31 hr => ?_)
    exact z_vret O dX9_readStone_221 (by cases hr; rfl)
def bX9_readStone_60 (N : Nat) (x0 : Option Nat) (x1 : Int64) (s0 : Int32) (h : AH) : Option (AH) :=
  if s0 = (-1 : Int32) then
    (F_X9_flaw x0 (1 : Int32) h).bind fun h1 =>
    bX9_readStone_71 N x0 x1 s0 h1
  else
    bX9_readStone_71 N x0 x1 s0 h
theorem wX9_readStone_60 {K : ZC} (O : ZOk K cX9_readStone RX9 "readStone" 9 (none : Option Jvm.ClassFile.FieldType) 9 221) (N : Nat) (x0 : Option Nat) (x1 : Int64) (s0 : Int32) (h : AH) (r : AH) (hr : bX9_readStone_60 N x0 x1 s0 h = some r) : Zw K (eH r) h 60 [(0, vr x0), (1, vj x1)] [vi s0] := by
  unfold bX9_readStone_60 at hr
  refine z_istore_n O [(3, vi s0), (0, vr x0), (1, vj x1)] dX9_readStone_60 rfl (by decide) rfl ?_
  refine z_iload_n O 0 dX9_readStone_61 rfl rfl ?_
  refine z_iconst O dX9_readStone_62 kic_m1 ?_
  refine z_icmp_ne (tgt := 71) O dX9_readStone_63 (by decide) hr (fun hr => ?_) (fun hr => ?_)
  · refine z_aload_n O 1 dX9_readStone_66 rfl rfl ?_
    refine z_iconst O dX9_readStone_67 kic_1 ?_
    refine bs hr (fun h1 hF hr => ?_)
    refine z_callVv O [vi (1 : Int32)] fV_X9_flaw q2075 (fun l G => mX9_flaw l G x0 (1 : Int32) h _ hF) (zck hF) rfl rfl ⟨Nat.le_of_ble_eq_true rfl, Nat.le_of_ble_eq_true rfl⟩ (Nat.le_of_ble_eq_true rfl) dX9_readStone_68 ?_
    refine z_sub [1, 2, 0] rfl ?_
    exact wX9_readStone_71 O N x0 x1 s0 h1 _ hr
  · refine z_sub [1, 2, 0] rfl ?_
    exact wX9_readStone_71 O N x0 x1 s0 h _ hr
def F_X9_readStone (N : Nat) (x0 : Option Nat) (h : AH) : Option (AH) :=
  (ck h [9] x0).bind fun _ =>
  (gR h f_Model_read x0).bind fun v1 =>
  (gI h f_MLand_stones v1).bind fun v2 =>
  (F_X9_begins N x0 v2 (4 : Int32) h).bind fun h3 =>
  b2 (F_X9_readFresh N x0 h3) fun v5 h4 =>
  (F_X9_isWord N x0 (some (h4.1.2.2.2.1 23)) h4).bind fun v6 =>
  if v6 = 0 then
    (F_X9_isWord N x0 (some (h4.1.2.2.2.1 24)) h4).bind fun v7 =>
    if v7 = 0 then
      (F_X9_isWord N x0 (some (h4.1.2.2.2.1 25)) h4).bind fun v8 =>
      if v8 = 0 then
        bX9_readStone_60 N x0 v5 (-1 : Int32) h4
      else
        bX9_readStone_60 N x0 v5 (2 : Int32) h4
    else
      bX9_readStone_60 N x0 v5 (1 : Int32) h4
  else
    bX9_readStone_60 N x0 v5 (0 : Int32) h4
theorem mX9_readStone (l : Launch) (G : ZG) (N : Nat) (x0 : Option Nat) (h : AH) (r : AH) (hr : F_X9_readStone N x0 h = some r) : MZ l G yX9_readStone cX9_readStone 9 (none : Option Jvm.ClassFile.FieldType) 9 221 [vr x0] h (eH r) := by
  unfold F_X9_readStone at hr
  refine MZ.of (by decide) [(0, vr x0)] rfl (Nat.le_of_ble_eq_true rfl) (fun K O => ?_)
  have O : ZOk K cX9_readStone RX9 "readStone" 9 (none : Option Jvm.ClassFile.FieldType) 9 221 := O
  refine bs hr (fun _ hck hr => ?_)
  refine z_aload_n O 0 dX9_readStone_0 rfl rfl ?_
  refine z_aload_n O 0 dX9_readStone_1 rfl rfl ?_
  refine z_getR O o_Model_read q1766 dX9_readStone_2 hr (fun v1 hr => ?_)
  refine z_getIN O o_MLand_stones zn1906 dX9_readStone_5 hr (fun v2 hr => ?_)
  refine z_iconst O dX9_readStone_8 kic_4 ?_
  refine bs hr (fun h3 hF hr => ?_)
  refine z_callVv O [vi v2, vi (4 : Int32)] fV_X9_begins q2111 (fun l G => mX9_begins l G N x0 v2 (4 : Int32) h _ hF) (zck hF) rfl rfl ⟨Nat.le_of_ble_eq_true rfl, Nat.le_of_ble_eq_true rfl⟩ (Nat.le_of_ble_eq_true rfl) dX9_readStone_9 ?_
  refine z_aload_n O 0 dX9_readStone_12 rfl rfl ?_
  refine b2s hr (fun v5 h4 hF hr => ?_)
  refine z_callV O [] (vj v5) fV_X9_readFresh q2136 (fun l G => mX9_readFresh l G N x0 h3 _ hF) (zck hF) rfl rfl ⟨Nat.le_of_ble_eq_true rfl, Nat.le_of_ble_eq_true rfl⟩ (Nat.le_of_ble_eq_true rfl) dX9_readStone_13 ?_
  refine z_lstore_n O [(1, vj v5), (0, vr x0)] dX9_readStone_16 rfl (by decide) rfl ?_
  refine z_aload_n O 1 dX9_readStone_17 rfl rfl ?_
  refine z_ldcSw O zs2155 dX9_readStone_18 ?_
  refine bs hr (fun v6 hF hr => ?_)
  refine z_callV O [vr (some (h4.1.2.2.2.1 23))] (vi v6) fV_X9_isWord q2036 (fun l G => mX9_isWord l G N x0 (some (h4.1.2.2.2.1 23)) h4 _ hF) (zck hF) rfl rfl ⟨Nat.le_of_ble_eq_true rfl, Nat.le_of_ble_eq_true rfl⟩ (Nat.le_of_ble_eq_true rfl) dX9_readStone_21 ?_
  refine z_if_eq (tgt := 31) O dX9_readStone_24 (by decide) hr (fun hr => ?_) (fun hr => ?_)
  · refine z_aload_n O 1 dX9_readStone_31 rfl rfl ?_
    refine z_ldcSw O zs2156 dX9_readStone_32 ?_
    refine bs hr (fun v7 hF hr => ?_)
    refine z_callV O [vr (some (h4.1.2.2.2.1 24))] (vi v7) fV_X9_isWord q2036 (fun l G => mX9_isWord l G N x0 (some (h4.1.2.2.2.1 24)) h4 _ hF) (zck hF) rfl rfl ⟨Nat.le_of_ble_eq_true rfl, Nat.le_of_ble_eq_true rfl⟩ (Nat.le_of_ble_eq_true rfl) dX9_readStone_35 ?_
    refine z_if_eq (tgt := 45) O dX9_readStone_38 (by decide) hr (fun hr => ?_) (fun hr => ?_)
    · refine z_aload_n O 1 dX9_readStone_45 rfl rfl ?_
      refine z_ldcSw O zs2157 dX9_readStone_46 ?_
      refine bs hr (fun v8 hF hr => ?_)
      refine z_callV O [vr (some (h4.1.2.2.2.1 25))] (vi v8) fV_X9_isWord q2036 (fun l G => mX9_isWord l G N x0 (some (h4.1.2.2.2.1 25)) h4 _ hF) (zck hF) rfl rfl ⟨Nat.le_of_ble_eq_true rfl, Nat.le_of_ble_eq_true rfl⟩ (Nat.le_of_ble_eq_true rfl) dX9_readStone_49 ?_
      refine z_if_eq (tgt := 59) O dX9_readStone_52 (by decide) hr (fun hr => ?_) (fun hr => ?_)
      · refine z_iconst O dX9_readStone_59 kic_m1 ?_
        refine z_sub [1, 0] rfl ?_
        exact wX9_readStone_60 O N x0 v5 (-1 : Int32) h4 _ hr
      · refine z_iconst O dX9_readStone_55 kic_2 ?_
        refine z_goto (tgt := 60) O dX9_readStone_56 (by decide) ?_
        refine z_sub [1, 0] rfl ?_
        exact wX9_readStone_60 O N x0 v5 (2 : Int32) h4 _ hr
    · refine z_iconst O dX9_readStone_41 kic_1 ?_
      refine z_goto (tgt := 60) O dX9_readStone_42 (by decide) ?_
      refine z_sub [1, 0] rfl ?_
      exact wX9_readStone_60 O N x0 v5 (1 : Int32) h4 _ hr
  · refine z_iconst O dX9_readStone_27 kic_0 ?_
    refine z_goto (tgt := 60) O dX9_readStone_28 (by decide) ?_
    refine z_sub [1, 0] rfl ?_
    exact wX9_readStone_60 O N x0 v5 (0 : Int32) h4 _ hr
theorem fV_X9_readWall : CVf RX9 yX9_readWall cX9_readWall 3 (none : Option Jvm.ClassFile.FieldType) 0 := ⟨q2232, qs88, q137, q2233, ⟨⟨by decide +kernel, by decide +kernel⟩, by decide +kernel⟩⟩
def F_X9_readWall (N : Nat) (x0 : Option Nat) (h : AH) : Option (AH) :=
  (ck h [9] x0).bind fun _ =>
  (gR h f_Model_read x0).bind fun v1 =>
  (gI h f_MLand_walls v1).bind fun v2 =>
  (F_X9_begins N x0 v2 (6 : Int32) h).bind fun h3 =>
  b2 (F_X9_readFresh N x0 h3) fun v5 h4 =>
  (gI h4 f_Model_sort x0).bind fun v6 =>
  if v6 = (5 : Int32) then
    some h4
  else
    (gR h4 f_Model_read x0).bind fun v7 =>
    (gI h4 f_MLand_walls v7).bind fun v8 =>
    (F_X9_names x0 v5 (3 : Int32) v8 h4).bind fun h9 =>
    (gR h9 f_Model_read x0).bind fun v10 =>
    (gR h9 f_MLand_coin v10).bind fun v11 =>
    (gR h9 f_Model_read x0).bind fun v12 =>
    (gI h9 f_MLand_walls v12).bind fun v13 =>
    (sA h9 0 v11 v13 (-1 : Int32)).bind fun h14 =>
    (gR h14 f_Model_read x0).bind fun v15 =>
    (gR h14 f_MLand_smell v15).bind fun v16 =>
    (gR h14 f_Model_read x0).bind fun v17 =>
    (gI h14 f_MLand_walls v17).bind fun v18 =>
    (sA h14 0 v16 v18 (-1 : Int32)).bind fun h19 =>
    (gR h19 f_Model_read x0).bind fun v20 =>
    (gI h19 f_MLand_walls v20).bind fun v21 =>
    (pI h19 f_MLand_walls v20 (v21 + (1 : Int32))).bind fun h22 =>
    some h22
theorem mX9_readWall (l : Launch) (G : ZG) (N : Nat) (x0 : Option Nat) (h : AH) (r : AH) (hr : F_X9_readWall N x0 h = some r) : MZ l G yX9_readWall cX9_readWall 3 (none : Option Jvm.ClassFile.FieldType) 9 219 [vr x0] h (eH r) := by
  unfold F_X9_readWall at hr
  refine MZ.of (by decide) [(0, vr x0)] rfl (Nat.le_of_ble_eq_true rfl) (fun K O => ?_)
  have O : ZOk K cX9_readWall RX9 "readWall" 3 (none : Option Jvm.ClassFile.FieldType) 9 219 := O
  refine bs hr (fun _ hck hr => ?_)
  refine z_aload_n O 0 dX9_readWall_0 rfl rfl ?_
  refine z_aload_n O 0 dX9_readWall_1 rfl rfl ?_
  refine z_getR O o_Model_read q1766 dX9_readWall_2 hr (fun v1 hr => ?_)
  refine z_getIN O o_MLand_walls zn1909 dX9_readWall_5 hr (fun v2 hr => ?_)
  refine z_bipush O dX9_readWall_8 kbi_6 ?_
  refine bs hr (fun h3 hF hr => ?_)
  refine z_callVv O [vi v2, vi (6 : Int32)] fV_X9_begins q2111 (fun l G => mX9_begins l G N x0 v2 (6 : Int32) h _ hF) (zck hF) rfl rfl ⟨Nat.le_of_ble_eq_true rfl, Nat.le_of_ble_eq_true rfl⟩ (Nat.le_of_ble_eq_true rfl) dX9_readWall_10 ?_
  refine z_aload_n O 0 dX9_readWall_13 rfl rfl ?_
  refine b2s hr (fun v5 h4 hF hr => ?_)
  refine z_callV O [] (vj v5) fV_X9_readFresh q2136 (fun l G => mX9_readFresh l G N x0 h3 _ hF) (zck hF) rfl rfl ⟨Nat.le_of_ble_eq_true rfl, Nat.le_of_ble_eq_true rfl⟩ (Nat.le_of_ble_eq_true rfl) dX9_readWall_14 ?_
  refine z_lstore_n O [(1, vj v5), (0, vr x0)] dX9_readWall_17 rfl (by decide) rfl ?_
  refine z_aload_n O 1 dX9_readWall_18 rfl rfl ?_
  refine z_getI O o_Model_sort q1771 dX9_readWall_19 hr (fun v6 hr => ?_)
  refine z_iconst O dX9_readWall_22 kic_5 ?_
  refine z_icmp_ne (tgt := 27) O dX9_readWall_23 (by decide) hr (fun hr => ?_) (fun hr => ?_)
  · exact z_vret O dX9_readWall_26 (by cases hr; rfl)
  · refine z_aload_n O 1 dX9_readWall_27 rfl rfl ?_
    refine z_lload_n O 0 dX9_readWall_28 rfl rfl ?_
    refine z_iconst O dX9_readWall_29 kic_3 ?_
    refine z_aload_n O 1 dX9_readWall_30 rfl rfl ?_
    refine z_getR O o_Model_read q1766 dX9_readWall_31 hr (fun v7 hr => ?_)
    refine z_getIN O o_MLand_walls zn1909 dX9_readWall_34 hr (fun v8 hr => ?_)
    refine bs hr (fun h9 hF hr => ?_)
    refine z_callVv O [vj v5, vi (3 : Int32), vi v8] fV_X9_names q2162 (fun l G => mX9_names l G x0 v5 (3 : Int32) v8 h4 _ hF) (zck hF) rfl rfl ⟨Nat.le_of_ble_eq_true rfl, Nat.le_of_ble_eq_true rfl⟩ (Nat.le_of_ble_eq_true rfl) dX9_readWall_37 ?_
    refine z_aload_n O 1 dX9_readWall_40 rfl rfl ?_
    refine z_getR O o_Model_read q1766 dX9_readWall_41 hr (fun v10 hr => ?_)
    refine z_getRN O o_MLand_coin zn1936 dX9_readWall_44 hr (fun v11 hr => ?_)
    refine z_aload_n O 1 dX9_readWall_47 rfl rfl ?_
    refine z_getR O o_Model_read q1766 dX9_readWall_48 hr (fun v12 hr => ?_)
    refine z_getIN O o_MLand_walls zn1909 dX9_readWall_51 hr (fun v13 hr => ?_)
    refine z_iconst O dX9_readWall_54 kic_m1 ?_
    refine z_iastore O dX9_readWall_55 hr (fun h14 hr => ?_)
    refine z_aload_n O 1 dX9_readWall_56 rfl rfl ?_
    refine z_getR O o_Model_read q1766 dX9_readWall_57 hr (fun v15 hr => ?_)
    refine z_getRN O o_MLand_smell zn1938 dX9_readWall_60 hr (fun v16 hr => ?_)
    refine z_aload_n O 1 dX9_readWall_63 rfl rfl ?_
    refine z_getR O o_Model_read q1766 dX9_readWall_64 hr (fun v17 hr => ?_)
    refine z_getIN O o_MLand_walls zn1909 dX9_readWall_67 hr (fun v18 hr => ?_)
    refine z_iconst O dX9_readWall_70 kic_m1 ?_
    refine z_iastore O dX9_readWall_71 hr (fun h19 hr => ?_)
    refine z_aload_n O 1 dX9_readWall_72 rfl rfl ?_
    refine z_getR O o_Model_read q1766 dX9_readWall_73 hr (fun v20 hr => ?_)
    refine z_dup O dX9_readWall_76 rfl ?_
    refine z_getIN O o_MLand_walls zn1909 dX9_readWall_77 hr (fun v21 hr => ?_)
    refine z_iconst O dX9_readWall_80 kic_1 ?_
    refine z_iadd O dX9_readWall_81 ?_
    refine z_putIN O o_MLand_walls (w_MLand_walls _) zn1909 dX9_readWall_82 hr (fun h22 hr => ?_)
    exact z_vret O dX9_readWall_85 (by cases hr; rfl)
theorem fV_X9_readWater : CVf RX9 yX9_readWater cX9_readWater 2 (none : Option Jvm.ClassFile.FieldType) 0 := ⟨q2121, qs75, q137, q2122, ⟨⟨by decide +kernel, by decide +kernel⟩, by decide +kernel⟩⟩
def bX9_readWater_77 (N : Nat) (x0 : Option Nat) (x1 : Int32) (h : AH) : Option (AH) :=
  (F_X9_goesOn N x0 h).bind fun h1 =>
  (gI h1 f_Model_sort x0).bind fun v2 =>
  if v2 = (5 : Int32) then
    some h1
  else
    (gR h1 f_Model_read x0).bind fun v3 =>
    (gR h1 f_MLand_water v3).bind fun v4 =>
    (sA h1 3 v4 x1 ((1 : Int32) &&& 1)).bind fun h5 =>
    (gR h5 f_Model_read x0).bind fun v6 =>
    (gI h5 f_MLand_waters v6).bind fun v7 =>
    (pI h5 f_MLand_waters v6 (v7 + (1 : Int32))).bind fun h8 =>
    some h8
theorem wX9_readWater_77 {K : ZC} (O : ZOk K cX9_readWater RX9 "readWater" 2 (none : Option Jvm.ClassFile.FieldType) 5 136) (N : Nat) (x0 : Option Nat) (x1 : Int32) (h : AH) (r : AH) (hr : bX9_readWater_77 N x0 x1 h = some r) : Zw K (eH r) h 77 [(0, vr x0), (1, vi x1)] [] := by
  unfold bX9_readWater_77 at hr
  refine z_aload_n O 0 dX9_readWater_77 rfl rfl ?_
  refine bs hr (fun h1 hF hr => ?_)
  refine z_callVv O [] fV_X9_goesOn q2012 (fun l G => mX9_goesOn l G N x0 h _ hF) (zck hF) rfl rfl ⟨Nat.le_of_ble_eq_true rfl, Nat.le_of_ble_eq_true rfl⟩ (Nat.le_of_ble_eq_true rfl) dX9_readWater_78 ?_
  refine z_aload_n O 0 dX9_readWater_81 rfl rfl ?_
  refine z_getI O o_Model_sort q1771 dX9_readWater_82 hr (fun v2 hr => ?_)
  refine z_iconst O dX9_readWater_85 kic_5 ?_
  refine z_icmp_ne (tgt := 90) O dX9_readWater_86 (by decide) hr (fun hr => ?_) (fun hr => ?_)
  · exact z_vret O dX9_readWater_89 (by cases hr; rfl)
  · refine z_aload_n O 0 dX9_readWater_90 rfl rfl ?_
    refine z_getR O o_Model_read q1766 dX9_readWater_91 hr (fun v3 hr => ?_)
    refine z_getRN O o_MLand_water zn1916 dX9_readWater_94 hr (fun v4 hr => ?_)
    refine z_iload_n O 1 dX9_readWater_97 rfl rfl ?_
    refine z_iconst O dX9_readWater_98 kic_1 ?_
    refine z_zastore O dX9_readWater_99 hr (fun h5 hr => ?_)
    refine z_aload_n O 0 dX9_readWater_100 rfl rfl ?_
    refine z_getR O o_Model_read q1766 dX9_readWater_101 hr (fun v6 hr => ?_)
    refine z_dup O dX9_readWater_104 rfl ?_
    refine z_getIN O o_MLand_waters zn1905 dX9_readWater_105 hr (fun v7 hr => ?_)
    refine z_iconst O dX9_readWater_108 kic_1 ?_
    refine z_iadd O dX9_readWater_109 ?_
    refine z_putIN O o_MLand_waters (w_MLand_waters _) zn1905 dX9_readWater_110 hr (fun h8 hr => ?_)
    exact z_vret O dX9_readWater_113 (by cases hr; rfl)
def bX9_readWater_43 (N : Nat) (x0 : Option Nat) (h : AH) : Option (AH) :=
  (F_X9_goesOn N x0 h).bind fun h1 =>
  b2 (F_X9_knownCell N x0 h1) fun v3 h2 =>
  (gI h2 f_Model_sort x0).bind fun v4 =>
  if v4 = (5 : Int32) then
    bX9_readWater_77 N x0 v3 h2
  else
    (gR h2 f_Model_read x0).bind fun v5 =>
    (gR h2 f_MLand_water v5).bind fun v6 =>
    (aI h2 3 v6 v3).bind fun v7 =>
    if v7 = 0 then
      bX9_readWater_77 N x0 v3 h2
    else
      (F_X9_flaw x0 (3 : Int32) h2).bind fun h8 =>
      bX9_readWater_77 N x0 v3 h8
theorem wX9_readWater_43 {K : ZC} (O : ZOk K cX9_readWater RX9 "readWater" 2 (none : Option Jvm.ClassFile.FieldType) 5 136) (N : Nat) (x0 : Option Nat) (h : AH) (r : AH) (hr : bX9_readWater_43 N x0 h = some r) : Zw K (eH r) h 43 [(0, vr x0)] [] := by
  unfold bX9_readWater_43 at hr
  refine z_aload_n O 0 dX9_readWater_43 rfl rfl ?_
  refine bs hr (fun h1 hF hr => ?_)
  refine z_callVv O [] fV_X9_goesOn q2012 (fun l G => mX9_goesOn l G N x0 h _ hF) (zck hF) rfl rfl ⟨Nat.le_of_ble_eq_true rfl, Nat.le_of_ble_eq_true rfl⟩ (Nat.le_of_ble_eq_true rfl) dX9_readWater_44 ?_
  refine z_aload_n O 0 dX9_readWater_47 rfl rfl ?_
  refine b2s hr (fun v3 h2 hF hr => ?_)
  refine z_callV O [] (vi v3) fV_X9_knownCell q2123 (fun l G => mX9_knownCell l G N x0 h1 _ hF) (zck hF) rfl rfl ⟨Nat.le_of_ble_eq_true rfl, Nat.le_of_ble_eq_true rfl⟩ (Nat.le_of_ble_eq_true rfl) dX9_readWater_48 ?_
  refine z_istore_n O [(1, vi v3), (0, vr x0)] dX9_readWater_51 rfl (by decide) rfl ?_
  refine z_aload_n O 1 dX9_readWater_52 rfl rfl ?_
  refine z_getI O o_Model_sort q1771 dX9_readWater_53 hr (fun v4 hr => ?_)
  refine z_iconst O dX9_readWater_56 kic_5 ?_
  refine z_icmp_eq (tgt := 77) O dX9_readWater_57 (by decide) hr (fun hr => ?_) (fun hr => ?_)
  · refine z_sub [1, 0] rfl ?_
    exact wX9_readWater_77 O N x0 v3 h2 _ hr
  · refine z_aload_n O 1 dX9_readWater_60 rfl rfl ?_
    refine z_getR O o_Model_read q1766 dX9_readWater_61 hr (fun v5 hr => ?_)
    refine z_getRN O o_MLand_water zn1916 dX9_readWater_64 hr (fun v6 hr => ?_)
    refine z_iload_n O 0 dX9_readWater_67 rfl rfl ?_
    refine z_zaload O dX9_readWater_68 hr (fun v7 hr => ?_)
    refine z_if_eq (tgt := 77) O dX9_readWater_69 (by decide) hr (fun hr => ?_) (fun hr => ?_)
    · refine z_sub [1, 0] rfl ?_
      exact wX9_readWater_77 O N x0 v3 h2 _ hr
    · refine z_aload_n O 1 dX9_readWater_72 rfl rfl ?_
      refine z_iconst O dX9_readWater_73 kic_3 ?_
      refine bs hr (fun h8 hF hr => ?_)
      refine z_callVv O [vi (3 : Int32)] fV_X9_flaw q2075 (fun l G => mX9_flaw l G x0 (3 : Int32) h2 _ hF) (zck hF) rfl rfl ⟨Nat.le_of_ble_eq_true rfl, Nat.le_of_ble_eq_true rfl⟩ (Nat.le_of_ble_eq_true rfl) dX9_readWater_74 ?_
      refine z_sub [1, 0] rfl ?_
      exact wX9_readWater_77 O N x0 v3 h8 _ hr
def bX9_readWater_17 (N : Nat) (x0 : Option Nat) (h : AH) : Option (AH) :=
  (gR h f_Model_read x0).bind fun v1 =>
  (gI h f_MLand_wide v1).bind fun v2 =>
  if v2 = 0 then
    (F_X9_flaw x0 (6 : Int32) h).bind fun h3 =>
    bX9_readWater_43 N x0 h3
  else
    (gR h f_Model_read x0).bind fun v4 =>
    (gI h f_MLand_houses v4).bind fun v5 =>
    if v5 ≤ 0 then
      bX9_readWater_43 N x0 h
    else
      (F_X9_flaw x0 (6 : Int32) h).bind fun h6 =>
      bX9_readWater_43 N x0 h6
theorem wX9_readWater_17 {K : ZC} (O : ZOk K cX9_readWater RX9 "readWater" 2 (none : Option Jvm.ClassFile.FieldType) 5 136) (N : Nat) (x0 : Option Nat) (h : AH) (r : AH) (hr : bX9_readWater_17 N x0 h = some r) : Zw K (eH r) h 17 [(0, vr x0)] [] := by
  unfold bX9_readWater_17 at hr
  refine z_aload_n O 0 dX9_readWater_17 rfl rfl ?_
  refine z_getR O o_Model_read q1766 dX9_readWater_18 hr (fun v1 hr => ?_)
  refine z_getIN O o_MLand_wide zn1897 dX9_readWater_21 hr (fun v2 hr => ?_)
  refine z_if_eq (tgt := 37) O dX9_readWater_24 (by decide) hr (fun hr => ?_) (fun hr => ?_)
  · refine z_aload_n O 0 dX9_readWater_37 rfl rfl ?_
    refine z_bipush O dX9_readWater_38 kbi_6 ?_
    refine bs hr (fun h3 hF hr => ?_)
    refine z_callVv O [vi (6 : Int32)] fV_X9_flaw q2075 (fun l G => mX9_flaw l G x0 (6 : Int32) h _ hF) (zck hF) rfl rfl ⟨Nat.le_of_ble_eq_true rfl, Nat.le_of_ble_eq_true rfl⟩ (Nat.le_of_ble_eq_true rfl) dX9_readWater_40 ?_
    exact wX9_readWater_43 O N x0 h3 _ hr
  · refine z_aload_n O 0 dX9_readWater_27 rfl rfl ?_
    refine z_getR O o_Model_read q1766 dX9_readWater_28 hr (fun v4 hr => ?_)
    refine z_getIN O o_MLand_houses zn1907 dX9_readWater_31 hr (fun v5 hr => ?_)
    refine z_if_le (tgt := 43) O dX9_readWater_34 (by decide) hr (fun hr => ?_) (fun hr => ?_)
    · exact wX9_readWater_43 O N x0 h _ hr
    · refine z_aload_n O 0 dX9_readWater_37 rfl rfl ?_
      refine z_bipush O dX9_readWater_38 kbi_6 ?_
      refine bs hr (fun h6 hF hr => ?_)
      refine z_callVv O [vi (6 : Int32)] fV_X9_flaw q2075 (fun l G => mX9_flaw l G x0 (6 : Int32) h _ hF) (zck hF) rfl rfl ⟨Nat.le_of_ble_eq_true rfl, Nat.le_of_ble_eq_true rfl⟩ (Nat.le_of_ble_eq_true rfl) dX9_readWater_40 ?_
      exact wX9_readWater_43 O N x0 h6 _ hr
def F_X9_readWater (N : Nat) (x0 : Option Nat) (h : AH) : Option (AH) :=
  (ck h [9] x0).bind fun _ =>
  (gR h f_Model_read x0).bind fun v1 =>
  (gI h f_MLand_waters v1).bind fun v2 =>
  if v2 = (10 : Int32) then
    (F_X9_flaw x0 (5 : Int32) h).bind fun h3 =>
    bX9_readWater_17 N x0 h3
  else
    bX9_readWater_17 N x0 h
theorem mX9_readWater (l : Launch) (G : ZG) (N : Nat) (x0 : Option Nat) (h : AH) (r : AH) (hr : F_X9_readWater N x0 h = some r) : MZ l G yX9_readWater cX9_readWater 2 (none : Option Jvm.ClassFile.FieldType) 5 136 [vr x0] h (eH r) := by
  unfold F_X9_readWater at hr
  refine MZ.of (by decide) [(0, vr x0)] rfl (Nat.le_of_ble_eq_true rfl) (fun K O => ?_)
  have O : ZOk K cX9_readWater RX9 "readWater" 2 (none : Option Jvm.ClassFile.FieldType) 5 136 := O
  refine bs hr (fun _ hck hr => ?_)
  refine z_aload_n O 0 dX9_readWater_0 rfl rfl ?_
  refine z_getR O o_Model_read q1766 dX9_readWater_1 hr (fun v1 hr => ?_)
  refine z_getIN O o_MLand_waters zn1905 dX9_readWater_4 hr (fun v2 hr => ?_)
  refine z_bipush O dX9_readWater_7 kbi_10 ?_
  refine z_icmp_ne (tgt := 17) O dX9_readWater_9 (by decide) hr (fun hr => ?_) (fun hr => ?_)
  · refine z_aload_n O 0 dX9_readWater_12 rfl rfl ?_
    refine z_iconst O dX9_readWater_13 kic_5 ?_
    refine bs hr (fun h3 hF hr => ?_)
    refine z_callVv O [vi (5 : Int32)] fV_X9_flaw q2075 (fun l G => mX9_flaw l G x0 (5 : Int32) h _ hF) (zck hF) rfl rfl ⟨Nat.le_of_ble_eq_true rfl, Nat.le_of_ble_eq_true rfl⟩ (Nat.le_of_ble_eq_true rfl) dX9_readWater_14 ?_
    exact wX9_readWater_17 O N x0 h3 _ hr
  · exact wX9_readWater_17 O N x0 h _ hr
theorem fV_X9_readYears : CVf RX9 yX9_readYears cX9_readYears 5 (none : Option Jvm.ClassFile.FieldType) 0 := ⟨q2109, qs73, q137, q2110, ⟨⟨by decide +kernel, by decide +kernel⟩, by decide +kernel⟩⟩
def bX9_readYears_16 (N : Nat) (x0 : Option Nat) (h : AH) : Option (AH) :=
  (F_X9_begins N x0 (0 : Int32) (1 : Int32) h).bind fun h1 =>
  b2 (F_X9_readWhole N x0 (0 : Int32) (900 : Int32) h1) fun v3 h2 =>
  b2 (F_X9_readPart N x0 (some (h2.1.2.2.2.1 20)) (0 : Int32) (100 : Int32) h2) fun v5 h4 =>
  b2 (F_X9_readPart N x0 (some (h4.1.2.2.2.1 21)) (0 : Int32) (100 : Int32) h4) fun v7 h6 =>
  b2 (F_X9_readPart N x0 (some (h6.1.2.2.2.1 22)) (0 : Int32) (9 : Int32) h6) fun v9 h8 =>
  (gI h8 f_Model_sort x0).bind fun v10 =>
  if v10 = (5 : Int32) then
    some h8
  else
    (gR h8 f_Model_read x0).bind fun v11 =>
    (pI h8 f_MLand_year v11 v3).bind fun h12 =>
    (gR h12 f_Model_read x0).bind fun v13 =>
    (pI h12 f_MLand_births v13 v5).bind fun h14 =>
    (gR h14 f_Model_read x0).bind fun v15 =>
    (pI h14 f_MLand_fire v15 v7).bind fun h16 =>
    (gR h16 f_Model_read x0).bind fun v17 =>
    (pI h16 f_MLand_earns v17 v9).bind fun h18 =>
    some h18
theorem wX9_readYears_16 {K : ZC} (O : ZOk K cX9_readYears RX9 "readYears" 5 (none : Option Jvm.ClassFile.FieldType) 9 221) (N : Nat) (x0 : Option Nat) (h : AH) (r : AH) (hr : bX9_readYears_16 N x0 h = some r) : Zw K (eH r) h 16 [(0, vr x0)] [] := by
  unfold bX9_readYears_16 at hr
  refine z_aload_n O 0 dX9_readYears_16 rfl rfl ?_
  refine z_iconst O dX9_readYears_17 kic_0 ?_
  refine z_iconst O dX9_readYears_18 kic_1 ?_
  refine bs hr (fun h1 hF hr => ?_)
  refine z_callVv O [vi (0 : Int32), vi (1 : Int32)] fV_X9_begins q2111 (fun l G => mX9_begins l G N x0 (0 : Int32) (1 : Int32) h _ hF) (zck hF) rfl rfl ⟨Nat.le_of_ble_eq_true rfl, Nat.le_of_ble_eq_true rfl⟩ (Nat.le_of_ble_eq_true rfl) dX9_readYears_19 ?_
  refine z_aload_n O 0 dX9_readYears_22 rfl rfl ?_
  refine z_iconst O dX9_readYears_23 kic_0 ?_
  refine z_sipush O dX9_readYears_24 ksi_900 ?_
  refine b2s hr (fun v3 h2 hF hr => ?_)
  refine z_callV O [vi (0 : Int32), vi (900 : Int32)] (vi v3) fV_X9_readWhole q2088 (fun l G => mX9_readWhole l G N x0 (0 : Int32) (900 : Int32) h1 _ hF) (zck hF) rfl rfl ⟨Nat.le_of_ble_eq_true rfl, Nat.le_of_ble_eq_true rfl⟩ (Nat.le_of_ble_eq_true rfl) dX9_readYears_27 ?_
  refine z_istore_n O [(1, vi v3), (0, vr x0)] dX9_readYears_30 rfl (by decide) rfl ?_
  refine z_aload_n O 1 dX9_readYears_31 rfl rfl ?_
  refine z_ldcSw O zs2115 dX9_readYears_32 ?_
  refine z_iconst O dX9_readYears_35 kic_0 ?_
  refine z_bipush O dX9_readYears_36 kbi_100 ?_
  refine b2s hr (fun v5 h4 hF hr => ?_)
  refine z_callV O [vr (some (h2.1.2.2.2.1 20)), vi (0 : Int32), vi (100 : Int32)] (vi v5) fV_X9_readPart q2080 (fun l G => mX9_readPart l G N x0 (some (h2.1.2.2.2.1 20)) (0 : Int32) (100 : Int32) h2 _ hF) (zck hF) rfl rfl ⟨Nat.le_of_ble_eq_true rfl, Nat.le_of_ble_eq_true rfl⟩ (Nat.le_of_ble_eq_true rfl) dX9_readYears_38 ?_
  refine z_istore_n O [(2, vi v5), (1, vi v3), (0, vr x0)] dX9_readYears_41 rfl (by decide) rfl ?_
  refine z_aload_n O 2 dX9_readYears_42 rfl rfl ?_
  refine z_ldcSw O zs2116 dX9_readYears_43 ?_
  refine z_iconst O dX9_readYears_46 kic_0 ?_
  refine z_bipush O dX9_readYears_47 kbi_100 ?_
  refine b2s hr (fun v7 h6 hF hr => ?_)
  refine z_callV O [vr (some (h4.1.2.2.2.1 21)), vi (0 : Int32), vi (100 : Int32)] (vi v7) fV_X9_readPart q2080 (fun l G => mX9_readPart l G N x0 (some (h4.1.2.2.2.1 21)) (0 : Int32) (100 : Int32) h4 _ hF) (zck hF) rfl rfl ⟨Nat.le_of_ble_eq_true rfl, Nat.le_of_ble_eq_true rfl⟩ (Nat.le_of_ble_eq_true rfl) dX9_readYears_49 ?_
  refine z_istore_n O [(3, vi v7), (2, vi v5), (1, vi v3), (0, vr x0)] dX9_readYears_52 rfl (by decide) rfl ?_
  refine z_aload_n O 3 dX9_readYears_53 rfl rfl ?_
  refine z_ldcSw O zs2117 dX9_readYears_54 ?_
  refine z_iconst O dX9_readYears_57 kic_0 ?_
  refine z_bipush O dX9_readYears_58 kbi_9 ?_
  refine b2s hr (fun v9 h8 hF hr => ?_)
  refine z_callV O [vr (some (h6.1.2.2.2.1 22)), vi (0 : Int32), vi (9 : Int32)] (vi v9) fV_X9_readPart q2080 (fun l G => mX9_readPart l G N x0 (some (h6.1.2.2.2.1 22)) (0 : Int32) (9 : Int32) h6 _ hF) (zck hF) rfl rfl ⟨Nat.le_of_ble_eq_true rfl, Nat.le_of_ble_eq_true rfl⟩ (Nat.le_of_ble_eq_true rfl) dX9_readYears_60 ?_
  refine z_istore O [(4, vi v9), (3, vi v7), (2, vi v5), (1, vi v3), (0, vr x0)] dX9_readYears_63 (by decide) rfl ?_
  refine z_aload_n O 4 dX9_readYears_65 rfl rfl ?_
  refine z_getI O o_Model_sort q1771 dX9_readYears_66 hr (fun v10 hr => ?_)
  refine z_iconst O dX9_readYears_69 kic_5 ?_
  refine z_icmp_ne (tgt := 74) O dX9_readYears_70 (by decide) hr (fun hr => ?_) (fun hr => ?_)
  · exact z_vret O dX9_readYears_73 (by cases hr; rfl)
  · refine z_aload_n O 4 dX9_readYears_74 rfl rfl ?_
    refine z_getR O o_Model_read q1766 dX9_readYears_75 hr (fun v11 hr => ?_)
    refine z_iload_n O 3 dX9_readYears_78 rfl rfl ?_
    refine z_putIN O o_MLand_year (w_MLand_year _) zn1901 dX9_readYears_79 hr (fun h12 hr => ?_)
    refine z_aload_n O 4 dX9_readYears_82 rfl rfl ?_
    refine z_getR O o_Model_read q1766 dX9_readYears_83 hr (fun v13 hr => ?_)
    refine z_iload_n O 2 dX9_readYears_86 rfl rfl ?_
    refine z_putIN O o_MLand_births (w_MLand_births _) zn1902 dX9_readYears_87 hr (fun h14 hr => ?_)
    refine z_aload_n O 4 dX9_readYears_90 rfl rfl ?_
    refine z_getR O o_Model_read q1766 dX9_readYears_91 hr (fun v15 hr => ?_)
    refine z_iload_n O 1 dX9_readYears_94 rfl rfl ?_
    refine z_putIN O o_MLand_fire (w_MLand_fire _) zn1903 dX9_readYears_95 hr (fun h16 hr => ?_)
    refine z_aload_n O 4 dX9_readYears_98 rfl rfl ?_
    refine z_getR O o_Model_read q1766 dX9_readYears_99 hr (fun v17 hr => ?_)
    refine z_iload O 0 dX9_readYears_102 rfl ?_
    refine z_putIN O o_MLand_earns (w_MLand_earns _) zn1904 dX9_readYears_104 hr (fun h18 hr => ?_)
    exact z_vret O dX9_readYears_107 (by cases hr; rfl)
def F_X9_readYears (N : Nat) (x0 : Option Nat) (h : AH) : Option (AH) :=
  (ck h [9] x0).bind fun _ =>
  (gR h f_Model_read x0).bind fun v1 =>
  (gI h f_MLand_year v1).bind fun v2 =>
  if v2 = (-1 : Int32) then
    bX9_readYears_16 N x0 h
  else
    (F_X9_flaw x0 (3 : Int32) h).bind fun h3 =>
    bX9_readYears_16 N x0 h3
theorem mX9_readYears (l : Launch) (G : ZG) (N : Nat) (x0 : Option Nat) (h : AH) (r : AH) (hr : F_X9_readYears N x0 h = some r) : MZ l G yX9_readYears cX9_readYears 5 (none : Option Jvm.ClassFile.FieldType) 9 221 [vr x0] h (eH r) := by
  unfold F_X9_readYears at hr
  refine MZ.of (by decide) [(0, vr x0)] rfl (Nat.le_of_ble_eq_true rfl) (fun K O => ?_)
  have O : ZOk K cX9_readYears RX9 "readYears" 5 (none : Option Jvm.ClassFile.FieldType) 9 221 := O
  refine bs hr (fun _ hck hr => ?_)
  refine z_aload_n O 0 dX9_readYears_0 rfl rfl ?_
  refine z_getR O o_Model_read q1766 dX9_readYears_1 hr (fun v1 hr => ?_)
  refine z_getIN O o_MLand_year zn1901 dX9_readYears_4 hr (fun v2 hr => ?_)
  refine z_iconst O dX9_readYears_7 kic_m1 ?_
  refine z_icmp_eq (tgt := 16) O dX9_readYears_8 (by decide) hr (fun hr => ?_) (fun hr => ?_)
  · exact wX9_readYears_16 O N x0 h _ hr
  · refine z_aload_n O 0 dX9_readYears_11 rfl rfl ?_
    refine z_iconst O dX9_readYears_12 kic_3 ?_
    refine bs hr (fun h3 hF hr => ?_)
    refine z_callVv O [vi (3 : Int32)] fV_X9_flaw q2075 (fun l G => mX9_flaw l G x0 (3 : Int32) h _ hF) (zck hF) rfl rfl ⟨Nat.le_of_ble_eq_true rfl, Nat.le_of_ble_eq_true rfl⟩ (Nat.le_of_ble_eq_true rfl) dX9_readYears_13 ?_
    exact wX9_readYears_16 O N x0 h3 _ hr
theorem fV_X9_readLine : CVf RX9 yX9_readLine cX9_readLine 1 (none : Option Jvm.ClassFile.FieldType) 0 := ⟨q2033, qs65, q137, q2034, ⟨⟨by decide +kernel, by decide +kernel⟩, by decide +kernel⟩⟩
def F_X9_readLine (N : Nat) (x0 : Option Nat) (h : AH) : Option (AH) :=
  (ck h [9] x0).bind fun _ =>
  (F_X9_isWord N x0 (some (h.1.2.2.2.1 1)) h).bind fun v1 =>
  if v1 = 0 then
    (F_X9_isWord N x0 (some (h.1.2.2.2.1 2)) h).bind fun v2 =>
    if v2 = 0 then
      (F_X9_isWord N x0 (some (h.1.2.2.2.1 3)) h).bind fun v3 =>
      if v3 = 0 then
        (F_X9_isWord N x0 (some (h.1.2.2.2.1 4)) h).bind fun v4 =>
        if v4 = 0 then
          (F_X9_isWord N x0 (some (h.1.2.2.2.1 5)) h).bind fun v5 =>
          if v5 = 0 then
            (F_X9_isWord N x0 (some (h.1.2.2.2.1 6)) h).bind fun v6 =>
            if v6 = 0 then
              (F_X9_isWord N x0 (some (h.1.2.2.2.1 7)) h).bind fun v7 =>
              if v7 = 0 then
                (F_X9_isWord N x0 (some (h.1.2.2.2.1 8)) h).bind fun v8 =>
                if v8 = 0 then
                  (F_X9_isWord N x0 (some (h.1.2.2.2.1 9)) h).bind fun v9 =>
                  if v9 = 0 then
                    (F_X9_isWord N x0 (some (h.1.2.2.2.1 10)) h).bind fun v10 =>
                    if v10 = 0 then
                      (F_X9_isWord N x0 (some (h.1.2.2.2.1 11)) h).bind fun v11 =>
                      if v11 = 0 then
                        (F_X9_flaw x0 (1 : Int32) h).bind fun h12 =>
                        some h12
                      else
                        (F_X9_readSign N x0 (0 : Int32) h).bind fun h13 =>
                        some h13
                    else
                      (F_X9_readSign N x0 (1 : Int32) h).bind fun h14 =>
                      some h14
                  else
                    (F_X9_readOlder N x0 h).bind fun h15 =>
                    some h15
                else
                  (F_X9_readWall N x0 h).bind fun h16 =>
                  some h16
              else
                (F_X9_readHeir N x0 h).bind fun h17 =>
                some h17
            else
              (F_X9_readSkin N x0 h).bind fun h18 =>
              some h18
          else
            (F_X9_readHouse N x0 h).bind fun h19 =>
            some h19
        else
          (F_X9_readStone N x0 h).bind fun h20 =>
          some h20
      else
        (F_X9_readWater N x0 h).bind fun h21 =>
        some h21
    else
      (F_X9_readYears N x0 h).bind fun h22 =>
      some h22
  else
    (F_X9_readLand N x0 h).bind fun h23 =>
    some h23
theorem mX9_readLine (l : Launch) (G : ZG) (N : Nat) (x0 : Option Nat) (h : AH) (r : AH) (hr : F_X9_readLine N x0 h = some r) : MZ l G yX9_readLine cX9_readLine 1 (none : Option Jvm.ClassFile.FieldType) 11 268 [vr x0] h (eH r) := by
  unfold F_X9_readLine at hr
  refine MZ.of (by decide) [(0, vr x0)] rfl (Nat.le_of_ble_eq_true rfl) (fun K O => ?_)
  have O : ZOk K cX9_readLine RX9 "readLine" 1 (none : Option Jvm.ClassFile.FieldType) 11 268 := O
  refine bs hr (fun _ hck hr => ?_)
  refine z_aload_n O 0 dX9_readLine_0 rfl rfl ?_
  refine z_ldcS O zs2035 dX9_readLine_1 ?_
  refine bs hr (fun v1 hF hr => ?_)
  refine z_callV O [vr (some (h.1.2.2.2.1 1))] (vi v1) fV_X9_isWord q2036 (fun l G => mX9_isWord l G N x0 (some (h.1.2.2.2.1 1)) h _ hF) (zck hF) rfl rfl ⟨Nat.le_of_ble_eq_true rfl, Nat.le_of_ble_eq_true rfl⟩ (Nat.le_of_ble_eq_true rfl) dX9_readLine_3 ?_
  refine z_if_eq (tgt := 16) O dX9_readLine_6 (by decide) hr (fun hr => ?_) (fun hr => ?_)
  · refine z_aload_n O 0 dX9_readLine_16 rfl rfl ?_
    refine z_ldcS O zs2106 dX9_readLine_17 ?_
    refine bs hr (fun v2 hF hr => ?_)
    refine z_callV O [vr (some (h.1.2.2.2.1 2))] (vi v2) fV_X9_isWord q2036 (fun l G => mX9_isWord l G N x0 (some (h.1.2.2.2.1 2)) h _ hF) (zck hF) rfl rfl ⟨Nat.le_of_ble_eq_true rfl, Nat.le_of_ble_eq_true rfl⟩ (Nat.le_of_ble_eq_true rfl) dX9_readLine_19 ?_
    refine z_if_eq (tgt := 32) O dX9_readLine_22 (by decide) hr (fun hr => ?_) (fun hr => ?_)
    · refine z_aload_n O 0 dX9_readLine_32 rfl rfl ?_
      refine z_ldcS O zs2118 dX9_readLine_33 ?_
      refine bs hr (fun v3 hF hr => ?_)
      refine z_callV O [vr (some (h.1.2.2.2.1 3))] (vi v3) fV_X9_isWord q2036 (fun l G => mX9_isWord l G N x0 (some (h.1.2.2.2.1 3)) h _ hF) (zck hF) rfl rfl ⟨Nat.le_of_ble_eq_true rfl, Nat.le_of_ble_eq_true rfl⟩ (Nat.le_of_ble_eq_true rfl) dX9_readLine_35 ?_
      refine z_if_eq (tgt := 48) O dX9_readLine_38 (by decide) hr (fun hr => ?_) (fun hr => ?_)
      · refine z_aload_n O 0 dX9_readLine_48 rfl rfl ?_
        refine z_ldcS O zs2131 dX9_readLine_49 ?_
        refine bs hr (fun v4 hF hr => ?_)
        refine z_callV O [vr (some (h.1.2.2.2.1 4))] (vi v4) fV_X9_isWord q2036 (fun l G => mX9_isWord l G N x0 (some (h.1.2.2.2.1 4)) h _ hF) (zck hF) rfl rfl ⟨Nat.le_of_ble_eq_true rfl, Nat.le_of_ble_eq_true rfl⟩ (Nat.le_of_ble_eq_true rfl) dX9_readLine_51 ?_
        refine z_if_eq (tgt := 64) O dX9_readLine_54 (by decide) hr (fun hr => ?_) (fun hr => ?_)
        · refine z_aload_n O 0 dX9_readLine_64 rfl rfl ?_
          refine z_ldcS O zs2144 dX9_readLine_65 ?_
          refine bs hr (fun v5 hF hr => ?_)
          refine z_callV O [vr (some (h.1.2.2.2.1 5))] (vi v5) fV_X9_isWord q2036 (fun l G => mX9_isWord l G N x0 (some (h.1.2.2.2.1 5)) h _ hF) (zck hF) rfl rfl ⟨Nat.le_of_ble_eq_true rfl, Nat.le_of_ble_eq_true rfl⟩ (Nat.le_of_ble_eq_true rfl) dX9_readLine_67 ?_
          refine z_if_eq (tgt := 80) O dX9_readLine_70 (by decide) hr (fun hr => ?_) (fun hr => ?_)
          · refine z_aload_n O 0 dX9_readLine_80 rfl rfl ?_
            refine z_ldcS O zs2145 dX9_readLine_81 ?_
            refine bs hr (fun v6 hF hr => ?_)
            refine z_callV O [vr (some (h.1.2.2.2.1 6))] (vi v6) fV_X9_isWord q2036 (fun l G => mX9_isWord l G N x0 (some (h.1.2.2.2.1 6)) h _ hF) (zck hF) rfl rfl ⟨Nat.le_of_ble_eq_true rfl, Nat.le_of_ble_eq_true rfl⟩ (Nat.le_of_ble_eq_true rfl) dX9_readLine_83 ?_
            refine z_if_eq (tgt := 96) O dX9_readLine_86 (by decide) hr (fun hr => ?_) (fun hr => ?_)
            · refine z_aload_n O 0 dX9_readLine_96 rfl rfl ?_
              refine z_ldcS O zs2146 dX9_readLine_97 ?_
              refine bs hr (fun v7 hF hr => ?_)
              refine z_callV O [vr (some (h.1.2.2.2.1 7))] (vi v7) fV_X9_isWord q2036 (fun l G => mX9_isWord l G N x0 (some (h.1.2.2.2.1 7)) h _ hF) (zck hF) rfl rfl ⟨Nat.le_of_ble_eq_true rfl, Nat.le_of_ble_eq_true rfl⟩ (Nat.le_of_ble_eq_true rfl) dX9_readLine_99 ?_
              refine z_if_eq (tgt := 112) O dX9_readLine_102 (by decide) hr (fun hr => ?_) (fun hr => ?_)
              · refine z_aload_n O 0 dX9_readLine_112 rfl rfl ?_
                refine z_ldcS O zs2147 dX9_readLine_113 ?_
                refine bs hr (fun v8 hF hr => ?_)
                refine z_callV O [vr (some (h.1.2.2.2.1 8))] (vi v8) fV_X9_isWord q2036 (fun l G => mX9_isWord l G N x0 (some (h.1.2.2.2.1 8)) h _ hF) (zck hF) rfl rfl ⟨Nat.le_of_ble_eq_true rfl, Nat.le_of_ble_eq_true rfl⟩ (Nat.le_of_ble_eq_true rfl) dX9_readLine_115 ?_
                refine z_if_eq (tgt := 128) O dX9_readLine_118 (by decide) hr (fun hr => ?_) (fun hr => ?_)
                · refine z_aload_n O 0 dX9_readLine_128 rfl rfl ?_
                  refine z_ldcS O zs2148 dX9_readLine_129 ?_
                  refine bs hr (fun v9 hF hr => ?_)
                  refine z_callV O [vr (some (h.1.2.2.2.1 9))] (vi v9) fV_X9_isWord q2036 (fun l G => mX9_isWord l G N x0 (some (h.1.2.2.2.1 9)) h _ hF) (zck hF) rfl rfl ⟨Nat.le_of_ble_eq_true rfl, Nat.le_of_ble_eq_true rfl⟩ (Nat.le_of_ble_eq_true rfl) dX9_readLine_131 ?_
                  refine z_if_eq (tgt := 144) O dX9_readLine_134 (by decide) hr (fun hr => ?_) (fun hr => ?_)
                  · refine z_aload_n O 0 dX9_readLine_144 rfl rfl ?_
                    refine z_ldcS O zs2149 dX9_readLine_145 ?_
                    refine bs hr (fun v10 hF hr => ?_)
                    refine z_callV O [vr (some (h.1.2.2.2.1 10))] (vi v10) fV_X9_isWord q2036 (fun l G => mX9_isWord l G N x0 (some (h.1.2.2.2.1 10)) h _ hF) (zck hF) rfl rfl ⟨Nat.le_of_ble_eq_true rfl, Nat.le_of_ble_eq_true rfl⟩ (Nat.le_of_ble_eq_true rfl) dX9_readLine_147 ?_
                    refine z_if_eq (tgt := 161) O dX9_readLine_150 (by decide) hr (fun hr => ?_) (fun hr => ?_)
                    · refine z_aload_n O 0 dX9_readLine_161 rfl rfl ?_
                      refine z_ldcS O zs2150 dX9_readLine_162 ?_
                      refine bs hr (fun v11 hF hr => ?_)
                      refine z_callV O [vr (some (h.1.2.2.2.1 11))] (vi v11) fV_X9_isWord q2036 (fun l G => mX9_isWord l G N x0 (some (h.1.2.2.2.1 11)) h _ hF) (zck hF) rfl rfl ⟨Nat.le_of_ble_eq_true rfl, Nat.le_of_ble_eq_true rfl⟩ (Nat.le_of_ble_eq_true rfl) dX9_readLine_164 ?_
                      refine z_if_eq (tgt := 178) O dX9_readLine_167 (by decide) hr (fun hr => ?_) (fun hr => ?_)
                      · refine z_aload_n O 0 dX9_readLine_178 rfl rfl ?_
                        refine z_iconst O dX9_readLine_179 kic_1 ?_
                        refine bs hr (fun h12 hF hr => ?_)
                        refine z_callVv O [vi (1 : Int32)] fV_X9_flaw q2075 (fun l G => mX9_flaw l G x0 (1 : Int32) h _ hF) (zck hF) rfl rfl ⟨Nat.le_of_ble_eq_true rfl, Nat.le_of_ble_eq_true rfl⟩ (Nat.le_of_ble_eq_true rfl) dX9_readLine_180 ?_
                        exact z_vret O dX9_readLine_183 (by cases hr; rfl)
                      · refine z_aload_n O 0 dX9_readLine_170 rfl rfl ?_
                        refine z_iconst O dX9_readLine_171 kic_0 ?_
                        refine bs hr (fun h13 hF hr => ?_)
                        refine z_callVv O [vi (0 : Int32)] fV_X9_readSign q2241 (fun l G => mX9_readSign l G N x0 (0 : Int32) h _ hF) (zck hF) rfl rfl ⟨Nat.le_of_ble_eq_true rfl, Nat.le_of_ble_eq_true rfl⟩ (Nat.le_of_ble_eq_true rfl) dX9_readLine_172 ?_
                        refine z_goto (tgt := 183) O dX9_readLine_175 (by decide) ?_
                        exact z_vret O dX9_readLine_183 (by cases hr; rfl)
                    · refine z_aload_n O 0 dX9_readLine_153 rfl rfl ?_
                      refine z_iconst O dX9_readLine_154 kic_1 ?_
                      refine bs hr (fun h14 hF hr => ?_)
                      refine z_callVv O [vi (1 : Int32)] fV_X9_readSign q2241 (fun l G => mX9_readSign l G N x0 (1 : Int32) h _ hF) (zck hF) rfl rfl ⟨Nat.le_of_ble_eq_true rfl, Nat.le_of_ble_eq_true rfl⟩ (Nat.le_of_ble_eq_true rfl) dX9_readLine_155 ?_
                      refine z_goto (tgt := 183) O dX9_readLine_158 (by decide) ?_
                      exact z_vret O dX9_readLine_183 (by cases hr; rfl)
                  · refine z_aload_n O 0 dX9_readLine_137 rfl rfl ?_
                    refine bs hr (fun h15 hF hr => ?_)
                    refine z_callVv O [] fV_X9_readOlder q2234 (fun l G => mX9_readOlder l G N x0 h _ hF) (zck hF) rfl rfl ⟨Nat.le_of_ble_eq_true rfl, Nat.le_of_ble_eq_true rfl⟩ (Nat.le_of_ble_eq_true rfl) dX9_readLine_138 ?_
                    refine z_goto (tgt := 183) O dX9_readLine_141 (by decide) ?_
                    exact z_vret O dX9_readLine_183 (by cases hr; rfl)
                · refine z_aload_n O 0 dX9_readLine_121 rfl rfl ?_
                  refine bs hr (fun h16 hF hr => ?_)
                  refine z_callVv O [] fV_X9_readWall q2230 (fun l G => mX9_readWall l G N x0 h _ hF) (zck hF) rfl rfl ⟨Nat.le_of_ble_eq_true rfl, Nat.le_of_ble_eq_true rfl⟩ (Nat.le_of_ble_eq_true rfl) dX9_readLine_122 ?_
                  refine z_goto (tgt := 183) O dX9_readLine_125 (by decide) ?_
                  exact z_vret O dX9_readLine_183 (by cases hr; rfl)
              · refine z_aload_n O 0 dX9_readLine_105 rfl rfl ?_
                refine bs hr (fun h17 hF hr => ?_)
                refine z_callVv O [] fV_X9_readHeir q2226 (fun l G => mX9_readHeir l G N x0 h _ hF) (zck hF) rfl rfl ⟨Nat.le_of_ble_eq_true rfl, Nat.le_of_ble_eq_true rfl⟩ (Nat.le_of_ble_eq_true rfl) dX9_readLine_106 ?_
                refine z_goto (tgt := 183) O dX9_readLine_109 (by decide) ?_
                exact z_vret O dX9_readLine_183 (by cases hr; rfl)
            · refine z_aload_n O 0 dX9_readLine_89 rfl rfl ?_
              refine bs hr (fun h18 hF hr => ?_)
              refine z_callVv O [] fV_X9_readSkin q2197 (fun l G => mX9_readSkin l G N x0 h _ hF) (zck hF) rfl rfl ⟨Nat.le_of_ble_eq_true rfl, Nat.le_of_ble_eq_true rfl⟩ (Nat.le_of_ble_eq_true rfl) dX9_readLine_90 ?_
              refine z_goto (tgt := 183) O dX9_readLine_93 (by decide) ?_
              exact z_vret O dX9_readLine_183 (by cases hr; rfl)
          · refine z_aload_n O 0 dX9_readLine_73 rfl rfl ?_
            refine bs hr (fun h19 hF hr => ?_)
            refine z_callVv O [] fV_X9_readHouse q2166 (fun l G => mX9_readHouse l G N x0 h _ hF) (zck hF) rfl rfl ⟨Nat.le_of_ble_eq_true rfl, Nat.le_of_ble_eq_true rfl⟩ (Nat.le_of_ble_eq_true rfl) dX9_readLine_74 ?_
            refine z_goto (tgt := 183) O dX9_readLine_77 (by decide) ?_
            exact z_vret O dX9_readLine_183 (by cases hr; rfl)
        · refine z_aload_n O 0 dX9_readLine_57 rfl rfl ?_
          refine bs hr (fun h20 hF hr => ?_)
          refine z_callVv O [] fV_X9_readStone q2132 (fun l G => mX9_readStone l G N x0 h _ hF) (zck hF) rfl rfl ⟨Nat.le_of_ble_eq_true rfl, Nat.le_of_ble_eq_true rfl⟩ (Nat.le_of_ble_eq_true rfl) dX9_readLine_58 ?_
          refine z_goto (tgt := 183) O dX9_readLine_61 (by decide) ?_
          exact z_vret O dX9_readLine_183 (by cases hr; rfl)
      · refine z_aload_n O 0 dX9_readLine_41 rfl rfl ?_
        refine bs hr (fun h21 hF hr => ?_)
        refine z_callVv O [] fV_X9_readWater q2119 (fun l G => mX9_readWater l G N x0 h _ hF) (zck hF) rfl rfl ⟨Nat.le_of_ble_eq_true rfl, Nat.le_of_ble_eq_true rfl⟩ (Nat.le_of_ble_eq_true rfl) dX9_readLine_42 ?_
        refine z_goto (tgt := 183) O dX9_readLine_45 (by decide) ?_
        exact z_vret O dX9_readLine_183 (by cases hr; rfl)
    · refine z_aload_n O 0 dX9_readLine_25 rfl rfl ?_
      refine bs hr (fun h22 hF hr => ?_)
      refine z_callVv O [] fV_X9_readYears q2107 (fun l G => mX9_readYears l G N x0 h _ hF) (zck hF) rfl rfl ⟨Nat.le_of_ble_eq_true rfl, Nat.le_of_ble_eq_true rfl⟩ (Nat.le_of_ble_eq_true rfl) dX9_readLine_26 ?_
      refine z_goto (tgt := 183) O dX9_readLine_29 (by decide) ?_
      exact z_vret O dX9_readLine_183 (by cases hr; rfl)
  · refine z_aload_n O 0 dX9_readLine_9 rfl rfl ?_
    refine bs hr (fun h23 hF hr => ?_)
    refine z_callVv O [] fV_X9_readLand q2071 (fun l G => mX9_readLand l G N x0 h _ hF) (zck hF) rfl rfl ⟨Nat.le_of_ble_eq_true rfl, Nat.le_of_ble_eq_true rfl⟩ (Nat.le_of_ble_eq_true rfl) dX9_readLine_10 ?_
    refine z_goto (tgt := 183) O dX9_readLine_13 (by decide) ?_
    exact z_vret O dX9_readLine_183 (by cases hr; rfl)
theorem fV_X9_readAll : CVf RX9 yX9_readAll cX9_readAll 2 (none : Option Jvm.ClassFile.FieldType) 0 := ⟨q2029, qs64, q137, q2030, ⟨⟨by decide +kernel, by decide +kernel⟩, by decide +kernel⟩⟩
def bX9_readAll_33 (N : Nat) (x0 : Option Nat) (h : AH) : Option (AH) :=
  (gR h f_Model_read x0).bind fun v1 =>
  (gI h f_MLand_year v1).bind fun v2 =>
  if v2 = (-1 : Int32) then
    (F_X9_flaw x0 (6 : Int32) h).bind fun h3 =>
    some h3
  else
    (gR h f_Model_read x0).bind fun v4 =>
    (gI h f_MLand_stones v4).bind fun v5 =>
    if v5 = 0 then
      (F_X9_flaw x0 (6 : Int32) h).bind fun h6 =>
      some h6
    else
      (gR h f_Model_read x0).bind fun v7 =>
      (gI h f_MLand_houses v7).bind fun v8 =>
      if v8 = 0 then
        (F_X9_flaw x0 (6 : Int32) h).bind fun h9 =>
        some h9
      else
        some h
theorem wX9_readAll_33 {K : ZC} (O : ZOk K cX9_readAll RX9 "readAll" 2 (none : Option Jvm.ClassFile.FieldType) 12 288) (N : Nat) (x0 : Option Nat) (h : AH) (r : AH) (hr : bX9_readAll_33 N x0 h = some r) : Zw K (eH r) h 33 [(0, vr x0)] [] := by
  unfold bX9_readAll_33 at hr
  refine z_aload_n O 0 dX9_readAll_33 rfl rfl ?_
  refine z_getR O o_Model_read q1766 dX9_readAll_34 hr (fun v1 hr => ?_)
  refine z_getIN O o_MLand_year zn1901 dX9_readAll_37 hr (fun v2 hr => ?_)
  refine z_iconst O dX9_readAll_40 kic_m1 ?_
  refine z_icmp_eq (tgt := 64) O dX9_readAll_41 (by decide) hr (fun hr => ?_) (fun hr => ?_)
  · refine z_aload_n O 0 dX9_readAll_64 rfl rfl ?_
    refine z_bipush O dX9_readAll_65 kbi_6 ?_
    refine bs hr (fun h3 hF hr => ?_)
    refine z_callVv O [vi (6 : Int32)] fV_X9_flaw q2075 (fun l G => mX9_flaw l G x0 (6 : Int32) h _ hF) (zck hF) rfl rfl ⟨Nat.le_of_ble_eq_true rfl, Nat.le_of_ble_eq_true rfl⟩ (Nat.le_of_ble_eq_true rfl) dX9_readAll_67 ?_
    exact z_vret O dX9_readAll_70 (by cases hr; rfl)
  · refine z_aload_n O 0 dX9_readAll_44 rfl rfl ?_
    refine z_getR O o_Model_read q1766 dX9_readAll_45 hr (fun v4 hr => ?_)
    refine z_getIN O o_MLand_stones zn1906 dX9_readAll_48 hr (fun v5 hr => ?_)
    refine z_if_eq (tgt := 64) O dX9_readAll_51 (by decide) hr (fun hr => ?_) (fun hr => ?_)
    · refine z_aload_n O 0 dX9_readAll_64 rfl rfl ?_
      refine z_bipush O dX9_readAll_65 kbi_6 ?_
      refine bs hr (fun h6 hF hr => ?_)
      refine z_callVv O [vi (6 : Int32)] fV_X9_flaw q2075 (fun l G => mX9_flaw l G x0 (6 : Int32) h _ hF) (zck hF) rfl rfl ⟨Nat.le_of_ble_eq_true rfl, Nat.le_of_ble_eq_true rfl⟩ (Nat.le_of_ble_eq_true rfl) dX9_readAll_67 ?_
      exact z_vret O dX9_readAll_70 (by cases hr; rfl)
    · refine z_aload_n O 0 dX9_readAll_54 rfl rfl ?_
      refine z_getR O o_Model_read q1766 dX9_readAll_55 hr (fun v7 hr => ?_)
      refine z_getIN O o_MLand_houses zn1907 dX9_readAll_58 hr (fun v8 hr => ?_)
      refine z_if_ne (tgt := 70) O dX9_readAll_61 (by decide) hr (fun hr => ?_) (fun hr => ?_)
      · refine z_aload_n O 0 dX9_readAll_64 rfl rfl ?_
        refine z_bipush O dX9_readAll_65 kbi_6 ?_
        refine bs hr (fun h9 hF hr => ?_)
        refine z_callVv O [vi (6 : Int32)] fV_X9_flaw q2075 (fun l G => mX9_flaw l G x0 (6 : Int32) h _ hF) (zck hF) rfl rfl ⟨Nat.le_of_ble_eq_true rfl, Nat.le_of_ble_eq_true rfl⟩ (Nat.le_of_ble_eq_true rfl) dX9_readAll_67 ?_
        exact z_vret O dX9_readAll_70 (by cases hr; rfl)
      · exact z_vret O dX9_readAll_70 (by cases hr; rfl)
def BX9_readAll_2 (N : Nat) (x0 : Option Nat) (rec2 : Int32 → AH → Option (AH)) : Int32 → AH → Option (AH) := fun x1 h =>
  if x1 = 0 then
    (gI h f_Model_sort x0).bind fun v1 =>
    if v1 = (1 : Int32) then
      bX9_readAll_33 N x0 h
    else
      (F_X9_flaw x0 (1 : Int32) h).bind fun h2 =>
      bX9_readAll_33 N x0 h2
  else
    (F_X9_readLine N x0 h).bind fun h3 =>
    b2 (F_X9_eatsSign N x0 (59 : Int32) h3) fun v5 h4 =>
    rec2 v5 h4
def LX9_readAll_2 (N : Nat) (x0 : Option Nat) : Int32 → AH → Option (AH) := lf (fun _ _ => none) (BX9_readAll_2 N x0) N
theorem wX9_readAll_2B {K : ZC} (O : ZOk K cX9_readAll RX9 "readAll" 2 (none : Option Jvm.ClassFile.FieldType) 12 288) (N : Nat) (x0 : Option Nat) (rec2 : Int32 → AH → Option (AH)) (hrec2 : ∀ (y1 : Int32) (hy : AH) (ry : AH), rec2 y1 hy = some ry → Zw K (eH ry) hy 2 [(0, vr x0), (1, vi y1)] []) (x1 : Int32) (h : AH) (r : AH) (hr : BX9_readAll_2 N x0 rec2 x1 h = some r) : Zw K (eH r) h 2 [(0, vr x0), (1, vi x1)] [] := by
  unfold BX9_readAll_2 at hr
  refine z_iload_n O 1 dX9_readAll_2 rfl rfl ?_
  refine z_if_eq (tgt := 20) O dX9_readAll_3 (by decide) hr (fun hr => ?_) (fun hr => ?_)
  · refine z_aload_n O 0 dX9_readAll_20 rfl rfl ?_
    refine z_getI O o_Model_sort q1771 dX9_readAll_21 hr (fun v1 hr => ?_)
    refine z_iconst O dX9_readAll_24 kic_1 ?_
    refine z_icmp_eq (tgt := 33) O dX9_readAll_25 (by decide) hr (fun hr => ?_) (fun hr => ?_)
    · refine z_sub [0] rfl ?_
      exact wX9_readAll_33 O N x0 h _ hr
    · refine z_aload_n O 0 dX9_readAll_28 rfl rfl ?_
      refine z_iconst O dX9_readAll_29 kic_1 ?_
      refine bs hr (fun h2 hF hr => ?_)
      refine z_callVv O [vi (1 : Int32)] fV_X9_flaw q2075 (fun l G => mX9_flaw l G x0 (1 : Int32) h _ hF) (zck hF) rfl rfl ⟨Nat.le_of_ble_eq_true rfl, Nat.le_of_ble_eq_true rfl⟩ (Nat.le_of_ble_eq_true rfl) dX9_readAll_30 ?_
      refine z_sub [0] rfl ?_
      exact wX9_readAll_33 O N x0 h2 _ hr
  · refine z_aload_n O 0 dX9_readAll_6 rfl rfl ?_
    refine bs hr (fun h3 hF hr => ?_)
    refine z_callVv O [] fV_X9_readLine q2031 (fun l G => mX9_readLine l G N x0 h _ hF) (zck hF) rfl rfl ⟨Nat.le_of_ble_eq_true rfl, Nat.le_of_ble_eq_true rfl⟩ (Nat.le_of_ble_eq_true rfl) dX9_readAll_7 ?_
    refine z_aload_n O 0 dX9_readAll_10 rfl rfl ?_
    refine z_bipush O dX9_readAll_11 kbi_59 ?_
    refine b2s hr (fun v5 h4 hF hr => ?_)
    refine z_callV O [vi (59 : Int32)] (vi v5) fV_X9_eatsSign q2245 (fun l G => mX9_eatsSign l G N x0 (59 : Int32) h3 _ hF) (zck hF) rfl rfl ⟨Nat.le_of_ble_eq_true rfl, Nat.le_of_ble_eq_true rfl⟩ (Nat.le_of_ble_eq_true rfl) dX9_readAll_13 ?_
    refine z_istore_n O [(1, vi v5), (0, vr x0)] dX9_readAll_16 rfl (by decide) rfl ?_
    refine z_goto (tgt := 2) O dX9_readAll_17 (by decide) ?_
    refine z_sub [1, 0] rfl ?_
    exact hrec2 v5 h4 _ hr
theorem wX9_readAll_2 {K : ZC} (O : ZOk K cX9_readAll RX9 "readAll" 2 (none : Option Jvm.ClassFile.FieldType) 12 288) (N : Nat) (x0 : Option Nat) : ∀ (n : Nat) (x1 : Int32) (h : AH) (r : AH), lf (fun _ _ => none) (BX9_readAll_2 N x0) n x1 h = some r → Zw K (eH r) h 2 [(0, vr x0), (1, vi x1)] [] := by
  intro n
  induction n with
  | zero => intro x1 h r hr; cases hr
  | succ n ih => intro x1 h r hr; exact wX9_readAll_2B O N x0 (lf (fun _ _ => none) (BX9_readAll_2 N x0) n)  ih x1 h r hr
def F_X9_readAll (N : Nat) (x0 : Option Nat) (h : AH) : Option (AH) :=
  (ck h [9] x0).bind fun _ =>
  LX9_readAll_2 N x0 (1 : Int32) h
theorem mX9_readAll (l : Launch) (G : ZG) (N : Nat) (x0 : Option Nat) (h : AH) (r : AH) (hr : F_X9_readAll N x0 h = some r) : MZ l G yX9_readAll cX9_readAll 2 (none : Option Jvm.ClassFile.FieldType) 12 288 [vr x0] h (eH r) := by
  unfold F_X9_readAll at hr
  refine MZ.of (by decide) [(0, vr x0)] rfl (Nat.le_of_ble_eq_true rfl) (fun K O => ?_)
  have O : ZOk K cX9_readAll RX9 "readAll" 2 (none : Option Jvm.ClassFile.FieldType) 12 288 := O
  refine bs hr (fun _ hck hr => ?_)
  refine z_iconst O dX9_readAll_0 kic_1 ?_
  refine z_istore_n O [(1, vi (1 : Int32)), (0, vr x0)] dX9_readAll_1 rfl (by decide) rfl ?_
  refine z_sub [1, 0] rfl ?_
  exact wX9_readAll_2 O N x0 _ (1 : Int32) h _ hr
theorem fV_X9_land : CVf RX9 yX9_land cX9_land 3 (some .int) 1 := ⟨q1883, q1884, q137, q1885, ⟨⟨by decide +kernel, by decide +kernel⟩, by decide +kernel⟩⟩
def BX9_land_117 (N : Nat) (x0 : Option Nat) (rec117 : Int32 → AH → Option (Int32 × AH)) : Int32 → AH → Option (Int32 × AH) := fun x2 h =>
  if (212 : Int32) ≤ x2 then
    (pI h f_Model_acts x0 (0 : Int32)).bind fun h1 =>
    (pI h1 f_Model_marks x0 (0 : Int32)).bind fun h2 =>
    (gR h2 f_Model_land x0).bind fun v3 =>
    (gI h2 f_MLand_houses v3).bind fun v4 =>
    b2 (F_X9_good x0 v4 h2) fun v6 h5 =>
    some (v6, h5)
  else
    (gR h f_Model_v x0).bind fun v7 =>
    (gR h f_Model_land x0).bind fun v8 =>
    (gR h f_MLand_first v8).bind fun v9 =>
    (aI h 0 v9 x2).bind fun v10 =>
    (sA h 0 v7 x2 v10).bind fun h11 =>
    jlet (x2 + (1 : Int32)) fun v12 =>
    rec117 v12 h11
def LX9_land_117 (N : Nat) (x0 : Option Nat) : Int32 → AH → Option (Int32 × AH) := lf (fun _ _ => none) (BX9_land_117 N x0) N
theorem wX9_land_117B {K : ZC} (O : ZOk K cX9_land RX9 "land" 3 (some .int) 13 309) (N : Nat) (x0 : Option Nat) (rec117 : Int32 → AH → Option (Int32 × AH)) (hrec117 : ∀ (y2 : Int32) (hy : AH) (ry : Int32 × AH), rec117 y2 hy = some ry → Zw K (eIH ry) hy 117 [(0, vr x0), (2, vi y2)] []) (x2 : Int32) (h : AH) (r : Int32 × AH) (hr : BX9_land_117 N x0 rec117 x2 h = some r) : Zw K (eIH r) h 117 [(0, vr x0), (2, vi x2)] [] := by
  unfold BX9_land_117 at hr
  refine z_iload_n O 1 dX9_land_117 rfl rfl ?_
  refine z_sipush O dX9_land_118 ksi_212 ?_
  refine z_icmp_ge (tgt := 145) O dX9_land_121 (by decide) hr (fun hr => ?_) (fun hr => ?_)
  · refine z_aload_n O 0 dX9_land_145 rfl rfl ?_
    refine z_iconst O dX9_land_146 kic_0 ?_
    refine z_putI O o_Model_acts (w_Model_acts _) q1782 dX9_land_147 hr (fun h1 hr => ?_)
    refine z_aload_n O 0 dX9_land_150 rfl rfl ?_
    refine z_iconst O dX9_land_151 kic_0 ?_
    refine z_putI O o_Model_marks (w_Model_marks _) q1783 dX9_land_152 hr (fun h2 hr => ?_)
    refine z_aload_n O 0 dX9_land_155 rfl rfl ?_
    refine z_aload_n O 0 dX9_land_156 rfl rfl ?_
    refine z_getR O o_Model_land q1765 dX9_land_157 hr (fun v3 hr => ?_)
    refine z_getIN O o_MLand_houses zn1907 dX9_land_160 hr (fun v4 hr => ?_)
    refine b2s hr (fun v6 h5 hF hr => ?_)
    refine z_callV O [vi v4] (vi v6) fV_X9_good q2249 (fun l G => mX9_good l G x0 v4 h2 _ hF) (zck hF) rfl rfl ⟨Nat.le_of_ble_eq_true rfl, Nat.le_of_ble_eq_true rfl⟩ (Nat.le_of_ble_eq_true rfl) dX9_land_163 ?_
    exact z_iret O dX9_land_166 (by cases hr; rfl)
  · refine z_aload_n O 0 dX9_land_124 rfl rfl ?_
    refine z_getR O o_Model_v q1778 dX9_land_125 hr (fun v7 hr => ?_)
    refine z_iload_n O 1 dX9_land_128 rfl rfl ?_
    refine z_aload_n O 0 dX9_land_129 rfl rfl ?_
    refine z_getR O o_Model_land q1765 dX9_land_130 hr (fun v8 hr => ?_)
    refine z_getRN O o_MLand_first zn1946 dX9_land_133 hr (fun v9 hr => ?_)
    refine z_iload_n O 1 dX9_land_136 rfl rfl ?_
    refine z_iaload O dX9_land_137 hr (fun v10 hr => ?_)
    refine z_iastore O dX9_land_138 hr (fun h11 hr => ?_)
    refine z_iincL O 1 (fun v12 => [(2, vi v12), (0, vr x0)]) dX9_land_139 rfl rfl (by decide) (fun _ => rfl) hr (fun v12 hr => ?_)
    refine z_goto (tgt := 117) O dX9_land_142 (by decide) ?_
    refine z_sub [1, 0] rfl ?_
    exact hrec117 v12 h11 _ hr
theorem wX9_land_117 {K : ZC} (O : ZOk K cX9_land RX9 "land" 3 (some .int) 13 309) (N : Nat) (x0 : Option Nat) : ∀ (n : Nat) (x2 : Int32) (h : AH) (r : Int32 × AH), lf (fun _ _ => none) (BX9_land_117 N x0) n x2 h = some r → Zw K (eIH r) h 117 [(0, vr x0), (2, vi x2)] [] := by
  intro n
  induction n with
  | zero => intro x2 h r hr; cases hr
  | succ n ih => intro x2 h r hr; exact wX9_land_117B O N x0 (lf (fun _ _ => none) (BX9_land_117 N x0) n)  ih x2 h r hr
def F_X9_land (N : Nat) (x0 : Option Nat) (x1 : Int32) (h : AH) : Option (Int32 × AH) :=
  (ck h [9] x0).bind fun _ =>
  (pI h f_Model_thrown x0 (0 : Int32)).bind fun h1 =>
  if x1 < 0 then
    b2 (F_X9_refused x0 (2 : Int32) h1) fun v3 h2 =>
    some (v3, h2)
  else
    (gI h1 f_Model_taped x0).bind fun v4 =>
    if x1 ≤ v4 then
      (pI h1 f_Model_size x0 x1).bind fun h5 =>
      (pI h5 f_Model_taped x0 (0 : Int32)).bind fun h6 =>
      (pI h6 f_Model_spot x0 (0 : Int32)).bind fun h7 =>
      (pI h7 f_Model_fault x0 (0 : Int32)).bind fun h8 =>
      b2 (nO h8 20 31 [.int 0, .int 0, .int 0, .int 0, .int 0, .int 0, .int 0, .int 0, .int 0, .int 0, .int 0, .int 0, .int 0, .int 0, .int 0, .null, .null, .null, .null, .null, .null, .null, .null, .null, .null, .null, .null, .null, .null, .null, .null]) fun v9 h10 =>
      (F_X20_init v9 h10).bind fun h11 =>
      (pR h11 f_Model_read x0 v9).bind fun h12 =>
      (pI h12 f_Model_sort x0 (0 : Int32)).bind fun h13 =>
      (F_X9_goesOn N x0 h13).bind fun h14 =>
      (F_X9_readAll N x0 h14).bind fun h15 =>
      (gI h15 f_Model_fault x0).bind fun v16 =>
      if v16 ≤ 0 then
        (gR h15 f_Model_read x0).bind fun v17 =>
        (pR h15 f_Model_land x0 v17).bind fun h18 =>
        (gR h18 f_Model_land x0).bind fun v19 =>
        (gR h18 f_MLand_first v19).bind fun v20 =>
        (gR h18 f_Model_land x0).bind fun v21 =>
        (gI h18 f_MLand_year v21).bind fun v22 =>
        (sA h18 0 v20 (210 : Int32) v22).bind fun h23 =>
        LX9_land_117 N x0 (0 : Int32) h23
      else
        (pI h15 f_Model_trouble x0 (4 : Int32)).bind fun h24 =>
        (gI h24 f_Model_wrongAt x0).bind fun v25 =>
        (pI h24 f_Model_where x0 v25).bind fun h26 =>
        some ((-1 : Int32), h26)
    else
      b2 (F_X9_refused x0 (2 : Int32) h1) fun v28 h27 =>
      some (v28, h27)
theorem mX9_land (l : Launch) (G : ZG) (N : Nat) (x0 : Option Nat) (x1 : Int32) (h : AH) (r : Int32 × AH) (hr : F_X9_land N x0 x1 h = some r) : MZ l G yX9_land cX9_land 3 (some .int) 13 309 [vr x0, vi x1] h (eIH r) := by
  unfold F_X9_land at hr
  refine MZ.of (by decide) [(0, vr x0), (1, vi x1)] rfl (Nat.le_of_ble_eq_true rfl) (fun K O => ?_)
  have O : ZOk K cX9_land RX9 "land" 3 (some .int) 13 309 := O
  refine bs hr (fun _ hck hr => ?_)
  refine z_aload_n O 0 dX9_land_0 rfl rfl ?_
  refine z_iconst O dX9_land_1 kic_0 ?_
  refine z_putI O o_Model_thrown (w_Model_thrown _) q1762 dX9_land_2 hr (fun h1 hr => ?_)
  refine z_iload_n O 1 dX9_land_5 rfl rfl ?_
  refine z_if_lt (tgt := 17) O dX9_land_6 (by decide) hr (fun hr => ?_) (fun hr => ?_)
  · refine z_aload_n O 0 dX9_land_17 rfl rfl ?_
    refine z_iconst O dX9_land_18 kic_2 ?_
    refine b2s hr (fun v3 h2 hF hr => ?_)
    refine z_callV O [vi (2 : Int32)] (vi v3) fV_X9_refused q1886 (fun l G => mX9_refused l G x0 (2 : Int32) h1 _ hF) (zck hF) rfl rfl ⟨Nat.le_of_ble_eq_true rfl, Nat.le_of_ble_eq_true rfl⟩ (Nat.le_of_ble_eq_true rfl) dX9_land_19 ?_
    exact z_iret O dX9_land_22 (by cases hr; rfl)
  · refine z_iload_n O 1 dX9_land_9 rfl rfl ?_
    refine z_aload_n O 0 dX9_land_10 rfl rfl ?_
    refine z_getI O o_Model_taped q1768 dX9_land_11 hr (fun v4 hr => ?_)
    refine z_icmp_le (tgt := 23) O dX9_land_14 (by decide) hr (fun hr => ?_) (fun hr => ?_)
    · refine z_aload_n O 0 dX9_land_23 rfl rfl ?_
      refine z_iload_n O 1 dX9_land_24 rfl rfl ?_
      refine z_putI O o_Model_size (w_Model_size _) q1769 dX9_land_25 hr (fun h5 hr => ?_)
      refine z_aload_n O 0 dX9_land_28 rfl rfl ?_
      refine z_iconst O dX9_land_29 kic_0 ?_
      refine z_putI O o_Model_taped (w_Model_taped _) q1768 dX9_land_30 hr (fun h6 hr => ?_)
      refine z_aload_n O 0 dX9_land_33 rfl rfl ?_
      refine z_iconst O dX9_land_34 kic_0 ?_
      refine z_putI O o_Model_spot (w_Model_spot _) q1770 dX9_land_35 hr (fun h7 hr => ?_)
      refine z_aload_n O 0 dX9_land_38 rfl rfl ?_
      refine z_iconst O dX9_land_39 kic_0 ?_
      refine z_putI O o_Model_fault (w_Model_fault _) q1775 dX9_land_40 hr (fun h8 hr => ?_)
      refine z_aload_n O 0 dX9_land_43 rfl rfl ?_
      refine z_new O (t := 20) (n := 31) (tyf := tyX20) rfl [.int 0, .int 0, .int 0, .int 0, .int 0, .int 0, .int 0, .int 0, .int 0, .int 0, .int 0, .int 0, .int 0, .int 0, .int 0, .null, .null, .null, .null, .null, .null, .null, .null, .null, .null, .null, .null, .null, .null, .null, .null] tyX20_ok rfl in_X20 q1890 q1891 q155 dX9_land_44 hr (fun v9 h10 hr => ?_)
      refine z_dup O dX9_land_47 rfl ?_
      refine bs hr (fun h11 hF hr => ?_)
      refine z_callIN_ O [] fI_X20_init zn1892 (fun l G => mX20_init l G (some v9) h10 _ hF) rfl ⟨Nat.le_of_ble_eq_true rfl, Nat.le_of_ble_eq_true rfl⟩ (Nat.le_of_ble_eq_true rfl) dX9_land_48 ?_
      refine z_putR O rfl o_Model_read (w_Model_read _) q1766 dX9_land_51 hr (fun h12 hr => ?_)
      refine z_aload_n O 0 dX9_land_54 rfl rfl ?_
      refine z_iconst O dX9_land_55 kic_0 ?_
      refine z_putI O o_Model_sort (w_Model_sort _) q1771 dX9_land_56 hr (fun h13 hr => ?_)
      refine z_aload_n O 0 dX9_land_59 rfl rfl ?_
      refine bs hr (fun h14 hF hr => ?_)
      refine z_callVv O [] fV_X9_goesOn q2012 (fun l G => mX9_goesOn l G N x0 h13 _ hF) (zck hF) rfl rfl ⟨Nat.le_of_ble_eq_true rfl, Nat.le_of_ble_eq_true rfl⟩ (Nat.le_of_ble_eq_true rfl) dX9_land_60 ?_
      refine z_aload_n O 0 dX9_land_63 rfl rfl ?_
      refine bs hr (fun h15 hF hr => ?_)
      refine z_callVv O [] fV_X9_readAll q2027 (fun l G => mX9_readAll l G N x0 h14 _ hF) (zck hF) rfl rfl ⟨Nat.le_of_ble_eq_true rfl, Nat.le_of_ble_eq_true rfl⟩ (Nat.le_of_ble_eq_true rfl) dX9_land_64 ?_
      refine z_aload_n O 0 dX9_land_67 rfl rfl ?_
      refine z_getI O o_Model_fault q1775 dX9_land_68 hr (fun v16 hr => ?_)
      refine z_if_le (tgt := 89) O dX9_land_71 (by decide) hr (fun hr => ?_) (fun hr => ?_)
      · refine z_aload_n O 0 dX9_land_89 rfl rfl ?_
        refine z_aload_n O 0 dX9_land_90 rfl rfl ?_
        refine z_getR O o_Model_read q1766 dX9_land_91 hr (fun v17 hr => ?_)
        refine z_putR O rfl o_Model_land (w_Model_land _) q1765 dX9_land_94 hr (fun h18 hr => ?_)
        refine z_aload_n O 0 dX9_land_97 rfl rfl ?_
        refine z_getR O o_Model_land q1765 dX9_land_98 hr (fun v19 hr => ?_)
        refine z_getRN O o_MLand_first zn1946 dX9_land_101 hr (fun v20 hr => ?_)
        refine z_sipush O dX9_land_104 ksi_210 ?_
        refine z_aload_n O 0 dX9_land_107 rfl rfl ?_
        refine z_getR O o_Model_land q1765 dX9_land_108 hr (fun v21 hr => ?_)
        refine z_getIN O o_MLand_year zn1901 dX9_land_111 hr (fun v22 hr => ?_)
        refine z_iastore O dX9_land_114 hr (fun h23 hr => ?_)
        refine z_iconst O dX9_land_115 kic_0 ?_
        refine z_istore_n O [(2, vi (0 : Int32)), (0, vr x0), (1, vi x1)] dX9_land_116 rfl (by decide) rfl ?_
        refine z_sub [1, 0] rfl ?_
        exact wX9_land_117 O N x0 _ (0 : Int32) h23 _ hr
      · refine z_aload_n O 0 dX9_land_74 rfl rfl ?_
        refine z_iconst O dX9_land_75 kic_4 ?_
        refine z_putI O o_Model_trouble (w_Model_trouble _) q1763 dX9_land_76 hr (fun h24 hr => ?_)
        refine z_aload_n O 0 dX9_land_79 rfl rfl ?_
        refine z_aload_n O 0 dX9_land_80 rfl rfl ?_
        refine z_getI O o_Model_wrongAt q1776 dX9_land_81 hr (fun v25 hr => ?_)
        refine z_putI O o_Model_where (w_Model_where _) q1764 dX9_land_84 hr (fun h26 hr => ?_)
        refine z_iconst O dX9_land_87 kic_m1 ?_
        exact z_iret O dX9_land_88 (by cases hr; rfl)
    · refine z_aload_n O 0 dX9_land_17 rfl rfl ?_
      refine z_iconst O dX9_land_18 kic_2 ?_
      refine b2s hr (fun v28 h27 hF hr => ?_)
      refine z_callV O [vi (2 : Int32)] (vi v28) fV_X9_refused q1886 (fun l G => mX9_refused l G x0 (2 : Int32) h1 _ hF) (zck hF) rfl rfl ⟨Nat.le_of_ble_eq_true rfl, Nat.le_of_ble_eq_true rfl⟩ (Nat.le_of_ble_eq_true rfl) dX9_land_19 ?_
      exact z_iret O dX9_land_22 (by cases hr; rfl)
theorem fV_X9_before : CVf RX9 yX9_before cX9_before 2 (some .int) 1 := ⟨q2541, qs120, q137, q2542, ⟨⟨by decide +kernel, by decide +kernel⟩, by decide +kernel⟩⟩
def F_X9_before (x0 : Option Nat) (x1 : Int32) (h : AH) : Option (Int32) :=
  (ck h [9] x0).bind fun _ =>
  (gR h f_Model_land x0).bind fun v1 =>
  (gR h f_MLand_smell v1).bind fun v2 =>
  (aI h 0 v2 x1).bind fun v3 =>
  if v3 = (-1 : Int32) then
    (gR h f_Model_v x0).bind fun v10 =>
    (aI h 0 v10 (210 : Int32)).bind fun v11 =>
    some v11
  else
    (gR h f_Model_v x0).bind fun v4 =>
    (aI h 0 v4 (210 : Int32)).bind fun v5 =>
    (gR h f_Model_land x0).bind fun v6 =>
    (gR h f_MLand_smell v6).bind fun v7 =>
    (aI h 0 v7 x1).bind fun v8 =>
    (F_X9_least v5 v8).bind fun v9 =>
    some v9
theorem mX9_before (l : Launch) (G : ZG) (x0 : Option Nat) (x1 : Int32) (h : AH) (r : Int32) (hr : F_X9_before x0 x1 h = some r) : MZ l G yX9_before cX9_before 2 (some .int) 2 69 [vr x0, vi x1] h (eI h r) := by
  unfold F_X9_before at hr
  refine MZ.of (by decide) [(0, vr x0), (1, vi x1)] rfl (Nat.le_of_ble_eq_true rfl) (fun K O => ?_)
  have O : ZOk K cX9_before RX9 "before" 2 (some .int) 2 69 := O
  refine bs hr (fun _ hck hr => ?_)
  refine z_aload_n O 0 dX9_before_0 rfl rfl ?_
  refine z_getR O o_Model_land q1765 dX9_before_1 hr (fun v1 hr => ?_)
  refine z_getRN O o_MLand_smell zn1938 dX9_before_4 hr (fun v2 hr => ?_)
  refine z_iload_n O 1 dX9_before_7 rfl rfl ?_
  refine z_iaload O dX9_before_8 hr (fun v3 hr => ?_)
  refine z_iconst O dX9_before_9 kic_m1 ?_
  refine z_icmp_ne (tgt := 24) O dX9_before_10 (by decide) hr (fun hr => ?_) (fun hr => ?_)
  · refine z_aload_n O 0 dX9_before_13 rfl rfl ?_
    refine z_getR O o_Model_v q1778 dX9_before_14 hr (fun v10 hr => ?_)
    refine z_sipush O dX9_before_17 ksi_210 ?_
    refine z_iaload O dX9_before_20 hr (fun v11 hr => ?_)
    refine z_goto (tgt := 44) O dX9_before_21 (by decide) ?_
    exact z_iret O dX9_before_44 (by cases hr; rfl)
  · refine z_aload_n O 0 dX9_before_24 rfl rfl ?_
    refine z_getR O o_Model_v q1778 dX9_before_25 hr (fun v4 hr => ?_)
    refine z_sipush O dX9_before_28 ksi_210 ?_
    refine z_iaload O dX9_before_31 hr (fun v5 hr => ?_)
    refine z_aload_n O 0 dX9_before_32 rfl rfl ?_
    refine z_getR O o_Model_land q1765 dX9_before_33 hr (fun v6 hr => ?_)
    refine z_getRN O o_MLand_smell zn1938 dX9_before_36 hr (fun v7 hr => ?_)
    refine z_iload_n O 1 dX9_before_39 rfl rfl ?_
    refine z_iaload O dX9_before_40 hr (fun v8 hr => ?_)
    refine bs hr (fun v9 hF hr => ?_)
    refine z_callS O [vi v5, vi v8] (vi v9) fS_X9_least q2409 (fun l G => mX9_least l G v5 v8 h _ hF) rfl ⟨Nat.le_of_ble_eq_true rfl, Nat.le_of_ble_eq_true rfl⟩ (Nat.le_of_ble_eq_true rfl) dX9_before_41 ?_
    exact z_iret O dX9_before_44 (by cases hr; rfl)
theorem fV_X9_canBe : CVf RX9 yX9_canBe cX9_canBe 5 (some .boolean) 0 := ⟨q2537, qs119, q137, q2538, ⟨⟨by decide +kernel, by decide +kernel⟩, by decide +kernel⟩⟩
def BX9_canBe_17 (N : Nat) (rec10 : Int32 → AH → Option (Int32 × AH)) (x0 : Option Nat) (x1 : Int32) (x2 : Int32) (rec17 : Int32 → AH → Option (Int32 × AH)) : Int32 → AH → Option (Int32 × AH) := fun x3 h =>
  if x2 ≤ x3 then
    jlet (x2 + (1 : Int32)) fun v1 =>
    rec10 v1 h
  else
    (gR h f_Model_land x0).bind fun v2 =>
    (gR h f_MLand_older v2).bind fun v3 =>
    (gR h f_Model_row x0).bind fun v4 =>
    (aI h 0 v4 x2).bind fun v5 =>
    (aI h 0 v3 v5).bind fun v6 =>
    (gR h f_Model_row x0).bind fun v7 =>
    (aI h 0 v7 x3).bind fun v8 =>
    (F_X9_bit v6 v8).bind fun v9 =>
    if v9 = 0 then
      jlet (x3 + (1 : Int32)) fun v10 =>
      rec17 v10 h
    else
      (zb (0 : Int32)).bind fun v11 => some (v11, h)
def LX9_canBe_17 (N : Nat) (rec10 : Int32 → AH → Option (Int32 × AH)) (x0 : Option Nat) (x1 : Int32) (x2 : Int32) : Int32 → AH → Option (Int32 × AH) := lf (fun _ _ => none) (BX9_canBe_17 N rec10 x0 x1 x2) N
theorem wX9_canBe_17B {K : ZC} (O : ZOk K cX9_canBe RX9 "canBe" 5 (some .boolean) 3 90) (N : Nat) (rec10 : Int32 → AH → Option (Int32 × AH)) (x0 : Option Nat) (x1 : Int32) (x2 : Int32) (rec17 : Int32 → AH → Option (Int32 × AH)) (hrec10 : ∀ (y2 : Int32) (hy : AH) (ry : Int32 × AH), rec10 y2 hy = some ry → Zw K (eIH ry) hy 10 [(0, vr x0), (1, vi x1), (2, vi y2)] []) (hrec17 : ∀ (y3 : Int32) (hy : AH) (ry : Int32 × AH), rec17 y3 hy = some ry → Zw K (eIH ry) hy 17 [(0, vr x0), (1, vi x1), (2, vi x2), (3, vi y3)] []) (x3 : Int32) (h : AH) (r : Int32 × AH) (hr : BX9_canBe_17 N rec10 x0 x1 x2 rec17 x3 h = some r) : Zw K (eIH r) h 17 [(0, vr x0), (1, vi x1), (2, vi x2), (3, vi x3)] [] := by
  unfold BX9_canBe_17 at hr
  refine z_iload_n O 3 dX9_canBe_17 rfl rfl ?_
  refine z_iload_n O 2 dX9_canBe_18 rfl rfl ?_
  refine z_icmp_ge (tgt := 56) O dX9_canBe_19 (by decide) hr (fun hr => ?_) (fun hr => ?_)
  · refine z_iincL O 2 (fun v1 => [(2, vi v1), (0, vr x0), (1, vi x1), (3, vi x3)]) dX9_canBe_56 rfl rfl (by decide) (fun _ => rfl) hr (fun v1 hr => ?_)
    refine z_goto (tgt := 10) O dX9_canBe_59 (by decide) ?_
    refine z_sub [1, 2, 0] rfl ?_
    exact hrec10 v1 h _ hr
  · refine z_aload_n O 0 dX9_canBe_22 rfl rfl ?_
    refine z_getR O o_Model_land q1765 dX9_canBe_23 hr (fun v2 hr => ?_)
    refine z_getRN O o_MLand_older zn1934 dX9_canBe_26 hr (fun v3 hr => ?_)
    refine z_aload_n O 0 dX9_canBe_29 rfl rfl ?_
    refine z_getR O o_Model_row q1791 dX9_canBe_30 hr (fun v4 hr => ?_)
    refine z_iload_n O 2 dX9_canBe_33 rfl rfl ?_
    refine z_iaload O dX9_canBe_34 hr (fun v5 hr => ?_)
    refine z_iaload O dX9_canBe_35 hr (fun v6 hr => ?_)
    refine z_aload_n O 0 dX9_canBe_36 rfl rfl ?_
    refine z_getR O o_Model_row q1791 dX9_canBe_37 hr (fun v7 hr => ?_)
    refine z_iload_n O 3 dX9_canBe_40 rfl rfl ?_
    refine z_iaload O dX9_canBe_41 hr (fun v8 hr => ?_)
    refine bs hr (fun v9 hF hr => ?_)
    refine z_callS O [vi v6, vi v8] (vi v9) fS_X9_bit q2238 (fun l G => mX9_bit l G v6 v8 h _ hF) rfl ⟨Nat.le_of_ble_eq_true rfl, Nat.le_of_ble_eq_true rfl⟩ (Nat.le_of_ble_eq_true rfl) dX9_canBe_42 ?_
    refine z_if_eq (tgt := 50) O dX9_canBe_45 (by decide) hr (fun hr => ?_) (fun hr => ?_)
    · refine z_iincL O 3 (fun v10 => [(3, vi v10), (0, vr x0), (1, vi x1), (2, vi x2)]) dX9_canBe_50 rfl rfl (by decide) (fun _ => rfl) hr (fun v10 hr => ?_)
      refine z_goto (tgt := 17) O dX9_canBe_53 (by decide) ?_
      refine z_sub [1, 2, 3, 0] rfl ?_
      exact hrec17 v10 h _ hr
    · refine z_iconst O dX9_canBe_48 kic_0 ?_
      refine bs hr (fun v11 e0 hr => ?_)
      obtain ⟨e1, e2, -⟩ := zb_spec e0
      exact z_zret O e2 dX9_canBe_49 (by cases hr; cases e1; rfl)
theorem wX9_canBe_17 {K : ZC} (O : ZOk K cX9_canBe RX9 "canBe" 5 (some .boolean) 3 90) (N : Nat) (rec10 : Int32 → AH → Option (Int32 × AH)) (x0 : Option Nat) (x1 : Int32) (x2 : Int32) (hrec10 : ∀ (y2 : Int32) (hy : AH) (ry : Int32 × AH), rec10 y2 hy = some ry → Zw K (eIH ry) hy 10 [(0, vr x0), (1, vi x1), (2, vi y2)] []) : ∀ (n : Nat) (x3 : Int32) (h : AH) (r : Int32 × AH), lf (fun _ _ => none) (BX9_canBe_17 N rec10 x0 x1 x2) n x3 h = some r → Zw K (eIH r) h 17 [(0, vr x0), (1, vi x1), (2, vi x2), (3, vi x3)] [] := by
  intro n
  induction n with
  | zero => intro x3 h r hr; cases hr
  | succ n ih => intro x3 h r hr; exact wX9_canBe_17B O N rec10 x0 x1 x2 (lf (fun _ _ => none) (BX9_canBe_17 N rec10 x0 x1 x2) n) hrec10 ih x3 h r hr
def bX9_canBe_101 (N : Nat) (rec66 : Int32 → Int32 → AH → Option (Int32 × AH)) (x0 : Option Nat) (x1 : Int32) (x3 : Int32) (s0 : Int32) (h : AH) : Option (Int32 × AH) :=
  (gR h f_Model_row x0).bind fun v1 =>
  (aI h 0 v1 x3).bind fun v2 =>
  (F_X9_before x0 v2 h).bind fun v3 =>
  if s0 < v3 then
    (gR h f_Model_soonYear x0).bind fun v4 =>
    (sA h 0 v4 x3 s0).bind fun h5 =>
    jlet (x3 + (1 : Int32)) fun v6 =>
    rec66 s0 v6 h5
  else
    (zb (0 : Int32)).bind fun v7 => some (v7, h)
theorem wX9_canBe_101 {K : ZC} (O : ZOk K cX9_canBe RX9 "canBe" 5 (some .boolean) 3 90) (N : Nat) (rec66 : Int32 → Int32 → AH → Option (Int32 × AH)) (x0 : Option Nat) (x1 : Int32) (x3 : Int32) (s0 : Int32) (h : AH) (hrec66 : ∀ (y2 : Int32) (y3 : Int32) (hy : AH) (ry : Int32 × AH), rec66 y2 y3 hy = some ry → Zw K (eIH ry) hy 66 [(0, vr x0), (1, vi x1), (2, vi y2), (3, vi y3)] []) (r : Int32 × AH) (hr : bX9_canBe_101 N rec66 x0 x1 x3 s0 h = some r) : Zw K (eIH r) h 101 [(0, vr x0), (1, vi x1), (3, vi x3)] [vi s0] := by
  unfold bX9_canBe_101 at hr
  refine z_istore_n O [(2, vi s0), (0, vr x0), (1, vi x1), (3, vi x3)] dX9_canBe_101 rfl (by decide) rfl ?_
  refine z_iload_n O 0 dX9_canBe_102 rfl rfl ?_
  refine z_aload_n O 1 dX9_canBe_103 rfl rfl ?_
  refine z_aload_n O 1 dX9_canBe_104 rfl rfl ?_
  refine z_getR O o_Model_row q1791 dX9_canBe_105 hr (fun v1 hr => ?_)
  refine z_iload_n O 3 dX9_canBe_108 rfl rfl ?_
  refine z_iaload O dX9_canBe_109 hr (fun v2 hr => ?_)
  refine bs hr (fun v3 hF hr => ?_)
  refine z_callV O [vi v2] (vi v3) fV_X9_before q2539 (fun l G => mX9_before l G x0 v2 h _ hF) (zck hF) rfl rfl ⟨Nat.le_of_ble_eq_true rfl, Nat.le_of_ble_eq_true rfl⟩ (Nat.le_of_ble_eq_true rfl) dX9_canBe_110 ?_
  refine z_icmp_lt (tgt := 118) O dX9_canBe_113 (by decide) hr (fun hr => ?_) (fun hr => ?_)
  · refine z_aload_n O 1 dX9_canBe_118 rfl rfl ?_
    refine z_getR O o_Model_soonYear q1795 dX9_canBe_119 hr (fun v4 hr => ?_)
    refine z_iload_n O 3 dX9_canBe_122 rfl rfl ?_
    refine z_iload_n O 0 dX9_canBe_123 rfl rfl ?_
    refine z_iastore O dX9_canBe_124 hr (fun h5 hr => ?_)
    refine z_iincL O 3 (fun v6 => [(3, vi v6), (2, vi s0), (0, vr x0), (1, vi x1)]) dX9_canBe_125 rfl rfl (by decide) (fun _ => rfl) hr (fun v6 hr => ?_)
    refine z_goto (tgt := 66) O dX9_canBe_128 (by decide) ?_
    refine z_sub [2, 3, 1, 0] rfl ?_
    exact hrec66 s0 v6 h5 _ hr
  · refine z_iconst O dX9_canBe_116 kic_0 ?_
    refine bs hr (fun v7 e0 hr => ?_)
    obtain ⟨e1, e2, -⟩ := zb_spec e0
    exact z_zret O e2 dX9_canBe_117 (by cases hr; cases e1; rfl)
def BX9_canBe_144 (N : Nat) (x0 : Option Nat) (rec144 : Int32 → Int32 → AH → Option (Int32 × AH)) : Int32 → Int32 → AH → Option (Int32 × AH) := fun x2 x3 h =>
  if x3 < 0 then
    (zb (1 : Int32)).bind fun v1 => some (v1, h)
  else
    (gR h f_Model_row x0).bind fun v2 =>
    (aI h 0 v2 x3).bind fun v3 =>
    (F_X9_before x0 v3 h).bind fun v4 =>
    (F_X9_least x2 v4).bind fun v5 =>
    jlet (v5 - (1 : Int32)) fun v6 =>
    (gR h f_Model_lateYear x0).bind fun v7 =>
    (sA h 0 v7 x3 v6).bind fun h8 =>
    jlet (x3 + (-1 : Int32)) fun v9 =>
    rec144 v6 v9 h8
def LX9_canBe_144 (N : Nat) (x0 : Option Nat) : Int32 → Int32 → AH → Option (Int32 × AH) := lf (fun _ _ _ => none) (BX9_canBe_144 N x0) N
theorem wX9_canBe_144B {K : ZC} (O : ZOk K cX9_canBe RX9 "canBe" 5 (some .boolean) 3 90) (N : Nat) (x0 : Option Nat) (rec144 : Int32 → Int32 → AH → Option (Int32 × AH)) (hrec144 : ∀ (y2 : Int32) (y3 : Int32) (hy : AH) (ry : Int32 × AH), rec144 y2 y3 hy = some ry → Zw K (eIH ry) hy 144 [(0, vr x0), (2, vi y2), (3, vi y3)] []) (x2 : Int32) (x3 : Int32) (h : AH) (r : Int32 × AH) (hr : BX9_canBe_144 N x0 rec144 x2 x3 h = some r) : Zw K (eIH r) h 144 [(0, vr x0), (2, vi x2), (3, vi x3)] [] := by
  unfold BX9_canBe_144 at hr
  refine z_iload_n O 2 dX9_canBe_144 rfl rfl ?_
  refine z_if_lt (tgt := 178) O dX9_canBe_145 (by decide) hr (fun hr => ?_) (fun hr => ?_)
  · refine z_iconst O dX9_canBe_178 kic_1 ?_
    refine bs hr (fun v1 e0 hr => ?_)
    obtain ⟨e1, e2, -⟩ := zb_spec e0
    exact z_zret O e2 dX9_canBe_179 (by cases hr; cases e1; rfl)
  · refine z_iload_n O 1 dX9_canBe_148 rfl rfl ?_
    refine z_aload_n O 0 dX9_canBe_149 rfl rfl ?_
    refine z_aload_n O 0 dX9_canBe_150 rfl rfl ?_
    refine z_getR O o_Model_row q1791 dX9_canBe_151 hr (fun v2 hr => ?_)
    refine z_iload_n O 2 dX9_canBe_154 rfl rfl ?_
    refine z_iaload O dX9_canBe_155 hr (fun v3 hr => ?_)
    refine bs hr (fun v4 hF hr => ?_)
    refine z_callV O [vi v3] (vi v4) fV_X9_before q2539 (fun l G => mX9_before l G x0 v3 h _ hF) (zck hF) rfl rfl ⟨Nat.le_of_ble_eq_true rfl, Nat.le_of_ble_eq_true rfl⟩ (Nat.le_of_ble_eq_true rfl) dX9_canBe_156 ?_
    refine bs hr (fun v5 hF hr => ?_)
    refine z_callS O [vi x2, vi v4] (vi v5) fS_X9_least q2409 (fun l G => mX9_least l G x2 v4 h _ hF) rfl ⟨Nat.le_of_ble_eq_true rfl, Nat.le_of_ble_eq_true rfl⟩ (Nat.le_of_ble_eq_true rfl) dX9_canBe_159 ?_
    refine z_iconst O dX9_canBe_162 kic_1 ?_
    refine z_isub O dX9_canBe_163 ?_
    refine z_letI hr (fun v6 hr => ?_)
    refine z_istore_n O [(2, vi v6), (0, vr x0), (3, vi x3)] dX9_canBe_164 rfl (by decide) rfl ?_
    refine z_aload_n O 1 dX9_canBe_165 rfl rfl ?_
    refine z_getR O o_Model_lateYear q1796 dX9_canBe_166 hr (fun v7 hr => ?_)
    refine z_iload_n O 2 dX9_canBe_169 rfl rfl ?_
    refine z_iload_n O 0 dX9_canBe_170 rfl rfl ?_
    refine z_iastore O dX9_canBe_171 hr (fun h8 hr => ?_)
    refine z_iincL O 2 (fun v9 => [(3, vi v9), (2, vi v6), (0, vr x0)]) dX9_canBe_172 rfl rfl (by decide) (fun _ => rfl) hr (fun v9 hr => ?_)
    refine z_goto (tgt := 144) O dX9_canBe_175 (by decide) ?_
    refine z_sub [2, 1, 0] rfl ?_
    exact hrec144 v6 v9 h8 _ hr
theorem wX9_canBe_144 {K : ZC} (O : ZOk K cX9_canBe RX9 "canBe" 5 (some .boolean) 3 90) (N : Nat) (x0 : Option Nat) : ∀ (n : Nat) (x2 : Int32) (x3 : Int32) (h : AH) (r : Int32 × AH), lf (fun _ _ _ => none) (BX9_canBe_144 N x0) n x2 x3 h = some r → Zw K (eIH r) h 144 [(0, vr x0), (2, vi x2), (3, vi x3)] [] := by
  intro n
  induction n with
  | zero => intro x2 x3 h r hr; cases hr
  | succ n ih => intro x2 x3 h r hr; exact wX9_canBe_144B O N x0 (lf (fun _ _ _ => none) (BX9_canBe_144 N x0) n)  ih x2 x3 h r hr
def BX9_canBe_66 (N : Nat) (x0 : Option Nat) (x1 : Int32) (rec66 : Int32 → Int32 → AH → Option (Int32 × AH)) : Int32 → Int32 → AH → Option (Int32 × AH) := fun x2 x3 h =>
  if x1 ≤ x3 then
    (gR h f_Model_v x0).bind fun v1 =>
    (aI h 0 v1 (210 : Int32)).bind fun v2 =>
    jlet (x1 - (1 : Int32)) fun v3 =>
    LX9_canBe_144 N x0 v2 v3 h
  else
    (gR h f_Model_land x0).bind fun v4 =>
    (gR h f_MLand_coin v4).bind fun v5 =>
    (gR h f_Model_row x0).bind fun v6 =>
    (aI h 0 v6 x3).bind fun v7 =>
    (aI h 0 v5 v7).bind fun v8 =>
    if v8 ≤ x2 then
      bX9_canBe_101 N rec66 x0 x1 x3 (x2 + (1 : Int32)) h
    else
      bX9_canBe_101 N rec66 x0 x1 x3 v8 h
def LX9_canBe_66 (N : Nat) (x0 : Option Nat) (x1 : Int32) : Int32 → Int32 → AH → Option (Int32 × AH) := lf (fun _ _ _ => none) (BX9_canBe_66 N x0 x1) N
theorem wX9_canBe_66B {K : ZC} (O : ZOk K cX9_canBe RX9 "canBe" 5 (some .boolean) 3 90) (N : Nat) (x0 : Option Nat) (x1 : Int32) (rec66 : Int32 → Int32 → AH → Option (Int32 × AH)) (hrec66 : ∀ (y2 : Int32) (y3 : Int32) (hy : AH) (ry : Int32 × AH), rec66 y2 y3 hy = some ry → Zw K (eIH ry) hy 66 [(0, vr x0), (1, vi x1), (2, vi y2), (3, vi y3)] []) (x2 : Int32) (x3 : Int32) (h : AH) (r : Int32 × AH) (hr : BX9_canBe_66 N x0 x1 rec66 x2 x3 h = some r) : Zw K (eIH r) h 66 [(0, vr x0), (1, vi x1), (2, vi x2), (3, vi x3)] [] := by
  unfold BX9_canBe_66 at hr
  refine z_iload_n O 3 dX9_canBe_66 rfl rfl ?_
  refine z_iload_n O 1 dX9_canBe_67 rfl rfl ?_
  refine z_icmp_ge (tgt := 131) O dX9_canBe_68 (by decide) hr (fun hr => ?_) (fun hr => ?_)
  · refine z_aload_n O 0 dX9_canBe_131 rfl rfl ?_
    refine z_getR O o_Model_v q1778 dX9_canBe_132 hr (fun v1 hr => ?_)
    refine z_sipush O dX9_canBe_135 ksi_210 ?_
    refine z_iaload O dX9_canBe_138 hr (fun v2 hr => ?_)
    refine z_istore_n O [(2, vi v2), (0, vr x0), (1, vi x1), (3, vi x3)] dX9_canBe_139 rfl (by decide) rfl ?_
    refine z_iload_n O 2 dX9_canBe_140 rfl rfl ?_
    refine z_iconst O dX9_canBe_141 kic_1 ?_
    refine z_isub O dX9_canBe_142 ?_
    refine z_letI hr (fun v3 hr => ?_)
    refine z_istore_n O [(3, vi v3), (2, vi v2), (0, vr x0), (1, vi x1)] dX9_canBe_143 rfl (by decide) rfl ?_
    refine z_sub [2, 1, 0] rfl ?_
    exact wX9_canBe_144 O N x0 _ v2 v3 h _ hr
  · refine z_aload_n O 0 dX9_canBe_71 rfl rfl ?_
    refine z_getR O o_Model_land q1765 dX9_canBe_72 hr (fun v4 hr => ?_)
    refine z_getRN O o_MLand_coin zn1936 dX9_canBe_75 hr (fun v5 hr => ?_)
    refine z_aload_n O 0 dX9_canBe_78 rfl rfl ?_
    refine z_getR O o_Model_row q1791 dX9_canBe_79 hr (fun v6 hr => ?_)
    refine z_iload_n O 3 dX9_canBe_82 rfl rfl ?_
    refine z_iaload O dX9_canBe_83 hr (fun v7 hr => ?_)
    refine z_iaload O dX9_canBe_84 hr (fun v8 hr => ?_)
    refine z_istore O [(4, vi v8), (0, vr x0), (1, vi x1), (2, vi x2), (3, vi x3)] dX9_canBe_85 (by decide) rfl ?_
    refine z_iload O 0 dX9_canBe_87 rfl ?_
    refine z_iload_n O 3 dX9_canBe_89 rfl rfl ?_
    refine z_icmp_le (tgt := 98) O dX9_canBe_90 (by decide) hr (fun hr => ?_) (fun hr => ?_)
    · refine z_iload_n O 3 dX9_canBe_98 rfl rfl ?_
      refine z_iconst O dX9_canBe_99 kic_1 ?_
      refine z_iadd O dX9_canBe_100 ?_
      refine z_sub [1, 2, 4] rfl ?_
      exact wX9_canBe_101 O N rec66 x0 x1 x3 (x2 + (1 : Int32)) h hrec66 _ hr
    · refine z_iload O 0 dX9_canBe_93 rfl ?_
      refine z_goto (tgt := 101) O dX9_canBe_95 (by decide) ?_
      refine z_sub [1, 2, 4] rfl ?_
      exact wX9_canBe_101 O N rec66 x0 x1 x3 v8 h hrec66 _ hr
theorem wX9_canBe_66 {K : ZC} (O : ZOk K cX9_canBe RX9 "canBe" 5 (some .boolean) 3 90) (N : Nat) (x0 : Option Nat) (x1 : Int32) : ∀ (n : Nat) (x2 : Int32) (x3 : Int32) (h : AH) (r : Int32 × AH), lf (fun _ _ _ => none) (BX9_canBe_66 N x0 x1) n x2 x3 h = some r → Zw K (eIH r) h 66 [(0, vr x0), (1, vi x1), (2, vi x2), (3, vi x3)] [] := by
  intro n
  induction n with
  | zero => intro x2 x3 h r hr; cases hr
  | succ n ih => intro x2 x3 h r hr; exact wX9_canBe_66B O N x0 x1 (lf (fun _ _ _ => none) (BX9_canBe_66 N x0 x1) n)  ih x2 x3 h r hr
def BX9_canBe_10 (N : Nat) (x0 : Option Nat) (x1 : Int32) (rec10 : Int32 → AH → Option (Int32 × AH)) : Int32 → AH → Option (Int32 × AH) := fun x2 h =>
  if x1 ≤ x2 then
    LX9_canBe_66 N x0 x1 (-1 : Int32) (0 : Int32) h
  else
    LX9_canBe_17 N rec10 x0 x1 x2 (0 : Int32) h
def LX9_canBe_10 (N : Nat) (x0 : Option Nat) (x1 : Int32) : Int32 → AH → Option (Int32 × AH) := lf (fun _ _ => none) (BX9_canBe_10 N x0 x1) N
theorem wX9_canBe_10B {K : ZC} (O : ZOk K cX9_canBe RX9 "canBe" 5 (some .boolean) 3 90) (N : Nat) (x0 : Option Nat) (x1 : Int32) (rec10 : Int32 → AH → Option (Int32 × AH)) (hrec10 : ∀ (y2 : Int32) (hy : AH) (ry : Int32 × AH), rec10 y2 hy = some ry → Zw K (eIH ry) hy 10 [(0, vr x0), (1, vi x1), (2, vi y2)] []) (x2 : Int32) (h : AH) (r : Int32 × AH) (hr : BX9_canBe_10 N x0 x1 rec10 x2 h = some r) : Zw K (eIH r) h 10 [(0, vr x0), (1, vi x1), (2, vi x2)] [] := by
  unfold BX9_canBe_10 at hr
  refine z_iload_n O 2 dX9_canBe_10 rfl rfl ?_
  refine z_iload_n O 1 dX9_canBe_11 rfl rfl ?_
  refine z_icmp_ge (tgt := 62) O dX9_canBe_12 (by decide) hr (fun hr => ?_) (fun hr => ?_)
  · refine z_iconst O dX9_canBe_62 kic_m1 ?_
    refine z_istore_n O [(2, vi (-1 : Int32)), (0, vr x0), (1, vi x1)] dX9_canBe_63 rfl (by decide) rfl ?_
    refine z_iconst O dX9_canBe_64 kic_0 ?_
    refine z_istore_n O [(3, vi (0 : Int32)), (2, vi (-1 : Int32)), (0, vr x0), (1, vi x1)] dX9_canBe_65 rfl (by decide) rfl ?_
    refine z_sub [2, 3, 1, 0] rfl ?_
    exact wX9_canBe_66 O N x0 x1 _ (-1 : Int32) (0 : Int32) h _ hr
  · refine z_iconst O dX9_canBe_15 kic_0 ?_
    refine z_istore_n O [(3, vi (0 : Int32)), (0, vr x0), (1, vi x1), (2, vi x2)] dX9_canBe_16 rfl (by decide) rfl ?_
    refine z_sub [1, 2, 3, 0] rfl ?_
    exact wX9_canBe_17 O N rec10 x0 x1 x2 hrec10 _ (0 : Int32) h _ hr
theorem wX9_canBe_10 {K : ZC} (O : ZOk K cX9_canBe RX9 "canBe" 5 (some .boolean) 3 90) (N : Nat) (x0 : Option Nat) (x1 : Int32) : ∀ (n : Nat) (x2 : Int32) (h : AH) (r : Int32 × AH), lf (fun _ _ => none) (BX9_canBe_10 N x0 x1) n x2 h = some r → Zw K (eIH r) h 10 [(0, vr x0), (1, vi x1), (2, vi x2)] [] := by
  intro n
  induction n with
  | zero => intro x2 h r hr; cases hr
  | succ n ih => intro x2 h r hr; exact wX9_canBe_10B O N x0 x1 (lf (fun _ _ => none) (BX9_canBe_10 N x0 x1) n)  ih x2 h r hr
def F_X9_canBe (N : Nat) (x0 : Option Nat) (h : AH) : Option (Int32 × AH) :=
  (ck h [9] x0).bind fun _ =>
  (gR h f_Model_land x0).bind fun v1 =>
  (gI h f_MLand_walls v1).bind fun v2 =>
  LX9_canBe_10 N x0 v2 (0 : Int32) h
theorem mX9_canBe (l : Launch) (G : ZG) (N : Nat) (x0 : Option Nat) (h : AH) (r : Int32 × AH) (hr : F_X9_canBe N x0 h = some r) : MZ l G yX9_canBe cX9_canBe 5 (some .boolean) 3 90 [vr x0] h (eIH r) := by
  unfold F_X9_canBe at hr
  refine MZ.of (by decide) [(0, vr x0)] rfl (Nat.le_of_ble_eq_true rfl) (fun K O => ?_)
  have O : ZOk K cX9_canBe RX9 "canBe" 5 (some .boolean) 3 90 := O
  refine bs hr (fun _ hck hr => ?_)
  refine z_aload_n O 0 dX9_canBe_0 rfl rfl ?_
  refine z_getR O o_Model_land q1765 dX9_canBe_1 hr (fun v1 hr => ?_)
  refine z_getIN O o_MLand_walls zn1909 dX9_canBe_4 hr (fun v2 hr => ?_)
  refine z_istore_n O [(1, vi v2), (0, vr x0)] dX9_canBe_7 rfl (by decide) rfl ?_
  refine z_iconst O dX9_canBe_8 kic_0 ?_
  refine z_istore_n O [(2, vi (0 : Int32)), (1, vi v2), (0, vr x0)] dX9_canBe_9 rfl (by decide) rfl ?_
  refine z_sub [2, 1, 0] rfl ?_
  exact wX9_canBe_10 O N x0 v2 _ (0 : Int32) h _ hr
theorem fV_X9_findsOrders : CVf RX9 yX9_findsOrders cX9_findsOrders 6 (none : Option Jvm.ClassFile.FieldType) 1 := ⟨q2533, qs118, q137, q2534, ⟨⟨by decide +kernel, by decide +kernel⟩, by decide +kernel⟩⟩
def bX9_findsOrders_192 (N : Nat) (rec52 : Int32 → AH → Option (AH)) (rec68 : Int32 → Int32 → AH → Option (AH)) (x0 : Option Nat) (x1 : Int32) (x3 : Int32) (x4 : Int32) (x5 : Int32) (h : AH) : Option (AH) :=
  (gR h f_Model_ahead x0).bind fun v1 =>
  (aI h 0 v1 x5).bind fun v2 =>
  (sA h 0 v1 x5 (v2 &&& x3)).bind fun h3 =>
  jlet (x3 ||| ((1 : Int32) <<< (x5 &&& 31))) fun v4 =>
  jlet (x4 + (1 : Int32)) fun v5 =>
  rec68 v4 v5 h3
theorem wX9_findsOrders_192 {K : ZC} (O : ZOk K cX9_findsOrders RX9 "findsOrders" 6 (none : Option Jvm.ClassFile.FieldType) 4 114) (N : Nat) (rec52 : Int32 → AH → Option (AH)) (rec68 : Int32 → Int32 → AH → Option (AH)) (x0 : Option Nat) (x1 : Int32) (x3 : Int32) (x4 : Int32) (x5 : Int32) (h : AH) (hrec52 : ∀ (y2 : Int32) (hy : AH) (ry : AH), rec52 y2 hy = some ry → Zw K (eH ry) hy 52 [(0, vr x0), (1, vi x1), (2, vi y2)] []) (hrec68 : ∀ (y3 : Int32) (y4 : Int32) (hy : AH) (ry : AH), rec68 y3 y4 hy = some ry → Zw K (eH ry) hy 68 [(0, vr x0), (1, vi x1), (3, vi y3), (4, vi y4)] []) (r : AH) (hr : bX9_findsOrders_192 N rec52 rec68 x0 x1 x3 x4 x5 h = some r) : Zw K (eH r) h 192 [(0, vr x0), (1, vi x1), (3, vi x3), (4, vi x4), (5, vi x5)] [] := by
  unfold bX9_findsOrders_192 at hr
  refine z_aload_n O 0 dX9_findsOrders_192 rfl rfl ?_
  refine z_getR O o_Model_ahead q1794 dX9_findsOrders_193 hr (fun v1 hr => ?_)
  refine z_iload O 4 dX9_findsOrders_196 rfl ?_
  refine z_dup2 O dX9_findsOrders_198 rfl rfl ?_
  refine z_iaload O dX9_findsOrders_199 hr (fun v2 hr => ?_)
  refine z_iload_n O 2 dX9_findsOrders_200 rfl rfl ?_
  refine z_iand O dX9_findsOrders_201 ?_
  refine z_iastore O dX9_findsOrders_202 hr (fun h3 hr => ?_)
  refine z_iload_n O 2 dX9_findsOrders_203 rfl rfl ?_
  refine z_iconst O dX9_findsOrders_204 kic_1 ?_
  refine z_iload O 4 dX9_findsOrders_205 rfl ?_
  refine z_ishl O dX9_findsOrders_207 ?_
  refine z_ior O dX9_findsOrders_208 ?_
  refine z_letI hr (fun v4 hr => ?_)
  refine z_istore_n O [(3, vi v4), (0, vr x0), (1, vi x1), (4, vi x4), (5, vi x5)] dX9_findsOrders_209 rfl (by decide) rfl ?_
  refine z_iincL O 3 (fun v5 => [(4, vi v5), (3, vi v4), (0, vr x0), (1, vi x1), (5, vi x5)]) dX9_findsOrders_210 rfl rfl (by decide) (fun _ => rfl) hr (fun v5 hr => ?_)
  refine z_goto (tgt := 68) O dX9_findsOrders_213 (by decide) ?_
  refine z_sub [2, 3, 1, 0] rfl ?_
  exact hrec68 v4 v5 h3 _ hr
def bX9_findsOrders_178 (N : Nat) (rec52 : Int32 → AH → Option (AH)) (rec68 : Int32 → Int32 → AH → Option (AH)) (x0 : Option Nat) (x1 : Int32) (x3 : Int32) (x4 : Int32) (x5 : Int32) (h : AH) : Option (AH) :=
  (gR h f_Model_latest x0).bind fun v1 =>
  (gR h f_Model_lateYear x0).bind fun v2 =>
  (aI h 0 v2 x4).bind fun v3 =>
  (sA h 0 v1 x5 v3).bind fun h4 =>
  bX9_findsOrders_192 N rec52 rec68 x0 x1 x3 x4 x5 h4
theorem wX9_findsOrders_178 {K : ZC} (O : ZOk K cX9_findsOrders RX9 "findsOrders" 6 (none : Option Jvm.ClassFile.FieldType) 4 114) (N : Nat) (rec52 : Int32 → AH → Option (AH)) (rec68 : Int32 → Int32 → AH → Option (AH)) (x0 : Option Nat) (x1 : Int32) (x3 : Int32) (x4 : Int32) (x5 : Int32) (h : AH) (hrec52 : ∀ (y2 : Int32) (hy : AH) (ry : AH), rec52 y2 hy = some ry → Zw K (eH ry) hy 52 [(0, vr x0), (1, vi x1), (2, vi y2)] []) (hrec68 : ∀ (y3 : Int32) (y4 : Int32) (hy : AH) (ry : AH), rec68 y3 y4 hy = some ry → Zw K (eH ry) hy 68 [(0, vr x0), (1, vi x1), (3, vi y3), (4, vi y4)] []) (r : AH) (hr : bX9_findsOrders_178 N rec52 rec68 x0 x1 x3 x4 x5 h = some r) : Zw K (eH r) h 178 [(0, vr x0), (1, vi x1), (3, vi x3), (4, vi x4), (5, vi x5)] [] := by
  unfold bX9_findsOrders_178 at hr
  refine z_aload_n O 0 dX9_findsOrders_178 rfl rfl ?_
  refine z_getR O o_Model_latest q1793 dX9_findsOrders_179 hr (fun v1 hr => ?_)
  refine z_iload O 4 dX9_findsOrders_182 rfl ?_
  refine z_aload_n O 0 dX9_findsOrders_184 rfl rfl ?_
  refine z_getR O o_Model_lateYear q1796 dX9_findsOrders_185 hr (fun v2 hr => ?_)
  refine z_iload O 3 dX9_findsOrders_188 rfl ?_
  refine z_iaload O dX9_findsOrders_190 hr (fun v3 hr => ?_)
  refine z_iastore O dX9_findsOrders_191 hr (fun h4 hr => ?_)
  exact wX9_findsOrders_192 O N rec52 rec68 x0 x1 x3 x4 x5 h4 hrec52 hrec68 _ hr
def bX9_findsOrders_149 (N : Nat) (rec52 : Int32 → AH → Option (AH)) (rec68 : Int32 → Int32 → AH → Option (AH)) (x0 : Option Nat) (x1 : Int32) (x3 : Int32) (x4 : Int32) (x5 : Int32) (h : AH) : Option (AH) :=
  (gR h f_Model_latest x0).bind fun v1 =>
  (aI h 0 v1 x5).bind fun v2 =>
  if v2 = (-2 : Int32) then
    bX9_findsOrders_178 N rec52 rec68 x0 x1 x3 x4 x5 h
  else
    (gR h f_Model_lateYear x0).bind fun v3 =>
    (aI h 0 v3 x4).bind fun v4 =>
    (gR h f_Model_latest x0).bind fun v5 =>
    (aI h 0 v5 x5).bind fun v6 =>
    if v4 ≤ v6 then
      bX9_findsOrders_192 N rec52 rec68 x0 x1 x3 x4 x5 h
    else
      bX9_findsOrders_178 N rec52 rec68 x0 x1 x3 x4 x5 h
theorem wX9_findsOrders_149 {K : ZC} (O : ZOk K cX9_findsOrders RX9 "findsOrders" 6 (none : Option Jvm.ClassFile.FieldType) 4 114) (N : Nat) (rec52 : Int32 → AH → Option (AH)) (rec68 : Int32 → Int32 → AH → Option (AH)) (x0 : Option Nat) (x1 : Int32) (x3 : Int32) (x4 : Int32) (x5 : Int32) (h : AH) (hrec52 : ∀ (y2 : Int32) (hy : AH) (ry : AH), rec52 y2 hy = some ry → Zw K (eH ry) hy 52 [(0, vr x0), (1, vi x1), (2, vi y2)] []) (hrec68 : ∀ (y3 : Int32) (y4 : Int32) (hy : AH) (ry : AH), rec68 y3 y4 hy = some ry → Zw K (eH ry) hy 68 [(0, vr x0), (1, vi x1), (3, vi y3), (4, vi y4)] []) (r : AH) (hr : bX9_findsOrders_149 N rec52 rec68 x0 x1 x3 x4 x5 h = some r) : Zw K (eH r) h 149 [(0, vr x0), (1, vi x1), (3, vi x3), (4, vi x4), (5, vi x5)] [] := by
  unfold bX9_findsOrders_149 at hr
  refine z_aload_n O 0 dX9_findsOrders_149 rfl rfl ?_
  refine z_getR O o_Model_latest q1793 dX9_findsOrders_150 hr (fun v1 hr => ?_)
  refine z_iload O 4 dX9_findsOrders_153 rfl ?_
  refine z_iaload O dX9_findsOrders_155 hr (fun v2 hr => ?_)
  refine z_bipush O dX9_findsOrders_156 kbi_m2 ?_
  refine z_icmp_eq (tgt := 178) O dX9_findsOrders_158 (by decide) hr (fun hr => ?_) (fun hr => ?_)
  · exact wX9_findsOrders_178 O N rec52 rec68 x0 x1 x3 x4 x5 h hrec52 hrec68 _ hr
  · refine z_aload_n O 0 dX9_findsOrders_161 rfl rfl ?_
    refine z_getR O o_Model_lateYear q1796 dX9_findsOrders_162 hr (fun v3 hr => ?_)
    refine z_iload O 3 dX9_findsOrders_165 rfl ?_
    refine z_iaload O dX9_findsOrders_167 hr (fun v4 hr => ?_)
    refine z_aload_n O 0 dX9_findsOrders_168 rfl rfl ?_
    refine z_getR O o_Model_latest q1793 dX9_findsOrders_169 hr (fun v5 hr => ?_)
    refine z_iload O 4 dX9_findsOrders_172 rfl ?_
    refine z_iaload O dX9_findsOrders_174 hr (fun v6 hr => ?_)
    refine z_icmp_le (tgt := 192) O dX9_findsOrders_175 (by decide) hr (fun hr => ?_) (fun hr => ?_)
    · exact wX9_findsOrders_192 O N rec52 rec68 x0 x1 x3 x4 x5 h hrec52 hrec68 _ hr
    · exact wX9_findsOrders_178 O N rec52 rec68 x0 x1 x3 x4 x5 h hrec52 hrec68 _ hr
def bX9_findsOrders_135 (N : Nat) (rec52 : Int32 → AH → Option (AH)) (rec68 : Int32 → Int32 → AH → Option (AH)) (x0 : Option Nat) (x1 : Int32) (x3 : Int32) (x4 : Int32) (x5 : Int32) (h : AH) : Option (AH) :=
  (gR h f_Model_soonest x0).bind fun v1 =>
  (gR h f_Model_soonYear x0).bind fun v2 =>
  (aI h 0 v2 x4).bind fun v3 =>
  (sA h 0 v1 x5 v3).bind fun h4 =>
  bX9_findsOrders_149 N rec52 rec68 x0 x1 x3 x4 x5 h4
theorem wX9_findsOrders_135 {K : ZC} (O : ZOk K cX9_findsOrders RX9 "findsOrders" 6 (none : Option Jvm.ClassFile.FieldType) 4 114) (N : Nat) (rec52 : Int32 → AH → Option (AH)) (rec68 : Int32 → Int32 → AH → Option (AH)) (x0 : Option Nat) (x1 : Int32) (x3 : Int32) (x4 : Int32) (x5 : Int32) (h : AH) (hrec52 : ∀ (y2 : Int32) (hy : AH) (ry : AH), rec52 y2 hy = some ry → Zw K (eH ry) hy 52 [(0, vr x0), (1, vi x1), (2, vi y2)] []) (hrec68 : ∀ (y3 : Int32) (y4 : Int32) (hy : AH) (ry : AH), rec68 y3 y4 hy = some ry → Zw K (eH ry) hy 68 [(0, vr x0), (1, vi x1), (3, vi y3), (4, vi y4)] []) (r : AH) (hr : bX9_findsOrders_135 N rec52 rec68 x0 x1 x3 x4 x5 h = some r) : Zw K (eH r) h 135 [(0, vr x0), (1, vi x1), (3, vi x3), (4, vi x4), (5, vi x5)] [] := by
  unfold bX9_findsOrders_135 at hr
  refine z_aload_n O 0 dX9_findsOrders_135 rfl rfl ?_
  refine z_getR O o_Model_soonest q1792 dX9_findsOrders_136 hr (fun v1 hr => ?_)
  refine z_iload O 4 dX9_findsOrders_139 rfl ?_
  refine z_aload_n O 0 dX9_findsOrders_141 rfl rfl ?_
  refine z_getR O o_Model_soonYear q1795 dX9_findsOrders_142 hr (fun v2 hr => ?_)
  refine z_iload O 3 dX9_findsOrders_145 rfl ?_
  refine z_iaload O dX9_findsOrders_147 hr (fun v3 hr => ?_)
  refine z_iastore O dX9_findsOrders_148 hr (fun h4 hr => ?_)
  exact wX9_findsOrders_149 O N rec52 rec68 x0 x1 x3 x4 x5 h4 hrec52 hrec68 _ hr
def bX9_findsOrders_106 (N : Nat) (rec52 : Int32 → AH → Option (AH)) (rec68 : Int32 → Int32 → AH → Option (AH)) (x0 : Option Nat) (x1 : Int32) (x3 : Int32) (x4 : Int32) (x5 : Int32) (h : AH) : Option (AH) :=
  (gR h f_Model_soonest x0).bind fun v1 =>
  (aI h 0 v1 x5).bind fun v2 =>
  if v2 = (-2 : Int32) then
    bX9_findsOrders_135 N rec52 rec68 x0 x1 x3 x4 x5 h
  else
    (gR h f_Model_soonYear x0).bind fun v3 =>
    (aI h 0 v3 x4).bind fun v4 =>
    (gR h f_Model_soonest x0).bind fun v5 =>
    (aI h 0 v5 x5).bind fun v6 =>
    if v6 ≤ v4 then
      bX9_findsOrders_149 N rec52 rec68 x0 x1 x3 x4 x5 h
    else
      bX9_findsOrders_135 N rec52 rec68 x0 x1 x3 x4 x5 h
theorem wX9_findsOrders_106 {K : ZC} (O : ZOk K cX9_findsOrders RX9 "findsOrders" 6 (none : Option Jvm.ClassFile.FieldType) 4 114) (N : Nat) (rec52 : Int32 → AH → Option (AH)) (rec68 : Int32 → Int32 → AH → Option (AH)) (x0 : Option Nat) (x1 : Int32) (x3 : Int32) (x4 : Int32) (x5 : Int32) (h : AH) (hrec52 : ∀ (y2 : Int32) (hy : AH) (ry : AH), rec52 y2 hy = some ry → Zw K (eH ry) hy 52 [(0, vr x0), (1, vi x1), (2, vi y2)] []) (hrec68 : ∀ (y3 : Int32) (y4 : Int32) (hy : AH) (ry : AH), rec68 y3 y4 hy = some ry → Zw K (eH ry) hy 68 [(0, vr x0), (1, vi x1), (3, vi y3), (4, vi y4)] []) (r : AH) (hr : bX9_findsOrders_106 N rec52 rec68 x0 x1 x3 x4 x5 h = some r) : Zw K (eH r) h 106 [(0, vr x0), (1, vi x1), (3, vi x3), (4, vi x4), (5, vi x5)] [] := by
  unfold bX9_findsOrders_106 at hr
  refine z_aload_n O 0 dX9_findsOrders_106 rfl rfl ?_
  refine z_getR O o_Model_soonest q1792 dX9_findsOrders_107 hr (fun v1 hr => ?_)
  refine z_iload O 4 dX9_findsOrders_110 rfl ?_
  refine z_iaload O dX9_findsOrders_112 hr (fun v2 hr => ?_)
  refine z_bipush O dX9_findsOrders_113 kbi_m2 ?_
  refine z_icmp_eq (tgt := 135) O dX9_findsOrders_115 (by decide) hr (fun hr => ?_) (fun hr => ?_)
  · exact wX9_findsOrders_135 O N rec52 rec68 x0 x1 x3 x4 x5 h hrec52 hrec68 _ hr
  · refine z_aload_n O 0 dX9_findsOrders_118 rfl rfl ?_
    refine z_getR O o_Model_soonYear q1795 dX9_findsOrders_119 hr (fun v3 hr => ?_)
    refine z_iload O 3 dX9_findsOrders_122 rfl ?_
    refine z_iaload O dX9_findsOrders_124 hr (fun v4 hr => ?_)
    refine z_aload_n O 0 dX9_findsOrders_125 rfl rfl ?_
    refine z_getR O o_Model_soonest q1792 dX9_findsOrders_126 hr (fun v5 hr => ?_)
    refine z_iload O 4 dX9_findsOrders_129 rfl ?_
    refine z_iaload O dX9_findsOrders_131 hr (fun v6 hr => ?_)
    refine z_icmp_ge (tgt := 149) O dX9_findsOrders_132 (by decide) hr (fun hr => ?_) (fun hr => ?_)
    · exact wX9_findsOrders_149 O N rec52 rec68 x0 x1 x3 x4 x5 h hrec52 hrec68 _ hr
    · exact wX9_findsOrders_135 O N rec52 rec68 x0 x1 x3 x4 x5 h hrec52 hrec68 _ hr
def bX9_findsOrders_226 (N : Nat) (rec52 : Int32 → AH → Option (AH)) (x0 : Option Nat) (x1 : Int32) (h : AH) : Option (AH) :=
  (gR h f_Model_row x0).bind fun v1 =>
  (gR h f_Model_land x0).bind fun v2 =>
  (gI h f_MLand_walls v2).bind fun v3 =>
  b2 (F_X9_turns N v1 v3 h) fun v5 h4 =>
  rec52 v5 h4
theorem wX9_findsOrders_226 {K : ZC} (O : ZOk K cX9_findsOrders RX9 "findsOrders" 6 (none : Option Jvm.ClassFile.FieldType) 4 114) (N : Nat) (rec52 : Int32 → AH → Option (AH)) (x0 : Option Nat) (x1 : Int32) (h : AH) (hrec52 : ∀ (y2 : Int32) (hy : AH) (ry : AH), rec52 y2 hy = some ry → Zw K (eH ry) hy 52 [(0, vr x0), (1, vi x1), (2, vi y2)] []) (r : AH) (hr : bX9_findsOrders_226 N rec52 x0 x1 h = some r) : Zw K (eH r) h 226 [(0, vr x0), (1, vi x1)] [] := by
  unfold bX9_findsOrders_226 at hr
  refine z_aload_n O 0 dX9_findsOrders_226 rfl rfl ?_
  refine z_getR O o_Model_row q1791 dX9_findsOrders_227 hr (fun v1 hr => ?_)
  refine z_aload_n O 0 dX9_findsOrders_230 rfl rfl ?_
  refine z_getR O o_Model_land q1765 dX9_findsOrders_231 hr (fun v2 hr => ?_)
  refine z_getIN O o_MLand_walls zn1909 dX9_findsOrders_234 hr (fun v3 hr => ?_)
  refine b2s hr (fun v5 h4 hF hr => ?_)
  refine z_callS O [vr v1, vi v3] (vi v5) fS_X9_turns q2492 (fun l G => mX9_turns l G N v1 v3 h _ hF) rfl ⟨Nat.le_of_ble_eq_true rfl, Nat.le_of_ble_eq_true rfl⟩ (Nat.le_of_ble_eq_true rfl) dX9_findsOrders_237 ?_
  refine z_istore_n O [(2, vi v5), (0, vr x0), (1, vi x1)] dX9_findsOrders_240 rfl (by decide) rfl ?_
  refine z_goto (tgt := 52) O dX9_findsOrders_241 (by decide) ?_
  refine z_sub [1, 2, 0] rfl ?_
  exact hrec52 v5 h4 _ hr
def BX9_findsOrders_68 (N : Nat) (rec52 : Int32 → AH → Option (AH)) (x0 : Option Nat) (x1 : Int32) (rec68 : Int32 → Int32 → AH → Option (AH)) : Int32 → Int32 → AH → Option (AH) := fun x3 x4 h =>
  (gR h f_Model_land x0).bind fun v1 =>
  (gI h f_MLand_walls v1).bind fun v2 =>
  if v2 ≤ x4 then
    (gI h f_Model_many x0).bind fun v3 =>
    (pI h f_Model_many x0 (v3 + (1 : Int32))).bind fun h4 =>
    bX9_findsOrders_226 N rec52 x0 x1 h4
  else
    (gR h f_Model_row x0).bind fun v5 =>
    (aI h 0 v5 x4).bind fun v6 =>
    (gI h f_Model_many x0).bind fun v7 =>
    if v7 = x1 then
      (gR h f_Model_wanted x0).bind fun v8 =>
      (sA h 0 v8 x4 v6).bind fun h9 =>
      bX9_findsOrders_106 N rec52 rec68 x0 x1 x3 x4 v6 h9
    else
      bX9_findsOrders_106 N rec52 rec68 x0 x1 x3 x4 v6 h
def LX9_findsOrders_68 (N : Nat) (rec52 : Int32 → AH → Option (AH)) (x0 : Option Nat) (x1 : Int32) : Int32 → Int32 → AH → Option (AH) := lf (fun _ _ _ => none) (BX9_findsOrders_68 N rec52 x0 x1) N
theorem wX9_findsOrders_68B {K : ZC} (O : ZOk K cX9_findsOrders RX9 "findsOrders" 6 (none : Option Jvm.ClassFile.FieldType) 4 114) (N : Nat) (rec52 : Int32 → AH → Option (AH)) (x0 : Option Nat) (x1 : Int32) (rec68 : Int32 → Int32 → AH → Option (AH)) (hrec52 : ∀ (y2 : Int32) (hy : AH) (ry : AH), rec52 y2 hy = some ry → Zw K (eH ry) hy 52 [(0, vr x0), (1, vi x1), (2, vi y2)] []) (hrec68 : ∀ (y3 : Int32) (y4 : Int32) (hy : AH) (ry : AH), rec68 y3 y4 hy = some ry → Zw K (eH ry) hy 68 [(0, vr x0), (1, vi x1), (3, vi y3), (4, vi y4)] []) (x3 : Int32) (x4 : Int32) (h : AH) (r : AH) (hr : BX9_findsOrders_68 N rec52 x0 x1 rec68 x3 x4 h = some r) : Zw K (eH r) h 68 [(0, vr x0), (1, vi x1), (3, vi x3), (4, vi x4)] [] := by
  unfold BX9_findsOrders_68 at hr
  refine z_iload O 3 dX9_findsOrders_68 rfl ?_
  refine z_aload_n O 0 dX9_findsOrders_70 rfl rfl ?_
  refine z_getR O o_Model_land q1765 dX9_findsOrders_71 hr (fun v1 hr => ?_)
  refine z_getIN O o_MLand_walls zn1909 dX9_findsOrders_74 hr (fun v2 hr => ?_)
  refine z_icmp_ge (tgt := 216) O dX9_findsOrders_77 (by decide) hr (fun hr => ?_) (fun hr => ?_)
  · refine z_aload_n O 0 dX9_findsOrders_216 rfl rfl ?_
    refine z_dup O dX9_findsOrders_217 rfl ?_
    refine z_getI O o_Model_many q1798 dX9_findsOrders_218 hr (fun v3 hr => ?_)
    refine z_iconst O dX9_findsOrders_221 kic_1 ?_
    refine z_iadd O dX9_findsOrders_222 ?_
    refine z_putI O o_Model_many (w_Model_many _) q1798 dX9_findsOrders_223 hr (fun h4 hr => ?_)
    refine z_sub [0, 1] rfl ?_
    exact wX9_findsOrders_226 O N rec52 x0 x1 h4 hrec52 _ hr
  · refine z_aload_n O 0 dX9_findsOrders_80 rfl rfl ?_
    refine z_getR O o_Model_row q1791 dX9_findsOrders_81 hr (fun v5 hr => ?_)
    refine z_iload O 3 dX9_findsOrders_84 rfl ?_
    refine z_iaload O dX9_findsOrders_86 hr (fun v6 hr => ?_)
    refine z_istore O [(5, vi v6), (0, vr x0), (1, vi x1), (3, vi x3), (4, vi x4)] dX9_findsOrders_87 (by decide) rfl ?_
    refine z_aload_n O 1 dX9_findsOrders_89 rfl rfl ?_
    refine z_getI O o_Model_many q1798 dX9_findsOrders_90 hr (fun v7 hr => ?_)
    refine z_iload_n O 2 dX9_findsOrders_93 rfl rfl ?_
    refine z_icmp_ne (tgt := 106) O dX9_findsOrders_94 (by decide) hr (fun hr => ?_) (fun hr => ?_)
    · refine z_aload_n O 1 dX9_findsOrders_97 rfl rfl ?_
      refine z_getR O o_Model_wanted q1797 dX9_findsOrders_98 hr (fun v8 hr => ?_)
      refine z_iload O 4 dX9_findsOrders_101 rfl ?_
      refine z_iload O 0 dX9_findsOrders_103 rfl ?_
      refine z_iastore O dX9_findsOrders_105 hr (fun h9 hr => ?_)
      refine z_sub [1, 2, 3, 4, 0] rfl ?_
      exact wX9_findsOrders_106 O N rec52 rec68 x0 x1 x3 x4 v6 h9 hrec52 hrec68 _ hr
    · refine z_sub [1, 2, 3, 4, 0] rfl ?_
      exact wX9_findsOrders_106 O N rec52 rec68 x0 x1 x3 x4 v6 h hrec52 hrec68 _ hr
theorem wX9_findsOrders_68 {K : ZC} (O : ZOk K cX9_findsOrders RX9 "findsOrders" 6 (none : Option Jvm.ClassFile.FieldType) 4 114) (N : Nat) (rec52 : Int32 → AH → Option (AH)) (x0 : Option Nat) (x1 : Int32) (hrec52 : ∀ (y2 : Int32) (hy : AH) (ry : AH), rec52 y2 hy = some ry → Zw K (eH ry) hy 52 [(0, vr x0), (1, vi x1), (2, vi y2)] []) : ∀ (n : Nat) (x3 : Int32) (x4 : Int32) (h : AH) (r : AH), lf (fun _ _ _ => none) (BX9_findsOrders_68 N rec52 x0 x1) n x3 x4 h = some r → Zw K (eH r) h 68 [(0, vr x0), (1, vi x1), (3, vi x3), (4, vi x4)] [] := by
  intro n
  induction n with
  | zero => intro x3 x4 h r hr; cases hr
  | succ n ih => intro x3 x4 h r hr; exact wX9_findsOrders_68B O N rec52 x0 x1 (lf (fun _ _ _ => none) (BX9_findsOrders_68 N rec52 x0 x1) n) hrec52 ih x3 x4 h r hr
def BX9_findsOrders_52 (N : Nat) (x0 : Option Nat) (x1 : Int32) (rec52 : Int32 → AH → Option (AH)) : Int32 → AH → Option (AH) := fun x2 h =>
  if x2 = 0 then
    some h
  else
    b2 (F_X9_canBe N x0 h) fun v2 h1 =>
    if v2 = 0 then
      bX9_findsOrders_226 N rec52 x0 x1 h1
    else
      LX9_findsOrders_68 N rec52 x0 x1 (0 : Int32) (0 : Int32) h1
def LX9_findsOrders_52 (N : Nat) (x0 : Option Nat) (x1 : Int32) : Int32 → AH → Option (AH) := lf (fun _ _ => none) (BX9_findsOrders_52 N x0 x1) N
theorem wX9_findsOrders_52B {K : ZC} (O : ZOk K cX9_findsOrders RX9 "findsOrders" 6 (none : Option Jvm.ClassFile.FieldType) 4 114) (N : Nat) (x0 : Option Nat) (x1 : Int32) (rec52 : Int32 → AH → Option (AH)) (hrec52 : ∀ (y2 : Int32) (hy : AH) (ry : AH), rec52 y2 hy = some ry → Zw K (eH ry) hy 52 [(0, vr x0), (1, vi x1), (2, vi y2)] []) (x2 : Int32) (h : AH) (r : AH) (hr : BX9_findsOrders_52 N x0 x1 rec52 x2 h = some r) : Zw K (eH r) h 52 [(0, vr x0), (1, vi x1), (2, vi x2)] [] := by
  unfold BX9_findsOrders_52 at hr
  refine z_iload_n O 2 dX9_findsOrders_52 rfl rfl ?_
  refine z_if_eq (tgt := 244) O dX9_findsOrders_53 (by decide) hr (fun hr => ?_) (fun hr => ?_)
  · exact z_vret O dX9_findsOrders_244 (by cases hr; rfl)
  · refine z_aload_n O 0 dX9_findsOrders_56 rfl rfl ?_
    refine b2s hr (fun v2 h1 hF hr => ?_)
    refine z_callV O [] (vi v2) fV_X9_canBe q2535 (fun l G => mX9_canBe l G N x0 h _ hF) (zck hF) rfl rfl ⟨Nat.le_of_ble_eq_true rfl, Nat.le_of_ble_eq_true rfl⟩ (Nat.le_of_ble_eq_true rfl) dX9_findsOrders_57 ?_
    refine z_if_eq (tgt := 226) O dX9_findsOrders_60 (by decide) hr (fun hr => ?_) (fun hr => ?_)
    · refine z_sub [0, 1] rfl ?_
      exact wX9_findsOrders_226 O N rec52 x0 x1 h1 hrec52 _ hr
    · refine z_iconst O dX9_findsOrders_63 kic_0 ?_
      refine z_istore_n O [(3, vi (0 : Int32)), (0, vr x0), (1, vi x1), (2, vi x2)] dX9_findsOrders_64 rfl (by decide) rfl ?_
      refine z_iconst O dX9_findsOrders_65 kic_0 ?_
      refine z_istore O [(4, vi (0 : Int32)), (3, vi (0 : Int32)), (0, vr x0), (1, vi x1), (2, vi x2)] dX9_findsOrders_66 (by decide) rfl ?_
      refine z_sub [2, 3, 1, 0] rfl ?_
      exact wX9_findsOrders_68 O N rec52 x0 x1 hrec52 _ (0 : Int32) (0 : Int32) h1 _ hr
theorem wX9_findsOrders_52 {K : ZC} (O : ZOk K cX9_findsOrders RX9 "findsOrders" 6 (none : Option Jvm.ClassFile.FieldType) 4 114) (N : Nat) (x0 : Option Nat) (x1 : Int32) : ∀ (n : Nat) (x2 : Int32) (h : AH) (r : AH), lf (fun _ _ => none) (BX9_findsOrders_52 N x0 x1) n x2 h = some r → Zw K (eH r) h 52 [(0, vr x0), (1, vi x1), (2, vi x2)] [] := by
  intro n
  induction n with
  | zero => intro x2 h r hr; cases hr
  | succ n ih => intro x2 h r hr; exact wX9_findsOrders_52B O N x0 x1 (lf (fun _ _ => none) (BX9_findsOrders_52 N x0 x1) n)  ih x2 h r hr
def BX9_findsOrders_7 (N : Nat) (x0 : Option Nat) (x1 : Int32) (rec7 : Int32 → AH → Option (AH)) : Int32 → AH → Option (AH) := fun x2 h =>
  if (6 : Int32) ≤ x2 then
    LX9_findsOrders_52 N x0 x1 (1 : Int32) h
  else
    (gR h f_Model_row x0).bind fun v1 =>
    (sA h 0 v1 x2 x2).bind fun h2 =>
    (gR h2 f_Model_soonest x0).bind fun v3 =>
    (sA h2 0 v3 x2 (-2 : Int32)).bind fun h4 =>
    (gR h4 f_Model_latest x0).bind fun v5 =>
    (sA h4 0 v5 x2 (-2 : Int32)).bind fun h6 =>
    (gR h6 f_Model_ahead x0).bind fun v7 =>
    (sA h6 0 v7 x2 (63 : Int32)).bind fun h8 =>
    jlet (x2 + (1 : Int32)) fun v9 =>
    rec7 v9 h8
def LX9_findsOrders_7 (N : Nat) (x0 : Option Nat) (x1 : Int32) : Int32 → AH → Option (AH) := lf (fun _ _ => none) (BX9_findsOrders_7 N x0 x1) N
theorem wX9_findsOrders_7B {K : ZC} (O : ZOk K cX9_findsOrders RX9 "findsOrders" 6 (none : Option Jvm.ClassFile.FieldType) 4 114) (N : Nat) (x0 : Option Nat) (x1 : Int32) (rec7 : Int32 → AH → Option (AH)) (hrec7 : ∀ (y2 : Int32) (hy : AH) (ry : AH), rec7 y2 hy = some ry → Zw K (eH ry) hy 7 [(0, vr x0), (1, vi x1), (2, vi y2)] []) (x2 : Int32) (h : AH) (r : AH) (hr : BX9_findsOrders_7 N x0 x1 rec7 x2 h = some r) : Zw K (eH r) h 7 [(0, vr x0), (1, vi x1), (2, vi x2)] [] := by
  unfold BX9_findsOrders_7 at hr
  refine z_iload_n O 2 dX9_findsOrders_7 rfl rfl ?_
  refine z_bipush O dX9_findsOrders_8 kbi_6 ?_
  refine z_icmp_ge (tgt := 50) O dX9_findsOrders_10 (by decide) hr (fun hr => ?_) (fun hr => ?_)
  · refine z_iconst O dX9_findsOrders_50 kic_1 ?_
    refine z_istore_n O [(2, vi (1 : Int32)), (0, vr x0), (1, vi x1)] dX9_findsOrders_51 rfl (by decide) rfl ?_
    refine z_sub [1, 2, 0] rfl ?_
    exact wX9_findsOrders_52 O N x0 x1 _ (1 : Int32) h _ hr
  · refine z_aload_n O 0 dX9_findsOrders_13 rfl rfl ?_
    refine z_getR O o_Model_row q1791 dX9_findsOrders_14 hr (fun v1 hr => ?_)
    refine z_iload_n O 2 dX9_findsOrders_17 rfl rfl ?_
    refine z_iload_n O 2 dX9_findsOrders_18 rfl rfl ?_
    refine z_iastore O dX9_findsOrders_19 hr (fun h2 hr => ?_)
    refine z_aload_n O 0 dX9_findsOrders_20 rfl rfl ?_
    refine z_getR O o_Model_soonest q1792 dX9_findsOrders_21 hr (fun v3 hr => ?_)
    refine z_iload_n O 2 dX9_findsOrders_24 rfl rfl ?_
    refine z_bipush O dX9_findsOrders_25 kbi_m2 ?_
    refine z_iastore O dX9_findsOrders_27 hr (fun h4 hr => ?_)
    refine z_aload_n O 0 dX9_findsOrders_28 rfl rfl ?_
    refine z_getR O o_Model_latest q1793 dX9_findsOrders_29 hr (fun v5 hr => ?_)
    refine z_iload_n O 2 dX9_findsOrders_32 rfl rfl ?_
    refine z_bipush O dX9_findsOrders_33 kbi_m2 ?_
    refine z_iastore O dX9_findsOrders_35 hr (fun h6 hr => ?_)
    refine z_aload_n O 0 dX9_findsOrders_36 rfl rfl ?_
    refine z_getR O o_Model_ahead q1794 dX9_findsOrders_37 hr (fun v7 hr => ?_)
    refine z_iload_n O 2 dX9_findsOrders_40 rfl rfl ?_
    refine z_bipush O dX9_findsOrders_41 kbi_63 ?_
    refine z_iastore O dX9_findsOrders_43 hr (fun h8 hr => ?_)
    refine z_iincL O 2 (fun v9 => [(2, vi v9), (0, vr x0), (1, vi x1)]) dX9_findsOrders_44 rfl rfl (by decide) (fun _ => rfl) hr (fun v9 hr => ?_)
    refine z_goto (tgt := 7) O dX9_findsOrders_47 (by decide) ?_
    refine z_sub [1, 2, 0] rfl ?_
    exact hrec7 v9 h8 _ hr
theorem wX9_findsOrders_7 {K : ZC} (O : ZOk K cX9_findsOrders RX9 "findsOrders" 6 (none : Option Jvm.ClassFile.FieldType) 4 114) (N : Nat) (x0 : Option Nat) (x1 : Int32) : ∀ (n : Nat) (x2 : Int32) (h : AH) (r : AH), lf (fun _ _ => none) (BX9_findsOrders_7 N x0 x1) n x2 h = some r → Zw K (eH r) h 7 [(0, vr x0), (1, vi x1), (2, vi x2)] [] := by
  intro n
  induction n with
  | zero => intro x2 h r hr; cases hr
  | succ n ih => intro x2 h r hr; exact wX9_findsOrders_7B O N x0 x1 (lf (fun _ _ => none) (BX9_findsOrders_7 N x0 x1) n)  ih x2 h r hr
def F_X9_findsOrders (N : Nat) (x0 : Option Nat) (x1 : Int32) (h : AH) : Option (AH) :=
  (ck h [9] x0).bind fun _ =>
  (pI h f_Model_many x0 (0 : Int32)).bind fun h1 =>
  LX9_findsOrders_7 N x0 x1 (0 : Int32) h1
theorem mX9_findsOrders (l : Launch) (G : ZG) (N : Nat) (x0 : Option Nat) (x1 : Int32) (h : AH) (r : AH) (hr : F_X9_findsOrders N x0 x1 h = some r) : MZ l G yX9_findsOrders cX9_findsOrders 6 (none : Option Jvm.ClassFile.FieldType) 4 114 [vr x0, vi x1] h (eH r) := by
  unfold F_X9_findsOrders at hr
  refine MZ.of (by decide) [(0, vr x0), (1, vi x1)] rfl (Nat.le_of_ble_eq_true rfl) (fun K O => ?_)
  have O : ZOk K cX9_findsOrders RX9 "findsOrders" 6 (none : Option Jvm.ClassFile.FieldType) 4 114 := O
  refine bs hr (fun _ hck hr => ?_)
  refine z_aload_n O 0 dX9_findsOrders_0 rfl rfl ?_
  refine z_iconst O dX9_findsOrders_1 kic_0 ?_
  refine z_putI O o_Model_many (w_Model_many _) q1798 dX9_findsOrders_2 hr (fun h1 hr => ?_)
  refine z_iconst O dX9_findsOrders_5 kic_0 ?_
  refine z_istore_n O [(2, vi (0 : Int32)), (0, vr x0), (1, vi x1)] dX9_findsOrders_6 rfl (by decide) rfl ?_
  refine z_sub [1, 2, 0] rfl ?_
  exact wX9_findsOrders_7 O N x0 x1 _ (0 : Int32) h1 _ hr
