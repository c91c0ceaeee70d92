set_option maxRecDepth 100000
set_option maxHeartbeats 4000000
theorem fV_X9_entry : CVf RX9 yX9_entry cX9_entry 6 (some .int) 3 := ⟨q2407, qs105, q137, q2408, ⟨⟨by decide +kernel, by decide +kernel⟩, by decide +kernel⟩⟩
def bX9_entry_104 (x0 : Option Nat) (x1 : Int32) (x2 : Int32) (x3 : Int32) (s0 : Int32) (s1 : Int32) (h : AH) : Option (Int32) :=
  jlet ((s0 * s1) + (1 : Int32)) fun v1 =>
  if x3 = 0 then
    some v1
  else
    (gR h f_Model_v x0).bind fun v2 =>
    (F_X9_part x1 x2 (3 : Int32)).bind fun v3 =>
    (aI h 0 v2 v3).bind fun v4 =>
    (F_X9_least v1 ((100 : Int32) * (v4 + (1 : Int32)))).bind fun v5 =>
    some v5
theorem wX9_entry_104 {K : ZC} (O : ZOk K cX9_entry RX9 "entry" 6 (some .int) 2 70) (x0 : Option Nat) (x1 : Int32) (x2 : Int32) (x3 : Int32) (s0 : Int32) (s1 : Int32) (h : AH) (r : Int32) (hr : bX9_entry_104 x0 x1 x2 x3 s0 s1 h = some r) : Zw K (eI h r) h 104 [(0, vr x0), (1, vi x1), (2, vi x2), (3, vi x3)] [vi s1, vi s0] := by
  unfold bX9_entry_104 at hr
  refine z_imul O dX9_entry_104 ?_
  refine z_iconst O dX9_entry_105 kic_1 ?_
  refine z_iadd O dX9_entry_106 ?_
  refine z_letI hr (fun v1 hr => ?_)
  refine z_istore O [(5, vi v1), (0, vr x0), (1, vi x1), (2, vi x2), (3, vi x3)] dX9_entry_107 (by decide) rfl ?_
  refine z_iload_n O 4 dX9_entry_109 rfl rfl ?_
  refine z_if_eq (tgt := 137) O dX9_entry_110 (by decide) hr (fun hr => ?_) (fun hr => ?_)
  · refine z_iload O 0 dX9_entry_137 rfl ?_
    exact z_iret O dX9_entry_139 (by cases hr; rfl)
  · refine z_iload O 0 dX9_entry_113 rfl ?_
    refine z_bipush O dX9_entry_115 kbi_100 ?_
    refine z_aload_n O 1 dX9_entry_117 rfl rfl ?_
    refine z_getR O o_Model_v q1778 dX9_entry_118 hr (fun v2 hr => ?_)
    refine z_iload_n O 2 dX9_entry_121 rfl rfl ?_
    refine z_iload_n O 3 dX9_entry_122 rfl rfl ?_
    refine z_iconst O dX9_entry_123 kic_3 ?_
    refine bs hr (fun v3 hF hr => ?_)
    refine z_callS O [vi x1, vi x2, vi (3 : Int32)] (vi v3) fS_X9_part q2223 (fun l G => mX9_part l G x1 x2 (3 : Int32) h _ hF) rfl ⟨Nat.le_of_ble_eq_true rfl, Nat.le_of_ble_eq_true rfl⟩ (Nat.le_of_ble_eq_true rfl) dX9_entry_124 ?_
    refine z_iaload O dX9_entry_127 hr (fun v4 hr => ?_)
    refine z_iconst O dX9_entry_128 kic_1 ?_
    refine z_iadd O dX9_entry_129 ?_
    refine z_imul O dX9_entry_130 ?_
    refine bs hr (fun v5 hF hr => ?_)
    refine z_callS O [vi v1, vi ((100 : Int32) * (v4 + (1 : Int32)))] (vi v5) fS_X9_least q2409 (fun l G => mX9_least l G v1 ((100 : Int32) * (v4 + (1 : Int32))) h _ hF) rfl ⟨Nat.le_of_ble_eq_true rfl, Nat.le_of_ble_eq_true rfl⟩ (Nat.le_of_ble_eq_true rfl) dX9_entry_131 ?_
    refine z_goto (tgt := 139) O dX9_entry_134 (by decide) ?_
    exact z_iret O dX9_entry_139 (by cases hr; rfl)
def F_X9_entry (x0 : Option Nat) (x1 : Int32) (x2 : Int32) (x3 : Int32) (h : AH) : Option (Int32) :=
  (ck h [9] x0).bind fun _ =>
  (gR h f_Model_v x0).bind fun v1 =>
  (F_X9_part x1 x2 (5 : Int32)).bind fun v2 =>
  (aI h 0 v1 v2).bind fun v3 =>
  if v3 = (1 : Int32) then
    if x3 = 0 then
      some (101 : Int32)
    else
      some (100 : Int32)
  else
    (gR h f_Model_v x0).bind fun v4 =>
    (F_X9_part x1 x2 (6 : Int32)).bind fun v5 =>
    (aI h 0 v4 v5).bind fun v6 =>
    if v6 = (1 : Int32) then
      if x3 = 0 then
        some (2001 : Int32)
      else
        some (2000 : Int32)
    else
      (gR h f_Model_land x0).bind fun v7 =>
      (gR h f_MLand_strong v7).bind fun v8 =>
      (gR h f_Model_v x0).bind fun v9 =>
      (F_X9_part x1 x2 (0 : Int32)).bind fun v10 =>
      (aI h 0 v9 v10).bind fun v11 =>
      (aI h 0 v8 v11).bind fun v12 =>
      (gR h f_Model_v x0).bind fun v13 =>
      (F_X9_part x1 x2 (4 : Int32)).bind fun v14 =>
      (aI h 0 v13 v14).bind fun v15 =>
      jlet (v12 - v15) fun v16 =>
      if v16 ≤ (1 : Int32) then
        bX9_entry_104 x0 x1 x2 x3 (100 : Int32) (1 : Int32) h
      else
        bX9_entry_104 x0 x1 x2 x3 (100 : Int32) v16 h
theorem mX9_entry (l : Launch) (G : ZG) (x0 : Option Nat) (x1 : Int32) (x2 : Int32) (x3 : Int32) (h : AH) (r : Int32) (hr : F_X9_entry x0 x1 x2 x3 h = some r) : MZ l G yX9_entry cX9_entry 6 (some .int) 2 70 [vr x0, vi x1, vi x2, vi x3] h (eI h r) := by
  unfold F_X9_entry at hr
  refine MZ.of (by decide) [(0, vr x0), (1, vi x1), (2, vi x2), (3, vi x3)] rfl (Nat.le_of_ble_eq_true rfl) (fun K O => ?_)
  have O : ZOk K cX9_entry RX9 "entry" 6 (some .int) 2 70 := O
  refine bs hr (fun _ hck hr => ?_)
  refine z_aload_n O 0 dX9_entry_0 rfl rfl ?_
  refine z_getR O o_Model_v q1778 dX9_entry_1 hr (fun v1 hr => ?_)
  refine z_iload_n O 1 dX9_entry_4 rfl rfl ?_
  refine z_iload_n O 2 dX9_entry_5 rfl rfl ?_
  refine z_iconst O dX9_entry_6 kic_5 ?_
  refine bs hr (fun v2 hF hr => ?_)
  refine z_callS O [vi x1, vi x2, vi (5 : Int32)] (vi v2) fS_X9_part q2223 (fun l G => mX9_part l G x1 x2 (5 : Int32) h _ hF) rfl ⟨Nat.le_of_ble_eq_true rfl, Nat.le_of_ble_eq_true rfl⟩ (Nat.le_of_ble_eq_true rfl) dX9_entry_7 ?_
  refine z_iaload O dX9_entry_10 hr (fun v3 hr => ?_)
  refine z_iconst O dX9_entry_11 kic_1 ?_
  refine z_icmp_ne (tgt := 27) O dX9_entry_12 (by decide) hr (fun hr => ?_) (fun hr => ?_)
  · refine z_iload_n O 3 dX9_entry_15 rfl rfl ?_
    refine z_if_eq (tgt := 24) O dX9_entry_16 (by decide) hr (fun hr => ?_) (fun hr => ?_)
    · refine z_bipush O dX9_entry_24 kbi_101 ?_
      exact z_iret O dX9_entry_26 (by cases hr; rfl)
    · refine z_bipush O dX9_entry_19 kbi_100 ?_
      refine z_goto (tgt := 26) O dX9_entry_21 (by decide) ?_
      exact z_iret O dX9_entry_26 (by cases hr; rfl)
  · refine z_aload_n O 0 dX9_entry_27 rfl rfl ?_
    refine z_getR O o_Model_v q1778 dX9_entry_28 hr (fun v4 hr => ?_)
    refine z_iload_n O 1 dX9_entry_31 rfl rfl ?_
    refine z_iload_n O 2 dX9_entry_32 rfl rfl ?_
    refine z_bipush O dX9_entry_33 kbi_6 ?_
    refine bs hr (fun v5 hF hr => ?_)
    refine z_callS O [vi x1, vi x2, vi (6 : Int32)] (vi v5) fS_X9_part q2223 (fun l G => mX9_part l G x1 x2 (6 : Int32) h _ hF) rfl ⟨Nat.le_of_ble_eq_true rfl, Nat.le_of_ble_eq_true rfl⟩ (Nat.le_of_ble_eq_true rfl) dX9_entry_35 ?_
    refine z_iaload O dX9_entry_38 hr (fun v6 hr => ?_)
    refine z_iconst O dX9_entry_39 kic_1 ?_
    refine z_icmp_ne (tgt := 57) O dX9_entry_40 (by decide) hr (fun hr => ?_) (fun hr => ?_)
    · refine z_iload_n O 3 dX9_entry_43 rfl rfl ?_
      refine z_if_eq (tgt := 53) O dX9_entry_44 (by decide) hr (fun hr => ?_) (fun hr => ?_)
      · refine z_sipush O dX9_entry_53 ksi_2001 ?_
        exact z_iret O dX9_entry_56 (by cases hr; rfl)
      · refine z_sipush O dX9_entry_47 ksi_2000 ?_
        refine z_goto (tgt := 56) O dX9_entry_50 (by decide) ?_
        exact z_iret O dX9_entry_56 (by cases hr; rfl)
    · refine z_aload_n O 0 dX9_entry_57 rfl rfl ?_
      refine z_getR O o_Model_land q1765 dX9_entry_58 hr (fun v7 hr => ?_)
      refine z_getRN O o_MLand_strong zn1926 dX9_entry_61 hr (fun v8 hr => ?_)
      refine z_aload_n O 0 dX9_entry_64 rfl rfl ?_
      refine z_getR O o_Model_v q1778 dX9_entry_65 hr (fun v9 hr => ?_)
      refine z_iload_n O 1 dX9_entry_68 rfl rfl ?_
      refine z_iload_n O 2 dX9_entry_69 rfl rfl ?_
      refine z_iconst O dX9_entry_70 kic_0 ?_
      refine bs hr (fun v10 hF hr => ?_)
      refine z_callS O [vi x1, vi x2, vi (0 : Int32)] (vi v10) fS_X9_part q2223 (fun l G => mX9_part l G x1 x2 (0 : Int32) h _ hF) rfl ⟨Nat.le_of_ble_eq_true rfl, Nat.le_of_ble_eq_true rfl⟩ (Nat.le_of_ble_eq_true rfl) dX9_entry_71 ?_
      refine z_iaload O dX9_entry_74 hr (fun v11 hr => ?_)
      refine z_iaload O dX9_entry_75 hr (fun v12 hr => ?_)
      refine z_aload_n O 0 dX9_entry_76 rfl rfl ?_
      refine z_getR O o_Model_v q1778 dX9_entry_77 hr (fun v13 hr => ?_)
      refine z_iload_n O 1 dX9_entry_80 rfl rfl ?_
      refine z_iload_n O 2 dX9_entry_81 rfl rfl ?_
      refine z_iconst O dX9_entry_82 kic_4 ?_
      refine bs hr (fun v14 hF hr => ?_)
      refine z_callS O [vi x1, vi x2, vi (4 : Int32)] (vi v14) fS_X9_part q2223 (fun l G => mX9_part l G x1 x2 (4 : Int32) h _ hF) rfl ⟨Nat.le_of_ble_eq_true rfl, Nat.le_of_ble_eq_true rfl⟩ (Nat.le_of_ble_eq_true rfl) dX9_entry_83 ?_
      refine z_iaload O dX9_entry_86 hr (fun v15 hr => ?_)
      refine z_isub O dX9_entry_87 ?_
      refine z_letI hr (fun v16 hr => ?_)
      refine z_istore O [(4, vi v16), (0, vr x0), (1, vi x1), (2, vi x2), (3, vi x3)] dX9_entry_88 (by decide) rfl ?_
      refine z_bipush O dX9_entry_90 kbi_100 ?_
      refine z_iload O 0 dX9_entry_92 rfl ?_
      refine z_iconst O dX9_entry_94 kic_1 ?_
      refine z_icmp_le (tgt := 103) O dX9_entry_95 (by decide) hr (fun hr => ?_) (fun hr => ?_)
      · refine z_iconst O dX9_entry_103 kic_1 ?_
        refine z_sub [1, 2, 3, 4] rfl ?_
        exact wX9_entry_104 O x0 x1 x2 x3 (100 : Int32) (1 : Int32) h _ hr
      · refine z_iload O 0 dX9_entry_98 rfl ?_
        refine z_goto (tgt := 104) O dX9_entry_100 (by decide) ?_
        refine z_sub [1, 2, 3, 4] rfl ?_
        exact wX9_entry_104 O x0 x1 x2 x3 (100 : Int32) v16 h _ hr
theorem fS_X9_inFront : CSf yX9_inFront cX9_inFront 2 (some .int) 2 := ⟨q2413, q137, q2414, ⟨⟨by decide +kernel, by decide +kernel⟩, by decide +kernel⟩⟩
def F_X9_inFront (x0 : Int32) (x1 : Int32) : Option (Int32) :=
  (dv x1 ((2 : Int32) * x0)).bind fun v1 =>
  some ((x1 + (1 : Int32)) + ((2 : Int32) * v1))
theorem mX9_inFront (l : Launch) (G : ZG) (x0 : Int32) (x1 : Int32) (h : AH) (r : Int32) (hr : F_X9_inFront x0 x1 = some r) : MZ l G yX9_inFront cX9_inFront 2 (some .int) 1 48 [vi x0, vi x1] h (eI h r) := by
  unfold F_X9_inFront at hr
  refine MZ.of (by decide) [(0, vi x0), (1, vi x1)] rfl (Nat.le_of_ble_eq_true rfl) (fun K O => ?_)
  have O : ZOk K cX9_inFront RX9 "inFront" 2 (some .int) 1 48 := O
  refine z_iload_n O 1 dX9_inFront_0 rfl rfl ?_
  refine z_iconst O dX9_inFront_1 kic_1 ?_
  refine z_iadd O dX9_inFront_2 ?_
  refine z_iconst O dX9_inFront_3 kic_2 ?_
  refine z_iload_n O 1 dX9_inFront_4 rfl rfl ?_
  refine z_iconst O dX9_inFront_5 kic_2 ?_
  refine z_iload_n O 0 dX9_inFront_6 rfl rfl ?_
  refine z_imul O dX9_inFront_7 ?_
  refine z_idiv O dX9_inFront_8 hr (fun v1 hr => ?_)
  refine z_imul O dX9_inFront_9 ?_
  refine z_iadd O dX9_inFront_10 ?_
  exact z_iret O dX9_inFront_11 (by cases hr; rfl)
theorem fS_X9_roundOf : CSf yX9_roundOf cX9_roundOf 4 (some .int) 3 := ⟨q2369, q137, q2370, ⟨⟨by decide +kernel, by decide +kernel⟩, by decide +kernel⟩⟩
def bX9_roundOf_14 (x0 : Int32) (s0 : Int32) : Option (Int32) :=
  if (((8 : Int32) * x0) - s0) ≤ s0 then
    some (((8 : Int32) * x0) - s0)
  else
    some s0
theorem wX9_roundOf_14 {K : ZC} (O : ZOk K cX9_roundOf RX9 "roundOf" 4 (some .int) 1 48) (x0 : Int32) (s0 : Int32) (h : AH) (r : Int32) (hr : bX9_roundOf_14 x0 s0 = some r) : Zw K (eI h r) h 14 [(0, vi x0)] [vi s0] := by
  unfold bX9_roundOf_14 at hr
  refine z_istore_n O [(3, vi s0), (0, vi x0)] dX9_roundOf_14 rfl (by decide) rfl ?_
  refine z_iload_n O 0 dX9_roundOf_15 rfl rfl ?_
  refine z_bipush O dX9_roundOf_16 kbi_8 ?_
  refine z_iload_n O 1 dX9_roundOf_18 rfl rfl ?_
  refine z_imul O dX9_roundOf_19 ?_
  refine z_iload_n O 0 dX9_roundOf_20 rfl rfl ?_
  refine z_isub O dX9_roundOf_21 ?_
  refine z_icmp_ge (tgt := 29) O dX9_roundOf_22 (by decide) hr (fun hr => ?_) (fun hr => ?_)
  · refine z_bipush O dX9_roundOf_29 kbi_8 ?_
    refine z_iload_n O 1 dX9_roundOf_31 rfl rfl ?_
    refine z_imul O dX9_roundOf_32 ?_
    refine z_iload_n O 0 dX9_roundOf_33 rfl rfl ?_
    refine z_isub O dX9_roundOf_34 ?_
    exact z_iret O dX9_roundOf_35 (by cases hr; rfl)
  · refine z_iload_n O 0 dX9_roundOf_25 rfl rfl ?_
    refine z_goto (tgt := 35) O dX9_roundOf_26 (by decide) ?_
    exact z_iret O dX9_roundOf_35 (by cases hr; rfl)
def F_X9_roundOf (x0 : Int32) (x1 : Int32) (x2 : Int32) : Option (Int32) :=
  if x1 ≤ x2 then
    bX9_roundOf_14 x0 (x2 - x1)
  else
    bX9_roundOf_14 x0 (x1 - x2)
theorem mX9_roundOf (l : Launch) (G : ZG) (x0 : Int32) (x1 : Int32) (x2 : Int32) (h : AH) (r : Int32) (hr : F_X9_roundOf x0 x1 x2 = some r) : MZ l G yX9_roundOf cX9_roundOf 4 (some .int) 1 48 [vi x0, vi x1, vi x2] h (eI h r) := by
  unfold F_X9_roundOf at hr
  refine MZ.of (by decide) [(0, vi x0), (1, vi x1), (2, vi x2)] rfl (Nat.le_of_ble_eq_true rfl) (fun K O => ?_)
  have O : ZOk K cX9_roundOf RX9 "roundOf" 4 (some .int) 1 48 := O
  refine z_iload_n O 1 dX9_roundOf_0 rfl rfl ?_
  refine z_iload_n O 2 dX9_roundOf_1 rfl rfl ?_
  refine z_icmp_le (tgt := 11) O dX9_roundOf_2 (by decide) hr (fun hr => ?_) (fun hr => ?_)
  · refine z_iload_n O 2 dX9_roundOf_11 rfl rfl ?_
    refine z_iload_n O 1 dX9_roundOf_12 rfl rfl ?_
    refine z_isub O dX9_roundOf_13 ?_
    refine z_sub [0] rfl ?_
    exact wX9_roundOf_14 O x0 (x2 - x1) h _ hr
  · refine z_iload_n O 1 dX9_roundOf_5 rfl rfl ?_
    refine z_iload_n O 2 dX9_roundOf_6 rfl rfl ?_
    refine z_isub O dX9_roundOf_7 ?_
    refine z_goto (tgt := 14) O dX9_roundOf_8 (by decide) ?_
    refine z_sub [0] rfl ?_
    exact wX9_roundOf_14 O x0 (x1 - x2) h _ hr
theorem fV_X9_throughTo : CVf RX9 yX9_throughTo cX9_throughTo 9 (some .int) 2 := ⟨q2402, qs104, q137, q2403, ⟨⟨by decide +kernel, by decide +kernel⟩, by decide +kernel⟩⟩
def bX9_throughTo_138 (N : Nat) (rec29 : Int32 → AH → Option (Int32 × AH)) (rec70 : Int32 → AH → Option (Int32 × AH)) (x0 : Option Nat) (x1 : Int32) (x2 : Int32) (x3 : Int32) (x4 : Int32) (x5 : Int32) (x6 : Int32) (x7 : Int32) (s0 : Option Nat) (s1 : Int32) (s2 : Option Nat) (s3 : Int32) (s4 : Int32) (s5 : Int32) (h : AH) : Option (Int32 × AH) :=
  (F_X9_entry s2 s3 s4 s5 h).bind fun v1 =>
  if x5 = x3 then
    (sA h 0 s0 s1 (v1 + (0 : Int32))).bind fun h7 =>
    jlet (x7 + (1 : Int32)) fun v8 =>
    rec70 v8 h7
  else
    (gR h f_Model_cost x0).bind fun v2 =>
    (F_X9_inFront x5 x7).bind fun v3 =>
    (aI h 0 v2 v3).bind fun v4 =>
    (sA h 0 s0 s1 (v1 + v4)).bind fun h5 =>
    jlet (x7 + (1 : Int32)) fun v6 =>
    rec70 v6 h5
theorem wX9_throughTo_138 {K : ZC} (O : ZOk K cX9_throughTo RX9 "throughTo" 9 (some .int) 3 95) (N : Nat) (rec29 : Int32 → AH → Option (Int32 × AH)) (rec70 : Int32 → AH → Option (Int32 × AH)) (x0 : Option Nat) (x1 : Int32) (x2 : Int32) (x3 : Int32) (x4 : Int32) (x5 : Int32) (x6 : Int32) (x7 : Int32) (s0 : Option Nat) (s1 : Int32) (s2 : Option Nat) (s3 : Int32) (s4 : Int32) (s5 : Int32) (h : AH) (hrec29 : ∀ (y5 : Int32) (hy : AH) (ry : Int32 × AH), rec29 y5 hy = some ry → Zw K (eIH ry) hy 29 [(0, vr x0), (1, vi x1), (2, vi x2), (3, vi x3), (4, vi x4), (5, vi y5)] []) (hrec70 : ∀ (y7 : Int32) (hy : AH) (ry : Int32 × AH), rec70 y7 hy = some ry → Zw K (eIH ry) hy 70 [(0, vr x0), (1, vi x1), (2, vi x2), (3, vi x3), (4, vi x4), (5, vi x5), (6, vi x6), (7, vi y7)] []) (r : Int32 × AH) (hr : bX9_throughTo_138 N rec29 rec70 x0 x1 x2 x3 x4 x5 x6 x7 s0 s1 s2 s3 s4 s5 h = some r) : Zw K (eIH r) h 138 [(0, vr x0), (1, vi x1), (2, vi x2), (3, vi x3), (4, vi x4), (5, vi x5), (6, vi x6), (7, vi x7)] [vi s5, vi s4, vi s3, vr s2, vi s1, vr s0] := by
  unfold bX9_throughTo_138 at hr
  refine bs hr (fun v1 hF hr => ?_)
  refine z_callV O [vi s3, vi s4, vi s5] (vi v1) fV_X9_entry q2405 (fun l G => mX9_entry l G s2 s3 s4 s5 h _ hF) (zck hF) rfl rfl ⟨Nat.le_of_ble_eq_true rfl, Nat.le_of_ble_eq_true rfl⟩ (Nat.le_of_ble_eq_true rfl) dX9_throughTo_138 ?_
  refine z_iload O 5 dX9_throughTo_141 rfl ?_
  refine z_iload_n O 3 dX9_throughTo_143 rfl rfl ?_
  refine z_icmp_ne (tgt := 151) O dX9_throughTo_144 (by decide) hr (fun hr => ?_) (fun hr => ?_)
  · refine z_iconst O dX9_throughTo_147 kic_0 ?_
    refine z_goto (tgt := 163) O dX9_throughTo_148 (by decide) ?_
    refine z_iadd O dX9_throughTo_163 ?_
    refine z_iastore O dX9_throughTo_164 hr (fun h7 hr => ?_)
    refine z_iincL O 7 (fun v8 => [(7, vi v8), (0, vr x0), (1, vi x1), (2, vi x2), (3, vi x3), (4, vi x4), (5, vi x5), (6, vi x6)]) dX9_throughTo_165 rfl rfl (by decide) (fun _ => rfl) hr (fun v8 hr => ?_)
    refine z_goto (tgt := 70) O dX9_throughTo_168 (by decide) ?_
    refine z_sub [1, 2, 3, 4, 5, 6, 7, 0] rfl ?_
    exact hrec70 v8 h7 _ hr
  · refine z_aload_n O 0 dX9_throughTo_151 rfl rfl ?_
    refine z_getR O o_Model_cost q1788 dX9_throughTo_152 hr (fun v2 hr => ?_)
    refine z_iload O 5 dX9_throughTo_155 rfl ?_
    refine z_iload O 7 dX9_throughTo_157 rfl ?_
    refine bs hr (fun v3 hF hr => ?_)
    refine z_callS O [vi x5, vi x7] (vi v3) fS_X9_inFront q2412 (fun l G => mX9_inFront l G x5 x7 h _ hF) rfl ⟨Nat.le_of_ble_eq_true rfl, Nat.le_of_ble_eq_true rfl⟩ (Nat.le_of_ble_eq_true rfl) dX9_throughTo_159 ?_
    refine z_iaload O dX9_throughTo_162 hr (fun v4 hr => ?_)
    refine z_iadd O dX9_throughTo_163 ?_
    refine z_iastore O dX9_throughTo_164 hr (fun h5 hr => ?_)
    refine z_iincL O 7 (fun v6 => [(7, vi v6), (0, vr x0), (1, vi x1), (2, vi x2), (3, vi x3), (4, vi x4), (5, vi x5), (6, vi x6)]) dX9_throughTo_165 rfl rfl (by decide) (fun _ => rfl) hr (fun v6 hr => ?_)
    refine z_goto (tgt := 70) O dX9_throughTo_168 (by decide) ?_
    refine z_sub [1, 2, 3, 4, 5, 6, 7, 0] rfl ?_
    exact hrec70 v6 h5 _ hr
def bX9_throughTo_116 (N : Nat) (rec29 : Int32 → AH → Option (Int32 × AH)) (rec70 : Int32 → AH → Option (Int32 × AH)) (x0 : Option Nat) (x1 : Int32) (x2 : Int32) (x3 : Int32) (x4 : Int32) (x5 : Int32) (x6 : Int32) (x7 : Int32) (h : AH) : Option (Int32 × AH) :=
  (gR h f_Model_outer x0).bind fun v1 =>
  if x7 = x6 then
    bX9_throughTo_138 N rec29 rec70 x0 x1 x2 x3 x4 x5 x6 x7 v1 x7 x0 x1 x5 (1 : Int32) h
  else
    bX9_throughTo_138 N rec29 rec70 x0 x1 x2 x3 x4 x5 x6 x7 v1 x7 x0 x1 x5 (0 : Int32) h
theorem wX9_throughTo_116 {K : ZC} (O : ZOk K cX9_throughTo RX9 "throughTo" 9 (some .int) 3 95) (N : Nat) (rec29 : Int32 → AH → Option (Int32 × AH)) (rec70 : Int32 → AH → Option (Int32 × AH)) (x0 : Option Nat) (x1 : Int32) (x2 : Int32) (x3 : Int32) (x4 : Int32) (x5 : Int32) (x6 : Int32) (x7 : Int32) (h : AH) (hrec29 : ∀ (y5 : Int32) (hy : AH) (ry : Int32 × AH), rec29 y5 hy = some ry → Zw K (eIH ry) hy 29 [(0, vr x0), (1, vi x1), (2, vi x2), (3, vi x3), (4, vi x4), (5, vi y5)] []) (hrec70 : ∀ (y7 : Int32) (hy : AH) (ry : Int32 × AH), rec70 y7 hy = some ry → Zw K (eIH ry) hy 70 [(0, vr x0), (1, vi x1), (2, vi x2), (3, vi x3), (4, vi x4), (5, vi x5), (6, vi x6), (7, vi y7)] []) (r : Int32 × AH) (hr : bX9_throughTo_116 N rec29 rec70 x0 x1 x2 x3 x4 x5 x6 x7 h = some r) : Zw K (eIH r) h 116 [(0, vr x0), (1, vi x1), (2, vi x2), (3, vi x3), (4, vi x4), (5, vi x5), (6, vi x6), (7, vi x7)] [] := by
  unfold bX9_throughTo_116 at hr
  refine z_aload_n O 0 dX9_throughTo_116 rfl rfl ?_
  refine z_getR O o_Model_outer q1789 dX9_throughTo_117 hr (fun v1 hr => ?_)
  refine z_iload O 7 dX9_throughTo_120 rfl ?_
  refine z_aload_n O 0 dX9_throughTo_122 rfl rfl ?_
  refine z_iload_n O 1 dX9_throughTo_123 rfl rfl ?_
  refine z_iload O 5 dX9_throughTo_124 rfl ?_
  refine z_iload O 7 dX9_throughTo_126 rfl ?_
  refine z_iload O 6 dX9_throughTo_128 rfl ?_
  refine z_icmp_ne (tgt := 137) O dX9_throughTo_130 (by decide) hr (fun hr => ?_) (fun hr => ?_)
  · refine z_iconst O dX9_throughTo_133 kic_1 ?_
    refine z_goto (tgt := 138) O dX9_throughTo_134 (by decide) ?_
    exact wX9_throughTo_138 O N rec29 rec70 x0 x1 x2 x3 x4 x5 x6 x7 v1 x7 x0 x1 x5 (1 : Int32) h hrec29 hrec70 _ hr
  · refine z_iconst O dX9_throughTo_137 kic_0 ?_
    exact wX9_throughTo_138 O N rec29 rec70 x0 x1 x2 x3 x4 x5 x6 x7 v1 x7 x0 x1 x5 (0 : Int32) h hrec29 hrec70 _ hr
def BX9_throughTo_197 (N : Nat) (rec29 : Int32 → AH → Option (Int32 × AH)) (rec174 : Int32 → AH → Option (Int32 × AH)) (x0 : Option Nat) (x1 : Int32) (x2 : Int32) (x3 : Int32) (x4 : Int32) (x5 : Int32) (x7 : Int32) (rec197 : Int32 → AH → Option (Int32 × AH)) : Int32 → AH → Option (Int32 × AH) := fun x8 h =>
  if ((8 : Int32) * x5) ≤ x8 then
    jlet (x7 + (1 : Int32)) fun v1 =>
    rec174 v1 h
  else
    (gR h f_Model_cost x0).bind fun v2 =>
    (gR h f_Model_cost x0).bind fun v3 =>
    (aI h 0 v3 x7).bind fun v4 =>
    (gR h f_Model_outer x0).bind fun v5 =>
    (aI h 0 v5 x8).bind fun v6 =>
    (F_X9_roundOf x5 x7 x8).bind fun v7 =>
    (F_X9_least v4 (v6 + ((100 : Int32) * v7))).bind fun v8 =>
    (sA h 0 v2 x7 v8).bind fun h9 =>
    jlet (x8 + (1 : Int32)) fun v10 =>
    rec197 v10 h9
def LX9_throughTo_197 (N : Nat) (rec29 : Int32 → AH → Option (Int32 × AH)) (rec174 : Int32 → AH → Option (Int32 × AH)) (x0 : Option Nat) (x1 : Int32) (x2 : Int32) (x3 : Int32) (x4 : Int32) (x5 : Int32) (x7 : Int32) : Int32 → AH → Option (Int32 × AH) := lf (fun _ _ => none) (BX9_throughTo_197 N rec29 rec174 x0 x1 x2 x3 x4 x5 x7) N
theorem wX9_throughTo_197B {K : ZC} (O : ZOk K cX9_throughTo RX9 "throughTo" 9 (some .int) 3 95) (N : Nat) (rec29 : Int32 → AH → Option (Int32 × AH)) (rec174 : Int32 → AH → Option (Int32 × AH)) (x0 : Option Nat) (x1 : Int32) (x2 : Int32) (x3 : Int32) (x4 : Int32) (x5 : Int32) (x7 : Int32) (rec197 : Int32 → AH → Option (Int32 × AH)) (hrec29 : ∀ (y5 : Int32) (hy : AH) (ry : Int32 × AH), rec29 y5 hy = some ry → Zw K (eIH ry) hy 29 [(0, vr x0), (1, vi x1), (2, vi x2), (3, vi x3), (4, vi x4), (5, vi y5)] []) (hrec174 : ∀ (y7 : Int32) (hy : AH) (ry : Int32 × AH), rec174 y7 hy = some ry → Zw K (eIH ry) hy 174 [(0, vr x0), (1, vi x1), (2, vi x2), (3, vi x3), (4, vi x4), (5, vi x5), (7, vi y7)] []) (hrec197 : ∀ (y8 : Int32) (hy : AH) (ry : Int32 × AH), rec197 y8 hy = some ry → Zw K (eIH ry) hy 197 [(0, vr x0), (1, vi x1), (2, vi x2), (3, vi x3), (4, vi x4), (5, vi x5), (7, vi x7), (8, vi y8)] []) (x8 : Int32) (h : AH) (r : Int32 × AH) (hr : BX9_throughTo_197 N rec29 rec174 x0 x1 x2 x3 x4 x5 x7 rec197 x8 h = some r) : Zw K (eIH r) h 197 [(0, vr x0), (1, vi x1), (2, vi x2), (3, vi x3), (4, vi x4), (5, vi x5), (7, vi x7), (8, vi x8)] [] := by
  unfold BX9_throughTo_197 at hr
  refine z_iload O 7 dX9_throughTo_197 rfl ?_
  refine z_bipush O dX9_throughTo_199 kbi_8 ?_
  refine z_iload O 5 dX9_throughTo_201 rfl ?_
  refine z_imul O dX9_throughTo_203 ?_
  refine z_icmp_ge (tgt := 250) O dX9_throughTo_204 (by decide) hr (fun hr => ?_) (fun hr => ?_)
  · refine z_iincL O 6 (fun v1 => [(7, vi v1), (0, vr x0), (1, vi x1), (2, vi x2), (3, vi x3), (4, vi x4), (5, vi x5), (8, vi x8)]) dX9_throughTo_250 rfl rfl (by decide) (fun _ => rfl) hr (fun v1 hr => ?_)
    refine z_goto (tgt := 174) O dX9_throughTo_253 (by decide) ?_
    refine z_sub [1, 2, 3, 4, 5, 6, 0] rfl ?_
    exact hrec174 v1 h _ hr
  · refine z_aload_n O 0 dX9_throughTo_207 rfl rfl ?_
    refine z_getR O o_Model_cost q1788 dX9_throughTo_208 hr (fun v2 hr => ?_)
    refine z_iload O 6 dX9_throughTo_211 rfl ?_
    refine z_aload_n O 0 dX9_throughTo_213 rfl rfl ?_
    refine z_getR O o_Model_cost q1788 dX9_throughTo_214 hr (fun v3 hr => ?_)
    refine z_iload O 6 dX9_throughTo_217 rfl ?_
    refine z_iaload O dX9_throughTo_219 hr (fun v4 hr => ?_)
    refine z_aload_n O 0 dX9_throughTo_220 rfl rfl ?_
    refine z_getR O o_Model_outer q1789 dX9_throughTo_221 hr (fun v5 hr => ?_)
    refine z_iload O 7 dX9_throughTo_224 rfl ?_
    refine z_iaload O dX9_throughTo_226 hr (fun v6 hr => ?_)
    refine z_bipush O dX9_throughTo_227 kbi_100 ?_
    refine z_iload O 5 dX9_throughTo_229 rfl ?_
    refine z_iload O 6 dX9_throughTo_231 rfl ?_
    refine z_iload O 7 dX9_throughTo_233 rfl ?_
    refine bs hr (fun v7 hF hr => ?_)
    refine z_callS O [vi x5, vi x7, vi x8] (vi v7) fS_X9_roundOf q2368 (fun l G => mX9_roundOf l G x5 x7 x8 h _ hF) rfl ⟨Nat.le_of_ble_eq_true rfl, Nat.le_of_ble_eq_true rfl⟩ (Nat.le_of_ble_eq_true rfl) dX9_throughTo_235 ?_
    refine z_imul O dX9_throughTo_238 ?_
    refine z_iadd O dX9_throughTo_239 ?_
    refine bs hr (fun v8 hF hr => ?_)
    refine z_callS O [vi v4, vi (v6 + ((100 : Int32) * v7))] (vi v8) fS_X9_least q2409 (fun l G => mX9_least l G v4 (v6 + ((100 : Int32) * v7)) h _ hF) rfl ⟨Nat.le_of_ble_eq_true rfl, Nat.le_of_ble_eq_true rfl⟩ (Nat.le_of_ble_eq_true rfl) dX9_throughTo_240 ?_
    refine z_iastore O dX9_throughTo_243 hr (fun h9 hr => ?_)
    refine z_iincL O 7 (fun v10 => [(8, vi v10), (0, vr x0), (1, vi x1), (2, vi x2), (3, vi x3), (4, vi x4), (5, vi x5), (7, vi x7)]) dX9_throughTo_244 rfl rfl (by decide) (fun _ => rfl) hr (fun v10 hr => ?_)
    refine z_goto (tgt := 197) O dX9_throughTo_247 (by decide) ?_
    refine z_sub [1, 2, 3, 4, 5, 6, 7, 0] rfl ?_
    exact hrec197 v10 h9 _ hr
theorem wX9_throughTo_197 {K : ZC} (O : ZOk K cX9_throughTo RX9 "throughTo" 9 (some .int) 3 95) (N : Nat) (rec29 : Int32 → AH → Option (Int32 × AH)) (rec174 : Int32 → AH → Option (Int32 × AH)) (x0 : Option Nat) (x1 : Int32) (x2 : Int32) (x3 : Int32) (x4 : Int32) (x5 : Int32) (x7 : Int32) (hrec29 : ∀ (y5 : Int32) (hy : AH) (ry : Int32 × AH), rec29 y5 hy = some ry → Zw K (eIH ry) hy 29 [(0, vr x0), (1, vi x1), (2, vi x2), (3, vi x3), (4, vi x4), (5, vi y5)] []) (hrec174 : ∀ (y7 : Int32) (hy : AH) (ry : Int32 × AH), rec174 y7 hy = some ry → Zw K (eIH ry) hy 174 [(0, vr x0), (1, vi x1), (2, vi x2), (3, vi x3), (4, vi x4), (5, vi x5), (7, vi y7)] []) : ∀ (n : Nat) (x8 : Int32) (h : AH) (r : Int32 × AH), lf (fun _ _ => none) (BX9_throughTo_197 N rec29 rec174 x0 x1 x2 x3 x4 x5 x7) n x8 h = some r → Zw K (eIH r) h 197 [(0, vr x0), (1, vi x1), (2, vi x2), (3, vi x3), (4, vi x4), (5, vi x5), (7, vi x7), (8, vi x8)] [] := by
  intro n
  induction n with
  | zero => intro x8 h r hr; cases hr
  | succ n ih => intro x8 h r hr; exact wX9_throughTo_197B O N rec29 rec174 x0 x1 x2 x3 x4 x5 x7 (lf (fun _ _ => none) (BX9_throughTo_197 N rec29 rec174 x0 x1 x2 x3 x4 x5 x7) n) hrec29 hrec174 ih x8 h r hr
def BX9_throughTo_174 (N : Nat) (rec29 : Int32 → AH → Option (Int32 × AH)) (x0 : Option Nat) (x1 : Int32) (x2 : Int32) (x3 : Int32) (x4 : Int32) (x5 : Int32) (rec174 : Int32 → AH → Option (Int32 × AH)) : Int32 → AH → Option (Int32 × AH) := fun x7 h =>
  if ((8 : Int32) * x5) ≤ x7 then
    jlet (x5 + (-1 : Int32)) fun v1 =>
    rec29 v1 h
  else
    (gR h f_Model_cost x0).bind fun v2 =>
    (sA h 0 v2 x7 (100000 : Int32)).bind fun h3 =>
    LX9_throughTo_197 N rec29 rec174 x0 x1 x2 x3 x4 x5 x7 (0 : Int32) h3
def LX9_throughTo_174 (N : Nat) (rec29 : Int32 → AH → Option (Int32 × AH)) (x0 : Option Nat) (x1 : Int32) (x2 : Int32) (x3 : Int32) (x4 : Int32) (x5 : Int32) : Int32 → AH → Option (Int32 × AH) := lf (fun _ _ => none) (BX9_throughTo_174 N rec29 x0 x1 x2 x3 x4 x5) N
theorem wX9_throughTo_174B {K : ZC} (O : ZOk K cX9_throughTo RX9 "throughTo" 9 (some .int) 3 95) (N : Nat) (rec29 : Int32 → AH → Option (Int32 × AH)) (x0 : Option Nat) (x1 : Int32) (x2 : Int32) (x3 : Int32) (x4 : Int32) (x5 : Int32) (rec174 : Int32 → AH → Option (Int32 × AH)) (hrec29 : ∀ (y5 : Int32) (hy : AH) (ry : Int32 × AH), rec29 y5 hy = some ry → Zw K (eIH ry) hy 29 [(0, vr x0), (1, vi x1), (2, vi x2), (3, vi x3), (4, vi x4), (5, vi y5)] []) (hrec174 : ∀ (y7 : Int32) (hy : AH) (ry : Int32 × AH), rec174 y7 hy = some ry → Zw K (eIH ry) hy 174 [(0, vr x0), (1, vi x1), (2, vi x2), (3, vi x3), (4, vi x4), (5, vi x5), (7, vi y7)] []) (x7 : Int32) (h : AH) (r : Int32 × AH) (hr : BX9_throughTo_174 N rec29 x0 x1 x2 x3 x4 x5 rec174 x7 h = some r) : Zw K (eIH r) h 174 [(0, vr x0), (1, vi x1), (2, vi x2), (3, vi x3), (4, vi x4), (5, vi x5), (7, vi x7)] [] := by
  unfold BX9_throughTo_174 at hr
  refine z_iload O 6 dX9_throughTo_174 rfl ?_
  refine z_bipush O dX9_throughTo_176 kbi_8 ?_
  refine z_iload O 5 dX9_throughTo_178 rfl ?_
  refine z_imul O dX9_throughTo_180 ?_
  refine z_icmp_ge (tgt := 256) O dX9_throughTo_181 (by decide) hr (fun hr => ?_) (fun hr => ?_)
  · refine z_iincL O 5 (fun v1 => [(5, vi v1), (0, vr x0), (1, vi x1), (2, vi x2), (3, vi x3), (4, vi x4), (7, vi x7)]) dX9_throughTo_256 rfl rfl (by decide) (fun _ => rfl) hr (fun v1 hr => ?_)
    refine z_goto (tgt := 29) O dX9_throughTo_259 (by decide) ?_
    refine z_sub [1, 2, 3, 4, 5, 0] rfl ?_
    exact hrec29 v1 h _ hr
  · refine z_aload_n O 0 dX9_throughTo_184 rfl rfl ?_
    refine z_getR O o_Model_cost q1788 dX9_throughTo_185 hr (fun v2 hr => ?_)
    refine z_iload O 6 dX9_throughTo_188 rfl ?_
    refine z_ldcw O q2404 dX9_throughTo_190 ?_
    refine z_iastore O dX9_throughTo_193 hr (fun h3 hr => ?_)
    refine z_iconst O dX9_throughTo_194 kic_0 ?_
    refine z_istore O [(8, vi (0 : Int32)), (0, vr x0), (1, vi x1), (2, vi x2), (3, vi x3), (4, vi x4), (5, vi x5), (7, vi x7)] dX9_throughTo_195 (by decide) rfl ?_
    refine z_sub [1, 2, 3, 4, 5, 6, 7, 0] rfl ?_
    exact wX9_throughTo_197 O N rec29 rec174 x0 x1 x2 x3 x4 x5 x7 hrec29 hrec174 _ (0 : Int32) h3 _ hr
theorem wX9_throughTo_174 {K : ZC} (O : ZOk K cX9_throughTo RX9 "throughTo" 9 (some .int) 3 95) (N : Nat) (rec29 : Int32 → AH → Option (Int32 × AH)) (x0 : Option Nat) (x1 : Int32) (x2 : Int32) (x3 : Int32) (x4 : Int32) (x5 : Int32) (hrec29 : ∀ (y5 : Int32) (hy : AH) (ry : Int32 × AH), rec29 y5 hy = some ry → Zw K (eIH ry) hy 29 [(0, vr x0), (1, vi x1), (2, vi x2), (3, vi x3), (4, vi x4), (5, vi y5)] []) : ∀ (n : Nat) (x7 : Int32) (h : AH) (r : Int32 × AH), lf (fun _ _ => none) (BX9_throughTo_174 N rec29 x0 x1 x2 x3 x4 x5) n x7 h = some r → Zw K (eIH r) h 174 [(0, vr x0), (1, vi x1), (2, vi x2), (3, vi x3), (4, vi x4), (5, vi x5), (7, vi x7)] [] := by
  intro n
  induction n with
  | zero => intro x7 h r hr; cases hr
  | succ n ih => intro x7 h r hr; exact wX9_throughTo_174B O N rec29 x0 x1 x2 x3 x4 x5 (lf (fun _ _ => none) (BX9_throughTo_174 N rec29 x0 x1 x2 x3 x4 x5) n) hrec29 ih x7 h r hr
def BX9_throughTo_70 (N : Nat) (rec29 : Int32 → AH → Option (Int32 × AH)) (x0 : Option Nat) (x1 : Int32) (x2 : Int32) (x3 : Int32) (x4 : Int32) (x5 : Int32) (x6 : Int32) (rec70 : Int32 → AH → Option (Int32 × AH)) : Int32 → AH → Option (Int32 × AH) := fun x7 h =>
  if ((8 : Int32) * x5) ≤ x7 then
    LX9_throughTo_174 N rec29 x0 x1 x2 x3 x4 x5 (0 : Int32) h
  else
    (gR h f_Model_outer x0).bind fun v1 =>
    (sA h 0 v1 x7 (100000 : Int32)).bind fun h2 =>
    (rm x7 ((2 : Int32) * x5)).bind fun v3 =>
    if v3 = 0 then
      jlet (x7 + (1 : Int32)) fun v4 =>
      rec70 v4 h2
    else
      if x5 = x3 then
        if x7 = x6 then
          bX9_throughTo_116 N rec29 rec70 x0 x1 x2 x3 x4 x5 x6 x7 h2
        else
          jlet (x7 + (1 : Int32)) fun v5 =>
          rec70 v5 h2
      else
        bX9_throughTo_116 N rec29 rec70 x0 x1 x2 x3 x4 x5 x6 x7 h2
def LX9_throughTo_70 (N : Nat) (rec29 : Int32 → AH → Option (Int32 × AH)) (x0 : Option Nat) (x1 : Int32) (x2 : Int32) (x3 : Int32) (x4 : Int32) (x5 : Int32) (x6 : Int32) : Int32 → AH → Option (Int32 × AH) := lf (fun _ _ => none) (BX9_throughTo_70 N rec29 x0 x1 x2 x3 x4 x5 x6) N
theorem wX9_throughTo_70B {K : ZC} (O : ZOk K cX9_throughTo RX9 "throughTo" 9 (some .int) 3 95) (N : Nat) (rec29 : Int32 → AH → Option (Int32 × AH)) (x0 : Option Nat) (x1 : Int32) (x2 : Int32) (x3 : Int32) (x4 : Int32) (x5 : Int32) (x6 : Int32) (rec70 : Int32 → AH → Option (Int32 × AH)) (hrec29 : ∀ (y5 : Int32) (hy : AH) (ry : Int32 × AH), rec29 y5 hy = some ry → Zw K (eIH ry) hy 29 [(0, vr x0), (1, vi x1), (2, vi x2), (3, vi x3), (4, vi x4), (5, vi y5)] []) (hrec70 : ∀ (y7 : Int32) (hy : AH) (ry : Int32 × AH), rec70 y7 hy = some ry → Zw K (eIH ry) hy 70 [(0, vr x0), (1, vi x1), (2, vi x2), (3, vi x3), (4, vi x4), (5, vi x5), (6, vi x6), (7, vi y7)] []) (x7 : Int32) (h : AH) (r : Int32 × AH) (hr : BX9_throughTo_70 N rec29 x0 x1 x2 x3 x4 x5 x6 rec70 x7 h = some r) : Zw K (eIH r) h 70 [(0, vr x0), (1, vi x1), (2, vi x2), (3, vi x3), (4, vi x4), (5, vi x5), (6, vi x6), (7, vi x7)] [] := by
  unfold BX9_throughTo_70 at hr
  refine z_iload O 7 dX9_throughTo_70 rfl ?_
  refine z_bipush O dX9_throughTo_72 kbi_8 ?_
  refine z_iload O 5 dX9_throughTo_74 rfl ?_
  refine z_imul O dX9_throughTo_76 ?_
  refine z_icmp_ge (tgt := 171) O dX9_throughTo_77 (by decide) hr (fun hr => ?_) (fun hr => ?_)
  · refine z_iconst O dX9_throughTo_171 kic_0 ?_
    refine z_istore O [(7, vi (0 : Int32)), (0, vr x0), (1, vi x1), (2, vi x2), (3, vi x3), (4, vi x4), (5, vi x5), (6, vi x6)] dX9_throughTo_172 (by decide) rfl ?_
    refine z_sub [1, 2, 3, 4, 5, 6, 0] rfl ?_
    exact wX9_throughTo_174 O N rec29 x0 x1 x2 x3 x4 x5 hrec29 _ (0 : Int32) h _ hr
  · refine z_aload_n O 0 dX9_throughTo_80 rfl rfl ?_
    refine z_getR O o_Model_outer q1789 dX9_throughTo_81 hr (fun v1 hr => ?_)
    refine z_iload O 7 dX9_throughTo_84 rfl ?_
    refine z_ldcw O q2404 dX9_throughTo_86 ?_
    refine z_iastore O dX9_throughTo_89 hr (fun h2 hr => ?_)
    refine z_iload O 7 dX9_throughTo_90 rfl ?_
    refine z_iconst O dX9_throughTo_92 kic_2 ?_
    refine z_iload O 5 dX9_throughTo_93 rfl ?_
    refine z_imul O dX9_throughTo_95 ?_
    refine z_irem O dX9_throughTo_96 hr (fun v3 hr => ?_)
    refine z_if_eq (tgt := 165) O dX9_throughTo_97 (by decide) hr (fun hr => ?_) (fun hr => ?_)
    · refine z_iincL O 7 (fun v4 => [(7, vi v4), (0, vr x0), (1, vi x1), (2, vi x2), (3, vi x3), (4, vi x4), (5, vi x5), (6, vi x6)]) dX9_throughTo_165 rfl rfl (by decide) (fun _ => rfl) hr (fun v4 hr => ?_)
      refine z_goto (tgt := 70) O dX9_throughTo_168 (by decide) ?_
      refine z_sub [1, 2, 3, 4, 5, 6, 7, 0] rfl ?_
      exact hrec70 v4 h2 _ hr
    · refine z_iload O 5 dX9_throughTo_100 rfl ?_
      refine z_iload_n O 3 dX9_throughTo_102 rfl rfl ?_
      refine z_icmp_ne (tgt := 116) O dX9_throughTo_103 (by decide) hr (fun hr => ?_) (fun hr => ?_)
      · refine z_iload O 7 dX9_throughTo_106 rfl ?_
        refine z_iload O 6 dX9_throughTo_108 rfl ?_
        refine z_icmp_eq (tgt := 116) O dX9_throughTo_110 (by decide) hr (fun hr => ?_) (fun hr => ?_)
        · exact wX9_throughTo_116 O N rec29 rec70 x0 x1 x2 x3 x4 x5 x6 x7 h2 hrec29 hrec70 _ hr
        · refine z_goto (tgt := 165) O dX9_throughTo_113 (by decide) ?_
          refine z_iincL O 7 (fun v5 => [(7, vi v5), (0, vr x0), (1, vi x1), (2, vi x2), (3, vi x3), (4, vi x4), (5, vi x5), (6, vi x6)]) dX9_throughTo_165 rfl rfl (by decide) (fun _ => rfl) hr (fun v5 hr => ?_)
          refine z_goto (tgt := 70) O dX9_throughTo_168 (by decide) ?_
          refine z_sub [1, 2, 3, 4, 5, 6, 7, 0] rfl ?_
          exact hrec70 v5 h2 _ hr
      · exact wX9_throughTo_116 O N rec29 rec70 x0 x1 x2 x3 x4 x5 x6 x7 h2 hrec29 hrec70 _ hr
theorem wX9_throughTo_70 {K : ZC} (O : ZOk K cX9_throughTo RX9 "throughTo" 9 (some .int) 3 95) (N : Nat) (rec29 : Int32 → AH → Option (Int32 × AH)) (x0 : Option Nat) (x1 : Int32) (x2 : Int32) (x3 : Int32) (x4 : Int32) (x5 : Int32) (x6 : Int32) (hrec29 : ∀ (y5 : Int32) (hy : AH) (ry : Int32 × AH), rec29 y5 hy = some ry → Zw K (eIH ry) hy 29 [(0, vr x0), (1, vi x1), (2, vi x2), (3, vi x3), (4, vi x4), (5, vi y5)] []) : ∀ (n : Nat) (x7 : Int32) (h : AH) (r : Int32 × AH), lf (fun _ _ => none) (BX9_throughTo_70 N rec29 x0 x1 x2 x3 x4 x5 x6) n x7 h = some r → Zw K (eIH r) h 70 [(0, vr x0), (1, vi x1), (2, vi x2), (3, vi x3), (4, vi x4), (5, vi x5), (6, vi x6), (7, vi x7)] [] := by
  intro n
  induction n with
  | zero => intro x7 h r hr; cases hr
  | succ n ih => intro x7 h r hr; exact wX9_throughTo_70B O N rec29 x0 x1 x2 x3 x4 x5 x6 (lf (fun _ _ => none) (BX9_throughTo_70 N rec29 x0 x1 x2 x3 x4 x5 x6) n) hrec29 ih x7 h r hr
def BX9_throughTo_270 (N : Nat) (x0 : Option Nat) (x2 : Int32) (x4 : Int32) (rec270 : Int32 → Int32 → AH → Option (Int32 × AH)) : Int32 → Int32 → AH → Option (Int32 × AH) := fun x5 x6 h =>
  if ((8 : Int32) * x4) ≤ x6 then
    if x2 ≤ 0 then
      some ((x5 + (100 : Int32)), h)
    else
      some (x5, h)
  else
    (gR h f_Model_cost x0).bind fun v1 =>
    (aI h 0 v1 x6).bind fun v2 =>
    (F_X9_least x5 v2).bind fun v3 =>
    jlet (x6 + (1 : Int32)) fun v4 =>
    rec270 v3 v4 h
def LX9_throughTo_270 (N : Nat) (x0 : Option Nat) (x2 : Int32) (x4 : Int32) : Int32 → Int32 → AH → Option (Int32 × AH) := lf (fun _ _ _ => none) (BX9_throughTo_270 N x0 x2 x4) N
theorem wX9_throughTo_270B {K : ZC} (O : ZOk K cX9_throughTo RX9 "throughTo" 9 (some .int) 3 95) (N : Nat) (x0 : Option Nat) (x2 : Int32) (x4 : Int32) (rec270 : Int32 → Int32 → AH → Option (Int32 × AH)) (hrec270 : ∀ (y5 : Int32) (y6 : Int32) (hy : AH) (ry : Int32 × AH), rec270 y5 y6 hy = some ry → Zw K (eIH ry) hy 270 [(0, vr x0), (2, vi x2), (4, vi x4), (5, vi y5), (6, vi y6)] []) (x5 : Int32) (x6 : Int32) (h : AH) (r : Int32 × AH) (hr : BX9_throughTo_270 N x0 x2 x4 rec270 x5 x6 h = some r) : Zw K (eIH r) h 270 [(0, vr x0), (2, vi x2), (4, vi x4), (5, vi x5), (6, vi x6)] [] := by
  unfold BX9_throughTo_270 at hr
  refine z_iload O 4 dX9_throughTo_270 rfl ?_
  refine z_bipush O dX9_throughTo_272 kbi_8 ?_
  refine z_iload O 2 dX9_throughTo_274 rfl ?_
  refine z_imul O dX9_throughTo_276 ?_
  refine z_icmp_ge (tgt := 300) O dX9_throughTo_277 (by decide) hr (fun hr => ?_) (fun hr => ?_)
  · refine z_iload_n O 1 dX9_throughTo_300 rfl rfl ?_
    refine z_if_le (tgt := 309) O dX9_throughTo_301 (by decide) hr (fun hr => ?_) (fun hr => ?_)
    · refine z_iload O 3 dX9_throughTo_309 rfl ?_
      refine z_bipush O dX9_throughTo_311 kbi_100 ?_
      refine z_iadd O dX9_throughTo_313 ?_
      exact z_iret O dX9_throughTo_314 (by cases hr; rfl)
    · refine z_iload O 3 dX9_throughTo_304 rfl ?_
      refine z_goto (tgt := 314) O dX9_throughTo_306 (by decide) ?_
      exact z_iret O dX9_throughTo_314 (by cases hr; rfl)
  · refine z_iload O 3 dX9_throughTo_280 rfl ?_
    refine z_aload_n O 0 dX9_throughTo_282 rfl rfl ?_
    refine z_getR O o_Model_cost q1788 dX9_throughTo_283 hr (fun v1 hr => ?_)
    refine z_iload O 4 dX9_throughTo_286 rfl ?_
    refine z_iaload O dX9_throughTo_288 hr (fun v2 hr => ?_)
    refine bs hr (fun v3 hF hr => ?_)
    refine z_callS O [vi x5, vi v2] (vi v3) fS_X9_least q2409 (fun l G => mX9_least l G x5 v2 h _ hF) rfl ⟨Nat.le_of_ble_eq_true rfl, Nat.le_of_ble_eq_true rfl⟩ (Nat.le_of_ble_eq_true rfl) dX9_throughTo_289 ?_
    refine z_istore O [(5, vi v3), (0, vr x0), (2, vi x2), (4, vi x4), (6, vi x6)] dX9_throughTo_292 (by decide) rfl ?_
    refine z_iincL O 4 (fun v4 => [(6, vi v4), (5, vi v3), (0, vr x0), (2, vi x2), (4, vi x4)]) dX9_throughTo_294 rfl rfl (by decide) (fun _ => rfl) hr (fun v4 hr => ?_)
    refine z_goto (tgt := 270) O dX9_throughTo_297 (by decide) ?_
    refine z_sub [2, 3, 4, 1, 0] rfl ?_
    exact hrec270 v3 v4 h _ hr
theorem wX9_throughTo_270 {K : ZC} (O : ZOk K cX9_throughTo RX9 "throughTo" 9 (some .int) 3 95) (N : Nat) (x0 : Option Nat) (x2 : Int32) (x4 : Int32) : ∀ (n : Nat) (x5 : Int32) (x6 : Int32) (h : AH) (r : Int32 × AH), lf (fun _ _ _ => none) (BX9_throughTo_270 N x0 x2 x4) n x5 x6 h = some r → Zw K (eIH r) h 270 [(0, vr x0), (2, vi x2), (4, vi x4), (5, vi x5), (6, vi x6)] [] := by
  intro n
  induction n with
  | zero => intro x5 x6 h r hr; cases hr
  | succ n ih => intro x5 x6 h r hr; exact wX9_throughTo_270B O N x0 x2 x4 (lf (fun _ _ _ => none) (BX9_throughTo_270 N x0 x2 x4) n)  ih x5 x6 h r hr
def BX9_throughTo_29 (N : Nat) (x0 : Option Nat) (x1 : Int32) (x2 : Int32) (x3 : Int32) (x4 : Int32) (rec29 : Int32 → AH → Option (Int32 × AH)) : Int32 → AH → Option (Int32 × AH) := fun x5 h =>
  if x5 < x4 then
    LX9_throughTo_270 N x0 x2 x4 (100000 : Int32) (0 : Int32) h
  else
    (gR h f_Model_v x0).bind fun v1 =>
    (F_X9_part x1 x5 (1 : Int32)).bind fun v2 =>
    (aI h 0 v1 v2).bind fun v3 =>
    (gR h f_Model_v x0).bind fun v4 =>
    (F_X9_part x1 x5 (2 : Int32)).bind fun v5 =>
    (aI h 0 v4 v5).bind fun v6 =>
    (F_X9_doorPlace x5 v3 v6).bind fun v7 =>
    LX9_throughTo_70 N rec29 x0 x1 x2 x3 x4 x5 v7 (0 : Int32) h
def LX9_throughTo_29 (N : Nat) (x0 : Option Nat) (x1 : Int32) (x2 : Int32) (x3 : Int32) (x4 : Int32) : Int32 → AH → Option (Int32 × AH) := lf (fun _ _ => none) (BX9_throughTo_29 N x0 x1 x2 x3 x4) N
theorem wX9_throughTo_29B {K : ZC} (O : ZOk K cX9_throughTo RX9 "throughTo" 9 (some .int) 3 95) (N : Nat) (x0 : Option Nat) (x1 : Int32) (x2 : Int32) (x3 : Int32) (x4 : Int32) (rec29 : Int32 → AH → Option (Int32 × AH)) (hrec29 : ∀ (y5 : Int32) (hy : AH) (ry : Int32 × AH), rec29 y5 hy = some ry → Zw K (eIH ry) hy 29 [(0, vr x0), (1, vi x1), (2, vi x2), (3, vi x3), (4, vi x4), (5, vi y5)] []) (x5 : Int32) (h : AH) (r : Int32 × AH) (hr : BX9_throughTo_29 N x0 x1 x2 x3 x4 rec29 x5 h = some r) : Zw K (eIH r) h 29 [(0, vr x0), (1, vi x1), (2, vi x2), (3, vi x3), (4, vi x4), (5, vi x5)] [] := by
  unfold BX9_throughTo_29 at hr
  refine z_iload O 5 dX9_throughTo_29 rfl ?_
  refine z_iload O 4 dX9_throughTo_31 rfl ?_
  refine z_icmp_lt (tgt := 262) O dX9_throughTo_33 (by decide) hr (fun hr => ?_) (fun hr => ?_)
  · refine z_ldcw O q2404 dX9_throughTo_262 ?_
    refine z_istore O [(5, vi (100000 : Int32)), (0, vr x0), (1, vi x1), (2, vi x2), (3, vi x3), (4, vi x4)] dX9_throughTo_265 (by decide) rfl ?_
    refine z_iconst O dX9_throughTo_267 kic_0 ?_
    refine z_istore O [(6, vi (0 : Int32)), (5, vi (100000 : Int32)), (0, vr x0), (1, vi x1), (2, vi x2), (3, vi x3), (4, vi x4)] dX9_throughTo_268 (by decide) rfl ?_
    refine z_sub [2, 4, 6, 1, 0] rfl ?_
    exact wX9_throughTo_270 O N x0 x2 x4 _ (100000 : Int32) (0 : Int32) h _ hr
  · refine z_iload O 5 dX9_throughTo_36 rfl ?_
    refine z_aload_n O 0 dX9_throughTo_38 rfl rfl ?_
    refine z_getR O o_Model_v q1778 dX9_throughTo_39 hr (fun v1 hr => ?_)
    refine z_iload_n O 1 dX9_throughTo_42 rfl rfl ?_
    refine z_iload O 5 dX9_throughTo_43 rfl ?_
    refine z_iconst O dX9_throughTo_45 kic_1 ?_
    refine bs hr (fun v2 hF hr => ?_)
    refine z_callS O [vi x1, vi x5, vi (1 : Int32)] (vi v2) fS_X9_part q2223 (fun l G => mX9_part l G x1 x5 (1 : Int32) h _ hF) rfl ⟨Nat.le_of_ble_eq_true rfl, Nat.le_of_ble_eq_true rfl⟩ (Nat.le_of_ble_eq_true rfl) dX9_throughTo_46 ?_
    refine z_iaload O dX9_throughTo_49 hr (fun v3 hr => ?_)
    refine z_aload_n O 0 dX9_throughTo_50 rfl rfl ?_
    refine z_getR O o_Model_v q1778 dX9_throughTo_51 hr (fun v4 hr => ?_)
    refine z_iload_n O 1 dX9_throughTo_54 rfl rfl ?_
    refine z_iload O 5 dX9_throughTo_55 rfl ?_
    refine z_iconst O dX9_throughTo_57 kic_2 ?_
    refine bs hr (fun v5 hF hr => ?_)
    refine z_callS O [vi x1, vi x5, vi (2 : Int32)] (vi v5) fS_X9_part q2223 (fun l G => mX9_part l G x1 x5 (2 : Int32) h _ hF) rfl ⟨Nat.le_of_ble_eq_true rfl, Nat.le_of_ble_eq_true rfl⟩ (Nat.le_of_ble_eq_true rfl) dX9_throughTo_58 ?_
    refine z_iaload O dX9_throughTo_61 hr (fun v6 hr => ?_)
    refine bs hr (fun v7 hF hr => ?_)
    refine z_callS O [vi x5, vi v3, vi v6] (vi v7) fS_X9_doorPlace q2359 (fun l G => mX9_doorPlace l G x5 v3 v6 h _ hF) rfl ⟨Nat.le_of_ble_eq_true rfl, Nat.le_of_ble_eq_true rfl⟩ (Nat.le_of_ble_eq_true rfl) dX9_throughTo_62 ?_
    refine z_istore O [(6, vi v7), (0, vr x0), (1, vi x1), (2, vi x2), (3, vi x3), (4, vi x4), (5, vi x5)] dX9_throughTo_65 (by decide) rfl ?_
    refine z_iconst O dX9_throughTo_67 kic_0 ?_
    refine z_istore O [(7, vi (0 : Int32)), (6, vi v7), (0, vr x0), (1, vi x1), (2, vi x2), (3, vi x3), (4, vi x4), (5, vi x5)] dX9_throughTo_68 (by decide) rfl ?_
    refine z_sub [2, 3, 4, 5, 6, 7, 1, 0] rfl ?_
    exact wX9_throughTo_70 O N rec29 x0 x1 x2 x3 x4 x5 v7 hrec29 _ (0 : Int32) h _ hr
theorem wX9_throughTo_29 {K : ZC} (O : ZOk K cX9_throughTo RX9 "throughTo" 9 (some .int) 3 95) (N : Nat) (x0 : Option Nat) (x1 : Int32) (x2 : Int32) (x3 : Int32) (x4 : Int32) : ∀ (n : Nat) (x5 : Int32) (h : AH) (r : Int32 × AH), lf (fun _ _ => none) (BX9_throughTo_29 N x0 x1 x2 x3 x4) n x5 h = some r → Zw K (eIH r) h 29 [(0, vr x0), (1, vi x1), (2, vi x2), (3, vi x3), (4, vi x4), (5, vi x5)] [] := by
  intro n
  induction n with
  | zero => intro x5 h r hr; cases hr
  | succ n ih => intro x5 h r hr; exact wX9_throughTo_29B O N x0 x1 x2 x3 x4 (lf (fun _ _ => none) (BX9_throughTo_29 N x0 x1 x2 x3 x4) n)  ih x5 h r hr
def F_X9_throughTo (N : Nat) (x0 : Option Nat) (x1 : Int32) (x2 : Int32) (h : AH) : Option (Int32 × AH) :=
  (ck h [9] x0).bind fun _ =>
  (gR h f_Model_v x0).bind fun v1 =>
  (aI h 0 v1 ((0 : Int32) + x1)).bind fun v2 =>
  if v2 = 0 then
    some ((0 : Int32), h)
  else
    if x2 ≤ 0 then
      LX9_throughTo_29 N x0 x1 x2 v2 (1 : Int32) v2 h
    else
      LX9_throughTo_29 N x0 x1 x2 v2 x2 v2 h
theorem mX9_throughTo (l : Launch) (G : ZG) (N : Nat) (x0 : Option Nat) (x1 : Int32) (x2 : Int32) (h : AH) (r : Int32 × AH) (hr : F_X9_throughTo N x0 x1 x2 h = some r) : MZ l G yX9_throughTo cX9_throughTo 9 (some .int) 3 95 [vr x0, vi x1, vi x2] h (eIH r) := by
  unfold F_X9_throughTo at hr
  refine MZ.of (by decide) [(0, vr x0), (1, vi x1), (2, vi x2)] rfl (Nat.le_of_ble_eq_true rfl) (fun K O => ?_)
  have O : ZOk K cX9_throughTo RX9 "throughTo" 9 (some .int) 3 95 := O
  refine bs hr (fun _ hck hr => ?_)
  refine z_aload_n O 0 dX9_throughTo_0 rfl rfl ?_
  refine z_getR O o_Model_v q1778 dX9_throughTo_1 hr (fun v1 hr => ?_)
  refine z_iconst O dX9_throughTo_4 kic_0 ?_
  refine z_iload_n O 1 dX9_throughTo_5 rfl rfl ?_
  refine z_iadd O dX9_throughTo_6 ?_
  refine z_iaload O dX9_throughTo_7 hr (fun v2 hr => ?_)
  refine z_istore_n O [(3, vi v2), (0, vr x0), (1, vi x1), (2, vi x2)] dX9_throughTo_8 rfl (by decide) rfl ?_
  refine z_iload_n O 0 dX9_throughTo_9 rfl rfl ?_
  refine z_if_ne (tgt := 15) O dX9_throughTo_10 (by decide) hr (fun hr => ?_) (fun hr => ?_)
  · refine z_iconst O dX9_throughTo_13 kic_0 ?_
    exact z_iret O dX9_throughTo_14 (by cases hr; rfl)
  · refine z_iload_n O 3 dX9_throughTo_15 rfl rfl ?_
    refine z_if_le (tgt := 23) O dX9_throughTo_16 (by decide) hr (fun hr => ?_) (fun hr => ?_)
    · refine z_iconst O dX9_throughTo_23 kic_1 ?_
      refine z_istore O [(4, vi (1 : Int32)), (3, vi v2), (0, vr x0), (1, vi x1), (2, vi x2)] dX9_throughTo_24 (by decide) rfl ?_
      refine z_iload_n O 1 dX9_throughTo_26 rfl rfl ?_
      refine z_istore O [(5, vi v2), (4, vi (1 : Int32)), (3, vi v2), (0, vr x0), (1, vi x1), (2, vi x2)] dX9_throughTo_27 (by decide) rfl ?_
      refine z_sub [3, 4, 5, 2, 1, 0] rfl ?_
      exact wX9_throughTo_29 O N x0 x1 x2 v2 (1 : Int32) _ v2 h _ hr
    · refine z_iload_n O 3 dX9_throughTo_19 rfl rfl ?_
      refine z_goto (tgt := 24) O dX9_throughTo_20 (by decide) ?_
      refine z_istore O [(4, vi x2), (3, vi v2), (0, vr x0), (1, vi x1), (2, vi x2)] dX9_throughTo_24 (by decide) rfl ?_
      refine z_iload_n O 1 dX9_throughTo_26 rfl rfl ?_
      refine z_istore O [(5, vi v2), (4, vi x2), (3, vi v2), (0, vr x0), (1, vi x1), (2, vi x2)] dX9_throughTo_27 (by decide) rfl ?_
      refine z_sub [3, 4, 5, 2, 1, 0] rfl ?_
      exact wX9_throughTo_29 O N x0 x1 x2 v2 x2 _ v2 h _ hr
theorem fV_X9_breaks : CVf RX9 yX9_breaks cX9_breaks 3 (some .int) 2 := ⟨q2416, q2417, q137, q2418, ⟨⟨by decide +kernel, by decide +kernel⟩, by decide +kernel⟩⟩
def F_X9_breaks (N : Nat) (x0 : Option Nat) (x1 : Int32) (x2 : Int32) (h : AH) : Option (Int32 × AH) :=
  (ck h [9] x0).bind fun _ =>
  (pI h f_Model_thrown x0 (0 : Int32)).bind fun h1 =>
  (F_X9_isDepth x0 x1 x2 h1).bind fun v2 =>
  if v2 = 0 then
    b2 (F_X9_refused x0 (1 : Int32) h1) fun v4 h3 =>
    some (v4, h3)
  else
    b2 (F_X9_throughTo N x0 x1 x2 h1) fun v6 h5 =>
    (rm v6 (100 : Int32)).bind fun v7 =>
    b2 (F_X9_good x0 v7 h5) fun v9 h8 =>
    some (v9, h8)
theorem mX9_breaks (l : Launch) (G : ZG) (N : Nat) (x0 : Option Nat) (x1 : Int32) (x2 : Int32) (h : AH) (r : Int32 × AH) (hr : F_X9_breaks N x0 x1 x2 h = some r) : MZ l G yX9_breaks cX9_breaks 3 (some .int) 4 123 [vr x0, vi x1, vi x2] h (eIH r) := by
  unfold F_X9_breaks at hr
  refine MZ.of (by decide) [(0, vr x0), (1, vi x1), (2, vi x2)] rfl (Nat.le_of_ble_eq_true rfl) (fun K O => ?_)
  have O : ZOk K cX9_breaks RX9 "breaks" 3 (some .int) 4 123 := O
  refine bs hr (fun _ hck hr => ?_)
  refine z_aload_n O 0 dX9_breaks_0 rfl rfl ?_
  refine z_iconst O dX9_breaks_1 kic_0 ?_
  refine z_putI O o_Model_thrown (w_Model_thrown _) q1762 dX9_breaks_2 hr (fun h1 hr => ?_)
  refine z_aload_n O 0 dX9_breaks_5 rfl rfl ?_
  refine z_iload_n O 1 dX9_breaks_6 rfl rfl ?_
  refine z_iload_n O 2 dX9_breaks_7 rfl rfl ?_
  refine bs hr (fun v2 hF hr => ?_)
  refine z_callV O [vi x1, vi x2] (vi v2) fV_X9_isDepth q2327 (fun l G => mX9_isDepth l G x0 x1 x2 h1 _ hF) (zck hF) rfl rfl ⟨Nat.le_of_ble_eq_true rfl, Nat.le_of_ble_eq_true rfl⟩ (Nat.le_of_ble_eq_true rfl) dX9_breaks_8 ?_
  refine z_if_eq (tgt := 30) O dX9_breaks_11 (by decide) hr (fun hr => ?_) (fun hr => ?_)
  · refine z_aload_n O 0 dX9_breaks_30 rfl rfl ?_
    refine z_iconst O dX9_breaks_31 kic_1 ?_
    refine b2s hr (fun v4 h3 hF hr => ?_)
    refine z_callV O [vi (1 : Int32)] (vi v4) fV_X9_refused q1886 (fun l G => mX9_refused l G x0 (1 : Int32) h1 _ hF) (zck hF) rfl rfl ⟨Nat.le_of_ble_eq_true rfl, Nat.le_of_ble_eq_true rfl⟩ (Nat.le_of_ble_eq_true rfl) dX9_breaks_32 ?_
    exact z_iret O dX9_breaks_35 (by cases hr; rfl)
  · refine z_aload_n O 0 dX9_breaks_14 rfl rfl ?_
    refine z_aload_n O 0 dX9_breaks_15 rfl rfl ?_
    refine z_iload_n O 1 dX9_breaks_16 rfl rfl ?_
    refine z_iload_n O 2 dX9_breaks_17 rfl rfl ?_
    refine b2s hr (fun v6 h5 hF hr => ?_)
    refine z_callV O [vi x1, vi x2] (vi v6) fV_X9_throughTo q2400 (fun l G => mX9_throughTo l G N x0 x1 x2 h1 _ hF) (zck hF) rfl rfl ⟨Nat.le_of_ble_eq_true rfl, Nat.le_of_ble_eq_true rfl⟩ (Nat.le_of_ble_eq_true rfl) dX9_breaks_18 ?_
    refine z_bipush O dX9_breaks_21 kbi_100 ?_
    refine z_irem O dX9_breaks_23 hr (fun v7 hr => ?_)
    refine b2s hr (fun v9 h8 hF hr => ?_)
    refine z_callV O [vi v7] (vi v9) fV_X9_good q2249 (fun l G => mX9_good l G x0 v7 h5 _ hF) (zck hF) rfl rfl ⟨Nat.le_of_ble_eq_true rfl, Nat.le_of_ble_eq_true rfl⟩ (Nat.le_of_ble_eq_true rfl) dX9_breaks_24 ?_
    refine z_goto (tgt := 35) O dX9_breaks_27 (by decide) ?_
    exact z_iret O dX9_breaks_35 (by cases hr; rfl)
theorem fS_X9_adds : CSf yX9_adds cX9_adds 8 (none : Option Jvm.ClassFile.FieldType) 7 := ⟨q2221, q137, q2222, ⟨⟨by decide +kernel, by decide +kernel⟩, by decide +kernel⟩⟩
def F_X9_adds (x0 : Option Nat) (x1 : Int32) (x2 : Int32) (x3 : Int32) (x4 : Int32) (x5 : Int32) (x6 : Int32) (h : AH) : Option (AH) :=
  (aI h 0 x0 ((0 : Int32) + x1)).bind fun v1 =>
  (sA h 0 x0 ((0 : Int32) + x1) (v1 + (1 : Int32))).bind fun h2 =>
  (aI h2 0 x0 ((0 : Int32) + x1)).bind fun v3 =>
  (F_X9_part x1 v3 (0 : Int32)).bind fun v4 =>
  (sA h2 0 x0 v4 x2).bind fun h5 =>
  (F_X9_part x1 v3 (1 : Int32)).bind fun v6 =>
  (sA h5 0 x0 v6 x3).bind fun h7 =>
  (F_X9_part x1 v3 (2 : Int32)).bind fun v8 =>
  (sA h7 0 x0 v8 x4).bind fun h9 =>
  (F_X9_part x1 v3 (3 : Int32)).bind fun v10 =>
  (sA h9 0 x0 v10 x5).bind fun h11 =>
  (F_X9_part x1 v3 (4 : Int32)).bind fun v12 =>
  (sA h11 0 x0 v12 (0 : Int32)).bind fun h13 =>
  (F_X9_part x1 v3 (5 : Int32)).bind fun v14 =>
  (sA h13 0 x0 v14 (0 : Int32)).bind fun h15 =>
  (F_X9_part x1 v3 (6 : Int32)).bind fun v16 =>
  (sA h15 0 x0 v16 (0 : Int32)).bind fun h17 =>
  (F_X9_part x1 v3 (7 : Int32)).bind fun v18 =>
  (sA h17 0 x0 v18 x6).bind fun h19 =>
  some h19
theorem mX9_adds (l : Launch) (G : ZG) (x0 : Option Nat) (x1 : Int32) (x2 : Int32) (x3 : Int32) (x4 : Int32) (x5 : Int32) (x6 : Int32) (h : AH) (r : AH) (hr : F_X9_adds x0 x1 x2 x3 x4 x5 x6 h = some r) : MZ l G yX9_adds cX9_adds 8 (none : Option Jvm.ClassFile.FieldType) 2 70 [vr x0, vi x1, vi x2, vi x3, vi x4, vi x5, vi x6] h (eH r) := by
  unfold F_X9_adds at hr
  refine MZ.of (by decide) [(0, vr x0), (1, vi x1), (2, vi x2), (3, vi x3), (4, vi x4), (5, vi x5), (6, vi x6)] rfl (Nat.le_of_ble_eq_true rfl) (fun K O => ?_)
  have O : ZOk K cX9_adds RX9 "adds" 8 (none : Option Jvm.ClassFile.FieldType) 2 70 := O
  refine z_aload_n O 0 dX9_adds_0 rfl rfl ?_
  refine z_iconst O dX9_adds_1 kic_0 ?_
  refine z_iload_n O 1 dX9_adds_2 rfl rfl ?_
  refine z_iadd O dX9_adds_3 ?_
  refine z_dup2 O dX9_adds_4 rfl rfl ?_
  refine z_iaload O dX9_adds_5 hr (fun v1 hr => ?_)
  refine z_iconst O dX9_adds_6 kic_1 ?_
  refine z_iadd O dX9_adds_7 ?_
  refine z_iastore O dX9_adds_8 hr (fun h2 hr => ?_)
  refine z_aload_n O 0 dX9_adds_9 rfl rfl ?_
  refine z_iconst O dX9_adds_10 kic_0 ?_
  refine z_iload_n O 1 dX9_adds_11 rfl rfl ?_
  refine z_iadd O dX9_adds_12 ?_
  refine z_iaload O dX9_adds_13 hr (fun v3 hr => ?_)
  refine z_istore O [(7, vi v3), (0, vr x0), (1, vi x1), (2, vi x2), (3, vi x3), (4, vi x4), (5, vi x5), (6, vi x6)] dX9_adds_14 (by decide) rfl ?_
  refine z_aload_n O 1 dX9_adds_16 rfl rfl ?_
  refine z_iload_n O 2 dX9_adds_17 rfl rfl ?_
  refine z_iload O 0 dX9_adds_18 rfl ?_
  refine z_iconst O dX9_adds_20 kic_0 ?_
  refine bs hr (fun v4 hF hr => ?_)
  refine z_callS O [vi x1, vi v3, vi (0 : Int32)] (vi v4) fS_X9_part q2223 (fun l G => mX9_part l G x1 v3 (0 : Int32) h2 _ hF) rfl ⟨Nat.le_of_ble_eq_true rfl, Nat.le_of_ble_eq_true rfl⟩ (Nat.le_of_ble_eq_true rfl) dX9_adds_21 ?_
  refine z_iload_n O 3 dX9_adds_24 rfl rfl ?_
  refine z_iastore O dX9_adds_25 hr (fun h5 hr => ?_)
  refine z_aload_n O 1 dX9_adds_26 rfl rfl ?_
  refine z_iload_n O 2 dX9_adds_27 rfl rfl ?_
  refine z_iload O 0 dX9_adds_28 rfl ?_
  refine z_iconst O dX9_adds_30 kic_1 ?_
  refine bs hr (fun v6 hF hr => ?_)
  refine z_callS O [vi x1, vi v3, vi (1 : Int32)] (vi v6) fS_X9_part q2223 (fun l G => mX9_part l G x1 v3 (1 : Int32) h5 _ hF) rfl ⟨Nat.le_of_ble_eq_true rfl, Nat.le_of_ble_eq_true rfl⟩ (Nat.le_of_ble_eq_true rfl) dX9_adds_31 ?_
  refine z_iload_n O 4 dX9_adds_34 rfl rfl ?_
  refine z_iastore O dX9_adds_35 hr (fun h7 hr => ?_)
  refine z_aload_n O 1 dX9_adds_36 rfl rfl ?_
  refine z_iload_n O 2 dX9_adds_37 rfl rfl ?_
  refine z_iload O 0 dX9_adds_38 rfl ?_
  refine z_iconst O dX9_adds_40 kic_2 ?_
  refine bs hr (fun v8 hF hr => ?_)
  refine z_callS O [vi x1, vi v3, vi (2 : Int32)] (vi v8) fS_X9_part q2223 (fun l G => mX9_part l G x1 v3 (2 : Int32) h7 _ hF) rfl ⟨Nat.le_of_ble_eq_true rfl, Nat.le_of_ble_eq_true rfl⟩ (Nat.le_of_ble_eq_true rfl) dX9_adds_41 ?_
  refine z_iload O 5 dX9_adds_44 rfl ?_
  refine z_iastore O dX9_adds_46 hr (fun h9 hr => ?_)
  refine z_aload_n O 1 dX9_adds_47 rfl rfl ?_
  refine z_iload_n O 2 dX9_adds_48 rfl rfl ?_
  refine z_iload O 0 dX9_adds_49 rfl ?_
  refine z_iconst O dX9_adds_51 kic_3 ?_
  refine bs hr (fun v10 hF hr => ?_)
  refine z_callS O [vi x1, vi v3, vi (3 : Int32)] (vi v10) fS_X9_part q2223 (fun l G => mX9_part l G x1 v3 (3 : Int32) h9 _ hF) rfl ⟨Nat.le_of_ble_eq_true rfl, Nat.le_of_ble_eq_true rfl⟩ (Nat.le_of_ble_eq_true rfl) dX9_adds_52 ?_
  refine z_iload O 6 dX9_adds_55 rfl ?_
  refine z_iastore O dX9_adds_57 hr (fun h11 hr => ?_)
  refine z_aload_n O 1 dX9_adds_58 rfl rfl ?_
  refine z_iload_n O 2 dX9_adds_59 rfl rfl ?_
  refine z_iload O 0 dX9_adds_60 rfl ?_
  refine z_iconst O dX9_adds_62 kic_4 ?_
  refine bs hr (fun v12 hF hr => ?_)
  refine z_callS O [vi x1, vi v3, vi (4 : Int32)] (vi v12) fS_X9_part q2223 (fun l G => mX9_part l G x1 v3 (4 : Int32) h11 _ hF) rfl ⟨Nat.le_of_ble_eq_true rfl, Nat.le_of_ble_eq_true rfl⟩ (Nat.le_of_ble_eq_true rfl) dX9_adds_63 ?_
  refine z_iconst O dX9_adds_66 kic_0 ?_
  refine z_iastore O dX9_adds_67 hr (fun h13 hr => ?_)
  refine z_aload_n O 1 dX9_adds_68 rfl rfl ?_
  refine z_iload_n O 2 dX9_adds_69 rfl rfl ?_
  refine z_iload O 0 dX9_adds_70 rfl ?_
  refine z_iconst O dX9_adds_72 kic_5 ?_
  refine bs hr (fun v14 hF hr => ?_)
  refine z_callS O [vi x1, vi v3, vi (5 : Int32)] (vi v14) fS_X9_part q2223 (fun l G => mX9_part l G x1 v3 (5 : Int32) h13 _ hF) rfl ⟨Nat.le_of_ble_eq_true rfl, Nat.le_of_ble_eq_true rfl⟩ (Nat.le_of_ble_eq_true rfl) dX9_adds_73 ?_
  refine z_iconst O dX9_adds_76 kic_0 ?_
  refine z_iastore O dX9_adds_77 hr (fun h15 hr => ?_)
  refine z_aload_n O 1 dX9_adds_78 rfl rfl ?_
  refine z_iload_n O 2 dX9_adds_79 rfl rfl ?_
  refine z_iload O 0 dX9_adds_80 rfl ?_
  refine z_bipush O dX9_adds_82 kbi_6 ?_
  refine bs hr (fun v16 hF hr => ?_)
  refine z_callS O [vi x1, vi v3, vi (6 : Int32)] (vi v16) fS_X9_part q2223 (fun l G => mX9_part l G x1 v3 (6 : Int32) h15 _ hF) rfl ⟨Nat.le_of_ble_eq_true rfl, Nat.le_of_ble_eq_true rfl⟩ (Nat.le_of_ble_eq_true rfl) dX9_adds_84 ?_
  refine z_iconst O dX9_adds_87 kic_0 ?_
  refine z_iastore O dX9_adds_88 hr (fun h17 hr => ?_)
  refine z_aload_n O 1 dX9_adds_89 rfl rfl ?_
  refine z_iload_n O 2 dX9_adds_90 rfl rfl ?_
  refine z_iload O 0 dX9_adds_91 rfl ?_
  refine z_bipush O dX9_adds_93 kbi_7 ?_
  refine bs hr (fun v18 hF hr => ?_)
  refine z_callS O [vi x1, vi v3, vi (7 : Int32)] (vi v18) fS_X9_part q2223 (fun l G => mX9_part l G x1 v3 (7 : Int32) h17 _ hF) rfl ⟨Nat.le_of_ble_eq_true rfl, Nat.le_of_ble_eq_true rfl⟩ (Nat.le_of_ble_eq_true rfl) dX9_adds_95 ?_
  refine z_iload O 7 dX9_adds_98 rfl ?_
  refine z_iastore O dX9_adds_100 hr (fun h19 hr => ?_)
  exact z_vret O dX9_adds_101 (by cases hr; rfl)
theorem fV_X9_costOf : CVf RX9 yX9_costOf cX9_costOf 4 (some .int) 3 := ⟨q2381, qs103, q137, q2382, ⟨⟨by decide +kernel, by decide +kernel⟩, by decide +kernel⟩⟩
def F_X9_costOf (x0 : Option Nat) (x1 : Option Nat) (x2 : Int32) (x3 : Int32) (h : AH) : Option (Int32) :=
  (ck h [9] x0).bind fun _ =>
  (gR h f_Model_land x0).bind fun v1 =>
  (gR h f_MLand_costs v1).bind fun v2 =>
  (aI h 0 v2 x3).bind fun v3 =>
  (aI h 0 x1 ((0 : Int32) + x2)).bind fun v4 =>
  some ((v3 * (8 : Int32)) * (v4 + (1 : Int32)))
theorem mX9_costOf (l : Launch) (G : ZG) (x0 : Option Nat) (x1 : Option Nat) (x2 : Int32) (x3 : Int32) (h : AH) (r : Int32) (hr : F_X9_costOf x0 x1 x2 x3 h = some r) : MZ l G yX9_costOf cX9_costOf 4 (some .int) 1 48 [vr x0, vr x1, vi x2, vi x3] h (eI h r) := by
  unfold F_X9_costOf at hr
  refine MZ.of (by decide) [(0, vr x0), (1, vr x1), (2, vi x2), (3, vi x3)] rfl (Nat.le_of_ble_eq_true rfl) (fun K O => ?_)
  have O : ZOk K cX9_costOf RX9 "costOf" 4 (some .int) 1 48 := O
  refine bs hr (fun _ hck hr => ?_)
  refine z_aload_n O 0 dX9_costOf_0 rfl rfl ?_
  refine z_getR O o_Model_land q1765 dX9_costOf_1 hr (fun v1 hr => ?_)
  refine z_getRN O o_MLand_costs zn1920 dX9_costOf_4 hr (fun v2 hr => ?_)
  refine z_iload_n O 3 dX9_costOf_7 rfl rfl ?_
  refine z_iaload O dX9_costOf_8 hr (fun v3 hr => ?_)
  refine z_bipush O dX9_costOf_9 kbi_8 ?_
  refine z_imul O dX9_costOf_11 ?_
  refine z_aload_n O 1 dX9_costOf_12 rfl rfl ?_
  refine z_iconst O dX9_costOf_13 kic_0 ?_
  refine z_iload_n O 2 dX9_costOf_14 rfl rfl ?_
  refine z_iadd O dX9_costOf_15 ?_
  refine z_iaload O dX9_costOf_16 hr (fun v4 hr => ?_)
  refine z_iconst O dX9_costOf_17 kic_1 ?_
  refine z_iadd O dX9_costOf_18 ?_
  refine z_imul O dX9_costOf_19 ?_
  exact z_iret O dX9_costOf_20 (by cases hr; rfl)
theorem fV_X20_x : CVf RX20 yX20_x cX20_x 2 (some .int) 1 := ⟨q2179, q2180, q155, q2181, ⟨⟨by decide +kernel, by decide +kernel⟩, by decide +kernel⟩⟩
def F_X20_x (x0 : Option Nat) (x1 : Int32) (h : AH) : Option (Int32) :=
  (ck h [20] x0).bind fun _ =>
  (gR h f_MLand_core x0).bind fun v1 =>
  (aI h 0 v1 x1).bind fun v2 =>
  (gI h f_MLand_wide x0).bind fun v3 =>
  (rm v2 v3).bind fun v4 =>
  some v4
theorem mX20_x (l : Launch) (G : ZG) (x0 : Option Nat) (x1 : Int32) (h : AH) (r : Int32) (hr : F_X20_x x0 x1 h = some r) : MZ l G yX20_x cX20_x 2 (some .int) 1 48 [vr x0, vi x1] h (eI h r) := by
  unfold F_X20_x at hr
  refine MZ.of (by decide) [(0, vr x0), (1, vi x1)] rfl (Nat.le_of_ble_eq_true rfl) (fun K O => ?_)
  have O : ZOk K cX20_x RX20 "x" 2 (some .int) 1 48 := O
  refine bs hr (fun _ hck hr => ?_)
  refine z_aload_n O 0 dX20_x_0 rfl rfl ?_
  refine z_getR O o_MLand_core q1927 dX20_x_1 hr (fun v1 hr => ?_)
  refine z_iload_n O 1 dX20_x_4 rfl rfl ?_
  refine z_iaload O dX20_x_5 hr (fun v2 hr => ?_)
  refine z_aload_n O 0 dX20_x_6 rfl rfl ?_
  refine z_getI O o_MLand_wide q1896 dX20_x_7 hr (fun v3 hr => ?_)
  refine z_irem O dX20_x_10 hr (fun v4 hr => ?_)
  exact z_iret O dX20_x_11 (by cases hr; rfl)
theorem fV_X20_y : CVf RX20 yX20_y cX20_y 2 (some .int) 1 := ⟨q2183, q2184, q155, q2185, ⟨⟨by decide +kernel, by decide +kernel⟩, by decide +kernel⟩⟩
def F_X20_y (x0 : Option Nat) (x1 : Int32) (h : AH) : Option (Int32) :=
  (ck h [20] x0).bind fun _ =>
  (gR h f_MLand_core x0).bind fun v1 =>
  (aI h 0 v1 x1).bind fun v2 =>
  (gI h f_MLand_wide x0).bind fun v3 =>
  (dv v2 v3).bind fun v4 =>
  some v4
theorem mX20_y (l : Launch) (G : ZG) (x0 : Option Nat) (x1 : Int32) (h : AH) (r : Int32) (hr : F_X20_y x0 x1 h = some r) : MZ l G yX20_y cX20_y 2 (some .int) 1 48 [vr x0, vi x1] h (eI h r) := by
  unfold F_X20_y at hr
  refine MZ.of (by decide) [(0, vr x0), (1, vi x1)] rfl (Nat.le_of_ble_eq_true rfl) (fun K O => ?_)
  have O : ZOk K cX20_y RX20 "y" 2 (some .int) 1 48 := O
  refine bs hr (fun _ hck hr => ?_)
  refine z_aload_n O 0 dX20_y_0 rfl rfl ?_
  refine z_getR O o_MLand_core q1927 dX20_y_1 hr (fun v1 hr => ?_)
  refine z_iload_n O 1 dX20_y_4 rfl rfl ?_
  refine z_iaload O dX20_y_5 hr (fun v2 hr => ?_)
  refine z_aload_n O 0 dX20_y_6 rfl rfl ?_
  refine z_getI O o_MLand_wide q1896 dX20_y_7 hr (fun v3 hr => ?_)
  refine z_idiv O dX20_y_10 hr (fun v4 hr => ?_)
  exact z_iret O dX20_y_11 (by cases hr; rfl)
theorem fV_X20_far : CVf RX20 yX20_far cX20_far 6 (some .int) 3 := ⟨q2175, q2176, q155, q2177, ⟨⟨by decide +kernel, by decide +kernel⟩, by decide +kernel⟩⟩
def bX20_far_54 (x4 : Int32) (s0 : Int32) (h : AH) : Option (Int32) :=
  if x4 ≤ s0 then
    some s0
  else
    some x4
theorem wX20_far_54 {K : ZC} (O : ZOk K cX20_far RX20 "far" 6 (some .int) 2 69) (x4 : Int32) (s0 : Int32) (h : AH) (r : Int32) (hr : bX20_far_54 x4 s0 h = some r) : Zw K (eI h r) h 54 [(4, vi x4)] [vi s0] := by
  unfold bX20_far_54 at hr
  refine z_istore O [(5, vi s0), (4, vi x4)] dX20_far_54 (by decide) rfl ?_
  refine z_iload O 1 dX20_far_56 rfl ?_
  refine z_iload O 0 dX20_far_58 rfl ?_
  refine z_icmp_le (tgt := 68) O dX20_far_60 (by decide) hr (fun hr => ?_) (fun hr => ?_)
  · refine z_iload O 0 dX20_far_68 rfl ?_
    exact z_iret O dX20_far_70 (by cases hr; rfl)
  · refine z_iload O 1 dX20_far_63 rfl ?_
    refine z_goto (tgt := 70) O dX20_far_65 (by decide) ?_
    exact z_iret O dX20_far_70 (by cases hr; rfl)
def bX20_far_26 (x0 : Option Nat) (x1 : Int32) (x3 : Int32) (s0 : Int32) (h : AH) : Option (Int32) :=
  (F_X20_y x0 x1 h).bind fun v1 =>
  if x3 ≤ v1 then
    (F_X20_y x0 x1 h).bind fun v2 =>
    bX20_far_54 s0 (v2 - x3) h
  else
    (F_X20_y x0 x1 h).bind fun v3 =>
    bX20_far_54 s0 (x3 - v3) h
theorem wX20_far_26 {K : ZC} (O : ZOk K cX20_far RX20 "far" 6 (some .int) 2 69) (x0 : Option Nat) (x1 : Int32) (x3 : Int32) (s0 : Int32) (h : AH) (r : Int32) (hr : bX20_far_26 x0 x1 x3 s0 h = some r) : Zw K (eI h r) h 26 [(0, vr x0), (1, vi x1), (3, vi x3)] [vi s0] := by
  unfold bX20_far_26 at hr
  refine z_istore O [(4, vi s0), (0, vr x0), (1, vi x1), (3, vi x3)] dX20_far_26 (by decide) rfl ?_
  refine z_iload_n O 3 dX20_far_28 rfl rfl ?_
  refine z_aload_n O 1 dX20_far_29 rfl rfl ?_
  refine z_iload_n O 2 dX20_far_30 rfl rfl ?_
  refine bs hr (fun v1 hF hr => ?_)
  refine z_callV O [vi x1] (vi v1) fV_X20_y q2182 (fun l G => mX20_y l G x0 x1 h _ hF) (zck hF) rfl rfl ⟨Nat.le_of_ble_eq_true rfl, Nat.le_of_ble_eq_true rfl⟩ (Nat.le_of_ble_eq_true rfl) dX20_far_31 ?_
  refine z_icmp_le (tgt := 47) O dX20_far_34 (by decide) hr (fun hr => ?_) (fun hr => ?_)
  · refine z_aload_n O 1 dX20_far_47 rfl rfl ?_
    refine z_iload_n O 2 dX20_far_48 rfl rfl ?_
    refine bs hr (fun v2 hF hr => ?_)
    refine z_callV O [vi x1] (vi v2) fV_X20_y q2182 (fun l G => mX20_y l G x0 x1 h _ hF) (zck hF) rfl rfl ⟨Nat.le_of_ble_eq_true rfl, Nat.le_of_ble_eq_true rfl⟩ (Nat.le_of_ble_eq_true rfl) dX20_far_49 ?_
    refine z_iload_n O 3 dX20_far_52 rfl rfl ?_
    refine z_isub O dX20_far_53 ?_
    refine z_sub [0] rfl ?_
    exact wX20_far_54 O s0 (v2 - x3) h _ hr
  · refine z_iload_n O 3 dX20_far_37 rfl rfl ?_
    refine z_aload_n O 1 dX20_far_38 rfl rfl ?_
    refine z_iload_n O 2 dX20_far_39 rfl rfl ?_
    refine bs hr (fun v3 hF hr => ?_)
    refine z_callV O [vi x1] (vi v3) fV_X20_y q2182 (fun l G => mX20_y l G x0 x1 h _ hF) (zck hF) rfl rfl ⟨Nat.le_of_ble_eq_true rfl, Nat.le_of_ble_eq_true rfl⟩ (Nat.le_of_ble_eq_true rfl) dX20_far_40 ?_
    refine z_isub O dX20_far_43 ?_
    refine z_goto (tgt := 54) O dX20_far_44 (by decide) ?_
    refine z_sub [0] rfl ?_
    exact wX20_far_54 O s0 (x3 - v3) h _ hr
def F_X20_far (x0 : Option Nat) (x1 : Int32) (x2 : Int32) (x3 : Int32) (h : AH) : Option (Int32) :=
  (ck h [20] x0).bind fun _ =>
  (F_X20_x x0 x1 h).bind fun v1 =>
  if x2 ≤ v1 then
    (F_X20_x x0 x1 h).bind fun v2 =>
    bX20_far_26 x0 x1 x3 (v2 - x2) h
  else
    (F_X20_x x0 x1 h).bind fun v3 =>
    bX20_far_26 x0 x1 x3 (x2 - v3) h
theorem mX20_far (l : Launch) (G : ZG) (x0 : Option Nat) (x1 : Int32) (x2 : Int32) (x3 : Int32) (h : AH) (r : Int32) (hr : F_X20_far x0 x1 x2 x3 h = some r) : MZ l G yX20_far cX20_far 6 (some .int) 2 69 [vr x0, vi x1, vi x2, vi x3] h (eI h r) := by
  unfold F_X20_far at hr
  refine MZ.of (by decide) [(0, vr x0), (1, vi x1), (2, vi x2), (3, vi x3)] rfl (Nat.le_of_ble_eq_true rfl) (fun K O => ?_)
  have O : ZOk K cX20_far RX20 "far" 6 (some .int) 2 69 := O
  refine bs hr (fun _ hck hr => ?_)
  refine z_iload_n O 2 dX20_far_0 rfl rfl ?_
  refine z_aload_n O 0 dX20_far_1 rfl rfl ?_
  refine z_iload_n O 1 dX20_far_2 rfl rfl ?_
  refine bs hr (fun v1 hF hr => ?_)
  refine z_callV O [vi x1] (vi v1) fV_X20_x q2178 (fun l G => mX20_x l G x0 x1 h _ hF) (zck hF) rfl rfl ⟨Nat.le_of_ble_eq_true rfl, Nat.le_of_ble_eq_true rfl⟩ (Nat.le_of_ble_eq_true rfl) dX20_far_3 ?_
  refine z_icmp_le (tgt := 19) O dX20_far_6 (by decide) hr (fun hr => ?_) (fun hr => ?_)
  · refine z_aload_n O 0 dX20_far_19 rfl rfl ?_
    refine z_iload_n O 1 dX20_far_20 rfl rfl ?_
    refine bs hr (fun v2 hF hr => ?_)
    refine z_callV O [vi x1] (vi v2) fV_X20_x q2178 (fun l G => mX20_x l G x0 x1 h _ hF) (zck hF) rfl rfl ⟨Nat.le_of_ble_eq_true rfl, Nat.le_of_ble_eq_true rfl⟩ (Nat.le_of_ble_eq_true rfl) dX20_far_21 ?_
    refine z_iload_n O 2 dX20_far_24 rfl rfl ?_
    refine z_isub O dX20_far_25 ?_
    refine z_sub [0, 1, 3] rfl ?_
    exact wX20_far_26 O x0 x1 x3 (v2 - x2) h _ hr
  · refine z_iload_n O 2 dX20_far_9 rfl rfl ?_
    refine z_aload_n O 0 dX20_far_10 rfl rfl ?_
    refine z_iload_n O 1 dX20_far_11 rfl rfl ?_
    refine bs hr (fun v3 hF hr => ?_)
    refine z_callV O [vi x1] (vi v3) fV_X20_x q2178 (fun l G => mX20_x l G x0 x1 h _ hF) (zck hF) rfl rfl ⟨Nat.le_of_ble_eq_true rfl, Nat.le_of_ble_eq_true rfl⟩ (Nat.le_of_ble_eq_true rfl) dX20_far_12 ?_
    refine z_isub O dX20_far_15 ?_
    refine z_goto (tgt := 26) O dX20_far_16 (by decide) ?_
    refine z_sub [0, 1, 3] rfl ?_
    exact wX20_far_26 O x0 x1 x3 (x2 - v3) h _ hr
theorem fS_X9_within : CSf yX9_within cX9_within 3 (some .boolean) 3 := ⟨q2097, q137, q2098, ⟨⟨by decide +kernel, by decide +kernel⟩, by decide +kernel⟩⟩
def F_X9_within (x0 : Int32) (x1 : Int32) (x2 : Int32) : Option (Int32) :=
  if x0 < x1 then
    zb (0 : Int32)
  else
    if x2 < x0 then
      zb (0 : Int32)
    else
      zb (1 : Int32)
theorem mX9_within (l : Launch) (G : ZG) (x0 : Int32) (x1 : Int32) (x2 : Int32) (h : AH) (r : Int32) (hr : F_X9_within x0 x1 x2 = some r) : MZ l G yX9_within cX9_within 3 (some .boolean) 1 48 [vi x0, vi x1, vi x2] h (eI h r) := by
  unfold F_X9_within at hr
  refine MZ.of (by decide) [(0, vi x0), (1, vi x1), (2, vi x2)] rfl (Nat.le_of_ble_eq_true rfl) (fun K O => ?_)
  have O : ZOk K cX9_within RX9 "within" 3 (some .boolean) 1 48 := O
  refine z_iload_n O 0 dX9_within_0 rfl rfl ?_
  refine z_iload_n O 1 dX9_within_1 rfl rfl ?_
  refine z_icmp_lt (tgt := 14) O dX9_within_2 (by decide) hr (fun hr => ?_) (fun hr => ?_)
  · refine z_iconst O dX9_within_14 kic_0 ?_
    obtain ⟨e1, e2, -⟩ := zb_spec hr
    exact z_zret O e2 dX9_within_15 (by cases e1; rfl)
  · refine z_iload_n O 0 dX9_within_5 rfl rfl ?_
    refine z_iload_n O 2 dX9_within_6 rfl rfl ?_
    refine z_icmp_gt (tgt := 14) O dX9_within_7 (by decide) hr (fun hr => ?_) (fun hr => ?_)
    · refine z_iconst O dX9_within_14 kic_0 ?_
      obtain ⟨e1, e2, -⟩ := zb_spec hr
      exact z_zret O e2 dX9_within_15 (by cases e1; rfl)
    · refine z_iconst O dX9_within_10 kic_1 ?_
      refine z_goto (tgt := 15) O dX9_within_11 (by decide) ?_
      obtain ⟨e1, e2, -⟩ := zb_spec hr
      exact z_zret O e2 dX9_within_15 (by cases e1; rfl)
theorem fV_X20_isLand : CVf RX20 yX20_isLand cX20_isLand 3 (some .boolean) 2 := ⟨q2207, q2208, q155, q2209, ⟨⟨by decide +kernel, by decide +kernel⟩, by decide +kernel⟩⟩
def F_X20_isLand (x0 : Option Nat) (x1 : Int32) (x2 : Int32) (h : AH) : Option (Int32) :=
  (ck h [20] x0).bind fun _ =>
  (gI h f_MLand_wide x0).bind fun v1 =>
  (F_X9_within x1 (0 : Int32) (v1 - (1 : Int32))).bind fun v2 =>
  if v2 = 0 then
    zb (0 : Int32)
  else
    (gI h f_MLand_high x0).bind fun v3 =>
    (F_X9_within x2 (0 : Int32) (v3 - (1 : Int32))).bind fun v4 =>
    if v4 = 0 then
      zb (0 : Int32)
    else
      (gR h f_MLand_water x0).bind fun v5 =>
      (gI h f_MLand_wide x0).bind fun v6 =>
      (aI h 3 v5 ((v6 * x2) + x1)).bind fun v7 =>
      if v7 = 0 then
        zb (1 : Int32)
      else
        zb (0 : Int32)
theorem mX20_isLand (l : Launch) (G : ZG) (x0 : Option Nat) (x1 : Int32) (x2 : Int32) (h : AH) (r : Int32) (hr : F_X20_isLand x0 x1 x2 h = some r) : MZ l G yX20_isLand cX20_isLand 3 (some .boolean) 2 70 [vr x0, vi x1, vi x2] h (eI h r) := by
  unfold F_X20_isLand at hr
  refine MZ.of (by decide) [(0, vr x0), (1, vi x1), (2, vi x2)] rfl (Nat.le_of_ble_eq_true rfl) (fun K O => ?_)
  have O : ZOk K cX20_isLand RX20 "isLand" 3 (some .boolean) 2 70 := O
  refine bs hr (fun _ hck hr => ?_)
  refine z_iload_n O 1 dX20_isLand_0 rfl rfl ?_
  refine z_iconst O dX20_isLand_1 kic_0 ?_
  refine z_aload_n O 0 dX20_isLand_2 rfl rfl ?_
  refine z_getI O o_MLand_wide q1896 dX20_isLand_3 hr (fun v1 hr => ?_)
  refine z_iconst O dX20_isLand_6 kic_1 ?_
  refine z_isub O dX20_isLand_7 ?_
  refine bs hr (fun v2 hF hr => ?_)
  refine z_callSN O [vi x1, vi (0 : Int32), vi (v1 - (1 : Int32))] (vi v2) fS_X9_within zn2210 (fun l G => mX9_within l G x1 (0 : Int32) (v1 - (1 : Int32)) h _ hF) rfl ⟨Nat.le_of_ble_eq_true rfl, Nat.le_of_ble_eq_true rfl⟩ (Nat.le_of_ble_eq_true rfl) dX20_isLand_8 ?_
  refine z_if_eq (tgt := 48) O dX20_isLand_11 (by decide) hr (fun hr => ?_) (fun hr => ?_)
  · refine z_iconst O dX20_isLand_48 kic_0 ?_
    obtain ⟨e1, e2, -⟩ := zb_spec hr
    exact z_zret O e2 dX20_isLand_49 (by cases e1; rfl)
  · refine z_iload_n O 2 dX20_isLand_14 rfl rfl ?_
    refine z_iconst O dX20_isLand_15 kic_0 ?_
    refine z_aload_n O 0 dX20_isLand_16 rfl rfl ?_
    refine z_getI O o_MLand_high q1898 dX20_isLand_17 hr (fun v3 hr => ?_)
    refine z_iconst O dX20_isLand_20 kic_1 ?_
    refine z_isub O dX20_isLand_21 ?_
    refine bs hr (fun v4 hF hr => ?_)
    refine z_callSN O [vi x2, vi (0 : Int32), vi (v3 - (1 : Int32))] (vi v4) fS_X9_within zn2210 (fun l G => mX9_within l G x2 (0 : Int32) (v3 - (1 : Int32)) h _ hF) rfl ⟨Nat.le_of_ble_eq_true rfl, Nat.le_of_ble_eq_true rfl⟩ (Nat.le_of_ble_eq_true rfl) dX20_isLand_22 ?_
    refine z_if_eq (tgt := 48) O dX20_isLand_25 (by decide) hr (fun hr => ?_) (fun hr => ?_)
    · refine z_iconst O dX20_isLand_48 kic_0 ?_
      obtain ⟨e1, e2, -⟩ := zb_spec hr
      exact z_zret O e2 dX20_isLand_49 (by cases e1; rfl)
    · refine z_aload_n O 0 dX20_isLand_28 rfl rfl ?_
      refine z_getR O o_MLand_water q1915 dX20_isLand_29 hr (fun v5 hr => ?_)
      refine z_aload_n O 0 dX20_isLand_32 rfl rfl ?_
      refine z_getI O o_MLand_wide q1896 dX20_isLand_33 hr (fun v6 hr => ?_)
      refine z_iload_n O 2 dX20_isLand_36 rfl rfl ?_
      refine z_imul O dX20_isLand_37 ?_
      refine z_iload_n O 1 dX20_isLand_38 rfl rfl ?_
      refine z_iadd O dX20_isLand_39 ?_
      refine z_zaload O dX20_isLand_40 hr (fun v7 hr => ?_)
      refine z_if_ne (tgt := 48) O dX20_isLand_41 (by decide) hr (fun hr => ?_) (fun hr => ?_)
      · refine z_iconst O dX20_isLand_44 kic_1 ?_
        refine z_goto (tgt := 49) O dX20_isLand_45 (by decide) ?_
        obtain ⟨e1, e2, -⟩ := zb_spec hr
        exact z_zret O e2 dX20_isLand_49 (by cases e1; rfl)
      · refine z_iconst O dX20_isLand_48 kic_0 ?_
        obtain ⟨e1, e2, -⟩ := zb_spec hr
        exact z_zret O e2 dX20_isLand_49 (by cases e1; rfl)
theorem fS_X9_fitsIn : CSf yX9_fitsIn cX9_fitsIn 7 (some .boolean) 3 := ⟨q2202, q137, q2203, ⟨⟨by decide +kernel, by decide +kernel⟩, by decide +kernel⟩⟩
def BX9_fitsIn_82 (N : Nat) (rec17 : Int32 → Option (Int32)) (rec38 : Int32 → Option (Int32)) (x0 : Option Nat) (x1 : Option Nat) (x2 : Int32) (x3 : Int32) (x4 : Int32) (x5 : Int32) (h : AH) (rec82 : Int32 → Option (Int32)) : Int32 → Option (Int32) := fun x6 =>
  (gI h f_MLand_houses x0).bind fun v1 =>
  if v1 ≤ x6 then
    jlet (x5 + (1 : Int32)) fun v2 =>
    rec38 v2
  else
    if x6 = x2 then
      jlet (x6 + (1 : Int32)) fun v3 =>
      rec82 v3
    else
      (F_X20_far x0 x6 x5 x4 h).bind fun v4 =>
      (aI h 0 x1 ((0 : Int32) + x6)).bind fun v5 =>
      if v4 ≤ v5 then
        (gI h f_MLand_share x0).bind fun v6 =>
        if v6 = 0 then
          zb (0 : Int32)
        else
          (aI h 0 x1 ((0 : Int32) + x6)).bind fun v7 =>
          if v7 = 0 then
            zb (0 : Int32)
          else
            (F_X20_far x0 x6 x5 x4 h).bind fun v8 =>
            (aI h 0 x1 ((0 : Int32) + x6)).bind fun v9 =>
            if v9 ≤ v8 then
              jlet (x6 + (1 : Int32)) fun v10 =>
              rec82 v10
            else
              zb (0 : Int32)
      else
        jlet (x6 + (1 : Int32)) fun v11 =>
        rec82 v11
def LX9_fitsIn_82 (N : Nat) (rec17 : Int32 → Option (Int32)) (rec38 : Int32 → Option (Int32)) (x0 : Option Nat) (x1 : Option Nat) (x2 : Int32) (x3 : Int32) (x4 : Int32) (x5 : Int32) (h : AH) : Int32 → Option (Int32) := lf (fun _ => none) (BX9_fitsIn_82 N rec17 rec38 x0 x1 x2 x3 x4 x5 h) N
theorem wX9_fitsIn_82B {K : ZC} (O : ZOk K cX9_fitsIn RX9 "fitsIn" 7 (some .boolean) 3 94) (N : Nat) (rec17 : Int32 → Option (Int32)) (rec38 : Int32 → Option (Int32)) (x0 : Option Nat) (x1 : Option Nat) (x2 : Int32) (x3 : Int32) (x4 : Int32) (x5 : Int32) (h : AH) (rec82 : Int32 → Option (Int32)) (hrec17 : ∀ (y4 : Int32) (ry : Int32), rec17 y4 = some ry → Zw K (eI h ry) h 17 [(0, vr x0), (1, vr x1), (2, vi x2), (3, vi x3), (4, vi y4)] []) (hrec38 : ∀ (y5 : Int32) (ry : Int32), rec38 y5 = some ry → Zw K (eI h ry) h 38 [(0, vr x0), (1, vr x1), (2, vi x2), (3, vi x3), (4, vi x4), (5, vi y5)] []) (hrec82 : ∀ (y6 : Int32) (ry : Int32), rec82 y6 = some ry → Zw K (eI h ry) h 82 [(0, vr x0), (1, vr x1), (2, vi x2), (3, vi x3), (4, vi x4), (5, vi x5), (6, vi y6)] []) (x6 : Int32) (r : Int32) (hr : BX9_fitsIn_82 N rec17 rec38 x0 x1 x2 x3 x4 x5 h rec82 x6 = some r) : Zw K (eI h r) h 82 [(0, vr x0), (1, vr x1), (2, vi x2), (3, vi x3), (4, vi x4), (5, vi x5), (6, vi x6)] [] := by
  unfold BX9_fitsIn_82 at hr
  refine z_iload O 6 dX9_fitsIn_82 rfl ?_
  refine z_aload_n O 0 dX9_fitsIn_84 rfl rfl ?_
  refine z_getIN O o_MLand_houses zn1907 dX9_fitsIn_85 hr (fun v1 hr => ?_)
  refine z_icmp_ge (tgt := 162) O dX9_fitsIn_88 (by decide) hr (fun hr => ?_) (fun hr => ?_)
  · refine z_iincL O 5 (fun v2 => [(5, vi v2), (0, vr x0), (1, vr x1), (2, vi x2), (3, vi x3), (4, vi x4), (6, vi x6)]) dX9_fitsIn_162 rfl rfl (by decide) (fun _ => rfl) hr (fun v2 hr => ?_)
    refine z_goto (tgt := 38) O dX9_fitsIn_165 (by decide) ?_
    refine z_sub [1, 2, 3, 4, 5, 0] rfl ?_
    exact hrec38 v2 _ hr
  · refine z_iload O 6 dX9_fitsIn_91 rfl ?_
    refine z_iload_n O 2 dX9_fitsIn_93 rfl rfl ?_
    refine z_icmp_eq (tgt := 156) O dX9_fitsIn_94 (by decide) hr (fun hr => ?_) (fun hr => ?_)
    · refine z_iincL O 6 (fun v3 => [(6, vi v3), (0, vr x0), (1, vr x1), (2, vi x2), (3, vi x3), (4, vi x4), (5, vi x5)]) dX9_fitsIn_156 rfl rfl (by decide) (fun _ => rfl) hr (fun v3 hr => ?_)
      refine z_goto (tgt := 82) O dX9_fitsIn_159 (by decide) ?_
      refine z_sub [1, 2, 3, 4, 5, 6, 0] rfl ?_
      exact hrec82 v3 _ hr
    · refine z_aload_n O 0 dX9_fitsIn_97 rfl rfl ?_
      refine z_iload O 6 dX9_fitsIn_98 rfl ?_
      refine z_iload O 5 dX9_fitsIn_100 rfl ?_
      refine z_iload O 4 dX9_fitsIn_102 rfl ?_
      refine bs hr (fun v4 hF hr => ?_)
      refine z_callV O [vi x6, vi x5, vi x4] (vi v4) fV_X20_far q2174 (fun l G => mX20_far l G x0 x6 x5 x4 h _ hF) (zck hF) rfl rfl ⟨Nat.le_of_ble_eq_true rfl, Nat.le_of_ble_eq_true rfl⟩ (Nat.le_of_ble_eq_true rfl) dX9_fitsIn_104 ?_
      refine z_aload_n O 1 dX9_fitsIn_107 rfl rfl ?_
      refine z_iconst O dX9_fitsIn_108 kic_0 ?_
      refine z_iload O 6 dX9_fitsIn_109 rfl ?_
      refine z_iadd O dX9_fitsIn_111 ?_
      refine z_iaload O dX9_fitsIn_112 hr (fun v5 hr => ?_)
      refine z_icmp_le (tgt := 119) O dX9_fitsIn_113 (by decide) hr (fun hr => ?_) (fun hr => ?_)
      · refine z_aload_n O 0 dX9_fitsIn_119 rfl rfl ?_
        refine z_getIN O o_MLand_share zn1914 dX9_fitsIn_120 hr (fun v6 hr => ?_)
        refine z_if_eq (tgt := 154) O dX9_fitsIn_123 (by decide) hr (fun hr => ?_) (fun hr => ?_)
        · refine z_iconst O dX9_fitsIn_154 kic_0 ?_
          obtain ⟨e1, e2, -⟩ := zb_spec hr
          exact z_zret O e2 dX9_fitsIn_155 (by cases e1; rfl)
        · refine z_aload_n O 1 dX9_fitsIn_126 rfl rfl ?_
          refine z_iconst O dX9_fitsIn_127 kic_0 ?_
          refine z_iload O 6 dX9_fitsIn_128 rfl ?_
          refine z_iadd O dX9_fitsIn_130 ?_
          refine z_iaload O dX9_fitsIn_131 hr (fun v7 hr => ?_)
          refine z_if_eq (tgt := 154) O dX9_fitsIn_132 (by decide) hr (fun hr => ?_) (fun hr => ?_)
          · refine z_iconst O dX9_fitsIn_154 kic_0 ?_
            obtain ⟨e1, e2, -⟩ := zb_spec hr
            exact z_zret O e2 dX9_fitsIn_155 (by cases e1; rfl)
          · refine z_aload_n O 0 dX9_fitsIn_135 rfl rfl ?_
            refine z_iload O 6 dX9_fitsIn_136 rfl ?_
            refine z_iload O 5 dX9_fitsIn_138 rfl ?_
            refine z_iload O 4 dX9_fitsIn_140 rfl ?_
            refine bs hr (fun v8 hF hr => ?_)
            refine z_callV O [vi x6, vi x5, vi x4] (vi v8) fV_X20_far q2174 (fun l G => mX20_far l G x0 x6 x5 x4 h _ hF) (zck hF) rfl rfl ⟨Nat.le_of_ble_eq_true rfl, Nat.le_of_ble_eq_true rfl⟩ (Nat.le_of_ble_eq_true rfl) dX9_fitsIn_142 ?_
            refine z_aload_n O 1 dX9_fitsIn_145 rfl rfl ?_
            refine z_iconst O dX9_fitsIn_146 kic_0 ?_
            refine z_iload O 6 dX9_fitsIn_147 rfl ?_
            refine z_iadd O dX9_fitsIn_149 ?_
            refine z_iaload O dX9_fitsIn_150 hr (fun v9 hr => ?_)
            refine z_icmp_ge (tgt := 156) O dX9_fitsIn_151 (by decide) hr (fun hr => ?_) (fun hr => ?_)
            · refine z_iincL O 6 (fun v10 => [(6, vi v10), (0, vr x0), (1, vr x1), (2, vi x2), (3, vi x3), (4, vi x4), (5, vi x5)]) dX9_fitsIn_156 rfl rfl (by decide) (fun _ => rfl) hr (fun v10 hr => ?_)
              refine z_goto (tgt := 82) O dX9_fitsIn_159 (by decide) ?_
              refine z_sub [1, 2, 3, 4, 5, 6, 0] rfl ?_
              exact hrec82 v10 _ hr
            · refine z_iconst O dX9_fitsIn_154 kic_0 ?_
              obtain ⟨e1, e2, -⟩ := zb_spec hr
              exact z_zret O e2 dX9_fitsIn_155 (by cases e1; rfl)
      · refine z_goto (tgt := 156) O dX9_fitsIn_116 (by decide) ?_
        refine z_iincL O 6 (fun v11 => [(6, vi v11), (0, vr x0), (1, vr x1), (2, vi x2), (3, vi x3), (4, vi x4), (5, vi x5)]) dX9_fitsIn_156 rfl rfl (by decide) (fun _ => rfl) hr (fun v11 hr => ?_)
        refine z_goto (tgt := 82) O dX9_fitsIn_159 (by decide) ?_
        refine z_sub [1, 2, 3, 4, 5, 6, 0] rfl ?_
        exact hrec82 v11 _ hr
theorem wX9_fitsIn_82 {K : ZC} (O : ZOk K cX9_fitsIn RX9 "fitsIn" 7 (some .boolean) 3 94) (N : Nat) (rec17 : Int32 → Option (Int32)) (rec38 : Int32 → Option (Int32)) (x0 : Option Nat) (x1 : Option Nat) (x2 : Int32) (x3 : Int32) (x4 : Int32) (x5 : Int32) (h : AH) (hrec17 : ∀ (y4 : Int32) (ry : Int32), rec17 y4 = some ry → Zw K (eI h ry) h 17 [(0, vr x0), (1, vr x1), (2, vi x2), (3, vi x3), (4, vi y4)] []) (hrec38 : ∀ (y5 : Int32) (ry : Int32), rec38 y5 = some ry → Zw K (eI h ry) h 38 [(0, vr x0), (1, vr x1), (2, vi x2), (3, vi x3), (4, vi x4), (5, vi y5)] []) : ∀ (n : Nat) (x6 : Int32) (r : Int32), lf (fun _ => none) (BX9_fitsIn_82 N rec17 rec38 x0 x1 x2 x3 x4 x5 h) n x6 = some r → Zw K (eI h r) h 82 [(0, vr x0), (1, vr x1), (2, vi x2), (3, vi x3), (4, vi x4), (5, vi x5), (6, vi x6)] [] := by
  intro n
  induction n with
  | zero => intro x6 r hr; cases hr
  | succ n ih => intro x6 r hr; exact wX9_fitsIn_82B O N rec17 rec38 x0 x1 x2 x3 x4 x5 h (lf (fun _ => none) (BX9_fitsIn_82 N rec17 rec38 x0 x1 x2 x3 x4 x5 h) n) hrec17 hrec38 ih x6 r hr
def BX9_fitsIn_38 (N : Nat) (rec17 : Int32 → Option (Int32)) (x0 : Option Nat) (x1 : Option Nat) (x2 : Int32) (x3 : Int32) (x4 : Int32) (h : AH) (rec38 : Int32 → Option (Int32)) : Int32 → Option (Int32) := fun x5 =>
  (F_X20_x x0 x2 h).bind fun v1 =>
  if (v1 + x3) < x5 then
    jlet (x4 + (1 : Int32)) fun v2 =>
    rec17 v2
  else
    (F_X20_far x0 x2 x5 x4 h).bind fun v3 =>
    if v3 = x3 then
      (F_X20_isLand x0 x5 x4 h).bind fun v4 =>
      if v4 = 0 then
        zb (0 : Int32)
      else
        LX9_fitsIn_82 N rec17 rec38 x0 x1 x2 x3 x4 x5 h (0 : Int32)
    else
      jlet (x5 + (1 : Int32)) fun v5 =>
      rec38 v5
def LX9_fitsIn_38 (N : Nat) (rec17 : Int32 → Option (Int32)) (x0 : Option Nat) (x1 : Option Nat) (x2 : Int32) (x3 : Int32) (x4 : Int32) (h : AH) : Int32 → Option (Int32) := lf (fun _ => none) (BX9_fitsIn_38 N rec17 x0 x1 x2 x3 x4 h) N
theorem wX9_fitsIn_38B {K : ZC} (O : ZOk K cX9_fitsIn RX9 "fitsIn" 7 (some .boolean) 3 94) (N : Nat) (rec17 : Int32 → Option (Int32)) (x0 : Option Nat) (x1 : Option Nat) (x2 : Int32) (x3 : Int32) (x4 : Int32) (h : AH) (rec38 : Int32 → Option (Int32)) (hrec17 : ∀ (y4 : Int32) (ry : Int32), rec17 y4 = some ry → Zw K (eI h ry) h 17 [(0, vr x0), (1, vr x1), (2, vi x2), (3, vi x3), (4, vi y4)] []) (hrec38 : ∀ (y5 : Int32) (ry : Int32), rec38 y5 = some ry → Zw K (eI h ry) h 38 [(0, vr x0), (1, vr x1), (2, vi x2), (3, vi x3), (4, vi x4), (5, vi y5)] []) (x5 : Int32) (r : Int32) (hr : BX9_fitsIn_38 N rec17 x0 x1 x2 x3 x4 h rec38 x5 = some r) : Zw K (eI h r) h 38 [(0, vr x0), (1, vr x1), (2, vi x2), (3, vi x3), (4, vi x4), (5, vi x5)] [] := by
  unfold BX9_fitsIn_38 at hr
  refine z_iload O 5 dX9_fitsIn_38 rfl ?_
  refine z_aload_n O 0 dX9_fitsIn_40 rfl rfl ?_
  refine z_iload_n O 2 dX9_fitsIn_41 rfl rfl ?_
  refine bs hr (fun v1 hF hr => ?_)
  refine z_callV O [vi x2] (vi v1) fV_X20_x q2205 (fun l G => mX20_x l G x0 x2 h _ hF) (zck hF) rfl rfl ⟨Nat.le_of_ble_eq_true rfl, Nat.le_of_ble_eq_true rfl⟩ (Nat.le_of_ble_eq_true rfl) dX9_fitsIn_42 ?_
  refine z_iload_n O 3 dX9_fitsIn_45 rfl rfl ?_
  refine z_iadd O dX9_fitsIn_46 ?_
  refine z_icmp_gt (tgt := 168) O dX9_fitsIn_47 (by decide) hr (fun hr => ?_) (fun hr => ?_)
  · refine z_iincL O 4 (fun v2 => [(4, vi v2), (0, vr x0), (1, vr x1), (2, vi x2), (3, vi x3), (5, vi x5)]) dX9_fitsIn_168 rfl rfl (by decide) (fun _ => rfl) hr (fun v2 hr => ?_)
    refine z_goto (tgt := 17) O dX9_fitsIn_171 (by decide) ?_
    refine z_sub [1, 2, 3, 4, 0] rfl ?_
    exact hrec17 v2 _ hr
  · refine z_aload_n O 0 dX9_fitsIn_50 rfl rfl ?_
    refine z_iload_n O 2 dX9_fitsIn_51 rfl rfl ?_
    refine z_iload O 5 dX9_fitsIn_52 rfl ?_
    refine z_iload O 4 dX9_fitsIn_54 rfl ?_
    refine bs hr (fun v3 hF hr => ?_)
    refine z_callV O [vi x2, vi x5, vi x4] (vi v3) fV_X20_far q2174 (fun l G => mX20_far l G x0 x2 x5 x4 h _ hF) (zck hF) rfl rfl ⟨Nat.le_of_ble_eq_true rfl, Nat.le_of_ble_eq_true rfl⟩ (Nat.le_of_ble_eq_true rfl) dX9_fitsIn_56 ?_
    refine z_iload_n O 3 dX9_fitsIn_59 rfl rfl ?_
    refine z_icmp_eq (tgt := 66) O dX9_fitsIn_60 (by decide) hr (fun hr => ?_) (fun hr => ?_)
    · refine z_aload_n O 0 dX9_fitsIn_66 rfl rfl ?_
      refine z_iload O 5 dX9_fitsIn_67 rfl ?_
      refine z_iload O 4 dX9_fitsIn_69 rfl ?_
      refine bs hr (fun v4 hF hr => ?_)
      refine z_callV O [vi x5, vi x4] (vi v4) fV_X20_isLand q2206 (fun l G => mX20_isLand l G x0 x5 x4 h _ hF) (zck hF) rfl rfl ⟨Nat.le_of_ble_eq_true rfl, Nat.le_of_ble_eq_true rfl⟩ (Nat.le_of_ble_eq_true rfl) dX9_fitsIn_71 ?_
      refine z_if_ne (tgt := 79) O dX9_fitsIn_74 (by decide) hr (fun hr => ?_) (fun hr => ?_)
      · refine z_iconst O dX9_fitsIn_77 kic_0 ?_
        obtain ⟨e1, e2, -⟩ := zb_spec hr
        exact z_zret O e2 dX9_fitsIn_78 (by cases e1; rfl)
      · refine z_iconst O dX9_fitsIn_79 kic_0 ?_
        refine z_istore O [(6, vi (0 : Int32)), (0, vr x0), (1, vr x1), (2, vi x2), (3, vi x3), (4, vi x4), (5, vi x5)] dX9_fitsIn_80 (by decide) rfl ?_
        refine z_sub [1, 2, 3, 4, 5, 6, 0] rfl ?_
        exact wX9_fitsIn_82 O N rec17 rec38 x0 x1 x2 x3 x4 x5 h hrec17 hrec38 _ (0 : Int32) _ hr
    · refine z_goto (tgt := 162) O dX9_fitsIn_63 (by decide) ?_
      refine z_iincL O 5 (fun v5 => [(5, vi v5), (0, vr x0), (1, vr x1), (2, vi x2), (3, vi x3), (4, vi x4)]) dX9_fitsIn_162 rfl rfl (by decide) (fun _ => rfl) hr (fun v5 hr => ?_)
      refine z_goto (tgt := 38) O dX9_fitsIn_165 (by decide) ?_
      refine z_sub [1, 2, 3, 4, 5, 0] rfl ?_
      exact hrec38 v5 _ hr
theorem wX9_fitsIn_38 {K : ZC} (O : ZOk K cX9_fitsIn RX9 "fitsIn" 7 (some .boolean) 3 94) (N : Nat) (rec17 : Int32 → Option (Int32)) (x0 : Option Nat) (x1 : Option Nat) (x2 : Int32) (x3 : Int32) (x4 : Int32) (h : AH) (hrec17 : ∀ (y4 : Int32) (ry : Int32), rec17 y4 = some ry → Zw K (eI h ry) h 17 [(0, vr x0), (1, vr x1), (2, vi x2), (3, vi x3), (4, vi y4)] []) : ∀ (n : Nat) (x5 : Int32) (r : Int32), lf (fun _ => none) (BX9_fitsIn_38 N rec17 x0 x1 x2 x3 x4 h) n x5 = some r → Zw K (eI h r) h 38 [(0, vr x0), (1, vr x1), (2, vi x2), (3, vi x3), (4, vi x4), (5, vi x5)] [] := by
  intro n
  induction n with
  | zero => intro x5 r hr; cases hr
  | succ n ih => intro x5 r hr; exact wX9_fitsIn_38B O N rec17 x0 x1 x2 x3 x4 h (lf (fun _ => none) (BX9_fitsIn_38 N rec17 x0 x1 x2 x3 x4 h) n) hrec17 ih x5 r hr
def BX9_fitsIn_17 (N : Nat) (x0 : Option Nat) (x1 : Option Nat) (x2 : Int32) (x3 : Int32) (h : AH) (rec17 : Int32 → Option (Int32)) : Int32 → Option (Int32) := fun x4 =>
  (F_X20_y x0 x2 h).bind fun v1 =>
  if (v1 + x3) < x4 then
    zb (1 : Int32)
  else
    (F_X20_x x0 x2 h).bind fun v2 =>
    jlet (v2 - x3) fun v3 =>
    LX9_fitsIn_38 N rec17 x0 x1 x2 x3 x4 h v3
def LX9_fitsIn_17 (N : Nat) (x0 : Option Nat) (x1 : Option Nat) (x2 : Int32) (x3 : Int32) (h : AH) : Int32 → Option (Int32) := lf (fun _ => none) (BX9_fitsIn_17 N x0 x1 x2 x3 h) N
theorem wX9_fitsIn_17B {K : ZC} (O : ZOk K cX9_fitsIn RX9 "fitsIn" 7 (some .boolean) 3 94) (N : Nat) (x0 : Option Nat) (x1 : Option Nat) (x2 : Int32) (x3 : Int32) (h : AH) (rec17 : Int32 → Option (Int32)) (hrec17 : ∀ (y4 : Int32) (ry : Int32), rec17 y4 = some ry → Zw K (eI h ry) h 17 [(0, vr x0), (1, vr x1), (2, vi x2), (3, vi x3), (4, vi y4)] []) (x4 : Int32) (r : Int32) (hr : BX9_fitsIn_17 N x0 x1 x2 x3 h rec17 x4 = some r) : Zw K (eI h r) h 17 [(0, vr x0), (1, vr x1), (2, vi x2), (3, vi x3), (4, vi x4)] [] := by
  unfold BX9_fitsIn_17 at hr
  refine z_iload O 4 dX9_fitsIn_17 rfl ?_
  refine z_aload_n O 0 dX9_fitsIn_19 rfl rfl ?_
  refine z_iload_n O 2 dX9_fitsIn_20 rfl rfl ?_
  refine bs hr (fun v1 hF hr => ?_)
  refine z_callV O [vi x2] (vi v1) fV_X20_y q2204 (fun l G => mX20_y l G x0 x2 h _ hF) (zck hF) rfl rfl ⟨Nat.le_of_ble_eq_true rfl, Nat.le_of_ble_eq_true rfl⟩ (Nat.le_of_ble_eq_true rfl) dX9_fitsIn_21 ?_
  refine z_iload_n O 3 dX9_fitsIn_24 rfl rfl ?_
  refine z_iadd O dX9_fitsIn_25 ?_
  refine z_icmp_gt (tgt := 174) O dX9_fitsIn_26 (by decide) hr (fun hr => ?_) (fun hr => ?_)
  · refine z_iconst O dX9_fitsIn_174 kic_1 ?_
    obtain ⟨e1, e2, -⟩ := zb_spec hr
    exact z_zret O e2 dX9_fitsIn_175 (by cases e1; rfl)
  · refine z_aload_n O 0 dX9_fitsIn_29 rfl rfl ?_
    refine z_iload_n O 2 dX9_fitsIn_30 rfl rfl ?_
    refine bs hr (fun v2 hF hr => ?_)
    refine z_callV O [vi x2] (vi v2) fV_X20_x q2205 (fun l G => mX20_x l G x0 x2 h _ hF) (zck hF) rfl rfl ⟨Nat.le_of_ble_eq_true rfl, Nat.le_of_ble_eq_true rfl⟩ (Nat.le_of_ble_eq_true rfl) dX9_fitsIn_31 ?_
    refine z_iload_n O 3 dX9_fitsIn_34 rfl rfl ?_
    refine z_isub O dX9_fitsIn_35 ?_
    refine z_letI hr (fun v3 hr => ?_)
    refine z_istore O [(5, vi v3), (0, vr x0), (1, vr x1), (2, vi x2), (3, vi x3), (4, vi x4)] dX9_fitsIn_36 (by decide) rfl ?_
    refine z_sub [1, 2, 3, 4, 5, 0] rfl ?_
    exact wX9_fitsIn_38 O N rec17 x0 x1 x2 x3 x4 h hrec17 _ v3 _ hr
theorem wX9_fitsIn_17 {K : ZC} (O : ZOk K cX9_fitsIn RX9 "fitsIn" 7 (some .boolean) 3 94) (N : Nat) (x0 : Option Nat) (x1 : Option Nat) (x2 : Int32) (x3 : Int32) (h : AH) : ∀ (n : Nat) (x4 : Int32) (r : Int32), lf (fun _ => none) (BX9_fitsIn_17 N x0 x1 x2 x3 h) n x4 = some r → Zw K (eI h r) h 17 [(0, vr x0), (1, vr x1), (2, vi x2), (3, vi x3), (4, vi x4)] [] := by
  intro n
  induction n with
  | zero => intro x4 r hr; cases hr
  | succ n ih => intro x4 r hr; exact wX9_fitsIn_17B O N x0 x1 x2 x3 h (lf (fun _ => none) (BX9_fitsIn_17 N x0 x1 x2 x3 h) n)  ih x4 r hr
def F_X9_fitsIn (N : Nat) (x0 : Option Nat) (x1 : Option Nat) (x2 : Int32) (h : AH) : Option (Int32) :=
  (aI h 0 x1 ((0 : Int32) + x2)).bind fun v1 =>
  jlet (v1 + (1 : Int32)) fun v2 =>
  (F_X20_y x0 x2 h).bind fun v3 =>
  jlet (v3 - v2) fun v4 =>
  LX9_fitsIn_17 N x0 x1 x2 v2 h v4
theorem mX9_fitsIn (l : Launch) (G : ZG) (N : Nat) (x0 : Option Nat) (x1 : Option Nat) (x2 : Int32) (h : AH) (r : Int32) (hr : F_X9_fitsIn N x0 x1 x2 h = some r) : MZ l G yX9_fitsIn cX9_fitsIn 7 (some .boolean) 3 94 [vr x0, vr x1, vi x2] h (eI h r) := by
  unfold F_X9_fitsIn at hr
  refine MZ.of (by decide) [(0, vr x0), (1, vr x1), (2, vi x2)] rfl (Nat.le_of_ble_eq_true rfl) (fun K O => ?_)
  have O : ZOk K cX9_fitsIn RX9 "fitsIn" 7 (some .boolean) 3 94 := O
  refine z_aload_n O 1 dX9_fitsIn_0 rfl rfl ?_
  refine z_iconst O dX9_fitsIn_1 kic_0 ?_
  refine z_iload_n O 2 dX9_fitsIn_2 rfl rfl ?_
  refine z_iadd O dX9_fitsIn_3 ?_
  refine z_iaload O dX9_fitsIn_4 hr (fun v1 hr => ?_)
  refine z_iconst O dX9_fitsIn_5 kic_1 ?_
  refine z_iadd O dX9_fitsIn_6 ?_
  refine z_letI hr (fun v2 hr => ?_)
  refine z_istore_n O [(3, vi v2), (0, vr x0), (1, vr x1), (2, vi x2)] dX9_fitsIn_7 rfl (by decide) rfl ?_
  refine z_aload_n O 1 dX9_fitsIn_8 rfl rfl ?_
  refine z_iload_n O 3 dX9_fitsIn_9 rfl rfl ?_
  refine bs hr (fun v3 hF hr => ?_)
  refine z_callV O [vi x2] (vi v3) fV_X20_y q2204 (fun l G => mX20_y l G x0 x2 h _ hF) (zck hF) rfl rfl ⟨Nat.le_of_ble_eq_true rfl, Nat.le_of_ble_eq_true rfl⟩ (Nat.le_of_ble_eq_true rfl) dX9_fitsIn_10 ?_
  refine z_iload_n O 0 dX9_fitsIn_13 rfl rfl ?_
  refine z_isub O dX9_fitsIn_14 ?_
  refine z_letI hr (fun v4 hr => ?_)
  refine z_istore O [(4, vi v4), (3, vi v2), (0, vr x0), (1, vr x1), (2, vi x2)] dX9_fitsIn_15 (by decide) rfl ?_
  refine z_sub [2, 3, 4, 1, 0] rfl ?_
  exact wX9_fitsIn_17 O N x0 x1 x2 v2 h _ v4 _ hr
theorem fS_X9_outX : CSf yX9_outX cX9_outX 1 (some .int) 1 := ⟨q2307, q137, q2308, ⟨⟨by decide +kernel, by decide +kernel⟩, by decide +kernel⟩⟩
def F_X9_outX (x0 : Int32) : Option (Int32) :=
  if x0 = (1 : Int32) then
    some (1 : Int32)
  else
    if x0 = (3 : Int32) then
      some (-1 : Int32)
    else
      some (0 : Int32)
theorem mX9_outX (l : Launch) (G : ZG) (x0 : Int32) (h : AH) (r : Int32) (hr : F_X9_outX x0 = some r) : MZ l G yX9_outX cX9_outX 1 (some .int) 1 48 [vi x0] h (eI h r) := by
  unfold F_X9_outX at hr
  refine MZ.of (by decide) [(0, vi x0)] rfl (Nat.le_of_ble_eq_true rfl) (fun K O => ?_)
  have O : ZOk K cX9_outX RX9 "outX" 1 (some .int) 1 48 := O
  refine z_iload_n O 0 dX9_outX_0 rfl rfl ?_
  refine z_iconst O dX9_outX_1 kic_1 ?_
  refine z_icmp_ne (tgt := 9) O dX9_outX_2 (by decide) hr (fun hr => ?_) (fun hr => ?_)
  · refine z_iconst O dX9_outX_5 kic_1 ?_
    refine z_goto (tgt := 19) O dX9_outX_6 (by decide) ?_
    exact z_iret O dX9_outX_19 (by cases hr; rfl)
  · refine z_iload_n O 0 dX9_outX_9 rfl rfl ?_
    refine z_iconst O dX9_outX_10 kic_3 ?_
    refine z_icmp_ne (tgt := 18) O dX9_outX_11 (by decide) hr (fun hr => ?_) (fun hr => ?_)
    · refine z_iconst O dX9_outX_14 kic_m1 ?_
      refine z_goto (tgt := 19) O dX9_outX_15 (by decide) ?_
      exact z_iret O dX9_outX_19 (by cases hr; rfl)
    · refine z_iconst O dX9_outX_18 kic_0 ?_
      exact z_iret O dX9_outX_19 (by cases hr; rfl)
theorem fS_X9_outY : CSf yX9_outY cX9_outY 1 (some .int) 1 := ⟨q2313, q137, q2314, ⟨⟨by decide +kernel, by decide +kernel⟩, by decide +kernel⟩⟩
def F_X9_outY (x0 : Int32) : Option (Int32) :=
  if x0 = (2 : Int32) then
    some (1 : Int32)
  else
    if x0 = 0 then
      some (-1 : Int32)
    else
      some (0 : Int32)
theorem mX9_outY (l : Launch) (G : ZG) (x0 : Int32) (h : AH) (r : Int32) (hr : F_X9_outY x0 = some r) : MZ l G yX9_outY cX9_outY 1 (some .int) 1 48 [vi x0] h (eI h r) := by
  unfold F_X9_outY at hr
  refine MZ.of (by decide) [(0, vi x0)] rfl (Nat.le_of_ble_eq_true rfl) (fun K O => ?_)
  have O : ZOk K cX9_outY RX9 "outY" 1 (some .int) 1 48 := O
  refine z_iload_n O 0 dX9_outY_0 rfl rfl ?_
  refine z_iconst O dX9_outY_1 kic_2 ?_
  refine z_icmp_ne (tgt := 9) O dX9_outY_2 (by decide) hr (fun hr => ?_) (fun hr => ?_)
  · refine z_iconst O dX9_outY_5 kic_1 ?_
    refine z_goto (tgt := 18) O dX9_outY_6 (by decide) ?_
    exact z_iret O dX9_outY_18 (by cases hr; rfl)
  · refine z_iload_n O 0 dX9_outY_9 rfl rfl ?_
    refine z_if_ne (tgt := 17) O dX9_outY_10 (by decide) hr (fun hr => ?_) (fun hr => ?_)
    · refine z_iconst O dX9_outY_13 kic_m1 ?_
      refine z_goto (tgt := 18) O dX9_outY_14 (by decide) ?_
      exact z_iret O dX9_outY_18 (by cases hr; rfl)
    · refine z_iconst O dX9_outY_17 kic_0 ?_
      exact z_iret O dX9_outY_18 (by cases hr; rfl)
theorem fS_X9_ownersOf : CSf yX9_ownersOf cX9_ownersOf 6 (some .int) 4 := ⟨q2172, q137, q2173, ⟨⟨by decide +kernel, by decide +kernel⟩, by decide +kernel⟩⟩
def BX9_ownersOf_6 (N : Nat) (x0 : Option Nat) (x1 : Option Nat) (x2 : Int32) (x3 : Int32) (h : AH) (rec6 : Int32 → Int32 → Option (Int32)) : Int32 → Int32 → Option (Int32) := fun x4 x5 =>
  (gI h f_MLand_houses x0).bind fun v1 =>
  if v1 ≤ x5 then
    some x4
  else
    (F_X20_far x0 x5 x2 x3 h).bind fun v2 =>
    (aI h 0 x1 ((0 : Int32) + x5)).bind fun v3 =>
    if v3 < v2 then
      jlet (x4 ||| (0 : Int32)) fun v4 =>
      jlet (x5 + (1 : Int32)) fun v5 =>
      rec6 v4 v5
    else
      jlet (x4 ||| ((1 : Int32) <<< (x5 &&& 31))) fun v6 =>
      jlet (x5 + (1 : Int32)) fun v7 =>
      rec6 v6 v7
def LX9_ownersOf_6 (N : Nat) (x0 : Option Nat) (x1 : Option Nat) (x2 : Int32) (x3 : Int32) (h : AH) : Int32 → Int32 → Option (Int32) := lf (fun _ _ => none) (BX9_ownersOf_6 N x0 x1 x2 x3 h) N
theorem wX9_ownersOf_6B {K : ZC} (O : ZOk K cX9_ownersOf RX9 "ownersOf" 6 (some .int) 3 94) (N : Nat) (x0 : Option Nat) (x1 : Option Nat) (x2 : Int32) (x3 : Int32) (h : AH) (rec6 : Int32 → Int32 → Option (Int32)) (hrec6 : ∀ (y4 : Int32) (y5 : Int32) (ry : Int32), rec6 y4 y5 = some ry → Zw K (eI h ry) h 6 [(0, vr x0), (1, vr x1), (2, vi x2), (3, vi x3), (4, vi y4), (5, vi y5)] []) (x4 : Int32) (x5 : Int32) (r : Int32) (hr : BX9_ownersOf_6 N x0 x1 x2 x3 h rec6 x4 x5 = some r) : Zw K (eI h r) h 6 [(0, vr x0), (1, vr x1), (2, vi x2), (3, vi x3), (4, vi x4), (5, vi x5)] [] := by
  unfold BX9_ownersOf_6 at hr
  refine z_iload O 5 dX9_ownersOf_6 rfl ?_
  refine z_aload_n O 0 dX9_ownersOf_8 rfl rfl ?_
  refine z_getIN O o_MLand_houses zn1907 dX9_ownersOf_9 hr (fun v1 hr => ?_)
  refine z_icmp_ge (tgt := 51) O dX9_ownersOf_12 (by decide) hr (fun hr => ?_) (fun hr => ?_)
  · refine z_iload O 4 dX9_ownersOf_51 rfl ?_
    exact z_iret O dX9_ownersOf_53 (by cases hr; rfl)
  · refine z_iload O 4 dX9_ownersOf_15 rfl ?_
    refine z_aload_n O 0 dX9_ownersOf_17 rfl rfl ?_
    refine z_iload O 5 dX9_ownersOf_18 rfl ?_
    refine z_iload_n O 2 dX9_ownersOf_20 rfl rfl ?_
    refine z_iload_n O 3 dX9_ownersOf_21 rfl rfl ?_
    refine bs hr (fun v2 hF hr => ?_)
    refine z_callV O [vi x5, vi x2, vi x3] (vi v2) fV_X20_far q2174 (fun l G => mX20_far l G x0 x5 x2 x3 h _ hF) (zck hF) rfl rfl ⟨Nat.le_of_ble_eq_true rfl, Nat.le_of_ble_eq_true rfl⟩ (Nat.le_of_ble_eq_true rfl) dX9_ownersOf_22 ?_
    refine z_aload_n O 1 dX9_ownersOf_25 rfl rfl ?_
    refine z_iconst O dX9_ownersOf_26 kic_0 ?_
    refine z_iload O 5 dX9_ownersOf_27 rfl ?_
    refine z_iadd O dX9_ownersOf_29 ?_
    refine z_iaload O dX9_ownersOf_30 hr (fun v3 hr => ?_)
    refine z_icmp_gt (tgt := 41) O dX9_ownersOf_31 (by decide) hr (fun hr => ?_) (fun hr => ?_)
    · refine z_iconst O dX9_ownersOf_41 kic_0 ?_
      refine z_ior O dX9_ownersOf_42 ?_
      refine z_letI hr (fun v4 hr => ?_)
      refine z_istore O [(4, vi v4), (0, vr x0), (1, vr x1), (2, vi x2), (3, vi x3), (5, vi x5)] dX9_ownersOf_43 (by decide) rfl ?_
      refine z_iincL O 5 (fun v5 => [(5, vi v5), (4, vi v4), (0, vr x0), (1, vr x1), (2, vi x2), (3, vi x3)]) dX9_ownersOf_45 rfl rfl (by decide) (fun _ => rfl) hr (fun v5 hr => ?_)
      refine z_goto (tgt := 6) O dX9_ownersOf_48 (by decide) ?_
      refine z_sub [2, 3, 4, 5, 1, 0] rfl ?_
      exact hrec6 v4 v5 _ hr
    · refine z_iconst O dX9_ownersOf_34 kic_1 ?_
      refine z_iload O 5 dX9_ownersOf_35 rfl ?_
      refine z_ishl O dX9_ownersOf_37 ?_
      refine z_goto (tgt := 42) O dX9_ownersOf_38 (by decide) ?_
      refine z_ior O dX9_ownersOf_42 ?_
      refine z_letI hr (fun v6 hr => ?_)
      refine z_istore O [(4, vi v6), (0, vr x0), (1, vr x1), (2, vi x2), (3, vi x3), (5, vi x5)] dX9_ownersOf_43 (by decide) rfl ?_
      refine z_iincL O 5 (fun v7 => [(5, vi v7), (4, vi v6), (0, vr x0), (1, vr x1), (2, vi x2), (3, vi x3)]) dX9_ownersOf_45 rfl rfl (by decide) (fun _ => rfl) hr (fun v7 hr => ?_)
      refine z_goto (tgt := 6) O dX9_ownersOf_48 (by decide) ?_
      refine z_sub [2, 3, 4, 5, 1, 0] rfl ?_
      exact hrec6 v6 v7 _ hr
theorem wX9_ownersOf_6 {K : ZC} (O : ZOk K cX9_ownersOf RX9 "ownersOf" 6 (some .int) 3 94) (N : Nat) (x0 : Option Nat) (x1 : Option Nat) (x2 : Int32) (x3 : Int32) (h : AH) : ∀ (n : Nat) (x4 : Int32) (x5 : Int32) (r : Int32), lf (fun _ _ => none) (BX9_ownersOf_6 N x0 x1 x2 x3 h) n x4 x5 = some r → Zw K (eI h r) h 6 [(0, vr x0), (1, vr x1), (2, vi x2), (3, vi x3), (4, vi x4), (5, vi x5)] [] := by
  intro n
  induction n with
  | zero => intro x4 x5 r hr; cases hr
  | succ n ih => intro x4 x5 r hr; exact wX9_ownersOf_6B O N x0 x1 x2 x3 h (lf (fun _ _ => none) (BX9_ownersOf_6 N x0 x1 x2 x3 h) n)  ih x4 x5 r hr
def F_X9_ownersOf (N : Nat) (x0 : Option Nat) (x1 : Option Nat) (x2 : Int32) (x3 : Int32) (h : AH) : Option (Int32) :=
  LX9_ownersOf_6 N x0 x1 x2 x3 h (0 : Int32) (0 : Int32)
theorem mX9_ownersOf (l : Launch) (G : ZG) (N : Nat) (x0 : Option Nat) (x1 : Option Nat) (x2 : Int32) (x3 : Int32) (h : AH) (r : Int32) (hr : F_X9_ownersOf N x0 x1 x2 x3 h = some r) : MZ l G yX9_ownersOf cX9_ownersOf 6 (some .int) 3 94 [vr x0, vr x1, vi x2, vi x3] h (eI h r) := by
  unfold F_X9_ownersOf at hr
  refine MZ.of (by decide) [(0, vr x0), (1, vr x1), (2, vi x2), (3, vi x3)] rfl (Nat.le_of_ble_eq_true rfl) (fun K O => ?_)
  have O : ZOk K cX9_ownersOf RX9 "ownersOf" 6 (some .int) 3 94 := O
  refine z_iconst O dX9_ownersOf_0 kic_0 ?_
  refine z_istore O [(4, vi (0 : Int32)), (0, vr x0), (1, vr x1), (2, vi x2), (3, vi x3)] dX9_ownersOf_1 (by decide) rfl ?_
  refine z_iconst O dX9_ownersOf_3 kic_0 ?_
  refine z_istore O [(5, vi (0 : Int32)), (4, vi (0 : Int32)), (0, vr x0), (1, vr x1), (2, vi x2), (3, vi x3)] dX9_ownersOf_4 (by decide) rfl ?_
  refine z_sub [2, 3, 4, 5, 1, 0] rfl ?_
  exact wX9_ownersOf_6 O N x0 x1 x2 x3 h _ (0 : Int32) (0 : Int32) _ hr
theorem fS_X9_isFree : CSf yX9_isFree cX9_isFree 8 (some .boolean) 6 := ⟨q2301, q137, q2302, ⟨⟨by decide +kernel, by decide +kernel⟩, by decide +kernel⟩⟩
def F_X9_isFree (N : Nat) (x0 : Option Nat) (x1 : Option Nat) (x2 : Int32) (x3 : Int32) (x4 : Int32) (x5 : Int32) (h : AH) : Option (Int32) :=
  (F_X20_x x0 x2 h).bind fun v1 =>
  (F_X9_doorX x3 x4 x5).bind fun v2 =>
  (F_X9_outX x4).bind fun v3 =>
  jlet ((v1 + v2) + v3) fun v4 =>
  (F_X20_y x0 x2 h).bind fun v5 =>
  (F_X9_doorY x3 x4 x5).bind fun v6 =>
  (F_X9_outY x4).bind fun v7 =>
  jlet ((v5 + v6) + v7) fun v8 =>
  (F_X20_isLand x0 v4 v8 h).bind fun v9 =>
  if v9 = 0 then
    zb (0 : Int32)
  else
    (F_X9_ownersOf N x0 x1 v4 v8 h).bind fun v10 =>
    if v10 = 0 then
      zb (1 : Int32)
    else
      zb (0 : Int32)
theorem mX9_isFree (l : Launch) (G : ZG) (N : Nat) (x0 : Option Nat) (x1 : Option Nat) (x2 : Int32) (x3 : Int32) (x4 : Int32) (x5 : Int32) (h : AH) (r : Int32) (hr : F_X9_isFree N x0 x1 x2 x3 x4 x5 h = some r) : MZ l G yX9_isFree cX9_isFree 8 (some .boolean) 4 119 [vr x0, vr x1, vi x2, vi x3, vi x4, vi x5] h (eI h r) := by
  unfold F_X9_isFree at hr
  refine MZ.of (by decide) [(0, vr x0), (1, vr x1), (2, vi x2), (3, vi x3), (4, vi x4), (5, vi x5)] rfl (Nat.le_of_ble_eq_true rfl) (fun K O => ?_)
  have O : ZOk K cX9_isFree RX9 "isFree" 8 (some .boolean) 4 119 := O
  refine z_aload_n O 0 dX9_isFree_0 rfl rfl ?_
  refine z_iload_n O 2 dX9_isFree_1 rfl rfl ?_
  refine bs hr (fun v1 hF hr => ?_)
  refine z_callV O [vi x2] (vi v1) fV_X20_x q2205 (fun l G => mX20_x l G x0 x2 h _ hF) (zck hF) rfl rfl ⟨Nat.le_of_ble_eq_true rfl, Nat.le_of_ble_eq_true rfl⟩ (Nat.le_of_ble_eq_true rfl) dX9_isFree_2 ?_
  refine z_iload_n O 3 dX9_isFree_5 rfl rfl ?_
  refine z_iload O 4 dX9_isFree_6 rfl ?_
  refine z_iload O 5 dX9_isFree_8 rfl ?_
  refine bs hr (fun v2 hF hr => ?_)
  refine z_callS O [vi x3, vi x4, vi x5] (vi v2) fS_X9_doorX q2303 (fun l G => mX9_doorX l G x3 x4 x5 h _ hF) rfl ⟨Nat.le_of_ble_eq_true rfl, Nat.le_of_ble_eq_true rfl⟩ (Nat.le_of_ble_eq_true rfl) dX9_isFree_10 ?_
  refine z_iadd O dX9_isFree_13 ?_
  refine z_iload O 4 dX9_isFree_14 rfl ?_
  refine bs hr (fun v3 hF hr => ?_)
  refine z_callS O [vi x4] (vi v3) fS_X9_outX q2306 (fun l G => mX9_outX l G x4 h _ hF) rfl ⟨Nat.le_of_ble_eq_true rfl, Nat.le_of_ble_eq_true rfl⟩ (Nat.le_of_ble_eq_true rfl) dX9_isFree_16 ?_
  refine z_iadd O dX9_isFree_19 ?_
  refine z_letI hr (fun v4 hr => ?_)
  refine z_istore O [(6, vi v4), (0, vr x0), (1, vr x1), (2, vi x2), (3, vi x3), (4, vi x4), (5, vi x5)] dX9_isFree_20 (by decide) rfl ?_
  refine z_aload_n O 1 dX9_isFree_22 rfl rfl ?_
  refine z_iload_n O 3 dX9_isFree_23 rfl rfl ?_
  refine bs hr (fun v5 hF hr => ?_)
  refine z_callV O [vi x2] (vi v5) fV_X20_y q2204 (fun l G => mX20_y l G x0 x2 h _ hF) (zck hF) rfl rfl ⟨Nat.le_of_ble_eq_true rfl, Nat.le_of_ble_eq_true rfl⟩ (Nat.le_of_ble_eq_true rfl) dX9_isFree_24 ?_
  refine z_iload_n O 4 dX9_isFree_27 rfl rfl ?_
  refine z_iload O 5 dX9_isFree_28 rfl ?_
  refine z_iload O 6 dX9_isFree_30 rfl ?_
  refine bs hr (fun v6 hF hr => ?_)
  refine z_callS O [vi x3, vi x4, vi x5] (vi v6) fS_X9_doorY q2309 (fun l G => mX9_doorY l G x3 x4 x5 h _ hF) rfl ⟨Nat.le_of_ble_eq_true rfl, Nat.le_of_ble_eq_true rfl⟩ (Nat.le_of_ble_eq_true rfl) dX9_isFree_32 ?_
  refine z_iadd O dX9_isFree_35 ?_
  refine z_iload O 5 dX9_isFree_36 rfl ?_
  refine bs hr (fun v7 hF hr => ?_)
  refine z_callS O [vi x4] (vi v7) fS_X9_outY q2312 (fun l G => mX9_outY l G x4 h _ hF) rfl ⟨Nat.le_of_ble_eq_true rfl, Nat.le_of_ble_eq_true rfl⟩ (Nat.le_of_ble_eq_true rfl) dX9_isFree_38 ?_
  refine z_iadd O dX9_isFree_41 ?_
  refine z_letI hr (fun v8 hr => ?_)
  refine z_istore O [(7, vi v8), (6, vi v4), (0, vr x0), (1, vr x1), (2, vi x2), (3, vi x3), (4, vi x4), (5, vi x5)] dX9_isFree_42 (by decide) rfl ?_
  refine z_aload_n O 2 dX9_isFree_44 rfl rfl ?_
  refine z_iload O 1 dX9_isFree_45 rfl ?_
  refine z_iload O 0 dX9_isFree_47 rfl ?_
  refine bs hr (fun v9 hF hr => ?_)
  refine z_callV O [vi v4, vi v8] (vi v9) fV_X20_isLand q2206 (fun l G => mX20_isLand l G x0 v4 v8 h _ hF) (zck hF) rfl rfl ⟨Nat.le_of_ble_eq_true rfl, Nat.le_of_ble_eq_true rfl⟩ (Nat.le_of_ble_eq_true rfl) dX9_isFree_49 ?_
  refine z_if_eq (tgt := 71) O dX9_isFree_52 (by decide) hr (fun hr => ?_) (fun hr => ?_)
  · refine z_iconst O dX9_isFree_71 kic_0 ?_
    obtain ⟨e1, e2, -⟩ := zb_spec hr
    exact z_zret O e2 dX9_isFree_72 (by cases e1; rfl)
  · refine z_aload_n O 2 dX9_isFree_55 rfl rfl ?_
    refine z_aload_n O 3 dX9_isFree_56 rfl rfl ?_
    refine z_iload O 1 dX9_isFree_57 rfl ?_
    refine z_iload O 0 dX9_isFree_59 rfl ?_
    refine bs hr (fun v10 hF hr => ?_)
    refine z_callS O [vr x0, vr x1, vi v4, vi v8] (vi v10) fS_X9_ownersOf q2171 (fun l G => mX9_ownersOf l G N x0 x1 v4 v8 h _ hF) rfl ⟨Nat.le_of_ble_eq_true rfl, Nat.le_of_ble_eq_true rfl⟩ (Nat.le_of_ble_eq_true rfl) dX9_isFree_61 ?_
    refine z_if_ne (tgt := 71) O dX9_isFree_64 (by decide) hr (fun hr => ?_) (fun hr => ?_)
    · refine z_iconst O dX9_isFree_67 kic_1 ?_
      refine z_goto (tgt := 72) O dX9_isFree_68 (by decide) ?_
      obtain ⟨e1, e2, -⟩ := zb_spec hr
      exact z_zret O e2 dX9_isFree_72 (by cases e1; rfl)
    · refine z_iconst O dX9_isFree_71 kic_0 ?_
      obtain ⟨e1, e2, -⟩ := zb_spec hr
      exact z_zret O e2 dX9_isFree_72 (by cases e1; rfl)
theorem fV_X9_isStone : CVf RX9 yX9_isStone cX9_isStone 2 (some .boolean) 1 := ⟨q2377, qs102, q137, q2378, ⟨⟨by decide +kernel, by decide +kernel⟩, by decide +kernel⟩⟩
def F_X9_isStone (x0 : Option Nat) (x1 : Int32) (h : AH) : Option (Int32) :=
  (ck h [9] x0).bind fun _ =>
  (gR h f_Model_land x0).bind fun v1 =>
  if v1 = none then
    zb (0 : Int32)
  else
    if x1 < 0 then
      zb (0 : Int32)
    else
      (gR h f_Model_land x0).bind fun v2 =>
      (gI h f_MLand_stones v2).bind fun v3 =>
      if v3 ≤ x1 then
        zb (0 : Int32)
      else
        zb (1 : Int32)
theorem mX9_isStone (l : Launch) (G : ZG) (x0 : Option Nat) (x1 : Int32) (h : AH) (r : Int32) (hr : F_X9_isStone x0 x1 h = some r) : MZ l G yX9_isStone cX9_isStone 2 (some .boolean) 1 48 [vr x0, vi x1] h (eI h r) := by
  unfold F_X9_isStone at hr
  refine MZ.of (by decide) [(0, vr x0), (1, vi x1)] rfl (Nat.le_of_ble_eq_true rfl) (fun K O => ?_)
  have O : ZOk K cX9_isStone RX9 "isStone" 2 (some .boolean) 1 48 := O
  refine bs hr (fun _ hck hr => ?_)
  refine z_aload_n O 0 dX9_isStone_0 rfl rfl ?_
  refine z_getR O o_Model_land q1765 dX9_isStone_1 hr (fun v1 hr => ?_)
  refine z_ifnull (tgt := 26) O dX9_isStone_4 (by decide) hr (fun hr => ?_) (fun hr => ?_)
  · refine z_iconst O dX9_isStone_26 kic_0 ?_
    obtain ⟨e1, e2, -⟩ := zb_spec hr
    exact z_zret O e2 dX9_isStone_27 (by cases e1; rfl)
  · refine z_iload_n O 1 dX9_isStone_7 rfl rfl ?_
    refine z_if_lt (tgt := 26) O dX9_isStone_8 (by decide) hr (fun hr => ?_) (fun hr => ?_)
    · refine z_iconst O dX9_isStone_26 kic_0 ?_
      obtain ⟨e1, e2, -⟩ := zb_spec hr
      exact z_zret O e2 dX9_isStone_27 (by cases e1; rfl)
    · refine z_iload_n O 1 dX9_isStone_11 rfl rfl ?_
      refine z_aload_n O 0 dX9_isStone_12 rfl rfl ?_
      refine z_getR O o_Model_land q1765 dX9_isStone_13 hr (fun v2 hr => ?_)
      refine z_getIN O o_MLand_stones zn1906 dX9_isStone_16 hr (fun v3 hr => ?_)
      refine z_icmp_ge (tgt := 26) O dX9_isStone_19 (by decide) hr (fun hr => ?_) (fun hr => ?_)
      · refine z_iconst O dX9_isStone_26 kic_0 ?_
        obtain ⟨e1, e2, -⟩ := zb_spec hr
        exact z_zret O e2 dX9_isStone_27 (by cases e1; rfl)
      · refine z_iconst O dX9_isStone_22 kic_1 ?_
        refine z_goto (tgt := 27) O dX9_isStone_23 (by decide) ?_
        obtain ⟨e1, e2, -⟩ := zb_spec hr
        exact z_zret O e2 dX9_isStone_27 (by cases e1; rfl)
theorem fV_X9_keeps : CVf RX9 yX9_keeps cX9_keeps 2 (none : Option Jvm.ClassFile.FieldType) 0 := ⟨q2569, qs122, q137, q2570, ⟨⟨by decide +kernel, by decide +kernel⟩, by decide +kernel⟩⟩
def BX9_keeps_52 (N : Nat) (x0 : Option Nat) (rec52 : Int32 → AH → Option (AH)) : Int32 → AH → Option (AH) := fun x1 h =>
  if (212 : Int32) ≤ x1 then
    (gI h f_Model_acts x0).bind fun v1 =>
    (pI h f_Model_acts x0 (v1 + (1 : Int32))).bind fun h2 =>
    some h2
  else
    (gR h f_Model_past x0).bind fun v3 =>
    (gI h f_Model_acts x0).bind fun v4 =>
    (gR h f_Model_v x0).bind fun v5 =>
    (aI h 0 v5 x1).bind fun v6 =>
    (sA h 0 v3 (((212 : Int32) * v4) + x1) v6).bind fun h7 =>
    jlet (x1 + (1 : Int32)) fun v8 =>
    rec52 v8 h7
def LX9_keeps_52 (N : Nat) (x0 : Option Nat) : Int32 → AH → Option (AH) := lf (fun _ _ => none) (BX9_keeps_52 N x0) N
theorem wX9_keeps_52B {K : ZC} (O : ZOk K cX9_keeps RX9 "keeps" 2 (none : Option Jvm.ClassFile.FieldType) 1 48) (N : Nat) (x0 : Option Nat) (rec52 : Int32 → AH → Option (AH)) (hrec52 : ∀ (y1 : Int32) (hy : AH) (ry : AH), rec52 y1 hy = some ry → Zw K (eH ry) hy 52 [(0, vr x0), (1, vi y1)] []) (x1 : Int32) (h : AH) (r : AH) (hr : BX9_keeps_52 N x0 rec52 x1 h = some r) : Zw K (eH r) h 52 [(0, vr x0), (1, vi x1)] [] := by
  unfold BX9_keeps_52 at hr
  refine z_iload_n O 1 dX9_keeps_52 rfl rfl ?_
  refine z_sipush O dX9_keeps_53 ksi_212 ?_
  refine z_icmp_ge (tgt := 86) O dX9_keeps_56 (by decide) hr (fun hr => ?_) (fun hr => ?_)
  · refine z_aload_n O 0 dX9_keeps_86 rfl rfl ?_
    refine z_dup O dX9_keeps_87 rfl ?_
    refine z_getI O o_Model_acts q1782 dX9_keeps_88 hr (fun v1 hr => ?_)
    refine z_iconst O dX9_keeps_91 kic_1 ?_
    refine z_iadd O dX9_keeps_92 ?_
    refine z_putI O o_Model_acts (w_Model_acts _) q1782 dX9_keeps_93 hr (fun h2 hr => ?_)
    exact z_vret O dX9_keeps_96 (by cases hr; rfl)
  · refine z_aload_n O 0 dX9_keeps_59 rfl rfl ?_
    refine z_getR O o_Model_past q1780 dX9_keeps_60 hr (fun v3 hr => ?_)
    refine z_sipush O dX9_keeps_63 ksi_212 ?_
    refine z_aload_n O 0 dX9_keeps_66 rfl rfl ?_
    refine z_getI O o_Model_acts q1782 dX9_keeps_67 hr (fun v4 hr => ?_)
    refine z_imul O dX9_keeps_70 ?_
    refine z_iload_n O 1 dX9_keeps_71 rfl rfl ?_
    refine z_iadd O dX9_keeps_72 ?_
    refine z_aload_n O 0 dX9_keeps_73 rfl rfl ?_
    refine z_getR O o_Model_v q1778 dX9_keeps_74 hr (fun v5 hr => ?_)
    refine z_iload_n O 1 dX9_keeps_77 rfl rfl ?_
    refine z_iaload O dX9_keeps_78 hr (fun v6 hr => ?_)
    refine z_iastore O dX9_keeps_79 hr (fun h7 hr => ?_)
    refine z_iincL O 1 (fun v8 => [(1, vi v8), (0, vr x0)]) dX9_keeps_80 rfl rfl (by decide) (fun _ => rfl) hr (fun v8 hr => ?_)
    refine z_goto (tgt := 52) O dX9_keeps_83 (by decide) ?_
    refine z_sub [1, 0] rfl ?_
    exact hrec52 v8 h7 _ hr
theorem wX9_keeps_52 {K : ZC} (O : ZOk K cX9_keeps RX9 "keeps" 2 (none : Option Jvm.ClassFile.FieldType) 1 48) (N : Nat) (x0 : Option Nat) : ∀ (n : Nat) (x1 : Int32) (h : AH) (r : AH), lf (fun _ _ => none) (BX9_keeps_52 N x0) n x1 h = some r → Zw K (eH r) h 52 [(0, vr x0), (1, vi x1)] [] := by
  intro n
  induction n with
  | zero => intro x1 h r hr; cases hr
  | succ n ih => intro x1 h r hr; exact wX9_keeps_52B O N x0 (lf (fun _ _ => none) (BX9_keeps_52 N x0) n)  ih x1 h r hr
def BX9_keeps_11 (N : Nat) (x0 : Option Nat) (rec11 : Int32 → AH → Option (AH)) : Int32 → AH → Option (AH) := fun x1 h =>
  if (1908 : Int32) ≤ x1 then
    (gI h f_Model_acts x0).bind fun v1 =>
    (pI h f_Model_acts x0 (v1 - (1 : Int32))).bind fun h2 =>
    LX9_keeps_52 N x0 (0 : Int32) h2
  else
    (gR h f_Model_past x0).bind fun v3 =>
    (gR h f_Model_past x0).bind fun v4 =>
    (aI h 0 v4 (x1 + (212 : Int32))).bind fun v5 =>
    (sA h 0 v3 x1 v5).bind fun h6 =>
    jlet (x1 + (1 : Int32)) fun v7 =>
    rec11 v7 h6
def LX9_keeps_11 (N : Nat) (x0 : Option Nat) : Int32 → AH → Option (AH) := lf (fun _ _ => none) (BX9_keeps_11 N x0) N
theorem wX9_keeps_11B {K : ZC} (O : ZOk K cX9_keeps RX9 "keeps" 2 (none : Option Jvm.ClassFile.FieldType) 1 48) (N : Nat) (x0 : Option Nat) (rec11 : Int32 → AH → Option (AH)) (hrec11 : ∀ (y1 : Int32) (hy : AH) (ry : AH), rec11 y1 hy = some ry → Zw K (eH ry) hy 11 [(0, vr x0), (1, vi y1)] []) (x1 : Int32) (h : AH) (r : AH) (hr : BX9_keeps_11 N x0 rec11 x1 h = some r) : Zw K (eH r) h 11 [(0, vr x0), (1, vi x1)] [] := by
  unfold BX9_keeps_11 at hr
  refine z_iload_n O 1 dX9_keeps_11 rfl rfl ?_
  refine z_sipush O dX9_keeps_12 ksi_1908 ?_
  refine z_icmp_ge (tgt := 40) O dX9_keeps_15 (by decide) hr (fun hr => ?_) (fun hr => ?_)
  · refine z_aload_n O 0 dX9_keeps_40 rfl rfl ?_
    refine z_dup O dX9_keeps_41 rfl ?_
    refine z_getI O o_Model_acts q1782 dX9_keeps_42 hr (fun v1 hr => ?_)
    refine z_iconst O dX9_keeps_45 kic_1 ?_
    refine z_isub O dX9_keeps_46 ?_
    refine z_putI O o_Model_acts (w_Model_acts _) q1782 dX9_keeps_47 hr (fun h2 hr => ?_)
    refine z_iconst O dX9_keeps_50 kic_0 ?_
    refine z_istore_n O [(1, vi (0 : Int32)), (0, vr x0)] dX9_keeps_51 rfl (by decide) rfl ?_
    refine z_sub [1, 0] rfl ?_
    exact wX9_keeps_52 O N x0 _ (0 : Int32) h2 _ hr
  · refine z_aload_n O 0 dX9_keeps_18 rfl rfl ?_
    refine z_getR O o_Model_past q1780 dX9_keeps_19 hr (fun v3 hr => ?_)
    refine z_iload_n O 1 dX9_keeps_22 rfl rfl ?_
    refine z_aload_n O 0 dX9_keeps_23 rfl rfl ?_
    refine z_getR O o_Model_past q1780 dX9_keeps_24 hr (fun v4 hr => ?_)
    refine z_iload_n O 1 dX9_keeps_27 rfl rfl ?_
    refine z_sipush O dX9_keeps_28 ksi_212 ?_
    refine z_iadd O dX9_keeps_31 ?_
    refine z_iaload O dX9_keeps_32 hr (fun v5 hr => ?_)
    refine z_iastore O dX9_keeps_33 hr (fun h6 hr => ?_)
    refine z_iincL O 1 (fun v7 => [(1, vi v7), (0, vr x0)]) dX9_keeps_34 rfl rfl (by decide) (fun _ => rfl) hr (fun v7 hr => ?_)
    refine z_goto (tgt := 11) O dX9_keeps_37 (by decide) ?_
    refine z_sub [1, 0] rfl ?_
    exact hrec11 v7 h6 _ hr
theorem wX9_keeps_11 {K : ZC} (O : ZOk K cX9_keeps RX9 "keeps" 2 (none : Option Jvm.ClassFile.FieldType) 1 48) (N : Nat) (x0 : Option Nat) : ∀ (n : Nat) (x1 : Int32) (h : AH) (r : AH), lf (fun _ _ => none) (BX9_keeps_11 N x0) n x1 h = some r → Zw K (eH r) h 11 [(0, vr x0), (1, vi x1)] [] := by
  intro n
  induction n with
  | zero => intro x1 h r hr; cases hr
  | succ n ih => intro x1 h r hr; exact wX9_keeps_11B O N x0 (lf (fun _ _ => none) (BX9_keeps_11 N x0) n)  ih x1 h r hr
def F_X9_keeps (N : Nat) (x0 : Option Nat) (h : AH) : Option (AH) :=
  (ck h [9] x0).bind fun _ =>
  (gI h f_Model_acts x0).bind fun v1 =>
  if v1 = (10 : Int32) then
    LX9_keeps_11 N x0 (0 : Int32) h
  else
    LX9_keeps_52 N x0 (0 : Int32) h
theorem mX9_keeps (l : Launch) (G : ZG) (N : Nat) (x0 : Option Nat) (h : AH) (r : AH) (hr : F_X9_keeps N x0 h = some r) : MZ l G yX9_keeps cX9_keeps 2 (none : Option Jvm.ClassFile.FieldType) 1 48 [vr x0] h (eH r) := by
  unfold F_X9_keeps at hr
  refine MZ.of (by decide) [(0, vr x0)] rfl (Nat.le_of_ble_eq_true rfl) (fun K O => ?_)
  have O : ZOk K cX9_keeps RX9 "keeps" 2 (none : Option Jvm.ClassFile.FieldType) 1 48 := O
  refine bs hr (fun _ hck hr => ?_)
  refine z_aload_n O 0 dX9_keeps_0 rfl rfl ?_
  refine z_getI O o_Model_acts q1782 dX9_keeps_1 hr (fun v1 hr => ?_)
  refine z_bipush O dX9_keeps_4 kbi_10 ?_
  refine z_icmp_ne (tgt := 50) O dX9_keeps_6 (by decide) hr (fun hr => ?_) (fun hr => ?_)
  · refine z_iconst O dX9_keeps_9 kic_0 ?_
    refine z_istore_n O [(1, vi (0 : Int32)), (0, vr x0)] dX9_keeps_10 rfl (by decide) rfl ?_
    refine z_sub [1, 0] rfl ?_
    exact wX9_keeps_11 O N x0 _ (0 : Int32) h _ hr
  · refine z_iconst O dX9_keeps_50 kic_0 ?_
    refine z_istore_n O [(1, vi (0 : Int32)), (0, vr x0)] dX9_keeps_51 rfl (by decide) rfl ?_
    refine z_sub [1, 0] rfl ?_
    exact wX9_keeps_52 O N x0 _ (0 : Int32) h _ hr
theorem fV_X9_build : CVf RX9 yX9_build cX9_build 8 (some .int) 5 := ⟨q2572, q2573, q137, q2574, ⟨⟨by decide +kernel, by decide +kernel⟩, by decide +kernel⟩⟩
def F_X9_build (N : Nat) (x0 : Option Nat) (x1 : Int32) (x2 : Int32) (x3 : Int32) (x4 : Int32) (x5 : Int32) (h : AH) : Option (Int32 × AH) :=
  (ck h [9] x0).bind fun _ =>
  (pI h f_Model_thrown x0 (0 : Int32)).bind fun h1 =>
  (F_X9_isHouse x0 x1 h1).bind fun v2 =>
  if v2 = 0 then
    b2 (F_X9_refused x0 (1 : Int32) h1) fun v4 h3 =>
    some (v4, h3)
  else
    (F_X9_isStone x0 x2 h1).bind fun v5 =>
    if v5 = 0 then
      b2 (F_X9_refused x0 (1 : Int32) h1) fun v7 h6 =>
      some (v7, h6)
    else
      (F_X9_within x3 (0 : Int32) (3 : Int32)).bind fun v8 =>
      if v8 = 0 then
        b2 (F_X9_refused x0 (1 : Int32) h1) fun v47 h46 =>
        some (v47, h46)
      else
        (gR h1 f_Model_v x0).bind fun v9 =>
        (aI h1 0 v9 ((0 : Int32) + x1)).bind fun v10 =>
        jlet (v10 + (1 : Int32)) fun v11 =>
        if v11 ≤ (6 : Int32) then
          (F_X9_within x4 (0 : Int32) (((2 : Int32) * v11) - (2 : Int32))).bind fun v12 =>
          if v12 = 0 then
            b2 (F_X9_refused x0 (2 : Int32) h1) fun v14 h13 =>
            some (v14, h13)
          else
            (F_X9_within x5 (0 : Int32) (99 : Int32)).bind fun v15 =>
            if v15 = 0 then
              b2 (F_X9_refused x0 (2 : Int32) h1) fun v43 h42 =>
              some (v43, h42)
            else
              (gR h1 f_Model_land x0).bind fun v16 =>
              (gR h1 f_Model_v x0).bind fun v17 =>
              (F_X9_fitsIn N v16 v17 x1 h1).bind fun v18 =>
              if v18 = 0 then
                b2 (F_X9_refused x0 (5 : Int32) h1) fun v20 h19 =>
                some (v20, h19)
              else
                (gR h1 f_Model_land x0).bind fun v21 =>
                (gR h1 f_Model_v x0).bind fun v22 =>
                (F_X9_isFree N v21 v22 x1 v11 x3 x4 h1).bind fun v23 =>
                if v23 = 0 then
                  b2 (F_X9_refused x0 (5 : Int32) h1) fun v41 h40 =>
                  some (v41, h40)
                else
                  (gR h1 f_Model_v x0).bind fun v24 =>
                  (F_X9_costOf x0 v24 x1 x2 h1).bind fun v25 =>
                  (gR h1 f_Model_v x0).bind fun v26 =>
                  (aI h1 0 v26 ((8 : Int32) + x1)).bind fun v27 =>
                  if v25 ≤ v27 then
                    (F_X9_keeps N x0 h1).bind fun h28 =>
                    (gR h28 f_Model_v x0).bind fun v29 =>
                    (aI h28 0 v29 ((8 : Int32) + x1)).bind fun v30 =>
                    (sA h28 0 v29 ((8 : Int32) + x1) (v30 - v25)).bind fun h31 =>
                    (gR h31 f_Model_v x0).bind fun v32 =>
                    (gR h31 f_Model_v x0).bind fun v33 =>
                    (aI h31 0 v33 (210 : Int32)).bind fun v34 =>
                    (F_X9_adds v32 x1 x2 x3 x4 x5 v34 h31).bind fun h35 =>
                    b2 (F_X9_good x0 v25 h35) fun v37 h36 =>
                    some (v37, h36)
                  else
                    b2 (F_X9_refused x0 (6 : Int32) h1) fun v39 h38 =>
                    some (v39, h38)
        else
          b2 (F_X9_refused x0 (3 : Int32) h1) fun v45 h44 =>
          some (v45, h44)
theorem mX9_build (l : Launch) (G : ZG) (N : Nat) (x0 : Option Nat) (x1 : Int32) (x2 : Int32) (x3 : Int32) (x4 : Int32) (x5 : Int32) (h : AH) (r : Int32 × AH) (hr : F_X9_build N x0 x1 x2 x3 x4 x5 h = some r) : MZ l G yX9_build cX9_build 8 (some .int) 5 146 [vr x0, vi x1, vi x2, vi x3, vi x4, vi x5] h (eIH r) := by
  unfold F_X9_build at hr
  refine MZ.of (by decide) [(0, vr x0), (1, vi x1), (2, vi x2), (3, vi x3), (4, vi x4), (5, vi x5)] rfl (Nat.le_of_ble_eq_true rfl) (fun K O => ?_)
  have O : ZOk K cX9_build RX9 "build" 8 (some .int) 5 146 := O
  refine bs hr (fun _ hck hr => ?_)
  refine z_aload_n O 0 dX9_build_0 rfl rfl ?_
  refine z_iconst O dX9_build_1 kic_0 ?_
  refine z_putI O o_Model_thrown (w_Model_thrown _) q1762 dX9_build_2 hr (fun h1 hr => ?_)
  refine z_aload_n O 0 dX9_build_5 rfl rfl ?_
  refine z_iload_n O 1 dX9_build_6 rfl rfl ?_
  refine bs hr (fun v2 hF hr => ?_)
  refine z_callV O [vi x1] (vi v2) fV_X9_isHouse q2292 (fun l G => mX9_isHouse l G x0 x1 h1 _ hF) (zck hF) rfl rfl ⟨Nat.le_of_ble_eq_true rfl, Nat.le_of_ble_eq_true rfl⟩ (Nat.le_of_ble_eq_true rfl) dX9_build_7 ?_
  refine z_if_eq (tgt := 30) O dX9_build_10 (by decide) hr (fun hr => ?_) (fun hr => ?_)
  · refine z_aload_n O 0 dX9_build_30 rfl rfl ?_
    refine z_iconst O dX9_build_31 kic_1 ?_
    refine b2s hr (fun v4 h3 hF hr => ?_)
    refine z_callV O [vi (1 : Int32)] (vi v4) fV_X9_refused q1886 (fun l G => mX9_refused l G x0 (1 : Int32) h1 _ hF) (zck hF) rfl rfl ⟨Nat.le_of_ble_eq_true rfl, Nat.le_of_ble_eq_true rfl⟩ (Nat.le_of_ble_eq_true rfl) dX9_build_32 ?_
    exact z_iret O dX9_build_35 (by cases hr; rfl)
  · refine z_aload_n O 0 dX9_build_13 rfl rfl ?_
    refine z_iload_n O 2 dX9_build_14 rfl rfl ?_
    refine bs hr (fun v5 hF hr => ?_)
    refine z_callV O [vi x2] (vi v5) fV_X9_isStone q2375 (fun l G => mX9_isStone l G x0 x2 h1 _ hF) (zck hF) rfl rfl ⟨Nat.le_of_ble_eq_true rfl, Nat.le_of_ble_eq_true rfl⟩ (Nat.le_of_ble_eq_true rfl) dX9_build_15 ?_
    refine z_if_eq (tgt := 30) O dX9_build_18 (by decide) hr (fun hr => ?_) (fun hr => ?_)
    · refine z_aload_n O 0 dX9_build_30 rfl rfl ?_
      refine z_iconst O dX9_build_31 kic_1 ?_
      refine b2s hr (fun v7 h6 hF hr => ?_)
      refine z_callV O [vi (1 : Int32)] (vi v7) fV_X9_refused q1886 (fun l G => mX9_refused l G x0 (1 : Int32) h1 _ hF) (zck hF) rfl rfl ⟨Nat.le_of_ble_eq_true rfl, Nat.le_of_ble_eq_true rfl⟩ (Nat.le_of_ble_eq_true rfl) dX9_build_32 ?_
      exact z_iret O dX9_build_35 (by cases hr; rfl)
    · refine z_iload_n O 3 dX9_build_21 rfl rfl ?_
      refine z_iconst O dX9_build_22 kic_0 ?_
      refine z_iconst O dX9_build_23 kic_3 ?_
      refine bs hr (fun v8 hF hr => ?_)
      refine z_callS O [vi x3, vi (0 : Int32), vi (3 : Int32)] (vi v8) fS_X9_within q2096 (fun l G => mX9_within l G x3 (0 : Int32) (3 : Int32) h1 _ hF) rfl ⟨Nat.le_of_ble_eq_true rfl, Nat.le_of_ble_eq_true rfl⟩ (Nat.le_of_ble_eq_true rfl) dX9_build_24 ?_
      refine z_if_ne (tgt := 36) O dX9_build_27 (by decide) hr (fun hr => ?_) (fun hr => ?_)
      · refine z_aload_n O 0 dX9_build_30 rfl rfl ?_
        refine z_iconst O dX9_build_31 kic_1 ?_
        refine b2s hr (fun v47 h46 hF hr => ?_)
        refine z_callV O [vi (1 : Int32)] (vi v47) fV_X9_refused q1886 (fun l G => mX9_refused l G x0 (1 : Int32) h1 _ hF) (zck hF) rfl rfl ⟨Nat.le_of_ble_eq_true rfl, Nat.le_of_ble_eq_true rfl⟩ (Nat.le_of_ble_eq_true rfl) dX9_build_32 ?_
        exact z_iret O dX9_build_35 (by cases hr; rfl)
      · refine z_aload_n O 0 dX9_build_36 rfl rfl ?_
        refine z_getR O o_Model_v q1778 dX9_build_37 hr (fun v9 hr => ?_)
        refine z_iconst O dX9_build_40 kic_0 ?_
        refine z_iload_n O 1 dX9_build_41 rfl rfl ?_
        refine z_iadd O dX9_build_42 ?_
        refine z_iaload O dX9_build_43 hr (fun v10 hr => ?_)
        refine z_iconst O dX9_build_44 kic_1 ?_
        refine z_iadd O dX9_build_45 ?_
        refine z_letI hr (fun v11 hr => ?_)
        refine z_istore O [(6, vi v11), (0, vr x0), (1, vi x1), (2, vi x2), (3, vi x3), (4, vi x4), (5, vi x5)] dX9_build_46 (by decide) rfl ?_
        refine z_iload O 0 dX9_build_48 rfl ?_
        refine z_bipush O dX9_build_50 kbi_6 ?_
        refine z_icmp_le (tgt := 61) O dX9_build_52 (by decide) hr (fun hr => ?_) (fun hr => ?_)
        · refine z_iload O 5 dX9_build_61 rfl ?_
          refine z_iconst O dX9_build_63 kic_0 ?_
          refine z_iconst O dX9_build_64 kic_2 ?_
          refine z_iload O 0 dX9_build_65 rfl ?_
          refine z_imul O dX9_build_67 ?_
          refine z_iconst O dX9_build_68 kic_2 ?_
          refine z_isub O dX9_build_69 ?_
          refine bs hr (fun v12 hF hr => ?_)
          refine z_callS O [vi x4, vi (0 : Int32), vi (((2 : Int32) * v11) - (2 : Int32))] (vi v12) fS_X9_within q2096 (fun l G => mX9_within l G x4 (0 : Int32) (((2 : Int32) * v11) - (2 : Int32)) h1 _ hF) rfl ⟨Nat.le_of_ble_eq_true rfl, Nat.le_of_ble_eq_true rfl⟩ (Nat.le_of_ble_eq_true rfl) dX9_build_70 ?_
          refine z_if_eq (tgt := 87) O dX9_build_73 (by decide) hr (fun hr => ?_) (fun hr => ?_)
          · refine z_aload_n O 1 dX9_build_87 rfl rfl ?_
            refine z_iconst O dX9_build_88 kic_2 ?_
            refine b2s hr (fun v14 h13 hF hr => ?_)
            refine z_callV O [vi (2 : Int32)] (vi v14) fV_X9_refused q1886 (fun l G => mX9_refused l G x0 (2 : Int32) h1 _ hF) (zck hF) rfl rfl ⟨Nat.le_of_ble_eq_true rfl, Nat.le_of_ble_eq_true rfl⟩ (Nat.le_of_ble_eq_true rfl) dX9_build_89 ?_
            exact z_iret O dX9_build_92 (by cases hr; rfl)
          · refine z_iload O 6 dX9_build_76 rfl ?_
            refine z_iconst O dX9_build_78 kic_0 ?_
            refine z_bipush O dX9_build_79 kbi_99 ?_
            refine bs hr (fun v15 hF hr => ?_)
            refine z_callS O [vi x5, vi (0 : Int32), vi (99 : Int32)] (vi v15) fS_X9_within q2096 (fun l G => mX9_within l G x5 (0 : Int32) (99 : Int32) h1 _ hF) rfl ⟨Nat.le_of_ble_eq_true rfl, Nat.le_of_ble_eq_true rfl⟩ (Nat.le_of_ble_eq_true rfl) dX9_build_81 ?_
            refine z_if_ne (tgt := 93) O dX9_build_84 (by decide) hr (fun hr => ?_) (fun hr => ?_)
            · refine z_aload_n O 1 dX9_build_87 rfl rfl ?_
              refine z_iconst O dX9_build_88 kic_2 ?_
              refine b2s hr (fun v43 h42 hF hr => ?_)
              refine z_callV O [vi (2 : Int32)] (vi v43) fV_X9_refused q1886 (fun l G => mX9_refused l G x0 (2 : Int32) h1 _ hF) (zck hF) rfl rfl ⟨Nat.le_of_ble_eq_true rfl, Nat.le_of_ble_eq_true rfl⟩ (Nat.le_of_ble_eq_true rfl) dX9_build_89 ?_
              exact z_iret O dX9_build_92 (by cases hr; rfl)
            · refine z_aload_n O 1 dX9_build_93 rfl rfl ?_
              refine z_getR O o_Model_land q1765 dX9_build_94 hr (fun v16 hr => ?_)
              refine z_aload_n O 1 dX9_build_97 rfl rfl ?_
              refine z_getR O o_Model_v q1778 dX9_build_98 hr (fun v17 hr => ?_)
              refine z_iload_n O 2 dX9_build_101 rfl rfl ?_
              refine bs hr (fun v18 hF hr => ?_)
              refine z_callS O [vr v16, vr v17, vi x1] (vi v18) fS_X9_fitsIn q2201 (fun l G => mX9_fitsIn l G N v16 v17 x1 h1 _ hF) rfl ⟨Nat.le_of_ble_eq_true rfl, Nat.le_of_ble_eq_true rfl⟩ (Nat.le_of_ble_eq_true rfl) dX9_build_102 ?_
              refine z_if_eq (tgt := 128) O dX9_build_105 (by decide) hr (fun hr => ?_) (fun hr => ?_)
              · refine z_aload_n O 1 dX9_build_128 rfl rfl ?_
                refine z_iconst O dX9_build_129 kic_5 ?_
                refine b2s hr (fun v20 h19 hF hr => ?_)
                refine z_callV O [vi (5 : Int32)] (vi v20) fV_X9_refused q1886 (fun l G => mX9_refused l G x0 (5 : Int32) h1 _ hF) (zck hF) rfl rfl ⟨Nat.le_of_ble_eq_true rfl, Nat.le_of_ble_eq_true rfl⟩ (Nat.le_of_ble_eq_true rfl) dX9_build_130 ?_
                exact z_iret O dX9_build_133 (by cases hr; rfl)
              · refine z_aload_n O 1 dX9_build_108 rfl rfl ?_
                refine z_getR O o_Model_land q1765 dX9_build_109 hr (fun v21 hr => ?_)
                refine z_aload_n O 1 dX9_build_112 rfl rfl ?_
                refine z_getR O o_Model_v q1778 dX9_build_113 hr (fun v22 hr => ?_)
                refine z_iload_n O 2 dX9_build_116 rfl rfl ?_
                refine z_iload O 0 dX9_build_117 rfl ?_
                refine z_iload_n O 4 dX9_build_119 rfl rfl ?_
                refine z_iload O 5 dX9_build_120 rfl ?_
                refine bs hr (fun v23 hF hr => ?_)
                refine z_callS O [vr v21, vr v22, vi x1, vi v11, vi x3, vi x4] (vi v23) fS_X9_isFree q2300 (fun l G => mX9_isFree l G N v21 v22 x1 v11 x3 x4 h1 _ hF) rfl ⟨Nat.le_of_ble_eq_true rfl, Nat.le_of_ble_eq_true rfl⟩ (Nat.le_of_ble_eq_true rfl) dX9_build_122 ?_
                refine z_if_ne (tgt := 134) O dX9_build_125 (by decide) hr (fun hr => ?_) (fun hr => ?_)
                · refine z_aload_n O 1 dX9_build_128 rfl rfl ?_
                  refine z_iconst O dX9_build_129 kic_5 ?_
                  refine b2s hr (fun v41 h40 hF hr => ?_)
                  refine z_callV O [vi (5 : Int32)] (vi v41) fV_X9_refused q1886 (fun l G => mX9_refused l G x0 (5 : Int32) h1 _ hF) (zck hF) rfl rfl ⟨Nat.le_of_ble_eq_true rfl, Nat.le_of_ble_eq_true rfl⟩ (Nat.le_of_ble_eq_true rfl) dX9_build_130 ?_
                  exact z_iret O dX9_build_133 (by cases hr; rfl)
                · refine z_aload_n O 1 dX9_build_134 rfl rfl ?_
                  refine z_aload_n O 1 dX9_build_135 rfl rfl ?_
                  refine z_getR O o_Model_v q1778 dX9_build_136 hr (fun v24 hr => ?_)
                  refine z_iload_n O 2 dX9_build_139 rfl rfl ?_
                  refine z_iload_n O 3 dX9_build_140 rfl rfl ?_
                  refine bs hr (fun v25 hF hr => ?_)
                  refine z_callV O [vr v24, vi x1, vi x2] (vi v25) fV_X9_costOf q2379 (fun l G => mX9_costOf l G x0 v24 x1 x2 h1 _ hF) (zck hF) rfl rfl ⟨Nat.le_of_ble_eq_true rfl, Nat.le_of_ble_eq_true rfl⟩ (Nat.le_of_ble_eq_true rfl) dX9_build_141 ?_
                  refine z_istore O [(7, vi v25), (6, vi v11), (0, vr x0), (1, vi x1), (2, vi x2), (3, vi x3), (4, vi x4), (5, vi x5)] dX9_build_144 (by decide) rfl ?_
                  refine z_aload_n O 2 dX9_build_146 rfl rfl ?_
                  refine z_getR O o_Model_v q1778 dX9_build_147 hr (fun v26 hr => ?_)
                  refine z_bipush O dX9_build_150 kbi_8 ?_
                  refine z_iload_n O 3 dX9_build_152 rfl rfl ?_
                  refine z_iadd O dX9_build_153 ?_
                  refine z_iaload O dX9_build_154 hr (fun v27 hr => ?_)
                  refine z_iload O 0 dX9_build_155 rfl ?_
                  refine z_icmp_ge (tgt := 167) O dX9_build_157 (by decide) hr (fun hr => ?_) (fun hr => ?_)
                  · refine z_aload_n O 2 dX9_build_167 rfl rfl ?_
                    refine bs hr (fun h28 hF hr => ?_)
                    refine z_callVv O [] fV_X9_keeps q2567 (fun l G => mX9_keeps l G N x0 h1 _ hF) (zck hF) rfl rfl ⟨Nat.le_of_ble_eq_true rfl, Nat.le_of_ble_eq_true rfl⟩ (Nat.le_of_ble_eq_true rfl) dX9_build_168 ?_
                    refine z_aload_n O 2 dX9_build_171 rfl rfl ?_
                    refine z_getR O o_Model_v q1778 dX9_build_172 hr (fun v29 hr => ?_)
                    refine z_bipush O dX9_build_175 kbi_8 ?_
                    refine z_iload_n O 3 dX9_build_177 rfl rfl ?_
                    refine z_iadd O dX9_build_178 ?_
                    refine z_dup2 O dX9_build_179 rfl rfl ?_
                    refine z_iaload O dX9_build_180 hr (fun v30 hr => ?_)
                    refine z_iload O 0 dX9_build_181 rfl ?_
                    refine z_isub O dX9_build_183 ?_
                    refine z_iastore O dX9_build_184 hr (fun h31 hr => ?_)
                    refine z_aload_n O 2 dX9_build_185 rfl rfl ?_
                    refine z_getR O o_Model_v q1778 dX9_build_186 hr (fun v32 hr => ?_)
                    refine z_iload_n O 3 dX9_build_189 rfl rfl ?_
                    refine z_iload_n O 4 dX9_build_190 rfl rfl ?_
                    refine z_iload_n O 5 dX9_build_191 rfl rfl ?_
                    refine z_iload O 6 dX9_build_192 rfl ?_
                    refine z_iload O 7 dX9_build_194 rfl ?_
                    refine z_aload_n O 2 dX9_build_196 rfl rfl ?_
                    refine z_getR O o_Model_v q1778 dX9_build_197 hr (fun v33 hr => ?_)
                    refine z_sipush O dX9_build_200 ksi_210 ?_
                    refine z_iaload O dX9_build_203 hr (fun v34 hr => ?_)
                    refine bs hr (fun h35 hF hr => ?_)
                    refine z_callSv O [vr v32, vi x1, vi x2, vi x3, vi x4, vi x5, vi v34] fS_X9_adds q2220 (fun l G => mX9_adds l G v32 x1 x2 x3 x4 x5 v34 h31 _ hF) rfl ⟨Nat.le_of_ble_eq_true rfl, Nat.le_of_ble_eq_true rfl⟩ (Nat.le_of_ble_eq_true rfl) dX9_build_204 ?_
                    refine z_aload_n O 2 dX9_build_207 rfl rfl ?_
                    refine z_iload O 0 dX9_build_208 rfl ?_
                    refine b2s hr (fun v37 h36 hF hr => ?_)
                    refine z_callV O [vi v25] (vi v37) fV_X9_good q2249 (fun l G => mX9_good l G x0 v25 h35 _ hF) (zck hF) rfl rfl ⟨Nat.le_of_ble_eq_true rfl, Nat.le_of_ble_eq_true rfl⟩ (Nat.le_of_ble_eq_true rfl) dX9_build_210 ?_
                    exact z_iret O dX9_build_213 (by cases hr; rfl)
                  · refine z_aload_n O 2 dX9_build_160 rfl rfl ?_
                    refine z_bipush O dX9_build_161 kbi_6 ?_
                    refine b2s hr (fun v39 h38 hF hr => ?_)
                    refine z_callV O [vi (6 : Int32)] (vi v39) fV_X9_refused q1886 (fun l G => mX9_refused l G x0 (6 : Int32) h1 _ hF) (zck hF) rfl rfl ⟨Nat.le_of_ble_eq_true rfl, Nat.le_of_ble_eq_true rfl⟩ (Nat.le_of_ble_eq_true rfl) dX9_build_163 ?_
                    exact z_iret O dX9_build_166 (by cases hr; rfl)
        · refine z_aload_n O 1 dX9_build_55 rfl rfl ?_
          refine z_iconst O dX9_build_56 kic_3 ?_
          refine b2s hr (fun v45 h44 hF hr => ?_)
          refine z_callV O [vi (3 : Int32)] (vi v45) fV_X9_refused q1886 (fun l G => mX9_refused l G x0 (3 : Int32) h1 _ hF) (zck hF) rfl rfl ⟨Nat.le_of_ble_eq_true rfl, Nat.le_of_ble_eq_true rfl⟩ (Nat.le_of_ble_eq_true rfl) dX9_build_57 ?_
          exact z_iret O dX9_build_60 (by cases hr; rfl)
