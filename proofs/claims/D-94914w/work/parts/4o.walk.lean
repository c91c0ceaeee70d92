set_option maxRecDepth 100000
set_option maxHeartbeats 4000000
theorem fV_X9_goldOf : CVf RX9 yX9_goldOf cX9_goldOf 3 (some .int) 2 := ⟨q2517, qs116, q137, q2518, ⟨⟨by decide +kernel, by decide +kernel⟩, by decide +kernel⟩⟩
def F_X9_goldOf (x0 : Option Nat) (x1 : Int32) (x2 : Int32) (h : AH) : Option (Int32) :=
  (ck h [9] x0).bind fun _ =>
  (gR h f_Model_land x0).bind fun v1 =>
  (gR h f_MLand_costs v1).bind fun v2 =>
  (gR h f_Model_v x0).bind fun v3 =>
  (F_X9_part x1 x2 (0 : Int32)).bind fun v4 =>
  (aI h 0 v3 v4).bind fun v5 =>
  (aI h 0 v2 v5).bind fun v6 =>
  (dv ((v6 * (8 : Int32)) * x2) (2 : Int32)).bind fun v7 =>
  some v7
theorem mX9_goldOf (l : Launch) (G : ZG) (x0 : Option Nat) (x1 : Int32) (x2 : Int32) (h : AH) (r : Int32) (hr : F_X9_goldOf x0 x1 x2 h = some r) : MZ l G yX9_goldOf cX9_goldOf 3 (some .int) 2 70 [vr x0, vi x1, vi x2] h (eI h r) := by
  unfold F_X9_goldOf at hr
  refine MZ.of (by decide) [(0, vr x0), (1, vi x1), (2, vi x2)] rfl (Nat.le_of_ble_eq_true rfl) (fun K O => ?_)
  have O : ZOk K cX9_goldOf RX9 "goldOf" 3 (some .int) 2 70 := O
  refine bs hr (fun _ hck hr => ?_)
  refine z_aload_n O 0 dX9_goldOf_0 rfl rfl ?_
  refine z_getR O o_Model_land q1765 dX9_goldOf_1 hr (fun v1 hr => ?_)
  refine z_getRN O o_MLand_costs zn1920 dX9_goldOf_4 hr (fun v2 hr => ?_)
  refine z_aload_n O 0 dX9_goldOf_7 rfl rfl ?_
  refine z_getR O o_Model_v q1778 dX9_goldOf_8 hr (fun v3 hr => ?_)
  refine z_iload_n O 1 dX9_goldOf_11 rfl rfl ?_
  refine z_iload_n O 2 dX9_goldOf_12 rfl rfl ?_
  refine z_iconst O dX9_goldOf_13 kic_0 ?_
  refine bs hr (fun v4 hF hr => ?_)
  refine z_callS O [vi x1, vi x2, vi (0 : Int32)] (vi v4) fS_X9_part q2223 (fun l G => mX9_part l G x1 x2 (0 : Int32) h _ hF) rfl ⟨Nat.le_of_ble_eq_true rfl, Nat.le_of_ble_eq_true rfl⟩ (Nat.le_of_ble_eq_true rfl) dX9_goldOf_14 ?_
  refine z_iaload O dX9_goldOf_17 hr (fun v5 hr => ?_)
  refine z_iaload O dX9_goldOf_18 hr (fun v6 hr => ?_)
  refine z_bipush O dX9_goldOf_19 kbi_8 ?_
  refine z_imul O dX9_goldOf_21 ?_
  refine z_iload_n O 2 dX9_goldOf_22 rfl rfl ?_
  refine z_imul O dX9_goldOf_23 ?_
  refine z_iconst O dX9_goldOf_24 kic_2 ?_
  refine z_idiv O dX9_goldOf_25 hr (fun v7 hr => ?_)
  exact z_iret O dX9_goldOf_26 (by cases hr; rfl)
theorem fV_X9_inmost : CVf RX9 yX9_inmost cX9_inmost 3 (some .int) 1 := ⟨q2513, qs115, q137, q2514, ⟨⟨by decide +kernel, by decide +kernel⟩, by decide +kernel⟩⟩
def BX9_inmost_2 (N : Nat) (x0 : Option Nat) (x1 : Int32) (h : AH) (rec2 : Int32 → Option (Int32)) : Int32 → Option (Int32) := fun x2 =>
  (gR h f_Model_v x0).bind fun v1 =>
  (aI h 0 v1 ((0 : Int32) + x1)).bind fun v2 =>
  if v2 < x2 then
    some (-2 : Int32)
  else
    (gR h f_Model_v x0).bind fun v3 =>
    (F_X9_part x1 x2 (5 : Int32)).bind fun v4 =>
    (aI h 0 v3 v4).bind fun v5 =>
    if v5 = 0 then
      some x2
    else
      jlet (x2 + (1 : Int32)) fun v6 =>
      rec2 v6
def LX9_inmost_2 (N : Nat) (x0 : Option Nat) (x1 : Int32) (h : AH) : Int32 → Option (Int32) := lf (fun _ => none) (BX9_inmost_2 N x0 x1 h) N
theorem wX9_inmost_2B {K : ZC} (O : ZOk K cX9_inmost RX9 "inmost" 3 (some .int) 2 70) (N : Nat) (x0 : Option Nat) (x1 : Int32) (h : AH) (rec2 : Int32 → Option (Int32)) (hrec2 : ∀ (y2 : Int32) (ry : Int32), rec2 y2 = some ry → Zw K (eI h ry) h 2 [(0, vr x0), (1, vi x1), (2, vi y2)] []) (x2 : Int32) (r : Int32) (hr : BX9_inmost_2 N x0 x1 h rec2 x2 = some r) : Zw K (eI h r) h 2 [(0, vr x0), (1, vi x1), (2, vi x2)] [] := by
  unfold BX9_inmost_2 at hr
  refine z_iload_n O 2 dX9_inmost_2 rfl rfl ?_
  refine z_aload_n O 0 dX9_inmost_3 rfl rfl ?_
  refine z_getR O o_Model_v q1778 dX9_inmost_4 hr (fun v1 hr => ?_)
  refine z_iconst O dX9_inmost_7 kic_0 ?_
  refine z_iload_n O 1 dX9_inmost_8 rfl rfl ?_
  refine z_iadd O dX9_inmost_9 ?_
  refine z_iaload O dX9_inmost_10 hr (fun v2 hr => ?_)
  refine z_icmp_gt (tgt := 36) O dX9_inmost_11 (by decide) hr (fun hr => ?_) (fun hr => ?_)
  · refine z_bipush O dX9_inmost_36 kbi_m2 ?_
    exact z_iret O dX9_inmost_38 (by cases hr; rfl)
  · refine z_aload_n O 0 dX9_inmost_14 rfl rfl ?_
    refine z_getR O o_Model_v q1778 dX9_inmost_15 hr (fun v3 hr => ?_)
    refine z_iload_n O 1 dX9_inmost_18 rfl rfl ?_
    refine z_iload_n O 2 dX9_inmost_19 rfl rfl ?_
    refine z_iconst O dX9_inmost_20 kic_5 ?_
    refine bs hr (fun v4 hF hr => ?_)
    refine z_callS O [vi x1, vi x2, vi (5 : Int32)] (vi v4) fS_X9_part q2223 (fun l G => mX9_part l G x1 x2 (5 : Int32) h _ hF) rfl ⟨Nat.le_of_ble_eq_true rfl, Nat.le_of_ble_eq_true rfl⟩ (Nat.le_of_ble_eq_true rfl) dX9_inmost_21 ?_
    refine z_iaload O dX9_inmost_24 hr (fun v5 hr => ?_)
    refine z_if_ne (tgt := 30) O dX9_inmost_25 (by decide) hr (fun hr => ?_) (fun hr => ?_)
    · refine z_iload_n O 2 dX9_inmost_28 rfl rfl ?_
      exact z_iret O dX9_inmost_29 (by cases hr; rfl)
    · refine z_iincL O 2 (fun v6 => [(2, vi v6), (0, vr x0), (1, vi x1)]) dX9_inmost_30 rfl rfl (by decide) (fun _ => rfl) hr (fun v6 hr => ?_)
      refine z_goto (tgt := 2) O dX9_inmost_33 (by decide) ?_
      refine z_sub [1, 2, 0] rfl ?_
      exact hrec2 v6 _ hr
theorem wX9_inmost_2 {K : ZC} (O : ZOk K cX9_inmost RX9 "inmost" 3 (some .int) 2 70) (N : Nat) (x0 : Option Nat) (x1 : Int32) (h : AH) : ∀ (n : Nat) (x2 : Int32) (r : Int32), lf (fun _ => none) (BX9_inmost_2 N x0 x1 h) n x2 = some r → Zw K (eI h r) h 2 [(0, vr x0), (1, vi x1), (2, vi x2)] [] := by
  intro n
  induction n with
  | zero => intro x2 r hr; cases hr
  | succ n ih => intro x2 r hr; exact wX9_inmost_2B O N x0 x1 h (lf (fun _ => none) (BX9_inmost_2 N x0 x1 h) n)  ih x2 r hr
def F_X9_inmost (N : Nat) (x0 : Option Nat) (x1 : Int32) (h : AH) : Option (Int32) :=
  (ck h [9] x0).bind fun _ =>
  LX9_inmost_2 N x0 x1 h (1 : Int32)
theorem mX9_inmost (l : Launch) (G : ZG) (N : Nat) (x0 : Option Nat) (x1 : Int32) (h : AH) (r : Int32) (hr : F_X9_inmost N x0 x1 h = some r) : MZ l G yX9_inmost cX9_inmost 3 (some .int) 2 70 [vr x0, vi x1] h (eI h r) := by
  unfold F_X9_inmost at hr
  refine MZ.of (by decide) [(0, vr x0), (1, vi x1)] rfl (Nat.le_of_ble_eq_true rfl) (fun K O => ?_)
  have O : ZOk K cX9_inmost RX9 "inmost" 3 (some .int) 2 70 := O
  refine bs hr (fun _ hck hr => ?_)
  refine z_iconst O dX9_inmost_0 kic_1 ?_
  refine z_istore_n O [(2, vi (1 : Int32)), (0, vr x0), (1, vi x1)] dX9_inmost_1 rfl (by decide) rfl ?_
  refine z_sub [1, 2, 0] rfl ?_
  exact wX9_inmost_2 O N x0 x1 h _ (1 : Int32) _ hr
theorem fV_X9_take : CVf RX9 yX9_take cX9_take 4 (some .int) 1 := ⟨q2588, q2589, q137, q2590, ⟨⟨by decide +kernel, by decide +kernel⟩, by decide +kernel⟩⟩
def F_X9_take (N : Nat) (x0 : Option Nat) (x1 : Int32) (h : AH) : Option (Int32 × AH) :=
  (ck h [9] x0).bind fun _ =>
  (pI h f_Model_thrown x0 (0 : Int32)).bind fun h1 =>
  (F_X9_isHouse x0 x1 h1).bind fun v2 =>
  if v2 = 0 then
    b2 (F_X9_refused x0 (1 : Int32) h1) fun v25 h24 =>
    some (v25, h24)
  else
    (F_X9_inmost N x0 x1 h1).bind fun v3 =>
    if v3 = (-2 : Int32) then
      b2 (F_X9_refused x0 (6 : Int32) h1) fun v23 h22 =>
      some (v23, h22)
    else
      (F_X9_isLivedIn N x0 x1 v3 h1).bind fun v4 =>
      if v4 = 0 then
        (F_X9_keeps N x0 h1).bind fun h5 =>
        (F_X9_goldOf x0 x1 v3 h5).bind fun v6 =>
        (gR h5 f_Model_v x0).bind fun v7 =>
        (gR h5 f_Model_v x0).bind fun v8 =>
        (aI h5 0 v8 ((8 : Int32) + x1)).bind fun v9 =>
        (F_X9_least (999 : Int32) (v9 + v6)).bind fun v10 =>
        (sA h5 0 v7 ((8 : Int32) + x1) v10).bind fun h11 =>
        (gR h11 f_Model_v x0).bind fun v12 =>
        (F_X9_part x1 v3 (5 : Int32)).bind fun v13 =>
        (sA h11 0 v12 v13 (1 : Int32)).bind fun h14 =>
        (gR h14 f_Model_v x0).bind fun v15 =>
        (F_X9_part x1 v3 (6 : Int32)).bind fun v16 =>
        (sA h14 0 v15 v16 (0 : Int32)).bind fun h17 =>
        b2 (F_X9_good x0 v6 h17) fun v19 h18 =>
        some (v19, h18)
      else
        b2 (F_X9_refused x0 (5 : Int32) h1) fun v21 h20 =>
        some (v21, h20)
theorem mX9_take (l : Launch) (G : ZG) (N : Nat) (x0 : Option Nat) (x1 : Int32) (h : AH) (r : Int32 × AH) (hr : F_X9_take N x0 x1 h = some r) : MZ l G yX9_take cX9_take 4 (some .int) 3 92 [vr x0, vi x1] h (eIH r) := by
  unfold F_X9_take at hr
  refine MZ.of (by decide) [(0, vr x0), (1, vi x1)] rfl (Nat.le_of_ble_eq_true rfl) (fun K O => ?_)
  have O : ZOk K cX9_take RX9 "take" 4 (some .int) 3 92 := O
  refine bs hr (fun _ hck hr => ?_)
  refine z_aload_n O 0 dX9_take_0 rfl rfl ?_
  refine z_iconst O dX9_take_1 kic_0 ?_
  refine z_putI O o_Model_thrown (w_Model_thrown _) q1762 dX9_take_2 hr (fun h1 hr => ?_)
  refine z_aload_n O 0 dX9_take_5 rfl rfl ?_
  refine z_iload_n O 1 dX9_take_6 rfl rfl ?_
  refine bs hr (fun v2 hF hr => ?_)
  refine z_callV O [vi x1] (vi v2) fV_X9_isHouse q2292 (fun l G => mX9_isHouse l G x0 x1 h1 _ hF) (zck hF) rfl rfl ⟨Nat.le_of_ble_eq_true rfl, Nat.le_of_ble_eq_true rfl⟩ (Nat.le_of_ble_eq_true rfl) dX9_take_7 ?_
  refine z_if_ne (tgt := 19) O dX9_take_10 (by decide) hr (fun hr => ?_) (fun hr => ?_)
  · refine z_aload_n O 0 dX9_take_13 rfl rfl ?_
    refine z_iconst O dX9_take_14 kic_1 ?_
    refine b2s hr (fun v25 h24 hF hr => ?_)
    refine z_callV O [vi (1 : Int32)] (vi v25) fV_X9_refused q1886 (fun l G => mX9_refused l G x0 (1 : Int32) h1 _ hF) (zck hF) rfl rfl ⟨Nat.le_of_ble_eq_true rfl, Nat.le_of_ble_eq_true rfl⟩ (Nat.le_of_ble_eq_true rfl) dX9_take_15 ?_
    exact z_iret O dX9_take_18 (by cases hr; rfl)
  · refine z_aload_n O 0 dX9_take_19 rfl rfl ?_
    refine z_iload_n O 1 dX9_take_20 rfl rfl ?_
    refine bs hr (fun v3 hF hr => ?_)
    refine z_callV O [vi x1] (vi v3) fV_X9_inmost q2511 (fun l G => mX9_inmost l G N x0 x1 h1 _ hF) (zck hF) rfl rfl ⟨Nat.le_of_ble_eq_true rfl, Nat.le_of_ble_eq_true rfl⟩ (Nat.le_of_ble_eq_true rfl) dX9_take_21 ?_
    refine z_istore_n O [(2, vi v3), (0, vr x0), (1, vi x1)] dX9_take_24 rfl (by decide) rfl ?_
    refine z_iload_n O 0 dX9_take_25 rfl rfl ?_
    refine z_bipush O dX9_take_26 kbi_m2 ?_
    refine z_icmp_ne (tgt := 38) O dX9_take_28 (by decide) hr (fun hr => ?_) (fun hr => ?_)
    · refine z_aload_n O 1 dX9_take_31 rfl rfl ?_
      refine z_bipush O dX9_take_32 kbi_6 ?_
      refine b2s hr (fun v23 h22 hF hr => ?_)
      refine z_callV O [vi (6 : Int32)] (vi v23) fV_X9_refused q1886 (fun l G => mX9_refused l G x0 (6 : Int32) h1 _ hF) (zck hF) rfl rfl ⟨Nat.le_of_ble_eq_true rfl, Nat.le_of_ble_eq_true rfl⟩ (Nat.le_of_ble_eq_true rfl) dX9_take_34 ?_
      exact z_iret O dX9_take_37 (by cases hr; rfl)
    · refine z_aload_n O 1 dX9_take_38 rfl rfl ?_
      refine z_iload_n O 2 dX9_take_39 rfl rfl ?_
      refine z_iload_n O 0 dX9_take_40 rfl rfl ?_
      refine bs hr (fun v4 hF hr => ?_)
      refine z_callV O [vi x1, vi v3] (vi v4) fV_X9_isLivedIn q2523 (fun l G => mX9_isLivedIn l G N x0 x1 v3 h1 _ hF) (zck hF) rfl rfl ⟨Nat.le_of_ble_eq_true rfl, Nat.le_of_ble_eq_true rfl⟩ (Nat.le_of_ble_eq_true rfl) dX9_take_41 ?_
      refine z_if_eq (tgt := 53) O dX9_take_44 (by decide) hr (fun hr => ?_) (fun hr => ?_)
      · refine z_aload_n O 1 dX9_take_53 rfl rfl ?_
        refine bs hr (fun h5 hF hr => ?_)
        refine z_callVv O [] fV_X9_keeps q2567 (fun l G => mX9_keeps l G N x0 h1 _ hF) (zck hF) rfl rfl ⟨Nat.le_of_ble_eq_true rfl, Nat.le_of_ble_eq_true rfl⟩ (Nat.le_of_ble_eq_true rfl) dX9_take_54 ?_
        refine z_aload_n O 1 dX9_take_57 rfl rfl ?_
        refine z_iload_n O 2 dX9_take_58 rfl rfl ?_
        refine z_iload_n O 0 dX9_take_59 rfl rfl ?_
        refine bs hr (fun v6 hF hr => ?_)
        refine z_callV O [vi x1, vi v3] (vi v6) fV_X9_goldOf q2515 (fun l G => mX9_goldOf l G x0 x1 v3 h5 _ hF) (zck hF) rfl rfl ⟨Nat.le_of_ble_eq_true rfl, Nat.le_of_ble_eq_true rfl⟩ (Nat.le_of_ble_eq_true rfl) dX9_take_60 ?_
        refine z_istore_n O [(3, vi v6), (2, vi v3), (0, vr x0), (1, vi x1)] dX9_take_63 rfl (by decide) rfl ?_
        refine z_aload_n O 2 dX9_take_64 rfl rfl ?_
        refine z_getR O o_Model_v q1778 dX9_take_65 hr (fun v7 hr => ?_)
        refine z_bipush O dX9_take_68 kbi_8 ?_
        refine z_iload_n O 3 dX9_take_70 rfl rfl ?_
        refine z_iadd O dX9_take_71 ?_
        refine z_sipush O dX9_take_72 ksi_999 ?_
        refine z_aload_n O 2 dX9_take_75 rfl rfl ?_
        refine z_getR O o_Model_v q1778 dX9_take_76 hr (fun v8 hr => ?_)
        refine z_bipush O dX9_take_79 kbi_8 ?_
        refine z_iload_n O 3 dX9_take_81 rfl rfl ?_
        refine z_iadd O dX9_take_82 ?_
        refine z_iaload O dX9_take_83 hr (fun v9 hr => ?_)
        refine z_iload_n O 0 dX9_take_84 rfl rfl ?_
        refine z_iadd O dX9_take_85 ?_
        refine bs hr (fun v10 hF hr => ?_)
        refine z_callS O [vi (999 : Int32), vi (v9 + v6)] (vi v10) fS_X9_least q2409 (fun l G => mX9_least l G (999 : Int32) (v9 + v6) h5 _ hF) rfl ⟨Nat.le_of_ble_eq_true rfl, Nat.le_of_ble_eq_true rfl⟩ (Nat.le_of_ble_eq_true rfl) dX9_take_86 ?_
        refine z_iastore O dX9_take_89 hr (fun h11 hr => ?_)
        refine z_aload_n O 2 dX9_take_90 rfl rfl ?_
        refine z_getR O o_Model_v q1778 dX9_take_91 hr (fun v12 hr => ?_)
        refine z_iload_n O 3 dX9_take_94 rfl rfl ?_
        refine z_iload_n O 1 dX9_take_95 rfl rfl ?_
        refine z_iconst O dX9_take_96 kic_5 ?_
        refine bs hr (fun v13 hF hr => ?_)
        refine z_callS O [vi x1, vi v3, vi (5 : Int32)] (vi v13) fS_X9_part q2223 (fun l G => mX9_part l G x1 v3 (5 : Int32) h11 _ hF) rfl ⟨Nat.le_of_ble_eq_true rfl, Nat.le_of_ble_eq_true rfl⟩ (Nat.le_of_ble_eq_true rfl) dX9_take_97 ?_
        refine z_iconst O dX9_take_100 kic_1 ?_
        refine z_iastore O dX9_take_101 hr (fun h14 hr => ?_)
        refine z_aload_n O 2 dX9_take_102 rfl rfl ?_
        refine z_getR O o_Model_v q1778 dX9_take_103 hr (fun v15 hr => ?_)
        refine z_iload_n O 3 dX9_take_106 rfl rfl ?_
        refine z_iload_n O 1 dX9_take_107 rfl rfl ?_
        refine z_bipush O dX9_take_108 kbi_6 ?_
        refine bs hr (fun v16 hF hr => ?_)
        refine z_callS O [vi x1, vi v3, vi (6 : Int32)] (vi v16) fS_X9_part q2223 (fun l G => mX9_part l G x1 v3 (6 : Int32) h14 _ hF) rfl ⟨Nat.le_of_ble_eq_true rfl, Nat.le_of_ble_eq_true rfl⟩ (Nat.le_of_ble_eq_true rfl) dX9_take_110 ?_
        refine z_iconst O dX9_take_113 kic_0 ?_
        refine z_iastore O dX9_take_114 hr (fun h17 hr => ?_)
        refine z_aload_n O 2 dX9_take_115 rfl rfl ?_
        refine z_iload_n O 0 dX9_take_116 rfl rfl ?_
        refine b2s hr (fun v19 h18 hF hr => ?_)
        refine z_callV O [vi v6] (vi v19) fV_X9_good q2249 (fun l G => mX9_good l G x0 v6 h17 _ hF) (zck hF) rfl rfl ⟨Nat.le_of_ble_eq_true rfl, Nat.le_of_ble_eq_true rfl⟩ (Nat.le_of_ble_eq_true rfl) dX9_take_117 ?_
        exact z_iret O dX9_take_120 (by cases hr; rfl)
      · refine z_aload_n O 1 dX9_take_47 rfl rfl ?_
        refine z_iconst O dX9_take_48 kic_5 ?_
        refine b2s hr (fun v21 h20 hF hr => ?_)
        refine z_callV O [vi (5 : Int32)] (vi v21) fV_X9_refused q1886 (fun l G => mX9_refused l G x0 (5 : Int32) h1 _ hF) (zck hF) rfl rfl ⟨Nat.le_of_ble_eq_true rfl, Nat.le_of_ble_eq_true rfl⟩ (Nat.le_of_ble_eq_true rfl) dX9_take_49 ?_
        exact z_iret O dX9_take_52 (by cases hr; rfl)
theorem fV_X9_takes : CVf RX9 yX9_takes cX9_takes 2 (some .int) 1 := ⟨q2508, q2509, q137, q2510, ⟨⟨by decide +kernel, by decide +kernel⟩, by decide +kernel⟩⟩
def F_X9_takes (N : Nat) (x0 : Option Nat) (x1 : Int32) (h : AH) : Option (Int32 × AH) :=
  (ck h [9] x0).bind fun _ =>
  (pI h f_Model_thrown x0 (0 : Int32)).bind fun h1 =>
  (F_X9_isHouse x0 x1 h1).bind fun v2 =>
  if v2 = 0 then
    b2 (F_X9_refused x0 (1 : Int32) h1) fun v11 h10 =>
    some (v11, h10)
  else
    (F_X9_inmost N x0 x1 h1).bind fun v3 =>
    if v3 = (-2 : Int32) then
      b2 (F_X9_good x0 (-2 : Int32) h1) fun v9 h8 =>
      some (v9, h8)
    else
      (F_X9_inmost N x0 x1 h1).bind fun v4 =>
      (F_X9_goldOf x0 x1 v4 h1).bind fun v5 =>
      b2 (F_X9_good x0 v5 h1) fun v7 h6 =>
      some (v7, h6)
theorem mX9_takes (l : Launch) (G : ZG) (N : Nat) (x0 : Option Nat) (x1 : Int32) (h : AH) (r : Int32 × AH) (hr : F_X9_takes N x0 x1 h = some r) : MZ l G yX9_takes cX9_takes 2 (some .int) 3 92 [vr x0, vi x1] h (eIH r) := by
  unfold F_X9_takes at hr
  refine MZ.of (by decide) [(0, vr x0), (1, vi x1)] rfl (Nat.le_of_ble_eq_true rfl) (fun K O => ?_)
  have O : ZOk K cX9_takes RX9 "takes" 2 (some .int) 3 92 := O
  refine bs hr (fun _ hck hr => ?_)
  refine z_aload_n O 0 dX9_takes_0 rfl rfl ?_
  refine z_iconst O dX9_takes_1 kic_0 ?_
  refine z_putI O o_Model_thrown (w_Model_thrown _) q1762 dX9_takes_2 hr (fun h1 hr => ?_)
  refine z_aload_n O 0 dX9_takes_5 rfl rfl ?_
  refine z_iload_n O 1 dX9_takes_6 rfl rfl ?_
  refine bs hr (fun v2 hF hr => ?_)
  refine z_callV O [vi x1] (vi v2) fV_X9_isHouse q2292 (fun l G => mX9_isHouse l G x0 x1 h1 _ hF) (zck hF) rfl rfl ⟨Nat.le_of_ble_eq_true rfl, Nat.le_of_ble_eq_true rfl⟩ (Nat.le_of_ble_eq_true rfl) dX9_takes_7 ?_
  refine z_if_ne (tgt := 19) O dX9_takes_10 (by decide) hr (fun hr => ?_) (fun hr => ?_)
  · refine z_aload_n O 0 dX9_takes_13 rfl rfl ?_
    refine z_iconst O dX9_takes_14 kic_1 ?_
    refine b2s hr (fun v11 h10 hF hr => ?_)
    refine z_callV O [vi (1 : Int32)] (vi v11) fV_X9_refused q1886 (fun l G => mX9_refused l G x0 (1 : Int32) h1 _ hF) (zck hF) rfl rfl ⟨Nat.le_of_ble_eq_true rfl, Nat.le_of_ble_eq_true rfl⟩ (Nat.le_of_ble_eq_true rfl) dX9_takes_15 ?_
    exact z_iret O dX9_takes_18 (by cases hr; rfl)
  · refine z_aload_n O 0 dX9_takes_19 rfl rfl ?_
    refine z_aload_n O 0 dX9_takes_20 rfl rfl ?_
    refine z_iload_n O 1 dX9_takes_21 rfl rfl ?_
    refine bs hr (fun v3 hF hr => ?_)
    refine z_callV O [vi x1] (vi v3) fV_X9_inmost q2511 (fun l G => mX9_inmost l G N x0 x1 h1 _ hF) (zck hF) rfl rfl ⟨Nat.le_of_ble_eq_true rfl, Nat.le_of_ble_eq_true rfl⟩ (Nat.le_of_ble_eq_true rfl) dX9_takes_22 ?_
    refine z_bipush O dX9_takes_25 kbi_m2 ?_
    refine z_icmp_ne (tgt := 35) O dX9_takes_27 (by decide) hr (fun hr => ?_) (fun hr => ?_)
    · refine z_bipush O dX9_takes_30 kbi_m2 ?_
      refine z_goto (tgt := 45) O dX9_takes_32 (by decide) ?_
      refine b2s hr (fun v9 h8 hF hr => ?_)
      refine z_callV O [vi (-2 : Int32)] (vi v9) fV_X9_good q2249 (fun l G => mX9_good l G x0 (-2 : Int32) h1 _ hF) (zck hF) rfl rfl ⟨Nat.le_of_ble_eq_true rfl, Nat.le_of_ble_eq_true rfl⟩ (Nat.le_of_ble_eq_true rfl) dX9_takes_45 ?_
      exact z_iret O dX9_takes_48 (by cases hr; rfl)
    · refine z_aload_n O 0 dX9_takes_35 rfl rfl ?_
      refine z_iload_n O 1 dX9_takes_36 rfl rfl ?_
      refine z_aload_n O 0 dX9_takes_37 rfl rfl ?_
      refine z_iload_n O 1 dX9_takes_38 rfl rfl ?_
      refine bs hr (fun v4 hF hr => ?_)
      refine z_callV O [vi x1] (vi v4) fV_X9_inmost q2511 (fun l G => mX9_inmost l G N x0 x1 h1 _ hF) (zck hF) rfl rfl ⟨Nat.le_of_ble_eq_true rfl, Nat.le_of_ble_eq_true rfl⟩ (Nat.le_of_ble_eq_true rfl) dX9_takes_39 ?_
      refine bs hr (fun v5 hF hr => ?_)
      refine z_callV O [vi x1, vi v4] (vi v5) fV_X9_goldOf q2515 (fun l G => mX9_goldOf l G x0 x1 v4 h1 _ hF) (zck hF) rfl rfl ⟨Nat.le_of_ble_eq_true rfl, Nat.le_of_ble_eq_true rfl⟩ (Nat.le_of_ble_eq_true rfl) dX9_takes_42 ?_
      refine b2s hr (fun v7 h6 hF hr => ?_)
      refine z_callV O [vi v5] (vi v7) fV_X9_good q2249 (fun l G => mX9_good l G x0 v5 h1 _ hF) (zck hF) rfl rfl ⟨Nat.le_of_ble_eq_true rfl, Nat.le_of_ble_eq_true rfl⟩ (Nat.le_of_ble_eq_true rfl) dX9_takes_45 ?_
      exact z_iret O dX9_takes_48 (by cases hr; rfl)
theorem fV_X9_through : CVf RX9 yX9_through cX9_through 3 (some .int) 2 := ⟨q2397, q2398, q137, q2399, ⟨⟨by decide +kernel, by decide +kernel⟩, by decide +kernel⟩⟩
def F_X9_through (N : Nat) (x0 : Option Nat) (x1 : Int32) (x2 : Int32) (h : AH) : Option (Int32 × AH) :=
  (ck h [9] x0).bind fun _ =>
  (pI h f_Model_thrown x0 (0 : Int32)).bind fun h1 =>
  (F_X9_isDepth x0 x1 x2 h1).bind fun v2 =>
  if v2 = 0 then
    b2 (F_X9_refused x0 (1 : Int32) h1) fun v4 h3 =>
    some (v4, h3)
  else
    b2 (F_X9_throughTo N x0 x1 x2 h1) fun v6 h5 =>
    (dv v6 (100 : Int32)).bind fun v7 =>
    b2 (F_X9_good x0 v7 h5) fun v9 h8 =>
    some (v9, h8)
theorem mX9_through (l : Launch) (G : ZG) (N : Nat) (x0 : Option Nat) (x1 : Int32) (x2 : Int32) (h : AH) (r : Int32 × AH) (hr : F_X9_through N x0 x1 x2 h = some r) : MZ l G yX9_through cX9_through 3 (some .int) 4 123 [vr x0, vi x1, vi x2] h (eIH r) := by
  unfold F_X9_through at hr
  refine MZ.of (by decide) [(0, vr x0), (1, vi x1), (2, vi x2)] rfl (Nat.le_of_ble_eq_true rfl) (fun K O => ?_)
  have O : ZOk K cX9_through RX9 "through" 3 (some .int) 4 123 := O
  refine bs hr (fun _ hck hr => ?_)
  refine z_aload_n O 0 dX9_through_0 rfl rfl ?_
  refine z_iconst O dX9_through_1 kic_0 ?_
  refine z_putI O o_Model_thrown (w_Model_thrown _) q1762 dX9_through_2 hr (fun h1 hr => ?_)
  refine z_aload_n O 0 dX9_through_5 rfl rfl ?_
  refine z_iload_n O 1 dX9_through_6 rfl rfl ?_
  refine z_iload_n O 2 dX9_through_7 rfl rfl ?_
  refine bs hr (fun v2 hF hr => ?_)
  refine z_callV O [vi x1, vi x2] (vi v2) fV_X9_isDepth q2327 (fun l G => mX9_isDepth l G x0 x1 x2 h1 _ hF) (zck hF) rfl rfl ⟨Nat.le_of_ble_eq_true rfl, Nat.le_of_ble_eq_true rfl⟩ (Nat.le_of_ble_eq_true rfl) dX9_through_8 ?_
  refine z_if_eq (tgt := 30) O dX9_through_11 (by decide) hr (fun hr => ?_) (fun hr => ?_)
  · refine z_aload_n O 0 dX9_through_30 rfl rfl ?_
    refine z_iconst O dX9_through_31 kic_1 ?_
    refine b2s hr (fun v4 h3 hF hr => ?_)
    refine z_callV O [vi (1 : Int32)] (vi v4) fV_X9_refused q1886 (fun l G => mX9_refused l G x0 (1 : Int32) h1 _ hF) (zck hF) rfl rfl ⟨Nat.le_of_ble_eq_true rfl, Nat.le_of_ble_eq_true rfl⟩ (Nat.le_of_ble_eq_true rfl) dX9_through_32 ?_
    exact z_iret O dX9_through_35 (by cases hr; rfl)
  · refine z_aload_n O 0 dX9_through_14 rfl rfl ?_
    refine z_aload_n O 0 dX9_through_15 rfl rfl ?_
    refine z_iload_n O 1 dX9_through_16 rfl rfl ?_
    refine z_iload_n O 2 dX9_through_17 rfl rfl ?_
    refine b2s hr (fun v6 h5 hF hr => ?_)
    refine z_callV O [vi x1, vi x2] (vi v6) fV_X9_throughTo q2400 (fun l G => mX9_throughTo l G N x0 x1 x2 h1 _ hF) (zck hF) rfl rfl ⟨Nat.le_of_ble_eq_true rfl, Nat.le_of_ble_eq_true rfl⟩ (Nat.le_of_ble_eq_true rfl) dX9_through_18 ?_
    refine z_bipush O dX9_through_21 kbi_100 ?_
    refine z_idiv O dX9_through_23 hr (fun v7 hr => ?_)
    refine b2s hr (fun v9 h8 hF hr => ?_)
    refine z_callV O [vi v7] (vi v9) fV_X9_good q2249 (fun l G => mX9_good l G x0 v7 h5 _ hF) (zck hF) rfl rfl ⟨Nat.le_of_ble_eq_true rfl, Nat.le_of_ble_eq_true rfl⟩ (Nat.le_of_ble_eq_true rfl) dX9_through_24 ?_
    refine z_goto (tgt := 35) O dX9_through_27 (by decide) ?_
    exact z_iret O dX9_through_35 (by cases hr; rfl)
theorem fV_X9_thrown : CVf RX9 yX9_thrown cX9_thrown 1 (some .int) 0 := ⟨q1875, q1876, q137, q1877, ⟨⟨by decide +kernel, by decide +kernel⟩, by decide +kernel⟩⟩
def F_X9_thrown (x0 : Option Nat) (h : AH) : Option (Int32) :=
  (ck h [9] x0).bind fun _ =>
  (gI h f_Model_thrown x0).bind fun v1 =>
  some v1
theorem mX9_thrown (l : Launch) (G : ZG) (x0 : Option Nat) (h : AH) (r : Int32) (hr : F_X9_thrown x0 h = some r) : MZ l G yX9_thrown cX9_thrown 1 (some .int) 1 48 [vr x0] h (eI h r) := by
  unfold F_X9_thrown at hr
  refine MZ.of (by decide) [(0, vr x0)] rfl (Nat.le_of_ble_eq_true rfl) (fun K O => ?_)
  have O : ZOk K cX9_thrown RX9 "thrown" 1 (some .int) 1 48 := O
  refine bs hr (fun _ hck hr => ?_)
  refine z_aload_n O 0 dX9_thrown_0 rfl rfl ?_
  refine z_getI O o_Model_thrown q1762 dX9_thrown_1 hr (fun v1 hr => ?_)
  exact z_iret O dX9_thrown_4 (by cases hr; rfl)
theorem fV_X9_trouble : CVf RX9 yX9_trouble cX9_trouble 1 (some .int) 0 := ⟨q2632, q2633, q137, q2634, ⟨⟨by decide +kernel, by decide +kernel⟩, by decide +kernel⟩⟩
def F_X9_trouble (x0 : Option Nat) (h : AH) : Option (Int32 × AH) :=
  (ck h [9] x0).bind fun _ =>
  (pI h f_Model_thrown x0 (0 : Int32)).bind fun h1 =>
  (gI h1 f_Model_trouble x0).bind fun v2 =>
  some (v2, h1)
theorem mX9_trouble (l : Launch) (G : ZG) (x0 : Option Nat) (h : AH) (r : Int32 × AH) (hr : F_X9_trouble x0 h = some r) : MZ l G yX9_trouble cX9_trouble 1 (some .int) 1 48 [vr x0] h (eIH r) := by
  unfold F_X9_trouble at hr
  refine MZ.of (by decide) [(0, vr x0)] rfl (Nat.le_of_ble_eq_true rfl) (fun K O => ?_)
  have O : ZOk K cX9_trouble RX9 "trouble" 1 (some .int) 1 48 := O
  refine bs hr (fun _ hck hr => ?_)
  refine z_aload_n O 0 dX9_trouble_0 rfl rfl ?_
  refine z_iconst O dX9_trouble_1 kic_0 ?_
  refine z_putI O o_Model_thrown (w_Model_thrown _) q1762 dX9_trouble_2 hr (fun h1 hr => ?_)
  refine z_aload_n O 0 dX9_trouble_5 rfl rfl ?_
  refine z_getI O o_Model_trouble q1763 dX9_trouble_6 hr (fun v2 hr => ?_)
  exact z_iret O dX9_trouble_9 (by cases hr; rfl)
theorem fV_X9_undo : CVf RX9 yX9_undo cX9_undo 2 (some .boolean) 0 := ⟨q2608, q2609, q137, q2610, ⟨⟨by decide +kernel, by decide +kernel⟩, by decide +kernel⟩⟩
def BX9_undo_38 (N : Nat) (x0 : Option Nat) (rec38 : Int32 → AH → Option (Int32 × AH)) : Int32 → AH → Option (Int32 × AH) := fun x1 h =>
  if (212 : Int32) ≤ x1 then
    b2 (F_X9_granted x0 h) fun v2 h1 =>
    (zb v2).bind fun v3 => some (v3, h1)
  else
    (gR h f_Model_v x0).bind fun v4 =>
    (gR h f_Model_past x0).bind fun v5 =>
    (gI h f_Model_acts x0).bind fun v6 =>
    (aI h 0 v5 (((212 : Int32) * v6) + x1)).bind fun v7 =>
    (sA h 0 v4 x1 v7).bind fun h8 =>
    jlet (x1 + (1 : Int32)) fun v9 =>
    rec38 v9 h8
def LX9_undo_38 (N : Nat) (x0 : Option Nat) : Int32 → AH → Option (Int32 × AH) := lf (fun _ _ => none) (BX9_undo_38 N x0) N
theorem wX9_undo_38B {K : ZC} (O : ZOk K cX9_undo RX9 "undo" 2 (some .boolean) 3 90) (N : Nat) (x0 : Option Nat) (rec38 : Int32 → AH → Option (Int32 × AH)) (hrec38 : ∀ (y1 : Int32) (hy : AH) (ry : Int32 × AH), rec38 y1 hy = some ry → Zw K (eIH ry) hy 38 [(0, vr x0), (1, vi y1)] []) (x1 : Int32) (h : AH) (r : Int32 × AH) (hr : BX9_undo_38 N x0 rec38 x1 h = some r) : Zw K (eIH r) h 38 [(0, vr x0), (1, vi x1)] [] := by
  unfold BX9_undo_38 at hr
  refine z_iload_n O 1 dX9_undo_38 rfl rfl ?_
  refine z_sipush O dX9_undo_39 ksi_212 ?_
  refine z_icmp_ge (tgt := 72) O dX9_undo_42 (by decide) hr (fun hr => ?_) (fun hr => ?_)
  · refine z_aload_n O 0 dX9_undo_72 rfl rfl ?_
    refine b2s hr (fun v2 h1 hF hr => ?_)
    refine z_callV O [] (vi v2) fV_X9_granted q2583 (fun l G => mX9_granted l G x0 h _ hF) (zck hF) rfl rfl ⟨Nat.le_of_ble_eq_true rfl, Nat.le_of_ble_eq_true rfl⟩ (Nat.le_of_ble_eq_true rfl) dX9_undo_73 ?_
    refine bs hr (fun v3 e0 hr => ?_)
    obtain ⟨e1, e2, -⟩ := zb_spec e0
    exact z_zret O e2 dX9_undo_76 (by cases hr; cases e1; rfl)
  · refine z_aload_n O 0 dX9_undo_45 rfl rfl ?_
    refine z_getR O o_Model_v q1778 dX9_undo_46 hr (fun v4 hr => ?_)
    refine z_iload_n O 1 dX9_undo_49 rfl rfl ?_
    refine z_aload_n O 0 dX9_undo_50 rfl rfl ?_
    refine z_getR O o_Model_past q1780 dX9_undo_51 hr (fun v5 hr => ?_)
    refine z_sipush O dX9_undo_54 ksi_212 ?_
    refine z_aload_n O 0 dX9_undo_57 rfl rfl ?_
    refine z_getI O o_Model_acts q1782 dX9_undo_58 hr (fun v6 hr => ?_)
    refine z_imul O dX9_undo_61 ?_
    refine z_iload_n O 1 dX9_undo_62 rfl rfl ?_
    refine z_iadd O dX9_undo_63 ?_
    refine z_iaload O dX9_undo_64 hr (fun v7 hr => ?_)
    refine z_iastore O dX9_undo_65 hr (fun h8 hr => ?_)
    refine z_iincL O 1 (fun v9 => [(1, vi v9), (0, vr x0)]) dX9_undo_66 rfl rfl (by decide) (fun _ => rfl) hr (fun v9 hr => ?_)
    refine z_goto (tgt := 38) O dX9_undo_69 (by decide) ?_
    refine z_sub [1, 0] rfl ?_
    exact hrec38 v9 h8 _ hr
theorem wX9_undo_38 {K : ZC} (O : ZOk K cX9_undo RX9 "undo" 2 (some .boolean) 3 90) (N : Nat) (x0 : Option Nat) : ∀ (n : Nat) (x1 : Int32) (h : AH) (r : Int32 × AH), lf (fun _ _ => none) (BX9_undo_38 N x0) n x1 h = some r → Zw K (eIH r) h 38 [(0, vr x0), (1, vi x1)] [] := by
  intro n
  induction n with
  | zero => intro x1 h r hr; cases hr
  | succ n ih => intro x1 h r hr; exact wX9_undo_38B O N x0 (lf (fun _ _ => none) (BX9_undo_38 N x0) n)  ih x1 h r hr
def F_X9_undo (N : Nat) (x0 : Option Nat) (h : AH) : Option (Int32 × AH) :=
  (ck h [9] x0).bind fun _ =>
  (pI h f_Model_thrown x0 (0 : Int32)).bind fun h1 =>
  (gR h1 f_Model_land x0).bind fun v2 =>
  if v2 = none then
    b2 (F_X9_denied x0 (6 : Int32) h1) fun v4 h3 =>
    (zb v4).bind fun v5 => some (v5, h3)
  else
    (gI h1 f_Model_acts x0).bind fun v6 =>
    if v6 = 0 then
      b2 (F_X9_denied x0 (6 : Int32) h1) fun v10 h9 =>
      (zb v10).bind fun v11 => some (v11, h9)
    else
      (gI h1 f_Model_acts x0).bind fun v7 =>
      (pI h1 f_Model_acts x0 (v7 - (1 : Int32))).bind fun h8 =>
      LX9_undo_38 N x0 (0 : Int32) h8
theorem mX9_undo (l : Launch) (G : ZG) (N : Nat) (x0 : Option Nat) (h : AH) (r : Int32 × AH) (hr : F_X9_undo N x0 h = some r) : MZ l G yX9_undo cX9_undo 2 (some .boolean) 3 90 [vr x0] h (eIH r) := by
  unfold F_X9_undo at hr
  refine MZ.of (by decide) [(0, vr x0)] rfl (Nat.le_of_ble_eq_true rfl) (fun K O => ?_)
  have O : ZOk K cX9_undo RX9 "undo" 2 (some .boolean) 3 90 := O
  refine bs hr (fun _ hck hr => ?_)
  refine z_aload_n O 0 dX9_undo_0 rfl rfl ?_
  refine z_iconst O dX9_undo_1 kic_0 ?_
  refine z_putI O o_Model_thrown (w_Model_thrown _) q1762 dX9_undo_2 hr (fun h1 hr => ?_)
  refine z_aload_n O 0 dX9_undo_5 rfl rfl ?_
  refine z_getR O o_Model_land q1765 dX9_undo_6 hr (fun v2 hr => ?_)
  refine z_ifnull (tgt := 19) O dX9_undo_9 (by decide) hr (fun hr => ?_) (fun hr => ?_)
  · refine z_aload_n O 0 dX9_undo_19 rfl rfl ?_
    refine z_bipush O dX9_undo_20 kbi_6 ?_
    refine b2s hr (fun v4 h3 hF hr => ?_)
    refine z_callV O [vi (6 : Int32)] (vi v4) fV_X9_denied q2579 (fun l G => mX9_denied l G x0 (6 : Int32) h1 _ hF) (zck hF) rfl rfl ⟨Nat.le_of_ble_eq_true rfl, Nat.le_of_ble_eq_true rfl⟩ (Nat.le_of_ble_eq_true rfl) dX9_undo_22 ?_
    refine bs hr (fun v5 e0 hr => ?_)
    obtain ⟨e1, e2, -⟩ := zb_spec e0
    exact z_zret O e2 dX9_undo_25 (by cases hr; cases e1; rfl)
  · refine z_aload_n O 0 dX9_undo_12 rfl rfl ?_
    refine z_getI O o_Model_acts q1782 dX9_undo_13 hr (fun v6 hr => ?_)
    refine z_if_ne (tgt := 26) O dX9_undo_16 (by decide) hr (fun hr => ?_) (fun hr => ?_)
    · refine z_aload_n O 0 dX9_undo_19 rfl rfl ?_
      refine z_bipush O dX9_undo_20 kbi_6 ?_
      refine b2s hr (fun v10 h9 hF hr => ?_)
      refine z_callV O [vi (6 : Int32)] (vi v10) fV_X9_denied q2579 (fun l G => mX9_denied l G x0 (6 : Int32) h1 _ hF) (zck hF) rfl rfl ⟨Nat.le_of_ble_eq_true rfl, Nat.le_of_ble_eq_true rfl⟩ (Nat.le_of_ble_eq_true rfl) dX9_undo_22 ?_
      refine bs hr (fun v11 e0 hr => ?_)
      obtain ⟨e1, e2, -⟩ := zb_spec e0
      exact z_zret O e2 dX9_undo_25 (by cases hr; cases e1; rfl)
    · refine z_aload_n O 0 dX9_undo_26 rfl rfl ?_
      refine z_dup O dX9_undo_27 rfl ?_
      refine z_getI O o_Model_acts q1782 dX9_undo_28 hr (fun v7 hr => ?_)
      refine z_iconst O dX9_undo_31 kic_1 ?_
      refine z_isub O dX9_undo_32 ?_
      refine z_putI O o_Model_acts (w_Model_acts _) q1782 dX9_undo_33 hr (fun h8 hr => ?_)
      refine z_iconst O dX9_undo_36 kic_0 ?_
      refine z_istore_n O [(1, vi (0 : Int32)), (0, vr x0)] dX9_undo_37 rfl (by decide) rfl ?_
      refine z_sub [1, 0] rfl ?_
      exact wX9_undo_38 O N x0 _ (0 : Int32) h8 _ hr
theorem fV_X9_warm : CVf RX9 yX9_warm cX9_warm 3 (some .int) 2 := ⟨q2324, q2325, q137, q2326, ⟨⟨by decide +kernel, by decide +kernel⟩, by decide +kernel⟩⟩
def F_X9_warm (N : Nat) (x0 : Option Nat) (x1 : Int32) (x2 : Int32) (h : AH) : Option (Int32 × AH) :=
  (ck h [9] x0).bind fun _ =>
  (pI h f_Model_thrown x0 (0 : Int32)).bind fun h1 =>
  (F_X9_isDepth x0 x1 x2 h1).bind fun v2 =>
  if v2 = 0 then
    b2 (F_X9_refused x0 (1 : Int32) h1) fun v4 h3 =>
    some (v4, h3)
  else
    (F_X9_warmth N x0 x1 x2 h1).bind fun v5 =>
    b2 (F_X9_good x0 v5 h1) fun v7 h6 =>
    some (v7, h6)
theorem mX9_warm (l : Launch) (G : ZG) (N : Nat) (x0 : Option Nat) (x1 : Int32) (x2 : Int32) (h : AH) (r : Int32 × AH) (hr : F_X9_warm N x0 x1 x2 h = some r) : MZ l G yX9_warm cX9_warm 3 (some .int) 3 94 [vr x0, vi x1, vi x2] h (eIH r) := by
  unfold F_X9_warm at hr
  refine MZ.of (by decide) [(0, vr x0), (1, vi x1), (2, vi x2)] rfl (Nat.le_of_ble_eq_true rfl) (fun K O => ?_)
  have O : ZOk K cX9_warm RX9 "warm" 3 (some .int) 3 94 := O
  refine bs hr (fun _ hck hr => ?_)
  refine z_aload_n O 0 dX9_warm_0 rfl rfl ?_
  refine z_iconst O dX9_warm_1 kic_0 ?_
  refine z_putI O o_Model_thrown (w_Model_thrown _) q1762 dX9_warm_2 hr (fun h1 hr => ?_)
  refine z_aload_n O 0 dX9_warm_5 rfl rfl ?_
  refine z_iload_n O 1 dX9_warm_6 rfl rfl ?_
  refine z_iload_n O 2 dX9_warm_7 rfl rfl ?_
  refine bs hr (fun v2 hF hr => ?_)
  refine z_callV O [vi x1, vi x2] (vi v2) fV_X9_isDepth q2327 (fun l G => mX9_isDepth l G x0 x1 x2 h1 _ hF) (zck hF) rfl rfl ⟨Nat.le_of_ble_eq_true rfl, Nat.le_of_ble_eq_true rfl⟩ (Nat.le_of_ble_eq_true rfl) dX9_warm_8 ?_
  refine z_if_eq (tgt := 27) O dX9_warm_11 (by decide) hr (fun hr => ?_) (fun hr => ?_)
  · refine z_aload_n O 0 dX9_warm_27 rfl rfl ?_
    refine z_iconst O dX9_warm_28 kic_1 ?_
    refine b2s hr (fun v4 h3 hF hr => ?_)
    refine z_callV O [vi (1 : Int32)] (vi v4) fV_X9_refused q1886 (fun l G => mX9_refused l G x0 (1 : Int32) h1 _ hF) (zck hF) rfl rfl ⟨Nat.le_of_ble_eq_true rfl, Nat.le_of_ble_eq_true rfl⟩ (Nat.le_of_ble_eq_true rfl) dX9_warm_29 ?_
    exact z_iret O dX9_warm_32 (by cases hr; rfl)
  · refine z_aload_n O 0 dX9_warm_14 rfl rfl ?_
    refine z_aload_n O 0 dX9_warm_15 rfl rfl ?_
    refine z_iload_n O 1 dX9_warm_16 rfl rfl ?_
    refine z_iload_n O 2 dX9_warm_17 rfl rfl ?_
    refine bs hr (fun v5 hF hr => ?_)
    refine z_callV O [vi x1, vi x2] (vi v5) fV_X9_warmth q2331 (fun l G => mX9_warmth l G N x0 x1 x2 h1 _ hF) (zck hF) rfl rfl ⟨Nat.le_of_ble_eq_true rfl, Nat.le_of_ble_eq_true rfl⟩ (Nat.le_of_ble_eq_true rfl) dX9_warm_18 ?_
    refine b2s hr (fun v7 h6 hF hr => ?_)
    refine z_callV O [vi v5] (vi v7) fV_X9_good q2249 (fun l G => mX9_good l G x0 v5 h1 _ hF) (zck hF) rfl rfl ⟨Nat.le_of_ble_eq_true rfl, Nat.le_of_ble_eq_true rfl⟩ (Nat.le_of_ble_eq_true rfl) dX9_warm_21 ?_
    refine z_goto (tgt := 32) O dX9_warm_24 (by decide) ?_
    exact z_iret O dX9_warm_32 (by cases hr; rfl)
theorem fS_X9_plainWay : CSf yX9_plainWay cX9_plainWay 5 (some .int) 3 := ⟨q2391, q137, q2392, ⟨⟨by decide +kernel, by decide +kernel⟩, by decide +kernel⟩⟩
def bX9_plainWay_54 (N : Nat) (x0 : Option Nat) (x1 : Int32) (x2 : Int32) (x3 : Int32) (h : AH) : Option (Int32) :=
  if x2 = 0 then
    (aI h 0 x0 ((0 : Int32) + x1)).bind fun v1 =>
    if v1 ≤ 0 then
      some x3
    else
      some (x3 + (1 : Int32))
  else
    some x3
theorem wX9_plainWay_54 {K : ZC} (O : ZOk K cX9_plainWay RX9 "plainWay" 5 (some .int) 4 114) (N : Nat) (x0 : Option Nat) (x1 : Int32) (x2 : Int32) (x3 : Int32) (h : AH) (r : Int32) (hr : bX9_plainWay_54 N x0 x1 x2 x3 h = some r) : Zw K (eI h r) h 54 [(0, vr x0), (1, vi x1), (2, vi x2), (3, vi x3)] [] := by
  unfold bX9_plainWay_54 at hr
  refine z_iload_n O 2 dX9_plainWay_54 rfl rfl ?_
  refine z_if_ne (tgt := 72) O dX9_plainWay_55 (by decide) hr (fun hr => ?_) (fun hr => ?_)
  · refine z_aload_n O 0 dX9_plainWay_58 rfl rfl ?_
    refine z_iconst O dX9_plainWay_59 kic_0 ?_
    refine z_iload_n O 1 dX9_plainWay_60 rfl rfl ?_
    refine z_iadd O dX9_plainWay_61 ?_
    refine z_iaload O dX9_plainWay_62 hr (fun v1 hr => ?_)
    refine z_if_le (tgt := 72) O dX9_plainWay_63 (by decide) hr (fun hr => ?_) (fun hr => ?_)
    · refine z_iload_n O 3 dX9_plainWay_72 rfl rfl ?_
      exact z_iret O dX9_plainWay_73 (by cases hr; rfl)
    · refine z_iload_n O 3 dX9_plainWay_66 rfl rfl ?_
      refine z_iconst O dX9_plainWay_67 kic_1 ?_
      refine z_iadd O dX9_plainWay_68 ?_
      refine z_goto (tgt := 73) O dX9_plainWay_69 (by decide) ?_
      exact z_iret O dX9_plainWay_73 (by cases hr; rfl)
  · refine z_iload_n O 3 dX9_plainWay_72 rfl rfl ?_
    exact z_iret O dX9_plainWay_73 (by cases hr; rfl)
def BX9_plainWay_9 (N : Nat) (x0 : Option Nat) (x1 : Int32) (x2 : Int32) (h : AH) (rec9 : Int32 → Int32 → Option (Int32)) : Int32 → Int32 → Option (Int32) := fun x3 x4 =>
  if x4 ≤ 0 then
    bX9_plainWay_54 N x0 x1 x2 x3 h
  else
    if x4 < x2 then
      bX9_plainWay_54 N x0 x1 x2 x3 h
    else
      if x4 ≤ (1 : Int32) then
        jlet (x3 + ((1 : Int32) + (0 : Int32))) fun v1 =>
        jlet (x4 + (-1 : Int32)) fun v2 =>
        rec9 v1 v2
      else
        if x4 ≤ x2 then
          jlet (x3 + ((1 : Int32) + (0 : Int32))) fun v3 =>
          jlet (x4 + (-1 : Int32)) fun v4 =>
          rec9 v3 v4
        else
          (F_X9_roundIn x0 x1 x4 h).bind fun v5 =>
          jlet (x3 + ((1 : Int32) + v5)) fun v6 =>
          jlet (x4 + (-1 : Int32)) fun v7 =>
          rec9 v6 v7
def LX9_plainWay_9 (N : Nat) (x0 : Option Nat) (x1 : Int32) (x2 : Int32) (h : AH) : Int32 → Int32 → Option (Int32) := lf (fun _ _ => none) (BX9_plainWay_9 N x0 x1 x2 h) N
theorem wX9_plainWay_9B {K : ZC} (O : ZOk K cX9_plainWay RX9 "plainWay" 5 (some .int) 4 114) (N : Nat) (x0 : Option Nat) (x1 : Int32) (x2 : Int32) (h : AH) (rec9 : Int32 → Int32 → Option (Int32)) (hrec9 : ∀ (y3 : Int32) (y4 : Int32) (ry : Int32), rec9 y3 y4 = some ry → Zw K (eI h ry) h 9 [(0, vr x0), (1, vi x1), (2, vi x2), (3, vi y3), (4, vi y4)] []) (x3 : Int32) (x4 : Int32) (r : Int32) (hr : BX9_plainWay_9 N x0 x1 x2 h rec9 x3 x4 = some r) : Zw K (eI h r) h 9 [(0, vr x0), (1, vi x1), (2, vi x2), (3, vi x3), (4, vi x4)] [] := by
  unfold BX9_plainWay_9 at hr
  refine z_iload O 4 dX9_plainWay_9 rfl ?_
  refine z_if_le (tgt := 54) O dX9_plainWay_11 (by decide) hr (fun hr => ?_) (fun hr => ?_)
  · refine z_sub [0, 1, 2, 3] rfl ?_
    exact wX9_plainWay_54 O N x0 x1 x2 x3 h _ hr
  · refine z_iload O 4 dX9_plainWay_14 rfl ?_
    refine z_iload_n O 2 dX9_plainWay_16 rfl rfl ?_
    refine z_icmp_lt (tgt := 54) O dX9_plainWay_17 (by decide) hr (fun hr => ?_) (fun hr => ?_)
    · refine z_sub [0, 1, 2, 3] rfl ?_
      exact wX9_plainWay_54 O N x0 x1 x2 x3 h _ hr
    · refine z_iload_n O 3 dX9_plainWay_20 rfl rfl ?_
      refine z_iconst O dX9_plainWay_21 kic_1 ?_
      refine z_iload O 4 dX9_plainWay_22 rfl ?_
      refine z_iconst O dX9_plainWay_24 kic_1 ?_
      refine z_icmp_le (tgt := 44) O dX9_plainWay_25 (by decide) hr (fun hr => ?_) (fun hr => ?_)
      · refine z_iconst O dX9_plainWay_44 kic_0 ?_
        refine z_iadd O dX9_plainWay_45 ?_
        refine z_iadd O dX9_plainWay_46 ?_
        refine z_letI hr (fun v1 hr => ?_)
        refine z_istore_n O [(3, vi v1), (0, vr x0), (1, vi x1), (2, vi x2), (4, vi x4)] dX9_plainWay_47 rfl (by decide) rfl ?_
        refine z_iincL O 4 (fun v2 => [(4, vi v2), (3, vi v1), (0, vr x0), (1, vi x1), (2, vi x2)]) dX9_plainWay_48 rfl rfl (by decide) (fun _ => rfl) hr (fun v2 hr => ?_)
        refine z_goto (tgt := 9) O dX9_plainWay_51 (by decide) ?_
        refine z_sub [2, 3, 4, 1, 0] rfl ?_
        exact hrec9 v1 v2 _ hr
      · refine z_iload O 4 dX9_plainWay_28 rfl ?_
        refine z_iload_n O 2 dX9_plainWay_30 rfl rfl ?_
        refine z_icmp_le (tgt := 44) O dX9_plainWay_31 (by decide) hr (fun hr => ?_) (fun hr => ?_)
        · refine z_iconst O dX9_plainWay_44 kic_0 ?_
          refine z_iadd O dX9_plainWay_45 ?_
          refine z_iadd O dX9_plainWay_46 ?_
          refine z_letI hr (fun v3 hr => ?_)
          refine z_istore_n O [(3, vi v3), (0, vr x0), (1, vi x1), (2, vi x2), (4, vi x4)] dX9_plainWay_47 rfl (by decide) rfl ?_
          refine z_iincL O 4 (fun v4 => [(4, vi v4), (3, vi v3), (0, vr x0), (1, vi x1), (2, vi x2)]) dX9_plainWay_48 rfl rfl (by decide) (fun _ => rfl) hr (fun v4 hr => ?_)
          refine z_goto (tgt := 9) O dX9_plainWay_51 (by decide) ?_
          refine z_sub [2, 3, 4, 1, 0] rfl ?_
          exact hrec9 v3 v4 _ hr
        · refine z_aload_n O 0 dX9_plainWay_34 rfl rfl ?_
          refine z_iload_n O 1 dX9_plainWay_35 rfl rfl ?_
          refine z_iload O 4 dX9_plainWay_36 rfl ?_
          refine bs hr (fun v5 hF hr => ?_)
          refine z_callS O [vr x0, vi x1, vi x4] (vi v5) fS_X9_roundIn q2393 (fun l G => mX9_roundIn l G x0 x1 x4 h _ hF) rfl ⟨Nat.le_of_ble_eq_true rfl, Nat.le_of_ble_eq_true rfl⟩ (Nat.le_of_ble_eq_true rfl) dX9_plainWay_38 ?_
          refine z_goto (tgt := 45) O dX9_plainWay_41 (by decide) ?_
          refine z_iadd O dX9_plainWay_45 ?_
          refine z_iadd O dX9_plainWay_46 ?_
          refine z_letI hr (fun v6 hr => ?_)
          refine z_istore_n O [(3, vi v6), (0, vr x0), (1, vi x1), (2, vi x2), (4, vi x4)] dX9_plainWay_47 rfl (by decide) rfl ?_
          refine z_iincL O 4 (fun v7 => [(4, vi v7), (3, vi v6), (0, vr x0), (1, vi x1), (2, vi x2)]) dX9_plainWay_48 rfl rfl (by decide) (fun _ => rfl) hr (fun v7 hr => ?_)
          refine z_goto (tgt := 9) O dX9_plainWay_51 (by decide) ?_
          refine z_sub [2, 3, 4, 1, 0] rfl ?_
          exact hrec9 v6 v7 _ hr
theorem wX9_plainWay_9 {K : ZC} (O : ZOk K cX9_plainWay RX9 "plainWay" 5 (some .int) 4 114) (N : Nat) (x0 : Option Nat) (x1 : Int32) (x2 : Int32) (h : AH) : ∀ (n : Nat) (x3 : Int32) (x4 : Int32) (r : Int32), lf (fun _ _ => none) (BX9_plainWay_9 N x0 x1 x2 h) n x3 x4 = some r → Zw K (eI h r) h 9 [(0, vr x0), (1, vi x1), (2, vi x2), (3, vi x3), (4, vi x4)] [] := by
  intro n
  induction n with
  | zero => intro x3 x4 r hr; cases hr
  | succ n ih => intro x3 x4 r hr; exact wX9_plainWay_9B O N x0 x1 x2 h (lf (fun _ _ => none) (BX9_plainWay_9 N x0 x1 x2 h) n)  ih x3 x4 r hr
def F_X9_plainWay (N : Nat) (x0 : Option Nat) (x1 : Int32) (x2 : Int32) (h : AH) : Option (Int32) :=
  (aI h 0 x0 ((0 : Int32) + x1)).bind fun v1 =>
  LX9_plainWay_9 N x0 x1 x2 h (0 : Int32) v1
theorem mX9_plainWay (l : Launch) (G : ZG) (N : Nat) (x0 : Option Nat) (x1 : Int32) (x2 : Int32) (h : AH) (r : Int32) (hr : F_X9_plainWay N x0 x1 x2 h = some r) : MZ l G yX9_plainWay cX9_plainWay 5 (some .int) 4 114 [vr x0, vi x1, vi x2] h (eI h r) := by
  unfold F_X9_plainWay at hr
  refine MZ.of (by decide) [(0, vr x0), (1, vi x1), (2, vi x2)] rfl (Nat.le_of_ble_eq_true rfl) (fun K O => ?_)
  have O : ZOk K cX9_plainWay RX9 "plainWay" 5 (some .int) 4 114 := O
  refine z_iconst O dX9_plainWay_0 kic_0 ?_
  refine z_istore_n O [(3, vi (0 : Int32)), (0, vr x0), (1, vi x1), (2, vi x2)] dX9_plainWay_1 rfl (by decide) rfl ?_
  refine z_aload_n O 1 dX9_plainWay_2 rfl rfl ?_
  refine z_iconst O dX9_plainWay_3 kic_0 ?_
  refine z_iload_n O 2 dX9_plainWay_4 rfl rfl ?_
  refine z_iadd O dX9_plainWay_5 ?_
  refine z_iaload O dX9_plainWay_6 hr (fun v1 hr => ?_)
  refine z_istore O [(4, vi v1), (3, vi (0 : Int32)), (0, vr x0), (1, vi x1), (2, vi x2)] dX9_plainWay_7 (by decide) rfl ?_
  refine z_sub [2, 3, 4, 1, 0] rfl ?_
  exact wX9_plainWay_9 O N x0 x1 x2 h _ (0 : Int32) v1 _ hr
theorem fS_X9_wayTo : CSf yX9_wayTo cX9_wayTo 4 (some .int) 3 := ⟨q2388, q137, q2389, ⟨⟨by decide +kernel, by decide +kernel⟩, by decide +kernel⟩⟩
def BX9_wayTo_10 (N : Nat) (x0 : Option Nat) (x1 : Int32) (x2 : Int32) (h : AH) (rec10 : Int32 → Option (Int32)) : Int32 → Option (Int32) := fun x3 =>
  (aI h 0 x0 ((0 : Int32) + x1)).bind fun v1 =>
  if v1 < x3 then
    (F_X9_plainWay N x0 x1 x2 h).bind fun v2 =>
    some v2
  else
    (F_X9_part x1 x3 (5 : Int32)).bind fun v3 =>
    (aI h 0 x0 v3).bind fun v4 =>
    if v4 = (1 : Int32) then
      some (-2 : Int32)
    else
      (F_X9_part x1 x3 (6 : Int32)).bind fun v5 =>
      (aI h 0 x0 v5).bind fun v6 =>
      if v6 = (1 : Int32) then
        some (-2 : Int32)
      else
        jlet (x3 + (1 : Int32)) fun v7 =>
        rec10 v7
def LX9_wayTo_10 (N : Nat) (x0 : Option Nat) (x1 : Int32) (x2 : Int32) (h : AH) : Int32 → Option (Int32) := lf (fun _ => none) (BX9_wayTo_10 N x0 x1 x2 h) N
theorem wX9_wayTo_10B {K : ZC} (O : ZOk K cX9_wayTo RX9 "wayTo" 4 (some .int) 5 138) (N : Nat) (x0 : Option Nat) (x1 : Int32) (x2 : Int32) (h : AH) (rec10 : Int32 → Option (Int32)) (hrec10 : ∀ (y3 : Int32) (ry : Int32), rec10 y3 = some ry → Zw K (eI h ry) h 10 [(0, vr x0), (1, vi x1), (2, vi x2), (3, vi y3)] []) (x3 : Int32) (r : Int32) (hr : BX9_wayTo_10 N x0 x1 x2 h rec10 x3 = some r) : Zw K (eI h r) h 10 [(0, vr x0), (1, vi x1), (2, vi x2), (3, vi x3)] [] := by
  unfold BX9_wayTo_10 at hr
  refine z_iload_n O 3 dX9_wayTo_10 rfl rfl ?_
  refine z_aload_n O 0 dX9_wayTo_11 rfl rfl ?_
  refine z_iconst O dX9_wayTo_12 kic_0 ?_
  refine z_iload_n O 1 dX9_wayTo_13 rfl rfl ?_
  refine z_iadd O dX9_wayTo_14 ?_
  refine z_iaload O dX9_wayTo_15 hr (fun v1 hr => ?_)
  refine z_icmp_gt (tgt := 53) O dX9_wayTo_16 (by decide) hr (fun hr => ?_) (fun hr => ?_)
  · refine z_aload_n O 0 dX9_wayTo_53 rfl rfl ?_
    refine z_iload_n O 1 dX9_wayTo_54 rfl rfl ?_
    refine z_iload_n O 2 dX9_wayTo_55 rfl rfl ?_
    refine bs hr (fun v2 hF hr => ?_)
    refine z_callS O [vr x0, vi x1, vi x2] (vi v2) fS_X9_plainWay q2390 (fun l G => mX9_plainWay l G N x0 x1 x2 h _ hF) rfl ⟨Nat.le_of_ble_eq_true rfl, Nat.le_of_ble_eq_true rfl⟩ (Nat.le_of_ble_eq_true rfl) dX9_wayTo_56 ?_
    exact z_iret O dX9_wayTo_59 (by cases hr; rfl)
  · refine z_aload_n O 0 dX9_wayTo_19 rfl rfl ?_
    refine z_iload_n O 1 dX9_wayTo_20 rfl rfl ?_
    refine z_iload_n O 3 dX9_wayTo_21 rfl rfl ?_
    refine z_iconst O dX9_wayTo_22 kic_5 ?_
    refine bs hr (fun v3 hF hr => ?_)
    refine z_callS O [vi x1, vi x3, vi (5 : Int32)] (vi v3) fS_X9_part q2223 (fun l G => mX9_part l G x1 x3 (5 : Int32) h _ hF) rfl ⟨Nat.le_of_ble_eq_true rfl, Nat.le_of_ble_eq_true rfl⟩ (Nat.le_of_ble_eq_true rfl) dX9_wayTo_23 ?_
    refine z_iaload O dX9_wayTo_26 hr (fun v4 hr => ?_)
    refine z_iconst O dX9_wayTo_27 kic_1 ?_
    refine z_icmp_eq (tgt := 44) O dX9_wayTo_28 (by decide) hr (fun hr => ?_) (fun hr => ?_)
    · refine z_bipush O dX9_wayTo_44 kbi_m2 ?_
      exact z_iret O dX9_wayTo_46 (by cases hr; rfl)
    · refine z_aload_n O 0 dX9_wayTo_31 rfl rfl ?_
      refine z_iload_n O 1 dX9_wayTo_32 rfl rfl ?_
      refine z_iload_n O 3 dX9_wayTo_33 rfl rfl ?_
      refine z_bipush O dX9_wayTo_34 kbi_6 ?_
      refine bs hr (fun v5 hF hr => ?_)
      refine z_callS O [vi x1, vi x3, vi (6 : Int32)] (vi v5) fS_X9_part q2223 (fun l G => mX9_part l G x1 x3 (6 : Int32) h _ hF) rfl ⟨Nat.le_of_ble_eq_true rfl, Nat.le_of_ble_eq_true rfl⟩ (Nat.le_of_ble_eq_true rfl) dX9_wayTo_36 ?_
      refine z_iaload O dX9_wayTo_39 hr (fun v6 hr => ?_)
      refine z_iconst O dX9_wayTo_40 kic_1 ?_
      refine z_icmp_ne (tgt := 47) O dX9_wayTo_41 (by decide) hr (fun hr => ?_) (fun hr => ?_)
      · refine z_bipush O dX9_wayTo_44 kbi_m2 ?_
        exact z_iret O dX9_wayTo_46 (by cases hr; rfl)
      · refine z_iincL O 3 (fun v7 => [(3, vi v7), (0, vr x0), (1, vi x1), (2, vi x2)]) dX9_wayTo_47 rfl rfl (by decide) (fun _ => rfl) hr (fun v7 hr => ?_)
        refine z_goto (tgt := 10) O dX9_wayTo_50 (by decide) ?_
        refine z_sub [1, 2, 3, 0] rfl ?_
        exact hrec10 v7 _ hr
theorem wX9_wayTo_10 {K : ZC} (O : ZOk K cX9_wayTo RX9 "wayTo" 4 (some .int) 5 138) (N : Nat) (x0 : Option Nat) (x1 : Int32) (x2 : Int32) (h : AH) : ∀ (n : Nat) (x3 : Int32) (r : Int32), lf (fun _ => none) (BX9_wayTo_10 N x0 x1 x2 h) n x3 = some r → Zw K (eI h r) h 10 [(0, vr x0), (1, vi x1), (2, vi x2), (3, vi x3)] [] := by
  intro n
  induction n with
  | zero => intro x3 r hr; cases hr
  | succ n ih => intro x3 r hr; exact wX9_wayTo_10B O N x0 x1 x2 h (lf (fun _ => none) (BX9_wayTo_10 N x0 x1 x2 h) n)  ih x3 r hr
def F_X9_wayTo (N : Nat) (x0 : Option Nat) (x1 : Int32) (x2 : Int32) (h : AH) : Option (Int32) :=
  if x2 ≤ 0 then
    LX9_wayTo_10 N x0 x1 x2 h (1 : Int32)
  else
    LX9_wayTo_10 N x0 x1 x2 h x2
theorem mX9_wayTo (l : Launch) (G : ZG) (N : Nat) (x0 : Option Nat) (x1 : Int32) (x2 : Int32) (h : AH) (r : Int32) (hr : F_X9_wayTo N x0 x1 x2 h = some r) : MZ l G yX9_wayTo cX9_wayTo 4 (some .int) 5 138 [vr x0, vi x1, vi x2] h (eI h r) := by
  unfold F_X9_wayTo at hr
  refine MZ.of (by decide) [(0, vr x0), (1, vi x1), (2, vi x2)] rfl (Nat.le_of_ble_eq_true rfl) (fun K O => ?_)
  have O : ZOk K cX9_wayTo RX9 "wayTo" 4 (some .int) 5 138 := O
  refine z_iload_n O 2 dX9_wayTo_0 rfl rfl ?_
  refine z_if_le (tgt := 8) O dX9_wayTo_1 (by decide) hr (fun hr => ?_) (fun hr => ?_)
  · refine z_iconst O dX9_wayTo_8 kic_1 ?_
    refine z_istore_n O [(3, vi (1 : Int32)), (0, vr x0), (1, vi x1), (2, vi x2)] dX9_wayTo_9 rfl (by decide) rfl ?_
    refine z_sub [1, 2, 3, 0] rfl ?_
    exact wX9_wayTo_10 O N x0 x1 x2 h _ (1 : Int32) _ hr
  · refine z_iload_n O 2 dX9_wayTo_4 rfl rfl ?_
    refine z_goto (tgt := 9) O dX9_wayTo_5 (by decide) ?_
    refine z_istore_n O [(3, vi x2), (0, vr x0), (1, vi x1), (2, vi x2)] dX9_wayTo_9 rfl (by decide) rfl ?_
    refine z_sub [1, 2, 3, 0] rfl ?_
    exact wX9_wayTo_10 O N x0 x1 x2 h _ x2 _ hr
theorem fV_X9_way : CVf RX9 yX9_way cX9_way 3 (some .int) 2 := ⟨q2384, q2385, q137, q2386, ⟨⟨by decide +kernel, by decide +kernel⟩, by decide +kernel⟩⟩
def F_X9_way (N : Nat) (x0 : Option Nat) (x1 : Int32) (x2 : Int32) (h : AH) : Option (Int32 × AH) :=
  (ck h [9] x0).bind fun _ =>
  (pI h f_Model_thrown x0 (0 : Int32)).bind fun h1 =>
  (F_X9_isDepth x0 x1 x2 h1).bind fun v2 =>
  if v2 = 0 then
    b2 (F_X9_refused x0 (1 : Int32) h1) fun v4 h3 =>
    some (v4, h3)
  else
    (gR h1 f_Model_v x0).bind fun v5 =>
    (F_X9_wayTo N v5 x1 x2 h1).bind fun v6 =>
    b2 (F_X9_good x0 v6 h1) fun v8 h7 =>
    some (v8, h7)
theorem mX9_way (l : Launch) (G : ZG) (N : Nat) (x0 : Option Nat) (x1 : Int32) (x2 : Int32) (h : AH) (r : Int32 × AH) (hr : F_X9_way N x0 x1 x2 h = some r) : MZ l G yX9_way cX9_way 3 (some .int) 6 161 [vr x0, vi x1, vi x2] h (eIH r) := by
  unfold F_X9_way at hr
  refine MZ.of (by decide) [(0, vr x0), (1, vi x1), (2, vi x2)] rfl (Nat.le_of_ble_eq_true rfl) (fun K O => ?_)
  have O : ZOk K cX9_way RX9 "way" 3 (some .int) 6 161 := O
  refine bs hr (fun _ hck hr => ?_)
  refine z_aload_n O 0 dX9_way_0 rfl rfl ?_
  refine z_iconst O dX9_way_1 kic_0 ?_
  refine z_putI O o_Model_thrown (w_Model_thrown _) q1762 dX9_way_2 hr (fun h1 hr => ?_)
  refine z_aload_n O 0 dX9_way_5 rfl rfl ?_
  refine z_iload_n O 1 dX9_way_6 rfl rfl ?_
  refine z_iload_n O 2 dX9_way_7 rfl rfl ?_
  refine bs hr (fun v2 hF hr => ?_)
  refine z_callV O [vi x1, vi x2] (vi v2) fV_X9_isDepth q2327 (fun l G => mX9_isDepth l G x0 x1 x2 h1 _ hF) (zck hF) rfl rfl ⟨Nat.le_of_ble_eq_true rfl, Nat.le_of_ble_eq_true rfl⟩ (Nat.le_of_ble_eq_true rfl) dX9_way_8 ?_
  refine z_if_eq (tgt := 30) O dX9_way_11 (by decide) hr (fun hr => ?_) (fun hr => ?_)
  · refine z_aload_n O 0 dX9_way_30 rfl rfl ?_
    refine z_iconst O dX9_way_31 kic_1 ?_
    refine b2s hr (fun v4 h3 hF hr => ?_)
    refine z_callV O [vi (1 : Int32)] (vi v4) fV_X9_refused q1886 (fun l G => mX9_refused l G x0 (1 : Int32) h1 _ hF) (zck hF) rfl rfl ⟨Nat.le_of_ble_eq_true rfl, Nat.le_of_ble_eq_true rfl⟩ (Nat.le_of_ble_eq_true rfl) dX9_way_32 ?_
    exact z_iret O dX9_way_35 (by cases hr; rfl)
  · refine z_aload_n O 0 dX9_way_14 rfl rfl ?_
    refine z_aload_n O 0 dX9_way_15 rfl rfl ?_
    refine z_getR O o_Model_v q1778 dX9_way_16 hr (fun v5 hr => ?_)
    refine z_iload_n O 1 dX9_way_19 rfl rfl ?_
    refine z_iload_n O 2 dX9_way_20 rfl rfl ?_
    refine bs hr (fun v6 hF hr => ?_)
    refine z_callS O [vr v5, vi x1, vi x2] (vi v6) fS_X9_wayTo q2387 (fun l G => mX9_wayTo l G N v5 x1 x2 h1 _ hF) rfl ⟨Nat.le_of_ble_eq_true rfl, Nat.le_of_ble_eq_true rfl⟩ (Nat.le_of_ble_eq_true rfl) dX9_way_21 ?_
    refine b2s hr (fun v8 h7 hF hr => ?_)
    refine z_callV O [vi v6] (vi v8) fV_X9_good q2249 (fun l G => mX9_good l G x0 v6 h1 _ hF) (zck hF) rfl rfl ⟨Nat.le_of_ble_eq_true rfl, Nat.le_of_ble_eq_true rfl⟩ (Nat.le_of_ble_eq_true rfl) dX9_way_24 ?_
    refine z_goto (tgt := 35) O dX9_way_27 (by decide) ?_
    exact z_iret O dX9_way_35 (by cases hr; rfl)
theorem fV_X9_where : CVf RX9 yX9_where cX9_where 1 (some .int) 0 := ⟨q2258, q2259, q137, q2260, ⟨⟨by decide +kernel, by decide +kernel⟩, by decide +kernel⟩⟩
def F_X9_where (x0 : Option Nat) (h : AH) : Option (Int32 × AH) :=
  (ck h [9] x0).bind fun _ =>
  (pI h f_Model_thrown x0 (0 : Int32)).bind fun h1 =>
  (gI h1 f_Model_where x0).bind fun v2 =>
  some (v2, h1)
theorem mX9_where (l : Launch) (G : ZG) (x0 : Option Nat) (h : AH) (r : Int32 × AH) (hr : F_X9_where x0 h = some r) : MZ l G yX9_where cX9_where 1 (some .int) 1 48 [vr x0] h (eIH r) := by
  unfold F_X9_where at hr
  refine MZ.of (by decide) [(0, vr x0)] rfl (Nat.le_of_ble_eq_true rfl) (fun K O => ?_)
  have O : ZOk K cX9_where RX9 "where" 1 (some .int) 1 48 := O
  refine bs hr (fun _ hck hr => ?_)
  refine z_aload_n O 0 dX9_where_0 rfl rfl ?_
  refine z_iconst O dX9_where_1 kic_0 ?_
  refine z_putI O o_Model_thrown (w_Model_thrown _) q1762 dX9_where_2 hr (fun h1 hr => ?_)
  refine z_aload_n O 0 dX9_where_5 rfl rfl ?_
  refine z_getI O o_Model_where q1764 dX9_where_6 hr (fun v2 hr => ?_)
  exact z_iret O dX9_where_9 (by cases hr; rfl)
theorem fV_X9_isCell : CVf RX9 yX9_isCell cX9_isCell 3 (some .boolean) 2 := ⟨q2267, qs93, q137, q2268, ⟨⟨by decide +kernel, by decide +kernel⟩, by decide +kernel⟩⟩
def F_X9_isCell (x0 : Option Nat) (x1 : Int32) (x2 : Int32) (h : AH) : Option (Int32) :=
  (ck h [9] x0).bind fun _ =>
  (gR h f_Model_land x0).bind fun v1 =>
  if v1 = none then
    zb (0 : Int32)
  else
    (gR h f_Model_land x0).bind fun v2 =>
    (gI h f_MLand_wide v2).bind fun v3 =>
    (F_X9_within x1 (0 : Int32) (v3 - (1 : Int32))).bind fun v4 =>
    if v4 = 0 then
      zb (0 : Int32)
    else
      (gR h f_Model_land x0).bind fun v5 =>
      (gI h f_MLand_high v5).bind fun v6 =>
      (F_X9_within x2 (0 : Int32) (v6 - (1 : Int32))).bind fun v7 =>
      if v7 = 0 then
        zb (0 : Int32)
      else
        zb (1 : Int32)
theorem mX9_isCell (l : Launch) (G : ZG) (x0 : Option Nat) (x1 : Int32) (x2 : Int32) (h : AH) (r : Int32) (hr : F_X9_isCell x0 x1 x2 h = some r) : MZ l G yX9_isCell cX9_isCell 3 (some .boolean) 2 70 [vr x0, vi x1, vi x2] h (eI h r) := by
  unfold F_X9_isCell at hr
  refine MZ.of (by decide) [(0, vr x0), (1, vi x1), (2, vi x2)] rfl (Nat.le_of_ble_eq_true rfl) (fun K O => ?_)
  have O : ZOk K cX9_isCell RX9 "isCell" 3 (some .boolean) 2 70 := O
  refine bs hr (fun _ hck hr => ?_)
  refine z_aload_n O 0 dX9_isCell_0 rfl rfl ?_
  refine z_getR O o_Model_land q1765 dX9_isCell_1 hr (fun v1 hr => ?_)
  refine z_ifnull (tgt := 45) O dX9_isCell_4 (by decide) hr (fun hr => ?_) (fun hr => ?_)
  · refine z_iconst O dX9_isCell_45 kic_0 ?_
    obtain ⟨e1, e2, -⟩ := zb_spec hr
    exact z_zret O e2 dX9_isCell_46 (by cases e1; rfl)
  · refine z_iload_n O 1 dX9_isCell_7 rfl rfl ?_
    refine z_iconst O dX9_isCell_8 kic_0 ?_
    refine z_aload_n O 0 dX9_isCell_9 rfl rfl ?_
    refine z_getR O o_Model_land q1765 dX9_isCell_10 hr (fun v2 hr => ?_)
    refine z_getIN O o_MLand_wide zn1897 dX9_isCell_13 hr (fun v3 hr => ?_)
    refine z_iconst O dX9_isCell_16 kic_1 ?_
    refine z_isub O dX9_isCell_17 ?_
    refine bs hr (fun v4 hF hr => ?_)
    refine z_callS O [vi x1, vi (0 : Int32), vi (v3 - (1 : Int32))] (vi v4) fS_X9_within q2096 (fun l G => mX9_within l G x1 (0 : Int32) (v3 - (1 : Int32)) h _ hF) rfl ⟨Nat.le_of_ble_eq_true rfl, Nat.le_of_ble_eq_true rfl⟩ (Nat.le_of_ble_eq_true rfl) dX9_isCell_18 ?_
    refine z_if_eq (tgt := 45) O dX9_isCell_21 (by decide) hr (fun hr => ?_) (fun hr => ?_)
    · refine z_iconst O dX9_isCell_45 kic_0 ?_
      obtain ⟨e1, e2, -⟩ := zb_spec hr
      exact z_zret O e2 dX9_isCell_46 (by cases e1; rfl)
    · refine z_iload_n O 2 dX9_isCell_24 rfl rfl ?_
      refine z_iconst O dX9_isCell_25 kic_0 ?_
      refine z_aload_n O 0 dX9_isCell_26 rfl rfl ?_
      refine z_getR O o_Model_land q1765 dX9_isCell_27 hr (fun v5 hr => ?_)
      refine z_getIN O o_MLand_high zn1899 dX9_isCell_30 hr (fun v6 hr => ?_)
      refine z_iconst O dX9_isCell_33 kic_1 ?_
      refine z_isub O dX9_isCell_34 ?_
      refine bs hr (fun v7 hF hr => ?_)
      refine z_callS O [vi x2, vi (0 : Int32), vi (v6 - (1 : Int32))] (vi v7) fS_X9_within q2096 (fun l G => mX9_within l G x2 (0 : Int32) (v6 - (1 : Int32)) h _ hF) rfl ⟨Nat.le_of_ble_eq_true rfl, Nat.le_of_ble_eq_true rfl⟩ (Nat.le_of_ble_eq_true rfl) dX9_isCell_35 ?_
      refine z_if_eq (tgt := 45) O dX9_isCell_38 (by decide) hr (fun hr => ?_) (fun hr => ?_)
      · refine z_iconst O dX9_isCell_45 kic_0 ?_
        obtain ⟨e1, e2, -⟩ := zb_spec hr
        exact z_zret O e2 dX9_isCell_46 (by cases e1; rfl)
      · refine z_iconst O dX9_isCell_41 kic_1 ?_
        refine z_goto (tgt := 46) O dX9_isCell_42 (by decide) ?_
        obtain ⟨e1, e2, -⟩ := zb_spec hr
        exact z_zret O e2 dX9_isCell_46 (by cases e1; rfl)
theorem fV_X9_whose : CVf RX9 yX9_whose cX9_whose 3 (some .int) 2 := ⟨q2262, q2263, q137, q2264, ⟨⟨by decide +kernel, by decide +kernel⟩, by decide +kernel⟩⟩
def F_X9_whose (N : Nat) (x0 : Option Nat) (x1 : Int32) (x2 : Int32) (h : AH) : Option (Int32 × AH) :=
  (ck h [9] x0).bind fun _ =>
  (pI h f_Model_thrown x0 (0 : Int32)).bind fun h1 =>
  (F_X9_isCell x0 x1 x2 h1).bind fun v2 =>
  if v2 = 0 then
    b2 (F_X9_refused x0 (1 : Int32) h1) fun v4 h3 =>
    some (v4, h3)
  else
    (gR h1 f_Model_land x0).bind fun v5 =>
    (gR h1 f_Model_v x0).bind fun v6 =>
    (F_X9_ownersOf N v5 v6 x1 x2 h1).bind fun v7 =>
    b2 (F_X9_good x0 v7 h1) fun v9 h8 =>
    some (v9, h8)
theorem mX9_whose (l : Launch) (G : ZG) (N : Nat) (x0 : Option Nat) (x1 : Int32) (x2 : Int32) (h : AH) (r : Int32 × AH) (hr : F_X9_whose N x0 x1 x2 h = some r) : MZ l G yX9_whose cX9_whose 3 (some .int) 4 119 [vr x0, vi x1, vi x2] h (eIH r) := by
  unfold F_X9_whose at hr
  refine MZ.of (by decide) [(0, vr x0), (1, vi x1), (2, vi x2)] rfl (Nat.le_of_ble_eq_true rfl) (fun K O => ?_)
  have O : ZOk K cX9_whose RX9 "whose" 3 (some .int) 4 119 := O
  refine bs hr (fun _ hck hr => ?_)
  refine z_aload_n O 0 dX9_whose_0 rfl rfl ?_
  refine z_iconst O dX9_whose_1 kic_0 ?_
  refine z_putI O o_Model_thrown (w_Model_thrown _) q1762 dX9_whose_2 hr (fun h1 hr => ?_)
  refine z_aload_n O 0 dX9_whose_5 rfl rfl ?_
  refine z_iload_n O 1 dX9_whose_6 rfl rfl ?_
  refine z_iload_n O 2 dX9_whose_7 rfl rfl ?_
  refine bs hr (fun v2 hF hr => ?_)
  refine z_callV O [vi x1, vi x2] (vi v2) fV_X9_isCell q2265 (fun l G => mX9_isCell l G x0 x1 x2 h1 _ hF) (zck hF) rfl rfl ⟨Nat.le_of_ble_eq_true rfl, Nat.le_of_ble_eq_true rfl⟩ (Nat.le_of_ble_eq_true rfl) dX9_whose_8 ?_
  refine z_if_eq (tgt := 34) O dX9_whose_11 (by decide) hr (fun hr => ?_) (fun hr => ?_)
  · refine z_aload_n O 0 dX9_whose_34 rfl rfl ?_
    refine z_iconst O dX9_whose_35 kic_1 ?_
    refine b2s hr (fun v4 h3 hF hr => ?_)
    refine z_callV O [vi (1 : Int32)] (vi v4) fV_X9_refused q1886 (fun l G => mX9_refused l G x0 (1 : Int32) h1 _ hF) (zck hF) rfl rfl ⟨Nat.le_of_ble_eq_true rfl, Nat.le_of_ble_eq_true rfl⟩ (Nat.le_of_ble_eq_true rfl) dX9_whose_36 ?_
    exact z_iret O dX9_whose_39 (by cases hr; rfl)
  · refine z_aload_n O 0 dX9_whose_14 rfl rfl ?_
    refine z_aload_n O 0 dX9_whose_15 rfl rfl ?_
    refine z_getR O o_Model_land q1765 dX9_whose_16 hr (fun v5 hr => ?_)
    refine z_aload_n O 0 dX9_whose_19 rfl rfl ?_
    refine z_getR O o_Model_v q1778 dX9_whose_20 hr (fun v6 hr => ?_)
    refine z_iload_n O 1 dX9_whose_23 rfl rfl ?_
    refine z_iload_n O 2 dX9_whose_24 rfl rfl ?_
    refine bs hr (fun v7 hF hr => ?_)
    refine z_callS O [vr v5, vr v6, vi x1, vi x2] (vi v7) fS_X9_ownersOf q2171 (fun l G => mX9_ownersOf l G N v5 v6 x1 x2 h1 _ hF) rfl ⟨Nat.le_of_ble_eq_true rfl, Nat.le_of_ble_eq_true rfl⟩ (Nat.le_of_ble_eq_true rfl) dX9_whose_25 ?_
    refine b2s hr (fun v9 h8 hF hr => ?_)
    refine z_callV O [vi v7] (vi v9) fV_X9_good q2249 (fun l G => mX9_good l G x0 v7 h1 _ hF) (zck hF) rfl rfl ⟨Nat.le_of_ble_eq_true rfl, Nat.le_of_ble_eq_true rfl⟩ (Nat.le_of_ble_eq_true rfl) dX9_whose_28 ?_
    refine z_goto (tgt := 39) O dX9_whose_31 (by decide) ?_
    exact z_iret O dX9_whose_39 (by cases hr; rfl)
theorem fV_X9_worth : CVf RX9 yX9_worth cX9_worth 4 (some .int) 1 := ⟨q2520, q2521, q137, q2522, ⟨⟨by decide +kernel, by decide +kernel⟩, by decide +kernel⟩⟩
def BX9_worth_23 (N : Nat) (x0 : Option Nat) (x1 : Int32) (rec23 : Int32 → Int32 → AH → Option (Int32 × AH)) : Int32 → Int32 → AH → Option (Int32 × AH) := fun x2 x3 h =>
  (gR h f_Model_v x0).bind fun v1 =>
  (aI h 0 v1 ((0 : Int32) + x1)).bind fun v2 =>
  if v2 ≤ x3 then
    b2 (F_X9_good x0 x2 h) fun v4 h3 =>
    some (v4, h3)
  else
    (gR h f_Model_v x0).bind fun v5 =>
    (F_X9_part x1 x3 (5 : Int32)).bind fun v6 =>
    (aI h 0 v5 v6).bind fun v7 =>
    if v7 = (1 : Int32) then
      jlet (x3 + (1 : Int32)) fun v14 =>
      rec23 x2 v14 h
    else
      (F_X9_isLivedIn N x0 x1 x3 h).bind fun v8 =>
      if v8 = 0 then
        (F_X9_goldOf x0 x1 x3 h).bind fun v9 =>
        jlet (x2 + v9) fun v10 =>
        jlet (x3 + (1 : Int32)) fun v11 =>
        rec23 v10 v11 h
      else
        b2 (F_X9_good x0 x2 h) fun v13 h12 =>
        some (v13, h12)
def LX9_worth_23 (N : Nat) (x0 : Option Nat) (x1 : Int32) : Int32 → Int32 → AH → Option (Int32 × AH) := lf (fun _ _ _ => none) (BX9_worth_23 N x0 x1) N
theorem wX9_worth_23B {K : ZC} (O : ZOk K cX9_worth RX9 "worth" 4 (some .int) 3 92) (N : Nat) (x0 : Option Nat) (x1 : Int32) (rec23 : Int32 → Int32 → AH → Option (Int32 × AH)) (hrec23 : ∀ (y2 : Int32) (y3 : Int32) (hy : AH) (ry : Int32 × AH), rec23 y2 y3 hy = some ry → Zw K (eIH ry) hy 23 [(0, vr x0), (1, vi x1), (2, vi y2), (3, vi y3)] []) (x2 : Int32) (x3 : Int32) (h : AH) (r : Int32 × AH) (hr : BX9_worth_23 N x0 x1 rec23 x2 x3 h = some r) : Zw K (eIH r) h 23 [(0, vr x0), (1, vi x1), (2, vi x2), (3, vi x3)] [] := by
  unfold BX9_worth_23 at hr
  refine z_iload_n O 3 dX9_worth_23 rfl rfl ?_
  refine z_aload_n O 0 dX9_worth_24 rfl rfl ?_
  refine z_getR O o_Model_v q1778 dX9_worth_25 hr (fun v1 hr => ?_)
  refine z_iconst O dX9_worth_28 kic_0 ?_
  refine z_iload_n O 1 dX9_worth_29 rfl rfl ?_
  refine z_iadd O dX9_worth_30 ?_
  refine z_iaload O dX9_worth_31 hr (fun v2 hr => ?_)
  refine z_icmp_ge (tgt := 83) O dX9_worth_32 (by decide) hr (fun hr => ?_) (fun hr => ?_)
  · refine z_aload_n O 0 dX9_worth_83 rfl rfl ?_
    refine z_iload_n O 2 dX9_worth_84 rfl rfl ?_
    refine b2s hr (fun v4 h3 hF hr => ?_)
    refine z_callV O [vi x2] (vi v4) fV_X9_good q2249 (fun l G => mX9_good l G x0 x2 h _ hF) (zck hF) rfl rfl ⟨Nat.le_of_ble_eq_true rfl, Nat.le_of_ble_eq_true rfl⟩ (Nat.le_of_ble_eq_true rfl) dX9_worth_85 ?_
    exact z_iret O dX9_worth_88 (by cases hr; rfl)
  · refine z_aload_n O 0 dX9_worth_35 rfl rfl ?_
    refine z_getR O o_Model_v q1778 dX9_worth_36 hr (fun v5 hr => ?_)
    refine z_iload_n O 1 dX9_worth_39 rfl rfl ?_
    refine z_iload_n O 3 dX9_worth_40 rfl rfl ?_
    refine z_iconst O dX9_worth_41 kic_5 ?_
    refine bs hr (fun v6 hF hr => ?_)
    refine z_callS O [vi x1, vi x3, vi (5 : Int32)] (vi v6) fS_X9_part q2223 (fun l G => mX9_part l G x1 x3 (5 : Int32) h _ hF) rfl ⟨Nat.le_of_ble_eq_true rfl, Nat.le_of_ble_eq_true rfl⟩ (Nat.le_of_ble_eq_true rfl) dX9_worth_42 ?_
    refine z_iaload O dX9_worth_45 hr (fun v7 hr => ?_)
    refine z_iconst O dX9_worth_46 kic_1 ?_
    refine z_icmp_ne (tgt := 53) O dX9_worth_47 (by decide) hr (fun hr => ?_) (fun hr => ?_)
    · refine z_goto (tgt := 77) O dX9_worth_50 (by decide) ?_
      refine z_iincL O 3 (fun v14 => [(3, vi v14), (0, vr x0), (1, vi x1), (2, vi x2)]) dX9_worth_77 rfl rfl (by decide) (fun _ => rfl) hr (fun v14 hr => ?_)
      refine z_goto (tgt := 23) O dX9_worth_80 (by decide) ?_
      refine z_sub [1, 2, 3, 0] rfl ?_
      exact hrec23 x2 v14 h _ hr
    · refine z_aload_n O 0 dX9_worth_53 rfl rfl ?_
      refine z_iload_n O 1 dX9_worth_54 rfl rfl ?_
      refine z_iload_n O 3 dX9_worth_55 rfl rfl ?_
      refine bs hr (fun v8 hF hr => ?_)
      refine z_callV O [vi x1, vi x3] (vi v8) fV_X9_isLivedIn q2523 (fun l G => mX9_isLivedIn l G N x0 x1 x3 h _ hF) (zck hF) rfl rfl ⟨Nat.le_of_ble_eq_true rfl, Nat.le_of_ble_eq_true rfl⟩ (Nat.le_of_ble_eq_true rfl) dX9_worth_56 ?_
      refine z_if_eq (tgt := 68) O dX9_worth_59 (by decide) hr (fun hr => ?_) (fun hr => ?_)
      · refine z_iload_n O 2 dX9_worth_68 rfl rfl ?_
        refine z_aload_n O 0 dX9_worth_69 rfl rfl ?_
        refine z_iload_n O 1 dX9_worth_70 rfl rfl ?_
        refine z_iload_n O 3 dX9_worth_71 rfl rfl ?_
        refine bs hr (fun v9 hF hr => ?_)
        refine z_callV O [vi x1, vi x3] (vi v9) fV_X9_goldOf q2515 (fun l G => mX9_goldOf l G x0 x1 x3 h _ hF) (zck hF) rfl rfl ⟨Nat.le_of_ble_eq_true rfl, Nat.le_of_ble_eq_true rfl⟩ (Nat.le_of_ble_eq_true rfl) dX9_worth_72 ?_
        refine z_iadd O dX9_worth_75 ?_
        refine z_letI hr (fun v10 hr => ?_)
        refine z_istore_n O [(2, vi v10), (0, vr x0), (1, vi x1), (3, vi x3)] dX9_worth_76 rfl (by decide) rfl ?_
        refine z_iincL O 3 (fun v11 => [(3, vi v11), (2, vi v10), (0, vr x0), (1, vi x1)]) dX9_worth_77 rfl rfl (by decide) (fun _ => rfl) hr (fun v11 hr => ?_)
        refine z_goto (tgt := 23) O dX9_worth_80 (by decide) ?_
        refine z_sub [2, 3, 1, 0] rfl ?_
        exact hrec23 v10 v11 h _ hr
      · refine z_aload_n O 0 dX9_worth_62 rfl rfl ?_
        refine z_iload_n O 2 dX9_worth_63 rfl rfl ?_
        refine b2s hr (fun v13 h12 hF hr => ?_)
        refine z_callV O [vi x2] (vi v13) fV_X9_good q2249 (fun l G => mX9_good l G x0 x2 h _ hF) (zck hF) rfl rfl ⟨Nat.le_of_ble_eq_true rfl, Nat.le_of_ble_eq_true rfl⟩ (Nat.le_of_ble_eq_true rfl) dX9_worth_64 ?_
        exact z_iret O dX9_worth_67 (by cases hr; rfl)
theorem wX9_worth_23 {K : ZC} (O : ZOk K cX9_worth RX9 "worth" 4 (some .int) 3 92) (N : Nat) (x0 : Option Nat) (x1 : Int32) : ∀ (n : Nat) (x2 : Int32) (x3 : Int32) (h : AH) (r : Int32 × AH), lf (fun _ _ _ => none) (BX9_worth_23 N x0 x1) n x2 x3 h = some r → Zw K (eIH r) h 23 [(0, vr x0), (1, vi x1), (2, vi x2), (3, vi x3)] [] := by
  intro n
  induction n with
  | zero => intro x2 x3 h r hr; cases hr
  | succ n ih => intro x2 x3 h r hr; exact wX9_worth_23B O N x0 x1 (lf (fun _ _ _ => none) (BX9_worth_23 N x0 x1) n)  ih x2 x3 h r hr
def F_X9_worth (N : Nat) (x0 : Option Nat) (x1 : Int32) (h : AH) : Option (Int32 × AH) :=
  (ck h [9] x0).bind fun _ =>
  (pI h f_Model_thrown x0 (0 : Int32)).bind fun h1 =>
  (F_X9_isHouse x0 x1 h1).bind fun v2 =>
  if v2 = 0 then
    b2 (F_X9_refused x0 (1 : Int32) h1) fun v4 h3 =>
    some (v4, h3)
  else
    LX9_worth_23 N x0 x1 (0 : Int32) (1 : Int32) h1
theorem mX9_worth (l : Launch) (G : ZG) (N : Nat) (x0 : Option Nat) (x1 : Int32) (h : AH) (r : Int32 × AH) (hr : F_X9_worth N x0 x1 h = some r) : MZ l G yX9_worth cX9_worth 4 (some .int) 3 92 [vr x0, vi x1] h (eIH r) := by
  unfold F_X9_worth at hr
  refine MZ.of (by decide) [(0, vr x0), (1, vi x1)] rfl (Nat.le_of_ble_eq_true rfl) (fun K O => ?_)
  have O : ZOk K cX9_worth RX9 "worth" 4 (some .int) 3 92 := O
  refine bs hr (fun _ hck hr => ?_)
  refine z_aload_n O 0 dX9_worth_0 rfl rfl ?_
  refine z_iconst O dX9_worth_1 kic_0 ?_
  refine z_putI O o_Model_thrown (w_Model_thrown _) q1762 dX9_worth_2 hr (fun h1 hr => ?_)
  refine z_aload_n O 0 dX9_worth_5 rfl rfl ?_
  refine z_iload_n O 1 dX9_worth_6 rfl rfl ?_
  refine bs hr (fun v2 hF hr => ?_)
  refine z_callV O [vi x1] (vi v2) fV_X9_isHouse q2292 (fun l G => mX9_isHouse l G x0 x1 h1 _ hF) (zck hF) rfl rfl ⟨Nat.le_of_ble_eq_true rfl, Nat.le_of_ble_eq_true rfl⟩ (Nat.le_of_ble_eq_true rfl) dX9_worth_7 ?_
  refine z_if_ne (tgt := 19) O dX9_worth_10 (by decide) hr (fun hr => ?_) (fun hr => ?_)
  · refine z_aload_n O 0 dX9_worth_13 rfl rfl ?_
    refine z_iconst O dX9_worth_14 kic_1 ?_
    refine b2s hr (fun v4 h3 hF hr => ?_)
    refine z_callV O [vi (1 : Int32)] (vi v4) fV_X9_refused q1886 (fun l G => mX9_refused l G x0 (1 : Int32) h1 _ hF) (zck hF) rfl rfl ⟨Nat.le_of_ble_eq_true rfl, Nat.le_of_ble_eq_true rfl⟩ (Nat.le_of_ble_eq_true rfl) dX9_worth_15 ?_
    exact z_iret O dX9_worth_18 (by cases hr; rfl)
  · refine z_iconst O dX9_worth_19 kic_0 ?_
    refine z_istore_n O [(2, vi (0 : Int32)), (0, vr x0), (1, vi x1)] dX9_worth_20 rfl (by decide) rfl ?_
    refine z_iconst O dX9_worth_21 kic_1 ?_
    refine z_istore_n O [(3, vi (1 : Int32)), (2, vi (0 : Int32)), (0, vr x0), (1, vi x1)] dX9_worth_22 rfl (by decide) rfl ?_
    refine z_sub [2, 3, 1, 0] rfl ?_
    exact wX9_worth_23 O N x0 x1 _ (0 : Int32) (1 : Int32) h1 _ hr
theorem fV_X9_years : CVf RX9 yX9_years cX9_years 3 (some .int) 1 := ⟨q2564, q2565, q137, q2566, ⟨⟨by decide +kernel, by decide +kernel⟩, by decide +kernel⟩⟩
def BX9_years_66 (N : Nat) (x0 : Option Nat) (x1 : Int32) (rec66 : Int32 → AH → Option (Int32 × AH)) : Int32 → AH → Option (Int32 × AH) := fun x2 h =>
  if x1 ≤ x2 then
    (gR h f_Model_v x0).bind fun v1 =>
    (F_X9_allSkins N v1 h).bind fun v2 =>
    b2 (F_X9_good x0 v2 h) fun v4 h3 =>
    some (v4, h3)
  else
    (gR h f_Model_v x0).bind fun v5 =>
    (F_X9_goesBy N x0 v5 h).bind fun h6 =>
    jlet (x2 + (1 : Int32)) fun v7 =>
    rec66 v7 h6
def LX9_years_66 (N : Nat) (x0 : Option Nat) (x1 : Int32) : Int32 → AH → Option (Int32 × AH) := lf (fun _ _ => none) (BX9_years_66 N x0 x1) N
theorem wX9_years_66B {K : ZC} (O : ZOk K cX9_years RX9 "years" 3 (some .int) 8 218) (N : Nat) (x0 : Option Nat) (x1 : Int32) (rec66 : Int32 → AH → Option (Int32 × AH)) (hrec66 : ∀ (y2 : Int32) (hy : AH) (ry : Int32 × AH), rec66 y2 hy = some ry → Zw K (eIH ry) hy 66 [(0, vr x0), (1, vi x1), (2, vi y2)] []) (x2 : Int32) (h : AH) (r : Int32 × AH) (hr : BX9_years_66 N x0 x1 rec66 x2 h = some r) : Zw K (eIH r) h 66 [(0, vr x0), (1, vi x1), (2, vi x2)] [] := by
  unfold BX9_years_66 at hr
  refine z_iload_n O 2 dX9_years_66 rfl rfl ?_
  refine z_iload_n O 1 dX9_years_67 rfl rfl ?_
  refine z_icmp_ge (tgt := 85) O dX9_years_68 (by decide) hr (fun hr => ?_) (fun hr => ?_)
  · refine z_aload_n O 0 dX9_years_85 rfl rfl ?_
    refine z_aload_n O 0 dX9_years_86 rfl rfl ?_
    refine z_getR O o_Model_v q1778 dX9_years_87 hr (fun v1 hr => ?_)
    refine bs hr (fun v2 hF hr => ?_)
    refine z_callS O [vr v1] (vi v2) fS_X9_allSkins q2465 (fun l G => mX9_allSkins l G N v1 h _ hF) rfl ⟨Nat.le_of_ble_eq_true rfl, Nat.le_of_ble_eq_true rfl⟩ (Nat.le_of_ble_eq_true rfl) dX9_years_90 ?_
    refine b2s hr (fun v4 h3 hF hr => ?_)
    refine z_callV O [vi v2] (vi v4) fV_X9_good q2249 (fun l G => mX9_good l G x0 v2 h _ hF) (zck hF) rfl rfl ⟨Nat.le_of_ble_eq_true rfl, Nat.le_of_ble_eq_true rfl⟩ (Nat.le_of_ble_eq_true rfl) dX9_years_93 ?_
    exact z_iret O dX9_years_96 (by cases hr; rfl)
  · refine z_aload_n O 0 dX9_years_71 rfl rfl ?_
    refine z_aload_n O 0 dX9_years_72 rfl rfl ?_
    refine z_getR O o_Model_v q1778 dX9_years_73 hr (fun v5 hr => ?_)
    refine bs hr (fun h6 hF hr => ?_)
    refine z_callVv O [vr v5] fV_X9_goesBy q2443 (fun l G => mX9_goesBy l G N x0 v5 h _ hF) (zck hF) rfl rfl ⟨Nat.le_of_ble_eq_true rfl, Nat.le_of_ble_eq_true rfl⟩ (Nat.le_of_ble_eq_true rfl) dX9_years_76 ?_
    refine z_iincL O 2 (fun v7 => [(2, vi v7), (0, vr x0), (1, vi x1)]) dX9_years_79 rfl rfl (by decide) (fun _ => rfl) hr (fun v7 hr => ?_)
    refine z_goto (tgt := 66) O dX9_years_82 (by decide) ?_
    refine z_sub [1, 2, 0] rfl ?_
    exact hrec66 v7 h6 _ hr
theorem wX9_years_66 {K : ZC} (O : ZOk K cX9_years RX9 "years" 3 (some .int) 8 218) (N : Nat) (x0 : Option Nat) (x1 : Int32) : ∀ (n : Nat) (x2 : Int32) (h : AH) (r : Int32 × AH), lf (fun _ _ => none) (BX9_years_66 N x0 x1) n x2 h = some r → Zw K (eIH r) h 66 [(0, vr x0), (1, vi x1), (2, vi x2)] [] := by
  intro n
  induction n with
  | zero => intro x2 h r hr; cases hr
  | succ n ih => intro x2 h r hr; exact wX9_years_66B O N x0 x1 (lf (fun _ _ => none) (BX9_years_66 N x0 x1) n)  ih x2 h r hr
def F_X9_years (N : Nat) (x0 : Option Nat) (x1 : Int32) (h : AH) : Option (Int32 × AH) :=
  (ck h [9] x0).bind fun _ =>
  (pI h f_Model_thrown x0 (0 : Int32)).bind fun h1 =>
  (gR h1 f_Model_land x0).bind fun v2 =>
  if v2 = none then
    b2 (F_X9_refused x0 (1 : Int32) h1) fun v13 h12 =>
    some (v13, h12)
  else
    (F_X9_within x1 (1 : Int32) (20 : Int32)).bind fun v3 =>
    if v3 = 0 then
      b2 (F_X9_refused x0 (2 : Int32) h1) fun v11 h10 =>
      some (v11, h10)
    else
      (gR h1 f_Model_v x0).bind fun v4 =>
      (aI h1 0 v4 (210 : Int32)).bind fun v5 =>
      if (v5 + x1) ≤ (999 : Int32) then
        (F_X9_keeps N x0 h1).bind fun h6 =>
        (F_X9_byNumbers N x0 h6).bind fun h7 =>
        LX9_years_66 N x0 x1 (0 : Int32) h7
      else
        b2 (F_X9_refused x0 (3 : Int32) h1) fun v9 h8 =>
        some (v9, h8)
theorem mX9_years (l : Launch) (G : ZG) (N : Nat) (x0 : Option Nat) (x1 : Int32) (h : AH) (r : Int32 × AH) (hr : F_X9_years N x0 x1 h = some r) : MZ l G yX9_years cX9_years 3 (some .int) 8 218 [vr x0, vi x1] h (eIH r) := by
  unfold F_X9_years at hr
  refine MZ.of (by decide) [(0, vr x0), (1, vi x1)] rfl (Nat.le_of_ble_eq_true rfl) (fun K O => ?_)
  have O : ZOk K cX9_years RX9 "years" 3 (some .int) 8 218 := O
  refine bs hr (fun _ hck hr => ?_)
  refine z_aload_n O 0 dX9_years_0 rfl rfl ?_
  refine z_iconst O dX9_years_1 kic_0 ?_
  refine z_putI O o_Model_thrown (w_Model_thrown _) q1762 dX9_years_2 hr (fun h1 hr => ?_)
  refine z_aload_n O 0 dX9_years_5 rfl rfl ?_
  refine z_getR O o_Model_land q1765 dX9_years_6 hr (fun v2 hr => ?_)
  refine z_ifnonnull (tgt := 18) O dX9_years_9 (by decide) hr (fun hr => ?_) (fun hr => ?_)
  · refine z_aload_n O 0 dX9_years_12 rfl rfl ?_
    refine z_iconst O dX9_years_13 kic_1 ?_
    refine b2s hr (fun v13 h12 hF hr => ?_)
    refine z_callV O [vi (1 : Int32)] (vi v13) fV_X9_refused q1886 (fun l G => mX9_refused l G x0 (1 : Int32) h1 _ hF) (zck hF) rfl rfl ⟨Nat.le_of_ble_eq_true rfl, Nat.le_of_ble_eq_true rfl⟩ (Nat.le_of_ble_eq_true rfl) dX9_years_14 ?_
    exact z_iret O dX9_years_17 (by cases hr; rfl)
  · refine z_iload_n O 1 dX9_years_18 rfl rfl ?_
    refine z_iconst O dX9_years_19 kic_1 ?_
    refine z_bipush O dX9_years_20 kbi_20 ?_
    refine bs hr (fun v3 hF hr => ?_)
    refine z_callS O [vi x1, vi (1 : Int32), vi (20 : Int32)] (vi v3) fS_X9_within q2096 (fun l G => mX9_within l G x1 (1 : Int32) (20 : Int32) h1 _ hF) rfl ⟨Nat.le_of_ble_eq_true rfl, Nat.le_of_ble_eq_true rfl⟩ (Nat.le_of_ble_eq_true rfl) dX9_years_22 ?_
    refine z_if_ne (tgt := 34) O dX9_years_25 (by decide) hr (fun hr => ?_) (fun hr => ?_)
    · refine z_aload_n O 0 dX9_years_28 rfl rfl ?_
      refine z_iconst O dX9_years_29 kic_2 ?_
      refine b2s hr (fun v11 h10 hF hr => ?_)
      refine z_callV O [vi (2 : Int32)] (vi v11) fV_X9_refused q1886 (fun l G => mX9_refused l G x0 (2 : Int32) h1 _ hF) (zck hF) rfl rfl ⟨Nat.le_of_ble_eq_true rfl, Nat.le_of_ble_eq_true rfl⟩ (Nat.le_of_ble_eq_true rfl) dX9_years_30 ?_
      exact z_iret O dX9_years_33 (by cases hr; rfl)
    · refine z_aload_n O 0 dX9_years_34 rfl rfl ?_
      refine z_getR O o_Model_v q1778 dX9_years_35 hr (fun v4 hr => ?_)
      refine z_sipush O dX9_years_38 ksi_210 ?_
      refine z_iaload O dX9_years_41 hr (fun v5 hr => ?_)
      refine z_iload_n O 1 dX9_years_42 rfl rfl ?_
      refine z_iadd O dX9_years_43 ?_
      refine z_sipush O dX9_years_44 ksi_999 ?_
      refine z_icmp_le (tgt := 56) O dX9_years_47 (by decide) hr (fun hr => ?_) (fun hr => ?_)
      · refine z_aload_n O 0 dX9_years_56 rfl rfl ?_
        refine bs hr (fun h6 hF hr => ?_)
        refine z_callVv O [] fV_X9_keeps q2567 (fun l G => mX9_keeps l G N x0 h1 _ hF) (zck hF) rfl rfl ⟨Nat.le_of_ble_eq_true rfl, Nat.le_of_ble_eq_true rfl⟩ (Nat.le_of_ble_eq_true rfl) dX9_years_57 ?_
        refine z_aload_n O 0 dX9_years_60 rfl rfl ?_
        refine bs hr (fun h7 hF hr => ?_)
        refine z_callVv O [] fV_X9_byNumbers q2439 (fun l G => mX9_byNumbers l G N x0 h6 _ hF) (zck hF) rfl rfl ⟨Nat.le_of_ble_eq_true rfl, Nat.le_of_ble_eq_true rfl⟩ (Nat.le_of_ble_eq_true rfl) dX9_years_61 ?_
        refine z_iconst O dX9_years_64 kic_0 ?_
        refine z_istore_n O [(2, vi (0 : Int32)), (0, vr x0), (1, vi x1)] dX9_years_65 rfl (by decide) rfl ?_
        refine z_sub [1, 2, 0] rfl ?_
        exact wX9_years_66 O N x0 x1 _ (0 : Int32) h7 _ hr
      · refine z_aload_n O 0 dX9_years_50 rfl rfl ?_
        refine z_iconst O dX9_years_51 kic_3 ?_
        refine b2s hr (fun v9 h8 hF hr => ?_)
        refine z_callV O [vi (3 : Int32)] (vi v9) fV_X9_refused q1886 (fun l G => mX9_refused l G x0 (3 : Int32) h1 _ hF) (zck hF) rfl rfl ⟨Nat.le_of_ble_eq_true rfl, Nat.le_of_ble_eq_true rfl⟩ (Nat.le_of_ble_eq_true rfl) dX9_years_52 ?_
        exact z_iret O dX9_years_55 (by cases hr; rfl)
def BL_law_23 (N : Nat) (x0 : Option Nat) (x1 : Option Nat) (x2 : Option Nat) (x3 : Option Nat) (rec23 : Int32 → AH → Option (Int32 × AH)) : Int32 → AH → Option (Int32 × AH) := fun x4 h =>
  (aL h x0).bind fun v1 =>
  if (v1 - (6 : Int32)) < x4 then
    (zb (1 : Int32)).bind fun v2 => some (v2, h)
  else
    (aI h 0 x0 x4).bind fun v3 =>
    jlet (v3 &&& (63 : Int32)) fun v4 =>
    if v4 = (0 : Int32) then
      (aI h 0 x0 (x4 + (1 : Int32))).bind fun v54 =>
      (aI h 0 x0 (x4 + (2 : Int32))).bind fun v55 =>
      (aI h 0 x0 (x4 + (3 : Int32))).bind fun v56 =>
      (aI h 0 x0 (x4 + (4 : Int32))).bind fun v57 =>
      (aI h 0 x0 (x4 + (5 : Int32))).bind fun v58 =>
      b2 (F_X1_feed N x1 v54 v55 v56 v57 v58 h) fun v60 h59 =>
      (aI h59 0 x0 (x4 + (1 : Int32))).bind fun v61 =>
      (aI h59 0 x0 (x4 + (2 : Int32))).bind fun v62 =>
      (aI h59 0 x0 (x4 + (3 : Int32))).bind fun v63 =>
      (aI h59 0 x0 (x4 + (4 : Int32))).bind fun v64 =>
      (aI h59 0 x0 (x4 + (5 : Int32))).bind fun v65 =>
      b2 (F_X9_feed N x2 v61 v62 v63 v64 v65 h59) fun v67 h66 =>
      if v60 = v67 then
        jlet (x4 + (6 : Int32)) fun v68 =>
        rec23 v68 h66
      else
        (zb (0 : Int32)).bind fun v69 => some (v69, h66)
    else if v4 = (1 : Int32) then
      (aI h 0 x0 (x4 + (1 : Int32))).bind fun v70 =>
      b2 (F_X1_land N x1 v70 h) fun v72 h71 =>
      (aI h71 0 x0 (x4 + (1 : Int32))).bind fun v73 =>
      b2 (F_X9_land N x2 v73 h71) fun v75 h74 =>
      if v72 = v75 then
        jlet (x4 + (6 : Int32)) fun v76 =>
        rec23 v76 h74
      else
        (zb (0 : Int32)).bind fun v77 => some (v77, h74)
    else if v4 = (2 : Int32) then
      (F_X1_fault x1 h).bind fun v78 =>
      b2 (F_X9_fault x2 h) fun v80 h79 =>
      if v78 = v80 then
        jlet (x4 + (6 : Int32)) fun v81 =>
        rec23 v81 h79
      else
        (zb (0 : Int32)).bind fun v82 => some (v82, h79)
    else if v4 = (3 : Int32) then
      (F_X1_where x1 h).bind fun v83 =>
      b2 (F_X9_where x2 h) fun v85 h84 =>
      if v83 = v85 then
        jlet (x4 + (6 : Int32)) fun v86 =>
        rec23 v86 h84
      else
        (zb (0 : Int32)).bind fun v87 => some (v87, h84)
    else if v4 = (4 : Int32) then
      (aI h 0 x0 (x4 + (1 : Int32))).bind fun v88 =>
      (aI h 0 x0 (x4 + (2 : Int32))).bind fun v89 =>
      b2 (F_X1_whose N x1 v88 v89 h) fun v91 h90 =>
      (aI h90 0 x0 (x4 + (1 : Int32))).bind fun v92 =>
      (aI h90 0 x0 (x4 + (2 : Int32))).bind fun v93 =>
      b2 (F_X9_whose N x2 v92 v93 h90) fun v95 h94 =>
      if v91 = v95 then
        jlet (x4 + (6 : Int32)) fun v96 =>
        rec23 v96 h94
      else
        (zb (0 : Int32)).bind fun v97 => some (v97, h94)
    else if v4 = (5 : Int32) then
      b2 (F_X1_shared N x1 h) fun v99 h98 =>
      b2 (F_X9_shared N x2 h98) fun v101 h100 =>
      if v99 = v101 then
        jlet (x4 + (6 : Int32)) fun v102 =>
        rec23 v102 h100
      else
        (zb (0 : Int32)).bind fun v103 => some (v103, h100)
    else if v4 = (6 : Int32) then
      b2 (F_X1_free N x1 h) fun v105 h104 =>
      b2 (F_X9_free N x2 h104) fun v107 h106 =>
      if v105 = v107 then
        jlet (x4 + (6 : Int32)) fun v108 =>
        rec23 v108 h106
      else
        (zb (0 : Int32)).bind fun v109 => some (v109, h106)
    else if v4 = (7 : Int32) then
      (aI h 0 x0 (x4 + (1 : Int32))).bind fun v110 =>
      (aI h 0 x0 (x4 + (2 : Int32))).bind fun v111 =>
      b2 (F_X1_house N x1 v110 v111 h) fun v113 h112 =>
      (aI h112 0 x0 (x4 + (1 : Int32))).bind fun v114 =>
      (aI h112 0 x0 (x4 + (2 : Int32))).bind fun v115 =>
      b2 (F_X9_house N x2 v114 v115 h112) fun v117 h116 =>
      if v113 = v117 then
        jlet (x4 + (6 : Int32)) fun v118 =>
        rec23 v118 h116
      else
        (zb (0 : Int32)).bind fun v119 => some (v119, h116)
    else if v4 = (8 : Int32) then
      (aI h 0 x0 (x4 + (1 : Int32))).bind fun v120 =>
      (aI h 0 x0 (x4 + (2 : Int32))).bind fun v121 =>
      (aI h 0 x0 (x4 + (3 : Int32))).bind fun v122 =>
      b2 (F_X1_skin x1 v120 v121 v122 h) fun v124 h123 =>
      (aI h123 0 x0 (x4 + (1 : Int32))).bind fun v125 =>
      (aI h123 0 x0 (x4 + (2 : Int32))).bind fun v126 =>
      (aI h123 0 x0 (x4 + (3 : Int32))).bind fun v127 =>
      b2 (F_X9_skin x2 v125 v126 v127 h123) fun v129 h128 =>
      if v124 = v129 then
        jlet (x4 + (6 : Int32)) fun v130 =>
        rec23 v130 h128
      else
        (zb (0 : Int32)).bind fun v131 => some (v131, h128)
    else if v4 = (9 : Int32) then
      (aI h 0 x0 (x4 + (1 : Int32))).bind fun v132 =>
      (aI h 0 x0 (x4 + (2 : Int32))).bind fun v133 =>
      b2 (F_X1_warm N x1 v132 v133 h) fun v135 h134 =>
      (aI h134 0 x0 (x4 + (1 : Int32))).bind fun v136 =>
      (aI h134 0 x0 (x4 + (2 : Int32))).bind fun v137 =>
      b2 (F_X9_warm N x2 v136 v137 h134) fun v139 h138 =>
      if v135 = v139 then
        jlet (x4 + (6 : Int32)) fun v140 =>
        rec23 v140 h138
      else
        (zb (0 : Int32)).bind fun v141 => some (v141, h138)
    else if v4 = (10 : Int32) then
      (aI h 0 x0 (x4 + (1 : Int32))).bind fun v142 =>
      (aI h 0 x0 (x4 + (2 : Int32))).bind fun v143 =>
      b2 (F_X1_light x1 v142 v143 h) fun v145 h144 =>
      (aI h144 0 x0 (x4 + (1 : Int32))).bind fun v146 =>
      (aI h144 0 x0 (x4 + (2 : Int32))).bind fun v147 =>
      b2 (F_X9_light x2 v146 v147 h144) fun v149 h148 =>
      if v145 = v149 then
        jlet (x4 + (6 : Int32)) fun v150 =>
        rec23 v150 h148
      else
        (zb (0 : Int32)).bind fun v151 => some (v151, h148)
    else if v4 = (11 : Int32) then
      (aI h 0 x0 (x4 + (1 : Int32))).bind fun v152 =>
      (aI h 0 x0 (x4 + (2 : Int32))).bind fun v153 =>
      b2 (F_X1_heir N x1 v152 v153 h) fun v155 h154 =>
      (aI h154 0 x0 (x4 + (1 : Int32))).bind fun v156 =>
      (aI h154 0 x0 (x4 + (2 : Int32))).bind fun v157 =>
      b2 (F_X9_heir N x2 v156 v157 h154) fun v159 h158 =>
      if v155 = v159 then
        jlet (x4 + (6 : Int32)) fun v160 =>
        rec23 v160 h158
      else
        (zb (0 : Int32)).bind fun v161 => some (v161, h158)
    else if v4 = (12 : Int32) then
      (aI h 0 x0 (x4 + (1 : Int32))).bind fun v162 =>
      b2 (F_X1_fits N x1 v162 h) fun v164 h163 =>
      (aI h163 0 x0 (x4 + (1 : Int32))).bind fun v165 =>
      b2 (F_X9_fits N x2 v165 h163) fun v167 h166 =>
      if v164 = v167 then
        jlet (x4 + (6 : Int32)) fun v168 =>
        rec23 v168 h166
      else
        (zb (0 : Int32)).bind fun v169 => some (v169, h166)
    else if v4 = (13 : Int32) then
      (aI h 0 x0 (x4 + (1 : Int32))).bind fun v170 =>
      b2 (F_X1_door N x1 v170 h) fun v172 h171 =>
      (aI h171 0 x0 (x4 + (1 : Int32))).bind fun v173 =>
      b2 (F_X9_door N x2 v173 h171) fun v175 h174 =>
      if v172 = v175 then
        jlet (x4 + (6 : Int32)) fun v176 =>
        rec23 v176 h174
      else
        (zb (0 : Int32)).bind fun v177 => some (v177, h174)
    else if v4 = (14 : Int32) then
      (aI h 0 x0 (x4 + (1 : Int32))).bind fun v178 =>
      (aI h 0 x0 (x4 + (2 : Int32))).bind fun v179 =>
      b2 (F_X1_costs x1 v178 v179 h) fun v181 h180 =>
      (aI h180 0 x0 (x4 + (1 : Int32))).bind fun v182 =>
      (aI h180 0 x0 (x4 + (2 : Int32))).bind fun v183 =>
      b2 (F_X9_costs x2 v182 v183 h180) fun v185 h184 =>
      if v181 = v185 then
        jlet (x4 + (6 : Int32)) fun v186 =>
        rec23 v186 h184
      else
        (zb (0 : Int32)).bind fun v187 => some (v187, h184)
    else if v4 = (15 : Int32) then
      (aI h 0 x0 (x4 + (1 : Int32))).bind fun v188 =>
      (aI h 0 x0 (x4 + (2 : Int32))).bind fun v189 =>
      b2 (F_X1_way N x1 v188 v189 h) fun v191 h190 =>
      (aI h190 0 x0 (x4 + (1 : Int32))).bind fun v192 =>
      (aI h190 0 x0 (x4 + (2 : Int32))).bind fun v193 =>
      b2 (F_X9_way N x2 v192 v193 h190) fun v195 h194 =>
      if v191 = v195 then
        jlet (x4 + (6 : Int32)) fun v196 =>
        rec23 v196 h194
      else
        (zb (0 : Int32)).bind fun v197 => some (v197, h194)
    else if v4 = (16 : Int32) then
      (aI h 0 x0 (x4 + (1 : Int32))).bind fun v198 =>
      (aI h 0 x0 (x4 + (2 : Int32))).bind fun v199 =>
      b2 (F_X1_through N x1 v198 v199 h) fun v201 h200 =>
      (aI h200 0 x0 (x4 + (1 : Int32))).bind fun v202 =>
      (aI h200 0 x0 (x4 + (2 : Int32))).bind fun v203 =>
      b2 (F_X9_through N x2 v202 v203 h200) fun v205 h204 =>
      if v201 = v205 then
        jlet (x4 + (6 : Int32)) fun v206 =>
        rec23 v206 h204
      else
        (zb (0 : Int32)).bind fun v207 => some (v207, h204)
    else if v4 = (17 : Int32) then
      (aI h 0 x0 (x4 + (1 : Int32))).bind fun v208 =>
      (aI h 0 x0 (x4 + (2 : Int32))).bind fun v209 =>
      b2 (F_X1_breaks N x1 v208 v209 h) fun v211 h210 =>
      (aI h210 0 x0 (x4 + (1 : Int32))).bind fun v212 =>
      (aI h210 0 x0 (x4 + (2 : Int32))).bind fun v213 =>
      b2 (F_X9_breaks N x2 v212 v213 h210) fun v215 h214 =>
      if v211 = v215 then
        jlet (x4 + (6 : Int32)) fun v216 =>
        rec23 v216 h214
      else
        (zb (0 : Int32)).bind fun v217 => some (v217, h214)
    else if v4 = (18 : Int32) then
      (aI h 0 x0 (x4 + (1 : Int32))).bind fun v218 =>
      (aI h 0 x0 (x4 + (2 : Int32))).bind fun v219 =>
      b2 (F_X1_round x1 v218 v219 h) fun v221 h220 =>
      (aI h220 0 x0 (x4 + (1 : Int32))).bind fun v222 =>
      (aI h220 0 x0 (x4 + (2 : Int32))).bind fun v223 =>
      b2 (F_X9_round x2 v222 v223 h220) fun v225 h224 =>
      if v221 = v225 then
        jlet (x4 + (6 : Int32)) fun v226 =>
        rec23 v226 h224
      else
        (zb (0 : Int32)).bind fun v227 => some (v227, h224)
    else if v4 = (19 : Int32) then
      (aI h 0 x0 (x4 + (1 : Int32))).bind fun v228 =>
      (aI h 0 x0 (x4 + (2 : Int32))).bind fun v229 =>
      (aI h 0 x0 (x4 + (3 : Int32))).bind fun v230 =>
      b2 (F_X1_in N x1 v228 v229 v230 h) fun v232 h231 =>
      (aI h231 0 x0 (x4 + (1 : Int32))).bind fun v233 =>
      (aI h231 0 x0 (x4 + (2 : Int32))).bind fun v234 =>
      (aI h231 0 x0 (x4 + (3 : Int32))).bind fun v235 =>
      b2 (F_X9_in N x2 v233 v234 v235 h231) fun v237 h236 =>
      if v232 = v237 then
        jlet (x4 + (6 : Int32)) fun v238 =>
        rec23 v238 h236
      else
        (zb (0 : Int32)).bind fun v239 => some (v239, h236)
    else if v4 = (20 : Int32) then
      (aI h 0 x0 (x4 + (1 : Int32))).bind fun v240 =>
      b2 (F_X1_skinsIn N x1 v240 h) fun v242 h241 =>
      (aI h241 0 x0 (x4 + (1 : Int32))).bind fun v243 =>
      b2 (F_X9_skinsIn N x2 v243 h241) fun v245 h244 =>
      if v242 = v245 then
        jlet (x4 + (6 : Int32)) fun v246 =>
        rec23 v246 h244
      else
        (zb (0 : Int32)).bind fun v247 => some (v247, h244)
    else if v4 = (21 : Int32) then
      (aI h 0 x0 (x4 + (1 : Int32))).bind fun v248 =>
      (aI h 0 x0 (x4 + (2 : Int32))).bind fun v249 =>
      (aI h 0 x0 (x4 + (3 : Int32))).bind fun v250 =>
      b2 (F_X1_meet N x1 v248 v249 v250 h) fun v252 h251 =>
      (aI h251 0 x0 (x4 + (1 : Int32))).bind fun v253 =>
      (aI h251 0 x0 (x4 + (2 : Int32))).bind fun v254 =>
      (aI h251 0 x0 (x4 + (3 : Int32))).bind fun v255 =>
      b2 (F_X9_meet N x2 v253 v254 v255 h251) fun v257 h256 =>
      if v252 = v257 then
        jlet (x4 + (6 : Int32)) fun v258 =>
        rec23 v258 h256
      else
        (zb (0 : Int32)).bind fun v259 => some (v259, h256)
    else if v4 = (22 : Int32) then
      (aI h 0 x0 (x4 + (1 : Int32))).bind fun v260 =>
      (aI h 0 x0 (x4 + (2 : Int32))).bind fun v261 =>
      (aI h 0 x0 (x4 + (3 : Int32))).bind fun v262 =>
      b2 (F_X1_falls N x1 v260 v261 v262 h) fun v264 h263 =>
      (aI h263 0 x0 (x4 + (1 : Int32))).bind fun v265 =>
      (aI h263 0 x0 (x4 + (2 : Int32))).bind fun v266 =>
      (aI h263 0 x0 (x4 + (3 : Int32))).bind fun v267 =>
      b2 (F_X9_falls N x2 v265 v266 v267 h263) fun v269 h268 =>
      if v264 = v269 then
        jlet (x4 + (6 : Int32)) fun v270 =>
        rec23 v270 h268
      else
        (zb (0 : Int32)).bind fun v271 => some (v271, h268)
    else if v4 = (23 : Int32) then
      (aI h 0 x0 (x4 + (1 : Int32))).bind fun v272 =>
      b2 (F_X1_room N x1 v272 h) fun v274 h273 =>
      (aI h273 0 x0 (x4 + (1 : Int32))).bind fun v275 =>
      b2 (F_X9_room N x2 v275 h273) fun v277 h276 =>
      if v274 = v277 then
        jlet (x4 + (6 : Int32)) fun v278 =>
        rec23 v278 h276
      else
        (zb (0 : Int32)).bind fun v279 => some (v279, h276)
    else if v4 = (24 : Int32) then
      (aI h 0 x0 (x4 + (1 : Int32))).bind fun v280 =>
      b2 (F_X1_first N x1 v280 h) fun v282 h281 =>
      (aI h281 0 x0 (x4 + (1 : Int32))).bind fun v283 =>
      b2 (F_X9_first N x2 v283 h281) fun v285 h284 =>
      if v282 = v285 then
        jlet (x4 + (6 : Int32)) fun v286 =>
        rec23 v286 h284
      else
        (zb (0 : Int32)).bind fun v287 => some (v287, h284)
    else if v4 = (25 : Int32) then
      (aI h 0 x0 (x4 + (1 : Int32))).bind fun v288 =>
      (aI h 0 x0 (x4 + (2 : Int32))).bind fun v289 =>
      b2 (F_X1_firstAt N x1 v288 v289 h) fun v291 h290 =>
      (aI h290 0 x0 (x4 + (1 : Int32))).bind fun v292 =>
      (aI h290 0 x0 (x4 + (2 : Int32))).bind fun v293 =>
      b2 (F_X9_firstAt N x2 v292 v293 h290) fun v295 h294 =>
      if v291 = v295 then
        jlet (x4 + (6 : Int32)) fun v296 =>
        rec23 v296 h294
      else
        (zb (0 : Int32)).bind fun v297 => some (v297, h294)
    else if v4 = (26 : Int32) then
      (aI h 0 x0 (x4 + (1 : Int32))).bind fun v298 =>
      (aI h 0 x0 (x4 + (2 : Int32))).bind fun v299 =>
      b2 (F_X1_heads N x1 v298 v299 h) fun v301 h300 =>
      (aI h300 0 x0 (x4 + (1 : Int32))).bind fun v302 =>
      (aI h300 0 x0 (x4 + (2 : Int32))).bind fun v303 =>
      b2 (F_X9_heads N x2 v302 v303 h300) fun v305 h304 =>
      if v301 = v305 then
        jlet (x4 + (6 : Int32)) fun v306 =>
        rec23 v306 h304
      else
        (zb (0 : Int32)).bind fun v307 => some (v307, h304)
    else if v4 = (27 : Int32) then
      (aI h 0 x0 (x4 + (1 : Int32))).bind fun v308 =>
      b2 (F_X1_takes N x1 v308 h) fun v310 h309 =>
      (aI h309 0 x0 (x4 + (1 : Int32))).bind fun v311 =>
      b2 (F_X9_takes N x2 v311 h309) fun v313 h312 =>
      if v310 = v313 then
        jlet (x4 + (6 : Int32)) fun v314 =>
        rec23 v314 h312
      else
        (zb (0 : Int32)).bind fun v315 => some (v315, h312)
    else if v4 = (28 : Int32) then
      (aI h 0 x0 (x4 + (1 : Int32))).bind fun v316 =>
      b2 (F_X1_worth N x1 v316 h) fun v318 h317 =>
      (aI h317 0 x0 (x4 + (1 : Int32))).bind fun v319 =>
      b2 (F_X9_worth N x2 v319 h317) fun v321 h320 =>
      if v318 = v321 then
        jlet (x4 + (6 : Int32)) fun v322 =>
        rec23 v322 h320
      else
        (zb (0 : Int32)).bind fun v323 => some (v323, h320)
    else if v4 = (29 : Int32) then
      b2 (F_X1_orders N x1 h) fun v325 h324 =>
      b2 (F_X9_orders N x2 h324) fun v327 h326 =>
      if v325 = v327 then
        jlet (x4 + (6 : Int32)) fun v328 =>
        rec23 v328 h326
      else
        (zb (0 : Int32)).bind fun v329 => some (v329, h326)
    else if v4 = (30 : Int32) then
      (aI h 0 x0 (x4 + (1 : Int32))).bind fun v330 =>
      (aI h 0 x0 (x4 + (2 : Int32))).bind fun v331 =>
      b2 (F_X1_order N x1 v330 v331 h) fun v333 h332 =>
      (aI h332 0 x0 (x4 + (1 : Int32))).bind fun v334 =>
      (aI h332 0 x0 (x4 + (2 : Int32))).bind fun v335 =>
      b2 (F_X9_order N x2 v334 v335 h332) fun v337 h336 =>
      if v333 = v337 then
        jlet (x4 + (6 : Int32)) fun v338 =>
        rec23 v338 h336
      else
        (zb (0 : Int32)).bind fun v339 => some (v339, h336)
    else if v4 = (31 : Int32) then
      (aI h 0 x0 (x4 + (1 : Int32))).bind fun v340 =>
      b2 (F_X1_soonest N x1 v340 h) fun v342 h341 =>
      (aI h341 0 x0 (x4 + (1 : Int32))).bind fun v343 =>
      b2 (F_X9_soonest N x2 v343 h341) fun v345 h344 =>
      if v342 = v345 then
        jlet (x4 + (6 : Int32)) fun v346 =>
        rec23 v346 h344
      else
        (zb (0 : Int32)).bind fun v347 => some (v347, h344)
    else if v4 = (32 : Int32) then
      (aI h 0 x0 (x4 + (1 : Int32))).bind fun v348 =>
      b2 (F_X1_latest N x1 v348 h) fun v350 h349 =>
      (aI h349 0 x0 (x4 + (1 : Int32))).bind fun v351 =>
      b2 (F_X9_latest N x2 v351 h349) fun v353 h352 =>
      if v350 = v353 then
        jlet (x4 + (6 : Int32)) fun v354 =>
        rec23 v354 h352
      else
        (zb (0 : Int32)).bind fun v355 => some (v355, h352)
    else if v4 = (33 : Int32) then
      (aI h 0 x0 (x4 + (1 : Int32))).bind fun v356 =>
      (aI h 0 x0 (x4 + (2 : Int32))).bind fun v357 =>
      b2 (F_X1_surely N x1 v356 v357 h) fun v359 h358 =>
      (aI h358 0 x0 (x4 + (1 : Int32))).bind fun v360 =>
      (aI h358 0 x0 (x4 + (2 : Int32))).bind fun v361 =>
      b2 (F_X9_surely N x2 v360 v361 h358) fun v363 h362 =>
      if v359 = v363 then
        jlet (x4 + (6 : Int32)) fun v364 =>
        rec23 v364 h362
      else
        (zb (0 : Int32)).bind fun v365 => some (v365, h362)
    else if v4 = (34 : Int32) then
      (aI h 0 x0 (x4 + (1 : Int32))).bind fun v366 =>
      b2 (F_X1_years N x1 v366 h) fun v368 h367 =>
      (aI h367 0 x0 (x4 + (1 : Int32))).bind fun v369 =>
      b2 (F_X9_years N x2 v369 h367) fun v371 h370 =>
      if v368 = v371 then
        jlet (x4 + (6 : Int32)) fun v372 =>
        rec23 v372 h370
      else
        (zb (0 : Int32)).bind fun v373 => some (v373, h370)
    else if v4 = (35 : Int32) then
      (aI h 0 x0 (x4 + (1 : Int32))).bind fun v374 =>
      (aI h 0 x0 (x4 + (2 : Int32))).bind fun v375 =>
      (aI h 0 x0 (x4 + (3 : Int32))).bind fun v376 =>
      (aI h 0 x0 (x4 + (4 : Int32))).bind fun v377 =>
      (aI h 0 x0 (x4 + (5 : Int32))).bind fun v378 =>
      b2 (F_X1_build N x1 v374 v375 v376 v377 v378 h) fun v380 h379 =>
      (aI h379 0 x0 (x4 + (1 : Int32))).bind fun v381 =>
      (aI h379 0 x0 (x4 + (2 : Int32))).bind fun v382 =>
      (aI h379 0 x0 (x4 + (3 : Int32))).bind fun v383 =>
      (aI h379 0 x0 (x4 + (4 : Int32))).bind fun v384 =>
      (aI h379 0 x0 (x4 + (5 : Int32))).bind fun v385 =>
      b2 (F_X9_build N x2 v381 v382 v383 v384 v385 h379) fun v387 h386 =>
      if v380 = v387 then
        jlet (x4 + (6 : Int32)) fun v388 =>
        rec23 v388 h386
      else
        (zb (0 : Int32)).bind fun v389 => some (v389, h386)
    else if v4 = (36 : Int32) then
      (aI h 0 x0 (x4 + (1 : Int32))).bind fun v390 =>
      (aI h 0 x0 (x4 + (2 : Int32))).bind fun v391 =>
      b2 (F_X1_fill N x1 v390 v391 h) fun v393 h392 =>
      (aI h392 0 x0 (x4 + (1 : Int32))).bind fun v394 =>
      (aI h392 0 x0 (x4 + (2 : Int32))).bind fun v395 =>
      b2 (F_X9_fill N x2 v394 v395 h392) fun v397 h396 =>
      if v393 = v397 then
        jlet (x4 + (6 : Int32)) fun v398 =>
        rec23 v398 h396
      else
        (zb (0 : Int32)).bind fun v399 => some (v399, h396)
    else if v4 = (37 : Int32) then
      (aI h 0 x0 (x4 + (1 : Int32))).bind fun v400 =>
      b2 (F_X1_take N x1 v400 h) fun v402 h401 =>
      (aI h401 0 x0 (x4 + (1 : Int32))).bind fun v403 =>
      b2 (F_X9_take N x2 v403 h401) fun v405 h404 =>
      if v402 = v405 then
        jlet (x4 + (6 : Int32)) fun v406 =>
        rec23 v406 h404
      else
        (zb (0 : Int32)).bind fun v407 => some (v407, h404)
    else if v4 = (38 : Int32) then
      (aI h 0 x0 (x4 + (1 : Int32))).bind fun v408 =>
      (aI h 0 x0 (x4 + (2 : Int32))).bind fun v409 =>
      (aI h 0 x0 (x4 + (3 : Int32))).bind fun v410 =>
      b2 (F_X1_lock N x1 v408 v409 v410 h) fun v412 h411 =>
      (aI h411 0 x0 (x4 + (1 : Int32))).bind fun v413 =>
      (aI h411 0 x0 (x4 + (2 : Int32))).bind fun v414 =>
      (aI h411 0 x0 (x4 + (3 : Int32))).bind fun v415 =>
      b2 (F_X9_lock N x2 v413 v414 v415 h411) fun v417 h416 =>
      if v412 = v417 then
        jlet (x4 + (6 : Int32)) fun v418 =>
        rec23 v418 h416
      else
        (zb (0 : Int32)).bind fun v419 => some (v419, h416)
    else if v4 = (39 : Int32) then
      (aI h 0 x0 (x4 + (1 : Int32))).bind fun v420 =>
      (aI h 0 x0 (x4 + (2 : Int32))).bind fun v421 =>
      b2 (F_X1_move N x1 v420 v421 h) fun v423 h422 =>
      (aI h422 0 x0 (x4 + (1 : Int32))).bind fun v424 =>
      (aI h422 0 x0 (x4 + (2 : Int32))).bind fun v425 =>
      b2 (F_X9_move N x2 v424 v425 h422) fun v427 h426 =>
      if v423 = v427 then
        jlet (x4 + (6 : Int32)) fun v428 =>
        rec23 v428 h426
      else
        (zb (0 : Int32)).bind fun v429 => some (v429, h426)
    else if v4 = (40 : Int32) then
      (aI h 0 x0 (x4 + (1 : Int32))).bind fun v430 =>
      (aI h 0 x0 (x4 + (2 : Int32))).bind fun v431 =>
      (aI h 0 x0 (x4 + (3 : Int32))).bind fun v432 =>
      b2 (F_X1_give N x1 v430 v431 v432 h) fun v434 h433 =>
      (aI h433 0 x0 (x4 + (1 : Int32))).bind fun v435 =>
      (aI h433 0 x0 (x4 + (2 : Int32))).bind fun v436 =>
      (aI h433 0 x0 (x4 + (3 : Int32))).bind fun v437 =>
      b2 (F_X9_give N x2 v435 v436 v437 h433) fun v439 h438 =>
      if v434 = v439 then
        jlet (x4 + (6 : Int32)) fun v440 =>
        rec23 v440 h438
      else
        (zb (0 : Int32)).bind fun v441 => some (v441, h438)
    else if v4 = (41 : Int32) then
      (aI h 0 x0 (x4 + (1 : Int32))).bind fun v442 =>
      b2 (F_X1_seed x1 v442 h) fun v444 h443 =>
      (aI h443 0 x0 (x4 + (1 : Int32))).bind fun v445 =>
      b2 (F_X9_seed x2 v445 h443) fun v447 h446 =>
      if v444 = v447 then
        jlet (x4 + (6 : Int32)) fun v448 =>
        rec23 v448 h446
      else
        (zb (0 : Int32)).bind fun v449 => some (v449, h446)
    else if v4 = (42 : Int32) then
      b2 (F_X1_undo N x1 h) fun v451 h450 =>
      b2 (F_X9_undo N x2 h450) fun v453 h452 =>
      if v451 = v453 then
        jlet (x4 + (6 : Int32)) fun v454 =>
        rec23 v454 h452
      else
        (zb (0 : Int32)).bind fun v455 => some (v455, h452)
    else if v4 = (43 : Int32) then
      b2 (F_X1_mark N x1 h) fun v457 h456 =>
      b2 (F_X9_mark N x2 h456) fun v459 h458 =>
      if v457 = v459 then
        jlet (x4 + (6 : Int32)) fun v460 =>
        rec23 v460 h458
      else
        (zb (0 : Int32)).bind fun v461 => some (v461, h458)
    else if v4 = (44 : Int32) then
      (aI h 0 x0 (x4 + (1 : Int32))).bind fun v462 =>
      b2 (F_X1_back N x1 v462 h) fun v464 h463 =>
      (aI h463 0 x0 (x4 + (1 : Int32))).bind fun v465 =>
      b2 (F_X9_back N x2 v465 h463) fun v467 h466 =>
      if v464 = v467 then
        jlet (x4 + (6 : Int32)) fun v468 =>
        rec23 v468 h466
      else
        (zb (0 : Int32)).bind fun v469 => some (v469, h466)
    else if v4 = (45 : Int32) then
      (aI h 0 x0 (x4 + (1 : Int32))).bind fun v470 =>
      (aI h 0 x0 (x4 + (2 : Int32))).bind fun v471 =>
      b2 (F_X1_stone x1 v470 v471 h) fun v473 h472 =>
      (aI h472 0 x0 (x4 + (1 : Int32))).bind fun v474 =>
      (aI h472 0 x0 (x4 + (2 : Int32))).bind fun v475 =>
      b2 (F_X9_stone x2 v474 v475 h472) fun v477 h476 =>
      if v473 = v477 then
        jlet (x4 + (6 : Int32)) fun v478 =>
        rec23 v478 h476
      else
        (zb (0 : Int32)).bind fun v479 => some (v479, h476)
    else if v4 = (46 : Int32) then
      (aI h 0 x0 (x4 + (1 : Int32))).bind fun v480 =>
      b2 (F_X0_led N x1 v480 x3 h) fun v482 h481 =>
      (aI h481 0 x0 (x4 + (1 : Int32))).bind fun v483 =>
      b2 (F_X9_led N x2 v483 h481) fun v485 h484 =>
      (F_X9_thrown x2 h484).bind fun v486 =>
      if v486 = v482 then
        if v482 = 0 then
          (aJ h484 x3 (0 : Int32)).bind fun v488 =>
          if (lg_cmp v488 v485.toInt64) = 0 then
            jlet (x4 + (6 : Int32)) fun v489 =>
            rec23 v489 h484
          else
            (zb (0 : Int32)).bind fun v490 => some (v490, h484)
        else
          jlet (x4 + (6 : Int32)) fun v487 =>
          rec23 v487 h484
      else
        (zb (0 : Int32)).bind fun v491 => some (v491, h484)
    else if v4 = (47 : Int32) then
      (aI h 0 x0 (x4 + (1 : Int32))).bind fun v492 =>
      (F_X1_size x1 v492 h).bind fun v493 =>
      (aI h 0 x0 (x4 + (1 : Int32))).bind fun v494 =>
      b2 (F_X9_size x2 v494 h) fun v496 h495 =>
      if v493 = v496 then
        jlet (x4 + (6 : Int32)) fun v497 =>
        rec23 v497 h495
      else
        (zb (0 : Int32)).bind fun v498 => some (v498, h495)
    else if v4 = (48 : Int32) then
      (F_X1_trouble x1 h).bind fun v499 =>
      b2 (F_X9_trouble x2 h) fun v501 h500 =>
      if v499 = v501 then
        jlet (x4 + (6 : Int32)) fun v502 =>
        rec23 v502 h500
      else
        (zb (0 : Int32)).bind fun v503 => some (v503, h500)
    else 
      jlet (x4 + (6 : Int32)) fun v504 =>
      rec23 v504 h
def LL_law_23 (N : Nat) (x0 : Option Nat) (x1 : Option Nat) (x2 : Option Nat) (x3 : Option Nat) : Int32 → AH → Option (Int32 × AH) := lf (fun _ _ => none) (BL_law_23 N x0 x1 x2 x3) N
theorem wL_law_23B {K : ZC} (O : ZOk K cL_law RX0 "law" 7 ret 16 389) (N : Nat) (x0 : Option Nat) (x1 : Option Nat) (x2 : Option Nat) (x3 : Option Nat) (rec23 : Int32 → AH → Option (Int32 × AH)) (hrec23 : ∀ (y4 : Int32) (hy : AH) (ry : Int32 × AH), rec23 y4 hy = some ry → Zw K (eIH ry) hy 23 [(0, vr x0), (1, vr x1), (2, vr x2), (3, vr x3), (4, vi y4)] []) (x4 : Int32) (h : AH) (r : Int32 × AH) (hr : BL_law_23 N x0 x1 x2 x3 rec23 x4 h = some r) : Zw K (eIH r) h 23 [(0, vr x0), (1, vr x1), (2, vr x2), (3, vr x3), (4, vi x4)] [] := by
  unfold BL_law_23 at hr
  refine z_iload O 4 dL_law_23 rfl ?_
  refine z_aload_n O 0 dL_law_25 rfl rfl ?_
  refine z_arraylength O dL_law_26 hr (fun v1 hr => ?_)
  refine z_bipush O dL_law_27 kbi_6 ?_
  refine z_isub O dL_law_29 ?_
  refine z_icmp_gt (tgt := 1862) O dL_law_30 (by decide) hr (fun hr => ?_) (fun hr => ?_)
  · refine z_iconst O dL_law_1862 kic_1 ?_
    refine bs hr (fun v2 e0 hr => ?_)
    obtain ⟨e1, e2, -⟩ := zb_spec e0
    exact z_zret O e2 dL_law_1863 (by cases hr; cases e1; rfl)
  · refine z_aload_n O 0 dL_law_33 rfl rfl ?_
    refine z_iload O 4 dL_law_34 rfl ?_
    refine z_iaload O dL_law_36 hr (fun v3 hr => ?_)
    refine z_bipush O dL_law_37 kbi_63 ?_
    refine z_iand O dL_law_39 ?_
    refine z_letI hr (fun v4 hr => ?_)
    refine zite hr (fun c5 hr => ?_) (fun c5 hr => ?_)
    · refine z_tabIn (v := (0 : Int32)) (off := 212) (tgt := 252) O dL_law_40 c5 (by decide) (by decide +kernel) (by decide) ?_
      refine z_aload_n O 1 dL_law_252 rfl rfl ?_
      refine z_aload_n O 0 dL_law_253 rfl rfl ?_
      refine z_iload O 4 dL_law_254 rfl ?_
      refine z_iconst O dL_law_256 kic_1 ?_
      refine z_iadd O dL_law_257 ?_
      refine z_iaload O dL_law_258 hr (fun v54 hr => ?_)
      refine z_aload_n O 0 dL_law_259 rfl rfl ?_
      refine z_iload O 4 dL_law_260 rfl ?_
      refine z_iconst O dL_law_262 kic_2 ?_
      refine z_iadd O dL_law_263 ?_
      refine z_iaload O dL_law_264 hr (fun v55 hr => ?_)
      refine z_aload_n O 0 dL_law_265 rfl rfl ?_
      refine z_iload O 4 dL_law_266 rfl ?_
      refine z_iconst O dL_law_268 kic_3 ?_
      refine z_iadd O dL_law_269 ?_
      refine z_iaload O dL_law_270 hr (fun v56 hr => ?_)
      refine z_aload_n O 0 dL_law_271 rfl rfl ?_
      refine z_iload O 4 dL_law_272 rfl ?_
      refine z_iconst O dL_law_274 kic_4 ?_
      refine z_iadd O dL_law_275 ?_
      refine z_iaload O dL_law_276 hr (fun v57 hr => ?_)
      refine z_aload_n O 0 dL_law_277 rfl rfl ?_
      refine z_iload O 4 dL_law_278 rfl ?_
      refine z_iconst O dL_law_280 kic_5 ?_
      refine z_iadd O dL_law_281 ?_
      refine z_iaload O dL_law_282 hr (fun v58 hr => ?_)
      refine b2s hr (fun v60 h59 hF hr => ?_)
      refine z_callV O [vi v54, vi v55, vi v56, vi v57, vi v58] (vi v60) fV_X1_feed q515 (fun l G => mX1_feed l G N x1 v54 v55 v56 v57 v58 h _ hF) (zck hF) rfl rfl ⟨Nat.le_of_ble_eq_true rfl, Nat.le_of_ble_eq_true rfl⟩ (Nat.le_of_ble_eq_true rfl) dL_law_283 ?_
      refine z_aload_n O 2 dL_law_286 rfl rfl ?_
      refine z_aload_n O 0 dL_law_287 rfl rfl ?_
      refine z_iload O 4 dL_law_288 rfl ?_
      refine z_iconst O dL_law_290 kic_1 ?_
      refine z_iadd O dL_law_291 ?_
      refine z_iaload O dL_law_292 hr (fun v61 hr => ?_)
      refine z_aload_n O 0 dL_law_293 rfl rfl ?_
      refine z_iload O 4 dL_law_294 rfl ?_
      refine z_iconst O dL_law_296 kic_2 ?_
      refine z_iadd O dL_law_297 ?_
      refine z_iaload O dL_law_298 hr (fun v62 hr => ?_)
      refine z_aload_n O 0 dL_law_299 rfl rfl ?_
      refine z_iload O 4 dL_law_300 rfl ?_
      refine z_iconst O dL_law_302 kic_3 ?_
      refine z_iadd O dL_law_303 ?_
      refine z_iaload O dL_law_304 hr (fun v63 hr => ?_)
      refine z_aload_n O 0 dL_law_305 rfl rfl ?_
      refine z_iload O 4 dL_law_306 rfl ?_
      refine z_iconst O dL_law_308 kic_4 ?_
      refine z_iadd O dL_law_309 ?_
      refine z_iaload O dL_law_310 hr (fun v64 hr => ?_)
      refine z_aload_n O 0 dL_law_311 rfl rfl ?_
      refine z_iload O 4 dL_law_312 rfl ?_
      refine z_iconst O dL_law_314 kic_5 ?_
      refine z_iadd O dL_law_315 ?_
      refine z_iaload O dL_law_316 hr (fun v65 hr => ?_)
      refine b2s hr (fun v67 h66 hF hr => ?_)
      refine z_callV O [vi v61, vi v62, vi v63, vi v64, vi v65] (vi v67) fV_X9_feed q1878 (fun l G => mX9_feed l G N x2 v61 v62 v63 v64 v65 h59 _ hF) (zck hF) rfl rfl ⟨Nat.le_of_ble_eq_true rfl, Nat.le_of_ble_eq_true rfl⟩ (Nat.le_of_ble_eq_true rfl) dL_law_317 ?_
      refine z_icmp_eq (tgt := 1856) O dL_law_320 (by decide) hr (fun hr => ?_) (fun hr => ?_)
      · refine z_iincL O 4 (fun v68 => [(4, vi v68), (0, vr x0), (1, vr x1), (2, vr x2), (3, vr x3)]) dL_law_1856 rfl rfl (by decide) (fun _ => rfl) hr (fun v68 hr => ?_)
        refine z_goto (tgt := 23) O dL_law_1859 (by decide) ?_
        refine z_sub [1, 2, 3, 4, 0] rfl ?_
        exact hrec23 v68 h66 _ hr
      · refine z_iconst O dL_law_323 kic_0 ?_
        refine bs hr (fun v69 e0 hr => ?_)
        obtain ⟨e1, e2, -⟩ := zb_spec e0
        exact z_zret O e2 dL_law_324 (by cases hr; cases e1; rfl)
    refine zite hr (fun c6 hr => ?_) (fun c6 hr => ?_)
    · refine z_tabIn (v := (1 : Int32)) (off := 285) (tgt := 325) O dL_law_40 c6 (by decide) (by decide +kernel) (by decide) ?_
      refine z_aload_n O 1 dL_law_325 rfl rfl ?_
      refine z_aload_n O 0 dL_law_326 rfl rfl ?_
      refine z_iload O 4 dL_law_327 rfl ?_
      refine z_iconst O dL_law_329 kic_1 ?_
      refine z_iadd O dL_law_330 ?_
      refine z_iaload O dL_law_331 hr (fun v70 hr => ?_)
      refine b2s hr (fun v72 h71 hF hr => ?_)
      refine z_callVH O [vi v70] (vi v72) fV_X1_land q523 (fun l G => mX1_land l G N x1 v70 h _ hF) (zck hF) rfl rfl ⟨Nat.le_of_ble_eq_true rfl, Nat.le_of_ble_eq_true rfl⟩ (Nat.le_of_ble_eq_true rfl) dL_law_332 ?_
      refine z_aload_n O 2 dL_law_335 rfl rfl ?_
      refine z_aload_n O 0 dL_law_336 rfl rfl ?_
      refine z_iload O 4 dL_law_337 rfl ?_
      refine z_iconst O dL_law_339 kic_1 ?_
      refine z_iadd O dL_law_340 ?_
      refine z_iaload O dL_law_341 hr (fun v73 hr => ?_)
      refine b2s hr (fun v75 h74 hF hr => ?_)
      refine z_callV O [vi v73] (vi v75) fV_X9_land q1882 (fun l G => mX9_land l G N x2 v73 h71 _ hF) (zck hF) rfl rfl ⟨Nat.le_of_ble_eq_true rfl, Nat.le_of_ble_eq_true rfl⟩ (Nat.le_of_ble_eq_true rfl) dL_law_342 ?_
      refine z_icmp_eq (tgt := 1856) O dL_law_345 (by decide) hr (fun hr => ?_) (fun hr => ?_)
      · refine z_iincL O 4 (fun v76 => [(4, vi v76), (0, vr x0), (1, vr x1), (2, vr x2), (3, vr x3)]) dL_law_1856 rfl rfl (by decide) (fun _ => rfl) hr (fun v76 hr => ?_)
        refine z_goto (tgt := 23) O dL_law_1859 (by decide) ?_
        refine z_sub [1, 2, 3, 4, 0] rfl ?_
        exact hrec23 v76 h74 _ hr
      · refine z_iconst O dL_law_348 kic_0 ?_
        refine bs hr (fun v77 e0 hr => ?_)
        obtain ⟨e1, e2, -⟩ := zb_spec e0
        exact z_zret O e2 dL_law_349 (by cases hr; cases e1; rfl)
    refine zite hr (fun c7 hr => ?_) (fun c7 hr => ?_)
    · refine z_tabIn (v := (2 : Int32)) (off := 310) (tgt := 350) O dL_law_40 c7 (by decide) (by decide +kernel) (by decide) ?_
      refine z_aload_n O 1 dL_law_350 rfl rfl ?_
      refine bs hr (fun v78 hF hr => ?_)
      refine z_callV O [] (vi v78) fV_X1_fault q1214 (fun l G => mX1_fault l G x1 h _ hF) (zck hF) rfl rfl ⟨Nat.le_of_ble_eq_true rfl, Nat.le_of_ble_eq_true rfl⟩ (Nat.le_of_ble_eq_true rfl) dL_law_351 ?_
      refine z_aload_n O 2 dL_law_354 rfl rfl ?_
      refine b2s hr (fun v80 h79 hF hr => ?_)
      refine z_callV O [] (vi v80) fV_X9_fault q2253 (fun l G => mX9_fault l G x2 h _ hF) (zck hF) rfl rfl ⟨Nat.le_of_ble_eq_true rfl, Nat.le_of_ble_eq_true rfl⟩ (Nat.le_of_ble_eq_true rfl) dL_law_355 ?_
      refine z_icmp_eq (tgt := 1856) O dL_law_358 (by decide) hr (fun hr => ?_) (fun hr => ?_)
      · refine z_iincL O 4 (fun v81 => [(4, vi v81), (0, vr x0), (1, vr x1), (2, vr x2), (3, vr x3)]) dL_law_1856 rfl rfl (by decide) (fun _ => rfl) hr (fun v81 hr => ?_)
        refine z_goto (tgt := 23) O dL_law_1859 (by decide) ?_
        refine z_sub [1, 2, 3, 4, 0] rfl ?_
        exact hrec23 v81 h79 _ hr
      · refine z_iconst O dL_law_361 kic_0 ?_
        refine bs hr (fun v82 e0 hr => ?_)
        obtain ⟨e1, e2, -⟩ := zb_spec e0
        exact z_zret O e2 dL_law_362 (by cases hr; cases e1; rfl)
    refine zite hr (fun c8 hr => ?_) (fun c8 hr => ?_)
    · refine z_tabIn (v := (3 : Int32)) (off := 323) (tgt := 363) O dL_law_40 c8 (by decide) (by decide +kernel) (by decide) ?_
      refine z_aload_n O 1 dL_law_363 rfl rfl ?_
      refine bs hr (fun v83 hF hr => ?_)
      refine z_callV O [] (vi v83) fV_X1_where q1218 (fun l G => mX1_where l G x1 h _ hF) (zck hF) rfl rfl ⟨Nat.le_of_ble_eq_true rfl, Nat.le_of_ble_eq_true rfl⟩ (Nat.le_of_ble_eq_true rfl) dL_law_364 ?_
      refine z_aload_n O 2 dL_law_367 rfl rfl ?_
      refine b2s hr (fun v85 h84 hF hr => ?_)
      refine z_callV O [] (vi v85) fV_X9_where q2257 (fun l G => mX9_where l G x2 h _ hF) (zck hF) rfl rfl ⟨Nat.le_of_ble_eq_true rfl, Nat.le_of_ble_eq_true rfl⟩ (Nat.le_of_ble_eq_true rfl) dL_law_368 ?_
      refine z_icmp_eq (tgt := 1856) O dL_law_371 (by decide) hr (fun hr => ?_) (fun hr => ?_)
      · refine z_iincL O 4 (fun v86 => [(4, vi v86), (0, vr x0), (1, vr x1), (2, vr x2), (3, vr x3)]) dL_law_1856 rfl rfl (by decide) (fun _ => rfl) hr (fun v86 hr => ?_)
        refine z_goto (tgt := 23) O dL_law_1859 (by decide) ?_
        refine z_sub [1, 2, 3, 4, 0] rfl ?_
        exact hrec23 v86 h84 _ hr
      · refine z_iconst O dL_law_374 kic_0 ?_
        refine bs hr (fun v87 e0 hr => ?_)
        obtain ⟨e1, e2, -⟩ := zb_spec e0
        exact z_zret O e2 dL_law_375 (by cases hr; cases e1; rfl)
    refine zite hr (fun c9 hr => ?_) (fun c9 hr => ?_)
    · refine z_tabIn (v := (4 : Int32)) (off := 336) (tgt := 376) O dL_law_40 c9 (by decide) (by decide +kernel) (by decide) ?_
      refine z_aload_n O 1 dL_law_376 rfl rfl ?_
      refine z_aload_n O 0 dL_law_377 rfl rfl ?_
      refine z_iload O 4 dL_law_378 rfl ?_
      refine z_iconst O dL_law_380 kic_1 ?_
      refine z_iadd O dL_law_381 ?_
      refine z_iaload O dL_law_382 hr (fun v88 hr => ?_)
      refine z_aload_n O 0 dL_law_383 rfl rfl ?_
      refine z_iload O 4 dL_law_384 rfl ?_
      refine z_iconst O dL_law_386 kic_2 ?_
      refine z_iadd O dL_law_387 ?_
      refine z_iaload O dL_law_388 hr (fun v89 hr => ?_)
      refine b2s hr (fun v91 h90 hF hr => ?_)
      refine z_callV O [vi v88, vi v89] (vi v91) fV_X1_whose q1222 (fun l G => mX1_whose l G N x1 v88 v89 h _ hF) (zck hF) rfl rfl ⟨Nat.le_of_ble_eq_true rfl, Nat.le_of_ble_eq_true rfl⟩ (Nat.le_of_ble_eq_true rfl) dL_law_389 ?_
      refine z_aload_n O 2 dL_law_392 rfl rfl ?_
      refine z_aload_n O 0 dL_law_393 rfl rfl ?_
      refine z_iload O 4 dL_law_394 rfl ?_
      refine z_iconst O dL_law_396 kic_1 ?_
      refine z_iadd O dL_law_397 ?_
      refine z_iaload O dL_law_398 hr (fun v92 hr => ?_)
      refine z_aload_n O 0 dL_law_399 rfl rfl ?_
      refine z_iload O 4 dL_law_400 rfl ?_
      refine z_iconst O dL_law_402 kic_2 ?_
      refine z_iadd O dL_law_403 ?_
      refine z_iaload O dL_law_404 hr (fun v93 hr => ?_)
      refine b2s hr (fun v95 h94 hF hr => ?_)
      refine z_callV O [vi v92, vi v93] (vi v95) fV_X9_whose q2261 (fun l G => mX9_whose l G N x2 v92 v93 h90 _ hF) (zck hF) rfl rfl ⟨Nat.le_of_ble_eq_true rfl, Nat.le_of_ble_eq_true rfl⟩ (Nat.le_of_ble_eq_true rfl) dL_law_405 ?_
      refine z_icmp_eq (tgt := 1856) O dL_law_408 (by decide) hr (fun hr => ?_) (fun hr => ?_)
      · refine z_iincL O 4 (fun v96 => [(4, vi v96), (0, vr x0), (1, vr x1), (2, vr x2), (3, vr x3)]) dL_law_1856 rfl rfl (by decide) (fun _ => rfl) hr (fun v96 hr => ?_)
        refine z_goto (tgt := 23) O dL_law_1859 (by decide) ?_
        refine z_sub [1, 2, 3, 4, 0] rfl ?_
        exact hrec23 v96 h94 _ hr
      · refine z_iconst O dL_law_411 kic_0 ?_
        refine bs hr (fun v97 e0 hr => ?_)
        obtain ⟨e1, e2, -⟩ := zb_spec e0
        exact z_zret O e2 dL_law_412 (by cases hr; cases e1; rfl)
    refine zite hr (fun c10 hr => ?_) (fun c10 hr => ?_)
    · refine z_tabIn (v := (5 : Int32)) (off := 373) (tgt := 413) O dL_law_40 c10 (by decide) (by decide +kernel) (by decide) ?_
      refine z_aload_n O 1 dL_law_413 rfl rfl ?_
      refine b2s hr (fun v99 h98 hF hr => ?_)
      refine z_callV O [] (vi v99) fV_X1_shared q1228 (fun l G => mX1_shared l G N x1 h _ hF) (zck hF) rfl rfl ⟨Nat.le_of_ble_eq_true rfl, Nat.le_of_ble_eq_true rfl⟩ (Nat.le_of_ble_eq_true rfl) dL_law_414 ?_
      refine z_aload_n O 2 dL_law_417 rfl rfl ?_
      refine b2s hr (fun v101 h100 hF hr => ?_)
      refine z_callV O [] (vi v101) fV_X9_shared q2269 (fun l G => mX9_shared l G N x2 h98 _ hF) (zck hF) rfl rfl ⟨Nat.le_of_ble_eq_true rfl, Nat.le_of_ble_eq_true rfl⟩ (Nat.le_of_ble_eq_true rfl) dL_law_418 ?_
      refine z_icmp_eq (tgt := 1856) O dL_law_421 (by decide) hr (fun hr => ?_) (fun hr => ?_)
      · refine z_iincL O 4 (fun v102 => [(4, vi v102), (0, vr x0), (1, vr x1), (2, vr x2), (3, vr x3)]) dL_law_1856 rfl rfl (by decide) (fun _ => rfl) hr (fun v102 hr => ?_)
        refine z_goto (tgt := 23) O dL_law_1859 (by decide) ?_
        refine z_sub [1, 2, 3, 4, 0] rfl ?_
        exact hrec23 v102 h100 _ hr
      · refine z_iconst O dL_law_424 kic_0 ?_
        refine bs hr (fun v103 e0 hr => ?_)
        obtain ⟨e1, e2, -⟩ := zb_spec e0
        exact z_zret O e2 dL_law_425 (by cases hr; cases e1; rfl)
    refine zite hr (fun c11 hr => ?_) (fun c11 hr => ?_)
    · refine z_tabIn (v := (6 : Int32)) (off := 386) (tgt := 426) O dL_law_40 c11 (by decide) (by decide +kernel) (by decide) ?_
      refine z_aload_n O 1 dL_law_426 rfl rfl ?_
      refine b2s hr (fun v105 h104 hF hr => ?_)
      refine z_callV O [] (vi v105) fV_X1_free q1237 (fun l G => mX1_free l G N x1 h _ hF) (zck hF) rfl rfl ⟨Nat.le_of_ble_eq_true rfl, Nat.le_of_ble_eq_true rfl⟩ (Nat.le_of_ble_eq_true rfl) dL_law_427 ?_
      refine z_aload_n O 2 dL_law_430 rfl rfl ?_
      refine b2s hr (fun v107 h106 hF hr => ?_)
      refine z_callV O [] (vi v107) fV_X9_free q2284 (fun l G => mX9_free l G N x2 h104 _ hF) (zck hF) rfl rfl ⟨Nat.le_of_ble_eq_true rfl, Nat.le_of_ble_eq_true rfl⟩ (Nat.le_of_ble_eq_true rfl) dL_law_431 ?_
      refine z_icmp_eq (tgt := 1856) O dL_law_434 (by decide) hr (fun hr => ?_) (fun hr => ?_)
      · refine z_iincL O 4 (fun v108 => [(4, vi v108), (0, vr x0), (1, vr x1), (2, vr x2), (3, vr x3)]) dL_law_1856 rfl rfl (by decide) (fun _ => rfl) hr (fun v108 hr => ?_)
        refine z_goto (tgt := 23) O dL_law_1859 (by decide) ?_
        refine z_sub [1, 2, 3, 4, 0] rfl ?_
        exact hrec23 v108 h106 _ hr
      · refine z_iconst O dL_law_437 kic_0 ?_
        refine bs hr (fun v109 e0 hr => ?_)
        obtain ⟨e1, e2, -⟩ := zb_spec e0
        exact z_zret O e2 dL_law_438 (by cases hr; cases e1; rfl)
    refine zite hr (fun c12 hr => ?_) (fun c12 hr => ?_)
    · refine z_tabIn (v := (7 : Int32)) (off := 399) (tgt := 439) O dL_law_40 c12 (by decide) (by decide +kernel) (by decide) ?_
      refine z_aload_n O 1 dL_law_439 rfl rfl ?_
      refine z_aload_n O 0 dL_law_440 rfl rfl ?_
      refine z_iload O 4 dL_law_441 rfl ?_
      refine z_iconst O dL_law_443 kic_1 ?_
      refine z_iadd O dL_law_444 ?_
      refine z_iaload O dL_law_445 hr (fun v110 hr => ?_)
      refine z_aload_n O 0 dL_law_446 rfl rfl ?_
      refine z_iload O 4 dL_law_447 rfl ?_
      refine z_iconst O dL_law_449 kic_2 ?_
      refine z_iadd O dL_law_450 ?_
      refine z_iaload O dL_law_451 hr (fun v111 hr => ?_)
      refine b2s hr (fun v113 h112 hF hr => ?_)
      refine z_callV O [vi v110, vi v111] (vi v113) fV_X1_house q1241 (fun l G => mX1_house l G N x1 v110 v111 h _ hF) (zck hF) rfl rfl ⟨Nat.le_of_ble_eq_true rfl, Nat.le_of_ble_eq_true rfl⟩ (Nat.le_of_ble_eq_true rfl) dL_law_452 ?_
      refine z_aload_n O 2 dL_law_455 rfl rfl ?_
      refine z_aload_n O 0 dL_law_456 rfl rfl ?_
      refine z_iload O 4 dL_law_457 rfl ?_
      refine z_iconst O dL_law_459 kic_1 ?_
      refine z_iadd O dL_law_460 ?_
      refine z_iaload O dL_law_461 hr (fun v114 hr => ?_)
      refine z_aload_n O 0 dL_law_462 rfl rfl ?_
      refine z_iload O 4 dL_law_463 rfl ?_
      refine z_iconst O dL_law_465 kic_2 ?_
      refine z_iadd O dL_law_466 ?_
      refine z_iaload O dL_law_467 hr (fun v115 hr => ?_)
      refine b2s hr (fun v117 h116 hF hr => ?_)
      refine z_callV O [vi v114, vi v115] (vi v117) fV_X9_house q2288 (fun l G => mX9_house l G N x2 v114 v115 h112 _ hF) (zck hF) rfl rfl ⟨Nat.le_of_ble_eq_true rfl, Nat.le_of_ble_eq_true rfl⟩ (Nat.le_of_ble_eq_true rfl) dL_law_468 ?_
      refine z_icmp_eq (tgt := 1856) O dL_law_471 (by decide) hr (fun hr => ?_) (fun hr => ?_)
      · refine z_iincL O 4 (fun v118 => [(4, vi v118), (0, vr x0), (1, vr x1), (2, vr x2), (3, vr x3)]) dL_law_1856 rfl rfl (by decide) (fun _ => rfl) hr (fun v118 hr => ?_)
        refine z_goto (tgt := 23) O dL_law_1859 (by decide) ?_
        refine z_sub [1, 2, 3, 4, 0] rfl ?_
        exact hrec23 v118 h116 _ hr
      · refine z_iconst O dL_law_474 kic_0 ?_
        refine bs hr (fun v119 e0 hr => ?_)
        obtain ⟨e1, e2, -⟩ := zb_spec e0
        exact z_zret O e2 dL_law_475 (by cases hr; cases e1; rfl)
    refine zite hr (fun c13 hr => ?_) (fun c13 hr => ?_)
    · refine z_tabIn (v := (8 : Int32)) (off := 436) (tgt := 476) O dL_law_40 c13 (by decide) (by decide +kernel) (by decide) ?_
      refine z_aload_n O 1 dL_law_476 rfl rfl ?_
      refine z_aload_n O 0 dL_law_477 rfl rfl ?_
      refine z_iload O 4 dL_law_478 rfl ?_
      refine z_iconst O dL_law_480 kic_1 ?_
      refine z_iadd O dL_law_481 ?_
      refine z_iaload O dL_law_482 hr (fun v120 hr => ?_)
      refine z_aload_n O 0 dL_law_483 rfl rfl ?_
      refine z_iload O 4 dL_law_484 rfl ?_
      refine z_iconst O dL_law_486 kic_2 ?_
      refine z_iadd O dL_law_487 ?_
      refine z_iaload O dL_law_488 hr (fun v121 hr => ?_)
      refine z_aload_n O 0 dL_law_489 rfl rfl ?_
      refine z_iload O 4 dL_law_490 rfl ?_
      refine z_iconst O dL_law_492 kic_3 ?_
      refine z_iadd O dL_law_493 ?_
      refine z_iaload O dL_law_494 hr (fun v122 hr => ?_)
      refine b2s hr (fun v124 h123 hF hr => ?_)
      refine z_callV O [vi v120, vi v121, vi v122] (vi v124) fV_X1_skin q1274 (fun l G => mX1_skin l G x1 v120 v121 v122 h _ hF) (zck hF) rfl rfl ⟨Nat.le_of_ble_eq_true rfl, Nat.le_of_ble_eq_true rfl⟩ (Nat.le_of_ble_eq_true rfl) dL_law_495 ?_
      refine z_aload_n O 2 dL_law_498 rfl rfl ?_
      refine z_aload_n O 0 dL_law_499 rfl rfl ?_
      refine z_iload O 4 dL_law_500 rfl ?_
      refine z_iconst O dL_law_502 kic_1 ?_
      refine z_iadd O dL_law_503 ?_
      refine z_iaload O dL_law_504 hr (fun v125 hr => ?_)
      refine z_aload_n O 0 dL_law_505 rfl rfl ?_
      refine z_iload O 4 dL_law_506 rfl ?_
      refine z_iconst O dL_law_508 kic_2 ?_
      refine z_iadd O dL_law_509 ?_
      refine z_iaload O dL_law_510 hr (fun v126 hr => ?_)
      refine z_aload_n O 0 dL_law_511 rfl rfl ?_
      refine z_iload O 4 dL_law_512 rfl ?_
      refine z_iconst O dL_law_514 kic_3 ?_
      refine z_iadd O dL_law_515 ?_
      refine z_iaload O dL_law_516 hr (fun v127 hr => ?_)
      refine b2s hr (fun v129 h128 hF hr => ?_)
      refine z_callV O [vi v125, vi v126, vi v127] (vi v129) fV_X9_skin q2315 (fun l G => mX9_skin l G x2 v125 v126 v127 h123 _ hF) (zck hF) rfl rfl ⟨Nat.le_of_ble_eq_true rfl, Nat.le_of_ble_eq_true rfl⟩ (Nat.le_of_ble_eq_true rfl) dL_law_517 ?_
      refine z_icmp_eq (tgt := 1856) O dL_law_520 (by decide) hr (fun hr => ?_) (fun hr => ?_)
      · refine z_iincL O 4 (fun v130 => [(4, vi v130), (0, vr x0), (1, vr x1), (2, vr x2), (3, vr x3)]) dL_law_1856 rfl rfl (by decide) (fun _ => rfl) hr (fun v130 hr => ?_)
        refine z_goto (tgt := 23) O dL_law_1859 (by decide) ?_
        refine z_sub [1, 2, 3, 4, 0] rfl ?_
        exact hrec23 v130 h128 _ hr
      · refine z_iconst O dL_law_523 kic_0 ?_
        refine bs hr (fun v131 e0 hr => ?_)
        obtain ⟨e1, e2, -⟩ := zb_spec e0
        exact z_zret O e2 dL_law_524 (by cases hr; cases e1; rfl)
    refine zite hr (fun c14 hr => ?_) (fun c14 hr => ?_)
    · refine z_tabIn (v := (9 : Int32)) (off := 485) (tgt := 525) O dL_law_40 c14 (by decide) (by decide +kernel) (by decide) ?_
      refine z_aload_n O 1 dL_law_525 rfl rfl ?_
      refine z_aload_n O 0 dL_law_526 rfl rfl ?_
      refine z_iload O 4 dL_law_527 rfl ?_
      refine z_iconst O dL_law_529 kic_1 ?_
      refine z_iadd O dL_law_530 ?_
      refine z_iaload O dL_law_531 hr (fun v132 hr => ?_)
      refine z_aload_n O 0 dL_law_532 rfl rfl ?_
      refine z_iload O 4 dL_law_533 rfl ?_
      refine z_iconst O dL_law_535 kic_2 ?_
      refine z_iadd O dL_law_536 ?_
      refine z_iaload O dL_law_537 hr (fun v133 hr => ?_)
      refine b2s hr (fun v135 h134 hF hr => ?_)
      refine z_callV O [vi v132, vi v133] (vi v135) fV_X1_warm q1287 (fun l G => mX1_warm l G N x1 v132 v133 h _ hF) (zck hF) rfl rfl ⟨Nat.le_of_ble_eq_true rfl, Nat.le_of_ble_eq_true rfl⟩ (Nat.le_of_ble_eq_true rfl) dL_law_538 ?_
      refine z_aload_n O 2 dL_law_541 rfl rfl ?_
      refine z_aload_n O 0 dL_law_542 rfl rfl ?_
      refine z_iload O 4 dL_law_543 rfl ?_
      refine z_iconst O dL_law_545 kic_1 ?_
      refine z_iadd O dL_law_546 ?_
      refine z_iaload O dL_law_547 hr (fun v136 hr => ?_)
      refine z_aload_n O 0 dL_law_548 rfl rfl ?_
      refine z_iload O 4 dL_law_549 rfl ?_
      refine z_iconst O dL_law_551 kic_2 ?_
      refine z_iadd O dL_law_552 ?_
      refine z_iaload O dL_law_553 hr (fun v137 hr => ?_)
      refine b2s hr (fun v139 h138 hF hr => ?_)
      refine z_callV O [vi v136, vi v137] (vi v139) fV_X9_warm q2323 (fun l G => mX9_warm l G N x2 v136 v137 h134 _ hF) (zck hF) rfl rfl ⟨Nat.le_of_ble_eq_true rfl, Nat.le_of_ble_eq_true rfl⟩ (Nat.le_of_ble_eq_true rfl) dL_law_554 ?_
      refine z_icmp_eq (tgt := 1856) O dL_law_557 (by decide) hr (fun hr => ?_) (fun hr => ?_)
      · refine z_iincL O 4 (fun v140 => [(4, vi v140), (0, vr x0), (1, vr x1), (2, vr x2), (3, vr x3)]) dL_law_1856 rfl rfl (by decide) (fun _ => rfl) hr (fun v140 hr => ?_)
        refine z_goto (tgt := 23) O dL_law_1859 (by decide) ?_
        refine z_sub [1, 2, 3, 4, 0] rfl ?_
        exact hrec23 v140 h138 _ hr
      · refine z_iconst O dL_law_560 kic_0 ?_
        refine bs hr (fun v141 e0 hr => ?_)
        obtain ⟨e1, e2, -⟩ := zb_spec e0
        exact z_zret O e2 dL_law_561 (by cases hr; cases e1; rfl)
    refine zite hr (fun c15 hr => ?_) (fun c15 hr => ?_)
    · refine z_tabIn (v := (10 : Int32)) (off := 522) (tgt := 562) O dL_law_40 c15 (by decide) (by decide +kernel) (by decide) ?_
      refine z_aload_n O 1 dL_law_562 rfl rfl ?_
      refine z_aload_n O 0 dL_law_563 rfl rfl ?_
      refine z_iload O 4 dL_law_564 rfl ?_
      refine z_iconst O dL_law_566 kic_1 ?_
      refine z_iadd O dL_law_567 ?_
      refine z_iaload O dL_law_568 hr (fun v142 hr => ?_)
      refine z_aload_n O 0 dL_law_569 rfl rfl ?_
      refine z_iload O 4 dL_law_570 rfl ?_
      refine z_iconst O dL_law_572 kic_2 ?_
      refine z_iadd O dL_law_573 ?_
      refine z_iaload O dL_law_574 hr (fun v143 hr => ?_)
      refine b2s hr (fun v145 h144 hF hr => ?_)
      refine z_callV O [vi v142, vi v143] (vi v145) fV_X1_light q1295 (fun l G => mX1_light l G x1 v142 v143 h _ hF) (zck hF) rfl rfl ⟨Nat.le_of_ble_eq_true rfl, Nat.le_of_ble_eq_true rfl⟩ (Nat.le_of_ble_eq_true rfl) dL_law_575 ?_
      refine z_aload_n O 2 dL_law_578 rfl rfl ?_
      refine z_aload_n O 0 dL_law_579 rfl rfl ?_
      refine z_iload O 4 dL_law_580 rfl ?_
      refine z_iconst O dL_law_582 kic_1 ?_
      refine z_iadd O dL_law_583 ?_
      refine z_iaload O dL_law_584 hr (fun v146 hr => ?_)
      refine z_aload_n O 0 dL_law_585 rfl rfl ?_
      refine z_iload O 4 dL_law_586 rfl ?_
      refine z_iconst O dL_law_588 kic_2 ?_
      refine z_iadd O dL_law_589 ?_
      refine z_iaload O dL_law_590 hr (fun v147 hr => ?_)
      refine b2s hr (fun v149 h148 hF hr => ?_)
      refine z_callV O [vi v146, vi v147] (vi v149) fV_X9_light q2335 (fun l G => mX9_light l G x2 v146 v147 h144 _ hF) (zck hF) rfl rfl ⟨Nat.le_of_ble_eq_true rfl, Nat.le_of_ble_eq_true rfl⟩ (Nat.le_of_ble_eq_true rfl) dL_law_591 ?_
      refine z_icmp_eq (tgt := 1856) O dL_law_594 (by decide) hr (fun hr => ?_) (fun hr => ?_)
      · refine z_iincL O 4 (fun v150 => [(4, vi v150), (0, vr x0), (1, vr x1), (2, vr x2), (3, vr x3)]) dL_law_1856 rfl rfl (by decide) (fun _ => rfl) hr (fun v150 hr => ?_)
        refine z_goto (tgt := 23) O dL_law_1859 (by decide) ?_
        refine z_sub [1, 2, 3, 4, 0] rfl ?_
        exact hrec23 v150 h148 _ hr
      · refine z_iconst O dL_law_597 kic_0 ?_
        refine bs hr (fun v151 e0 hr => ?_)
        obtain ⟨e1, e2, -⟩ := zb_spec e0
        exact z_zret O e2 dL_law_598 (by cases hr; cases e1; rfl)
    refine zite hr (fun c16 hr => ?_) (fun c16 hr => ?_)
    · refine z_tabIn (v := (11 : Int32)) (off := 559) (tgt := 599) O dL_law_40 c16 (by decide) (by decide +kernel) (by decide) ?_
      refine z_aload_n O 1 dL_law_599 rfl rfl ?_
      refine z_aload_n O 0 dL_law_600 rfl rfl ?_
      refine z_iload O 4 dL_law_601 rfl ?_
      refine z_iconst O dL_law_603 kic_1 ?_
      refine z_iadd O dL_law_604 ?_
      refine z_iaload O dL_law_605 hr (fun v152 hr => ?_)
      refine z_aload_n O 0 dL_law_606 rfl rfl ?_
      refine z_iload O 4 dL_law_607 rfl ?_
      refine z_iconst O dL_law_609 kic_2 ?_
      refine z_iadd O dL_law_610 ?_
      refine z_iaload O dL_law_611 hr (fun v153 hr => ?_)
      refine b2s hr (fun v155 h154 hF hr => ?_)
      refine z_callV O [vi v152, vi v153] (vi v155) fV_X1_heir q1300 (fun l G => mX1_heir l G N x1 v152 v153 h _ hF) (zck hF) rfl rfl ⟨Nat.le_of_ble_eq_true rfl, Nat.le_of_ble_eq_true rfl⟩ (Nat.le_of_ble_eq_true rfl) dL_law_612 ?_
      refine z_aload_n O 2 dL_law_615 rfl rfl ?_
      refine z_aload_n O 0 dL_law_616 rfl rfl ?_
      refine z_iload O 4 dL_law_617 rfl ?_
      refine z_iconst O dL_law_619 kic_1 ?_
      refine z_iadd O dL_law_620 ?_
      refine z_iaload O dL_law_621 hr (fun v156 hr => ?_)
      refine z_aload_n O 0 dL_law_622 rfl rfl ?_
      refine z_iload O 4 dL_law_623 rfl ?_
      refine z_iconst O dL_law_625 kic_2 ?_
      refine z_iadd O dL_law_626 ?_
      refine z_iaload O dL_law_627 hr (fun v157 hr => ?_)
      refine b2s hr (fun v159 h158 hF hr => ?_)
      refine z_callV O [vi v156, vi v157] (vi v159) fV_X9_heir q2339 (fun l G => mX9_heir l G N x2 v156 v157 h154 _ hF) (zck hF) rfl rfl ⟨Nat.le_of_ble_eq_true rfl, Nat.le_of_ble_eq_true rfl⟩ (Nat.le_of_ble_eq_true rfl) dL_law_628 ?_
      refine z_icmp_eq (tgt := 1856) O dL_law_631 (by decide) hr (fun hr => ?_) (fun hr => ?_)
      · refine z_iincL O 4 (fun v160 => [(4, vi v160), (0, vr x0), (1, vr x1), (2, vr x2), (3, vr x3)]) dL_law_1856 rfl rfl (by decide) (fun _ => rfl) hr (fun v160 hr => ?_)
        refine z_goto (tgt := 23) O dL_law_1859 (by decide) ?_
        refine z_sub [1, 2, 3, 4, 0] rfl ?_
        exact hrec23 v160 h158 _ hr
      · refine z_iconst O dL_law_634 kic_0 ?_
        refine bs hr (fun v161 e0 hr => ?_)
        obtain ⟨e1, e2, -⟩ := zb_spec e0
        exact z_zret O e2 dL_law_635 (by cases hr; cases e1; rfl)
    refine zite hr (fun c17 hr => ?_) (fun c17 hr => ?_)
    · refine z_tabIn (v := (12 : Int32)) (off := 596) (tgt := 636) O dL_law_40 c17 (by decide) (by decide +kernel) (by decide) ?_
      refine z_aload_n O 1 dL_law_636 rfl rfl ?_
      refine z_aload_n O 0 dL_law_637 rfl rfl ?_
      refine z_iload O 4 dL_law_638 rfl ?_
      refine z_iconst O dL_law_640 kic_1 ?_
      refine z_iadd O dL_law_641 ?_
      refine z_iaload O dL_law_642 hr (fun v162 hr => ?_)
      refine b2s hr (fun v164 h163 hF hr => ?_)
      refine z_callV O [vi v162] (vi v164) fV_X1_fits q1308 (fun l G => mX1_fits l G N x1 v162 h _ hF) (zck hF) rfl rfl ⟨Nat.le_of_ble_eq_true rfl, Nat.le_of_ble_eq_true rfl⟩ (Nat.le_of_ble_eq_true rfl) dL_law_643 ?_
      refine z_aload_n O 2 dL_law_646 rfl rfl ?_
      refine z_aload_n O 0 dL_law_647 rfl rfl ?_
      refine z_iload O 4 dL_law_648 rfl ?_
      refine z_iconst O dL_law_650 kic_1 ?_
      refine z_iadd O dL_law_651 ?_
      refine z_iaload O dL_law_652 hr (fun v165 hr => ?_)
      refine b2s hr (fun v167 h166 hF hr => ?_)
      refine z_callV O [vi v165] (vi v167) fV_X9_fits q2347 (fun l G => mX9_fits l G N x2 v165 h163 _ hF) (zck hF) rfl rfl ⟨Nat.le_of_ble_eq_true rfl, Nat.le_of_ble_eq_true rfl⟩ (Nat.le_of_ble_eq_true rfl) dL_law_653 ?_
      refine z_icmp_eq (tgt := 1856) O dL_law_656 (by decide) hr (fun hr => ?_) (fun hr => ?_)
      · refine z_iincL O 4 (fun v168 => [(4, vi v168), (0, vr x0), (1, vr x1), (2, vr x2), (3, vr x3)]) dL_law_1856 rfl rfl (by decide) (fun _ => rfl) hr (fun v168 hr => ?_)
        refine z_goto (tgt := 23) O dL_law_1859 (by decide) ?_
        refine z_sub [1, 2, 3, 4, 0] rfl ?_
        exact hrec23 v168 h166 _ hr
      · refine z_iconst O dL_law_659 kic_0 ?_
        refine bs hr (fun v169 e0 hr => ?_)
        obtain ⟨e1, e2, -⟩ := zb_spec e0
        exact z_zret O e2 dL_law_660 (by cases hr; cases e1; rfl)
    refine zite hr (fun c18 hr => ?_) (fun c18 hr => ?_)
    · refine z_tabIn (v := (13 : Int32)) (off := 621) (tgt := 661) O dL_law_40 c18 (by decide) (by decide +kernel) (by decide) ?_
      refine z_aload_n O 1 dL_law_661 rfl rfl ?_
      refine z_aload_n O 0 dL_law_662 rfl rfl ?_
      refine z_iload O 4 dL_law_663 rfl ?_
      refine z_iconst O dL_law_665 kic_1 ?_
      refine z_iadd O dL_law_666 ?_
      refine z_iaload O dL_law_667 hr (fun v170 hr => ?_)
      refine b2s hr (fun v172 h171 hF hr => ?_)
      refine z_callV O [vi v170] (vi v172) fV_X1_door q1313 (fun l G => mX1_door l G N x1 v170 h _ hF) (zck hF) rfl rfl ⟨Nat.le_of_ble_eq_true rfl, Nat.le_of_ble_eq_true rfl⟩ (Nat.le_of_ble_eq_true rfl) dL_law_668 ?_
      refine z_aload_n O 2 dL_law_671 rfl rfl ?_
      refine z_aload_n O 0 dL_law_672 rfl rfl ?_
      refine z_iload O 4 dL_law_673 rfl ?_
      refine z_iconst O dL_law_675 kic_1 ?_
      refine z_iadd O dL_law_676 ?_
      refine z_iaload O dL_law_677 hr (fun v173 hr => ?_)
      refine b2s hr (fun v175 h174 hF hr => ?_)
      refine z_callV O [vi v173] (vi v175) fV_X9_door q2351 (fun l G => mX9_door l G N x2 v173 h171 _ hF) (zck hF) rfl rfl ⟨Nat.le_of_ble_eq_true rfl, Nat.le_of_ble_eq_true rfl⟩ (Nat.le_of_ble_eq_true rfl) dL_law_678 ?_
      refine z_icmp_eq (tgt := 1856) O dL_law_681 (by decide) hr (fun hr => ?_) (fun hr => ?_)
      · refine z_iincL O 4 (fun v176 => [(4, vi v176), (0, vr x0), (1, vr x1), (2, vr x2), (3, vr x3)]) dL_law_1856 rfl rfl (by decide) (fun _ => rfl) hr (fun v176 hr => ?_)
        refine z_goto (tgt := 23) O dL_law_1859 (by decide) ?_
        refine z_sub [1, 2, 3, 4, 0] rfl ?_
        exact hrec23 v176 h174 _ hr
      · refine z_iconst O dL_law_684 kic_0 ?_
        refine bs hr (fun v177 e0 hr => ?_)
        obtain ⟨e1, e2, -⟩ := zb_spec e0
        exact z_zret O e2 dL_law_685 (by cases hr; cases e1; rfl)
    refine zite hr (fun c19 hr => ?_) (fun c19 hr => ?_)
    · refine z_tabIn (v := (14 : Int32)) (off := 646) (tgt := 686) O dL_law_40 c19 (by decide) (by decide +kernel) (by decide) ?_
      refine z_aload_n O 1 dL_law_686 rfl rfl ?_
      refine z_aload_n O 0 dL_law_687 rfl rfl ?_
      refine z_iload O 4 dL_law_688 rfl ?_
      refine z_iconst O dL_law_690 kic_1 ?_
      refine z_iadd O dL_law_691 ?_
      refine z_iaload O dL_law_692 hr (fun v178 hr => ?_)
      refine z_aload_n O 0 dL_law_693 rfl rfl ?_
      refine z_iload O 4 dL_law_694 rfl ?_
      refine z_iconst O dL_law_696 kic_2 ?_
      refine z_iadd O dL_law_697 ?_
      refine z_iaload O dL_law_698 hr (fun v179 hr => ?_)
      refine b2s hr (fun v181 h180 hF hr => ?_)
      refine z_callV O [vi v178, vi v179] (vi v181) fV_X1_costs q1349 (fun l G => mX1_costs l G x1 v178 v179 h _ hF) (zck hF) rfl rfl ⟨Nat.le_of_ble_eq_true rfl, Nat.le_of_ble_eq_true rfl⟩ (Nat.le_of_ble_eq_true rfl) dL_law_699 ?_
      refine z_aload_n O 2 dL_law_702 rfl rfl ?_
      refine z_aload_n O 0 dL_law_703 rfl rfl ?_
      refine z_iload O 4 dL_law_704 rfl ?_
      refine z_iconst O dL_law_706 kic_1 ?_
      refine z_iadd O dL_law_707 ?_
      refine z_iaload O dL_law_708 hr (fun v182 hr => ?_)
      refine z_aload_n O 0 dL_law_709 rfl rfl ?_
      refine z_iload O 4 dL_law_710 rfl ?_
      refine z_iconst O dL_law_712 kic_2 ?_
      refine z_iadd O dL_law_713 ?_
      refine z_iaload O dL_law_714 hr (fun v183 hr => ?_)
      refine b2s hr (fun v185 h184 hF hr => ?_)
      refine z_callV O [vi v182, vi v183] (vi v185) fV_X9_costs q2371 (fun l G => mX9_costs l G x2 v182 v183 h180 _ hF) (zck hF) rfl rfl ⟨Nat.le_of_ble_eq_true rfl, Nat.le_of_ble_eq_true rfl⟩ (Nat.le_of_ble_eq_true rfl) dL_law_715 ?_
      refine z_icmp_eq (tgt := 1856) O dL_law_718 (by decide) hr (fun hr => ?_) (fun hr => ?_)
      · refine z_iincL O 4 (fun v186 => [(4, vi v186), (0, vr x0), (1, vr x1), (2, vr x2), (3, vr x3)]) dL_law_1856 rfl rfl (by decide) (fun _ => rfl) hr (fun v186 hr => ?_)
        refine z_goto (tgt := 23) O dL_law_1859 (by decide) ?_
        refine z_sub [1, 2, 3, 4, 0] rfl ?_
        exact hrec23 v186 h184 _ hr
      · refine z_iconst O dL_law_721 kic_0 ?_
        refine bs hr (fun v187 e0 hr => ?_)
        obtain ⟨e1, e2, -⟩ := zb_spec e0
        exact z_zret O e2 dL_law_722 (by cases hr; cases e1; rfl)
    refine zite hr (fun c20 hr => ?_) (fun c20 hr => ?_)
    · refine z_tabIn (v := (15 : Int32)) (off := 683) (tgt := 723) O dL_law_40 c20 (by decide) (by decide +kernel) (by decide) ?_
      refine z_aload_n O 1 dL_law_723 rfl rfl ?_
      refine z_aload_n O 0 dL_law_724 rfl rfl ?_
      refine z_iload O 4 dL_law_725 rfl ?_
      refine z_iconst O dL_law_727 kic_1 ?_
      refine z_iadd O dL_law_728 ?_
      refine z_iaload O dL_law_729 hr (fun v188 hr => ?_)
      refine z_aload_n O 0 dL_law_730 rfl rfl ?_
      refine z_iload O 4 dL_law_731 rfl ?_
      refine z_iconst O dL_law_733 kic_2 ?_
      refine z_iadd O dL_law_734 ?_
      refine z_iaload O dL_law_735 hr (fun v189 hr => ?_)
      refine b2s hr (fun v191 h190 hF hr => ?_)
      refine z_callV O [vi v188, vi v189] (vi v191) fV_X1_way q1361 (fun l G => mX1_way l G N x1 v188 v189 h _ hF) (zck hF) rfl rfl ⟨Nat.le_of_ble_eq_true rfl, Nat.le_of_ble_eq_true rfl⟩ (Nat.le_of_ble_eq_true rfl) dL_law_736 ?_
      refine z_aload_n O 2 dL_law_739 rfl rfl ?_
      refine z_aload_n O 0 dL_law_740 rfl rfl ?_
      refine z_iload O 4 dL_law_741 rfl ?_
      refine z_iconst O dL_law_743 kic_1 ?_
      refine z_iadd O dL_law_744 ?_
      refine z_iaload O dL_law_745 hr (fun v192 hr => ?_)
      refine z_aload_n O 0 dL_law_746 rfl rfl ?_
      refine z_iload O 4 dL_law_747 rfl ?_
      refine z_iconst O dL_law_749 kic_2 ?_
      refine z_iadd O dL_law_750 ?_
      refine z_iaload O dL_law_751 hr (fun v193 hr => ?_)
      refine b2s hr (fun v195 h194 hF hr => ?_)
      refine z_callV O [vi v192, vi v193] (vi v195) fV_X9_way q2383 (fun l G => mX9_way l G N x2 v192 v193 h190 _ hF) (zck hF) rfl rfl ⟨Nat.le_of_ble_eq_true rfl, Nat.le_of_ble_eq_true rfl⟩ (Nat.le_of_ble_eq_true rfl) dL_law_752 ?_
      refine z_icmp_eq (tgt := 1856) O dL_law_755 (by decide) hr (fun hr => ?_) (fun hr => ?_)
      · refine z_iincL O 4 (fun v196 => [(4, vi v196), (0, vr x0), (1, vr x1), (2, vr x2), (3, vr x3)]) dL_law_1856 rfl rfl (by decide) (fun _ => rfl) hr (fun v196 hr => ?_)
        refine z_goto (tgt := 23) O dL_law_1859 (by decide) ?_
        refine z_sub [1, 2, 3, 4, 0] rfl ?_
        exact hrec23 v196 h194 _ hr
      · refine z_iconst O dL_law_758 kic_0 ?_
        refine bs hr (fun v197 e0 hr => ?_)
        obtain ⟨e1, e2, -⟩ := zb_spec e0
        exact z_zret O e2 dL_law_759 (by cases hr; cases e1; rfl)
    refine zite hr (fun c21 hr => ?_) (fun c21 hr => ?_)
    · refine z_tabIn (v := (16 : Int32)) (off := 720) (tgt := 760) O dL_law_40 c21 (by decide) (by decide +kernel) (by decide) ?_
      refine z_aload_n O 1 dL_law_760 rfl rfl ?_
      refine z_aload_n O 0 dL_law_761 rfl rfl ?_
      refine z_iload O 4 dL_law_762 rfl ?_
      refine z_iconst O dL_law_764 kic_1 ?_
      refine z_iadd O dL_law_765 ?_
      refine z_iaload O dL_law_766 hr (fun v198 hr => ?_)
      refine z_aload_n O 0 dL_law_767 rfl rfl ?_
      refine z_iload O 4 dL_law_768 rfl ?_
      refine z_iconst O dL_law_770 kic_2 ?_
      refine z_iadd O dL_law_771 ?_
      refine z_iaload O dL_law_772 hr (fun v199 hr => ?_)
      refine b2s hr (fun v201 h200 hF hr => ?_)
      refine z_callV O [vi v198, vi v199] (vi v201) fV_X1_through q1374 (fun l G => mX1_through l G N x1 v198 v199 h _ hF) (zck hF) rfl rfl ⟨Nat.le_of_ble_eq_true rfl, Nat.le_of_ble_eq_true rfl⟩ (Nat.le_of_ble_eq_true rfl) dL_law_773 ?_
      refine z_aload_n O 2 dL_law_776 rfl rfl ?_
      refine z_aload_n O 0 dL_law_777 rfl rfl ?_
      refine z_iload O 4 dL_law_778 rfl ?_
      refine z_iconst O dL_law_780 kic_1 ?_
      refine z_iadd O dL_law_781 ?_
      refine z_iaload O dL_law_782 hr (fun v202 hr => ?_)
      refine z_aload_n O 0 dL_law_783 rfl rfl ?_
      refine z_iload O 4 dL_law_784 rfl ?_
      refine z_iconst O dL_law_786 kic_2 ?_
      refine z_iadd O dL_law_787 ?_
      refine z_iaload O dL_law_788 hr (fun v203 hr => ?_)
      refine b2s hr (fun v205 h204 hF hr => ?_)
      refine z_callV O [vi v202, vi v203] (vi v205) fV_X9_through q2396 (fun l G => mX9_through l G N x2 v202 v203 h200 _ hF) (zck hF) rfl rfl ⟨Nat.le_of_ble_eq_true rfl, Nat.le_of_ble_eq_true rfl⟩ (Nat.le_of_ble_eq_true rfl) dL_law_789 ?_
      refine z_icmp_eq (tgt := 1856) O dL_law_792 (by decide) hr (fun hr => ?_) (fun hr => ?_)
      · refine z_iincL O 4 (fun v206 => [(4, vi v206), (0, vr x0), (1, vr x1), (2, vr x2), (3, vr x3)]) dL_law_1856 rfl rfl (by decide) (fun _ => rfl) hr (fun v206 hr => ?_)
        refine z_goto (tgt := 23) O dL_law_1859 (by decide) ?_
        refine z_sub [1, 2, 3, 4, 0] rfl ?_
        exact hrec23 v206 h204 _ hr
      · refine z_iconst O dL_law_795 kic_0 ?_
        refine bs hr (fun v207 e0 hr => ?_)
        obtain ⟨e1, e2, -⟩ := zb_spec e0
        exact z_zret O e2 dL_law_796 (by cases hr; cases e1; rfl)
    refine zite hr (fun c22 hr => ?_) (fun c22 hr => ?_)
    · refine z_tabIn (v := (17 : Int32)) (off := 757) (tgt := 797) O dL_law_40 c22 (by decide) (by decide +kernel) (by decide) ?_
      refine z_aload_n O 1 dL_law_797 rfl rfl ?_
      refine z_aload_n O 0 dL_law_798 rfl rfl ?_
      refine z_iload O 4 dL_law_799 rfl ?_
      refine z_iconst O dL_law_801 kic_1 ?_
      refine z_iadd O dL_law_802 ?_
      refine z_iaload O dL_law_803 hr (fun v208 hr => ?_)
      refine z_aload_n O 0 dL_law_804 rfl rfl ?_
      refine z_iload O 4 dL_law_805 rfl ?_
      refine z_iconst O dL_law_807 kic_2 ?_
      refine z_iadd O dL_law_808 ?_
      refine z_iaload O dL_law_809 hr (fun v209 hr => ?_)
      refine b2s hr (fun v211 h210 hF hr => ?_)
      refine z_callV O [vi v208, vi v209] (vi v211) fV_X1_breaks q1422 (fun l G => mX1_breaks l G N x1 v208 v209 h _ hF) (zck hF) rfl rfl ⟨Nat.le_of_ble_eq_true rfl, Nat.le_of_ble_eq_true rfl⟩ (Nat.le_of_ble_eq_true rfl) dL_law_810 ?_
      refine z_aload_n O 2 dL_law_813 rfl rfl ?_
      refine z_aload_n O 0 dL_law_814 rfl rfl ?_
      refine z_iload O 4 dL_law_815 rfl ?_
      refine z_iconst O dL_law_817 kic_1 ?_
      refine z_iadd O dL_law_818 ?_
      refine z_iaload O dL_law_819 hr (fun v212 hr => ?_)
      refine z_aload_n O 0 dL_law_820 rfl rfl ?_
      refine z_iload O 4 dL_law_821 rfl ?_
      refine z_iconst O dL_law_823 kic_2 ?_
      refine z_iadd O dL_law_824 ?_
      refine z_iaload O dL_law_825 hr (fun v213 hr => ?_)
      refine b2s hr (fun v215 h214 hF hr => ?_)
      refine z_callV O [vi v212, vi v213] (vi v215) fV_X9_breaks q2415 (fun l G => mX9_breaks l G N x2 v212 v213 h210 _ hF) (zck hF) rfl rfl ⟨Nat.le_of_ble_eq_true rfl, Nat.le_of_ble_eq_true rfl⟩ (Nat.le_of_ble_eq_true rfl) dL_law_826 ?_
      refine z_icmp_eq (tgt := 1856) O dL_law_829 (by decide) hr (fun hr => ?_) (fun hr => ?_)
      · refine z_iincL O 4 (fun v216 => [(4, vi v216), (0, vr x0), (1, vr x1), (2, vr x2), (3, vr x3)]) dL_law_1856 rfl rfl (by decide) (fun _ => rfl) hr (fun v216 hr => ?_)
        refine z_goto (tgt := 23) O dL_law_1859 (by decide) ?_
        refine z_sub [1, 2, 3, 4, 0] rfl ?_
        exact hrec23 v216 h214 _ hr
      · refine z_iconst O dL_law_832 kic_0 ?_
        refine bs hr (fun v217 e0 hr => ?_)
        obtain ⟨e1, e2, -⟩ := zb_spec e0
        exact z_zret O e2 dL_law_833 (by cases hr; cases e1; rfl)
    refine zite hr (fun c23 hr => ?_) (fun c23 hr => ?_)
    · refine z_tabIn (v := (18 : Int32)) (off := 794) (tgt := 834) O dL_law_40 c23 (by decide) (by decide +kernel) (by decide) ?_
      refine z_aload_n O 1 dL_law_834 rfl rfl ?_
      refine z_aload_n O 0 dL_law_835 rfl rfl ?_
      refine z_iload O 4 dL_law_836 rfl ?_
      refine z_iconst O dL_law_838 kic_1 ?_
      refine z_iadd O dL_law_839 ?_
      refine z_iaload O dL_law_840 hr (fun v218 hr => ?_)
      refine z_aload_n O 0 dL_law_841 rfl rfl ?_
      refine z_iload O 4 dL_law_842 rfl ?_
      refine z_iconst O dL_law_844 kic_2 ?_
      refine z_iadd O dL_law_845 ?_
      refine z_iaload O dL_law_846 hr (fun v219 hr => ?_)
      refine b2s hr (fun v221 h220 hF hr => ?_)
      refine z_callV O [vi v218, vi v219] (vi v221) fV_X1_round q1426 (fun l G => mX1_round l G x1 v218 v219 h _ hF) (zck hF) rfl rfl ⟨Nat.le_of_ble_eq_true rfl, Nat.le_of_ble_eq_true rfl⟩ (Nat.le_of_ble_eq_true rfl) dL_law_847 ?_
      refine z_aload_n O 2 dL_law_850 rfl rfl ?_
      refine z_aload_n O 0 dL_law_851 rfl rfl ?_
      refine z_iload O 4 dL_law_852 rfl ?_
      refine z_iconst O dL_law_854 kic_1 ?_
      refine z_iadd O dL_law_855 ?_
      refine z_iaload O dL_law_856 hr (fun v222 hr => ?_)
      refine z_aload_n O 0 dL_law_857 rfl rfl ?_
      refine z_iload O 4 dL_law_858 rfl ?_
      refine z_iconst O dL_law_860 kic_2 ?_
      refine z_iadd O dL_law_861 ?_
      refine z_iaload O dL_law_862 hr (fun v223 hr => ?_)
      refine b2s hr (fun v225 h224 hF hr => ?_)
      refine z_callV O [vi v222, vi v223] (vi v225) fV_X9_round q2419 (fun l G => mX9_round l G x2 v222 v223 h220 _ hF) (zck hF) rfl rfl ⟨Nat.le_of_ble_eq_true rfl, Nat.le_of_ble_eq_true rfl⟩ (Nat.le_of_ble_eq_true rfl) dL_law_863 ?_
      refine z_icmp_eq (tgt := 1856) O dL_law_866 (by decide) hr (fun hr => ?_) (fun hr => ?_)
      · refine z_iincL O 4 (fun v226 => [(4, vi v226), (0, vr x0), (1, vr x1), (2, vr x2), (3, vr x3)]) dL_law_1856 rfl rfl (by decide) (fun _ => rfl) hr (fun v226 hr => ?_)
        refine z_goto (tgt := 23) O dL_law_1859 (by decide) ?_
        refine z_sub [1, 2, 3, 4, 0] rfl ?_
        exact hrec23 v226 h224 _ hr
      · refine z_iconst O dL_law_869 kic_0 ?_
        refine bs hr (fun v227 e0 hr => ?_)
        obtain ⟨e1, e2, -⟩ := zb_spec e0
        exact z_zret O e2 dL_law_870 (by cases hr; cases e1; rfl)
    refine zite hr (fun c24 hr => ?_) (fun c24 hr => ?_)
    · refine z_tabIn (v := (19 : Int32)) (off := 831) (tgt := 871) O dL_law_40 c24 (by decide) (by decide +kernel) (by decide) ?_
      refine z_aload_n O 1 dL_law_871 rfl rfl ?_
      refine z_aload_n O 0 dL_law_872 rfl rfl ?_
      refine z_iload O 4 dL_law_873 rfl ?_
      refine z_iconst O dL_law_875 kic_1 ?_
      refine z_iadd O dL_law_876 ?_
      refine z_iaload O dL_law_877 hr (fun v228 hr => ?_)
      refine z_aload_n O 0 dL_law_878 rfl rfl ?_
      refine z_iload O 4 dL_law_879 rfl ?_
      refine z_iconst O dL_law_881 kic_2 ?_
      refine z_iadd O dL_law_882 ?_
      refine z_iaload O dL_law_883 hr (fun v229 hr => ?_)
      refine z_aload_n O 0 dL_law_884 rfl rfl ?_
      refine z_iload O 4 dL_law_885 rfl ?_
      refine z_iconst O dL_law_887 kic_3 ?_
      refine z_iadd O dL_law_888 ?_
      refine z_iaload O dL_law_889 hr (fun v230 hr => ?_)
      refine b2s hr (fun v232 h231 hF hr => ?_)
      refine z_callV O [vi v228, vi v229, vi v230] (vi v232) fV_X1_in q1431 (fun l G => mX1_in l G N x1 v228 v229 v230 h _ hF) (zck hF) rfl rfl ⟨Nat.le_of_ble_eq_true rfl, Nat.le_of_ble_eq_true rfl⟩ (Nat.le_of_ble_eq_true rfl) dL_law_890 ?_
      refine z_aload_n O 2 dL_law_893 rfl rfl ?_
      refine z_aload_n O 0 dL_law_894 rfl rfl ?_
      refine z_iload O 4 dL_law_895 rfl ?_
      refine z_iconst O dL_law_897 kic_1 ?_
      refine z_iadd O dL_law_898 ?_
      refine z_iaload O dL_law_899 hr (fun v233 hr => ?_)
      refine z_aload_n O 0 dL_law_900 rfl rfl ?_
      refine z_iload O 4 dL_law_901 rfl ?_
      refine z_iconst O dL_law_903 kic_2 ?_
      refine z_iadd O dL_law_904 ?_
      refine z_iaload O dL_law_905 hr (fun v234 hr => ?_)
      refine z_aload_n O 0 dL_law_906 rfl rfl ?_
      refine z_iload O 4 dL_law_907 rfl ?_
      refine z_iconst O dL_law_909 kic_3 ?_
      refine z_iadd O dL_law_910 ?_
      refine z_iaload O dL_law_911 hr (fun v235 hr => ?_)
      refine b2s hr (fun v237 h236 hF hr => ?_)
      refine z_callV O [vi v233, vi v234, vi v235] (vi v237) fV_X9_in q2423 (fun l G => mX9_in l G N x2 v233 v234 v235 h231 _ hF) (zck hF) rfl rfl ⟨Nat.le_of_ble_eq_true rfl, Nat.le_of_ble_eq_true rfl⟩ (Nat.le_of_ble_eq_true rfl) dL_law_912 ?_
      refine z_icmp_eq (tgt := 1856) O dL_law_915 (by decide) hr (fun hr => ?_) (fun hr => ?_)
      · refine z_iincL O 4 (fun v238 => [(4, vi v238), (0, vr x0), (1, vr x1), (2, vr x2), (3, vr x3)]) dL_law_1856 rfl rfl (by decide) (fun _ => rfl) hr (fun v238 hr => ?_)
        refine z_goto (tgt := 23) O dL_law_1859 (by decide) ?_
        refine z_sub [1, 2, 3, 4, 0] rfl ?_
        exact hrec23 v238 h236 _ hr
      · refine z_iconst O dL_law_918 kic_0 ?_
        refine bs hr (fun v239 e0 hr => ?_)
        obtain ⟨e1, e2, -⟩ := zb_spec e0
        exact z_zret O e2 dL_law_919 (by cases hr; cases e1; rfl)
    refine zite hr (fun c25 hr => ?_) (fun c25 hr => ?_)
    · refine z_tabIn (v := (20 : Int32)) (off := 880) (tgt := 920) O dL_law_40 c25 (by decide) (by decide +kernel) (by decide) ?_
      refine z_aload_n O 1 dL_law_920 rfl rfl ?_
      refine z_aload_n O 0 dL_law_921 rfl rfl ?_
      refine z_iload O 4 dL_law_922 rfl ?_
      refine z_iconst O dL_law_924 kic_1 ?_
      refine z_iadd O dL_law_925 ?_
      refine z_iaload O dL_law_926 hr (fun v240 hr => ?_)
      refine b2s hr (fun v242 h241 hF hr => ?_)
      refine z_callV O [vi v240] (vi v242) fV_X1_skinsIn q1493 (fun l G => mX1_skinsIn l G N x1 v240 h _ hF) (zck hF) rfl rfl ⟨Nat.le_of_ble_eq_true rfl, Nat.le_of_ble_eq_true rfl⟩ (Nat.le_of_ble_eq_true rfl) dL_law_927 ?_
      refine z_aload_n O 2 dL_law_930 rfl rfl ?_
      refine z_aload_n O 0 dL_law_931 rfl rfl ?_
      refine z_iload O 4 dL_law_932 rfl ?_
      refine z_iconst O dL_law_934 kic_1 ?_
      refine z_iadd O dL_law_935 ?_
      refine z_iaload O dL_law_936 hr (fun v243 hr => ?_)
      refine b2s hr (fun v245 h244 hF hr => ?_)
      refine z_callV O [vi v243] (vi v245) fV_X9_skinsIn q2461 (fun l G => mX9_skinsIn l G N x2 v243 h241 _ hF) (zck hF) rfl rfl ⟨Nat.le_of_ble_eq_true rfl, Nat.le_of_ble_eq_true rfl⟩ (Nat.le_of_ble_eq_true rfl) dL_law_937 ?_
      refine z_icmp_eq (tgt := 1856) O dL_law_940 (by decide) hr (fun hr => ?_) (fun hr => ?_)
      · refine z_iincL O 4 (fun v246 => [(4, vi v246), (0, vr x0), (1, vr x1), (2, vr x2), (3, vr x3)]) dL_law_1856 rfl rfl (by decide) (fun _ => rfl) hr (fun v246 hr => ?_)
        refine z_goto (tgt := 23) O dL_law_1859 (by decide) ?_
        refine z_sub [1, 2, 3, 4, 0] rfl ?_
        exact hrec23 v246 h244 _ hr
      · refine z_iconst O dL_law_943 kic_0 ?_
        refine bs hr (fun v247 e0 hr => ?_)
        obtain ⟨e1, e2, -⟩ := zb_spec e0
        exact z_zret O e2 dL_law_944 (by cases hr; cases e1; rfl)
    refine zite hr (fun c26 hr => ?_) (fun c26 hr => ?_)
    · refine z_tabIn (v := (21 : Int32)) (off := 905) (tgt := 945) O dL_law_40 c26 (by decide) (by decide +kernel) (by decide) ?_
      refine z_aload_n O 1 dL_law_945 rfl rfl ?_
      refine z_aload_n O 0 dL_law_946 rfl rfl ?_
      refine z_iload O 4 dL_law_947 rfl ?_
      refine z_iconst O dL_law_949 kic_1 ?_
      refine z_iadd O dL_law_950 ?_
      refine z_iaload O dL_law_951 hr (fun v248 hr => ?_)
      refine z_aload_n O 0 dL_law_952 rfl rfl ?_
      refine z_iload O 4 dL_law_953 rfl ?_
      refine z_iconst O dL_law_955 kic_2 ?_
      refine z_iadd O dL_law_956 ?_
      refine z_iaload O dL_law_957 hr (fun v249 hr => ?_)
      refine z_aload_n O 0 dL_law_958 rfl rfl ?_
      refine z_iload O 4 dL_law_959 rfl ?_
      refine z_iconst O dL_law_961 kic_3 ?_
      refine z_iadd O dL_law_962 ?_
      refine z_iaload O dL_law_963 hr (fun v250 hr => ?_)
      refine b2s hr (fun v252 h251 hF hr => ?_)
      refine z_callV O [vi v248, vi v249, vi v250] (vi v252) fV_X1_meet q1501 (fun l G => mX1_meet l G N x1 v248 v249 v250 h _ hF) (zck hF) rfl rfl ⟨Nat.le_of_ble_eq_true rfl, Nat.le_of_ble_eq_true rfl⟩ (Nat.le_of_ble_eq_true rfl) dL_law_964 ?_
      refine z_aload_n O 2 dL_law_967 rfl rfl ?_
      refine z_aload_n O 0 dL_law_968 rfl rfl ?_
      refine z_iload O 4 dL_law_969 rfl ?_
      refine z_iconst O dL_law_971 kic_1 ?_
      refine z_iadd O dL_law_972 ?_
      refine z_iaload O dL_law_973 hr (fun v253 hr => ?_)
      refine z_aload_n O 0 dL_law_974 rfl rfl ?_
      refine z_iload O 4 dL_law_975 rfl ?_
      refine z_iconst O dL_law_977 kic_2 ?_
      refine z_iadd O dL_law_978 ?_
      refine z_iaload O dL_law_979 hr (fun v254 hr => ?_)
      refine z_aload_n O 0 dL_law_980 rfl rfl ?_
      refine z_iload O 4 dL_law_981 rfl ?_
      refine z_iconst O dL_law_983 kic_3 ?_
      refine z_iadd O dL_law_984 ?_
      refine z_iaload O dL_law_985 hr (fun v255 hr => ?_)
      refine b2s hr (fun v257 h256 hF hr => ?_)
      refine z_callV O [vi v253, vi v254, vi v255] (vi v257) fV_X9_meet q2468 (fun l G => mX9_meet l G N x2 v253 v254 v255 h251 _ hF) (zck hF) rfl rfl ⟨Nat.le_of_ble_eq_true rfl, Nat.le_of_ble_eq_true rfl⟩ (Nat.le_of_ble_eq_true rfl) dL_law_986 ?_
      refine z_icmp_eq (tgt := 1856) O dL_law_989 (by decide) hr (fun hr => ?_) (fun hr => ?_)
      · refine z_iincL O 4 (fun v258 => [(4, vi v258), (0, vr x0), (1, vr x1), (2, vr x2), (3, vr x3)]) dL_law_1856 rfl rfl (by decide) (fun _ => rfl) hr (fun v258 hr => ?_)
        refine z_goto (tgt := 23) O dL_law_1859 (by decide) ?_
        refine z_sub [1, 2, 3, 4, 0] rfl ?_
        exact hrec23 v258 h256 _ hr
      · refine z_iconst O dL_law_992 kic_0 ?_
        refine bs hr (fun v259 e0 hr => ?_)
        obtain ⟨e1, e2, -⟩ := zb_spec e0
        exact z_zret O e2 dL_law_993 (by cases hr; cases e1; rfl)
    refine zite hr (fun c27 hr => ?_) (fun c27 hr => ?_)
    · refine z_tabIn (v := (22 : Int32)) (off := 954) (tgt := 994) O dL_law_40 c27 (by decide) (by decide +kernel) (by decide) ?_
      refine z_aload_n O 1 dL_law_994 rfl rfl ?_
      refine z_aload_n O 0 dL_law_995 rfl rfl ?_
      refine z_iload O 4 dL_law_996 rfl ?_
      refine z_iconst O dL_law_998 kic_1 ?_
      refine z_iadd O dL_law_999 ?_
      refine z_iaload O dL_law_1000 hr (fun v260 hr => ?_)
      refine z_aload_n O 0 dL_law_1001 rfl rfl ?_
      refine z_iload O 4 dL_law_1002 rfl ?_
      refine z_iconst O dL_law_1004 kic_2 ?_
      refine z_iadd O dL_law_1005 ?_
      refine z_iaload O dL_law_1006 hr (fun v261 hr => ?_)
      refine z_aload_n O 0 dL_law_1007 rfl rfl ?_
      refine z_iload O 4 dL_law_1008 rfl ?_
      refine z_iconst O dL_law_1010 kic_3 ?_
      refine z_iadd O dL_law_1011 ?_
      refine z_iaload O dL_law_1012 hr (fun v262 hr => ?_)
      refine b2s hr (fun v264 h263 hF hr => ?_)
      refine z_callV O [vi v260, vi v261, vi v262] (vi v264) fV_X1_falls q1510 (fun l G => mX1_falls l G N x1 v260 v261 v262 h _ hF) (zck hF) rfl rfl ⟨Nat.le_of_ble_eq_true rfl, Nat.le_of_ble_eq_true rfl⟩ (Nat.le_of_ble_eq_true rfl) dL_law_1013 ?_
      refine z_aload_n O 2 dL_law_1016 rfl rfl ?_
      refine z_aload_n O 0 dL_law_1017 rfl rfl ?_
      refine z_iload O 4 dL_law_1018 rfl ?_
      refine z_iconst O dL_law_1020 kic_1 ?_
      refine z_iadd O dL_law_1021 ?_
      refine z_iaload O dL_law_1022 hr (fun v265 hr => ?_)
      refine z_aload_n O 0 dL_law_1023 rfl rfl ?_
      refine z_iload O 4 dL_law_1024 rfl ?_
      refine z_iconst O dL_law_1026 kic_2 ?_
      refine z_iadd O dL_law_1027 ?_
      refine z_iaload O dL_law_1028 hr (fun v266 hr => ?_)
      refine z_aload_n O 0 dL_law_1029 rfl rfl ?_
      refine z_iload O 4 dL_law_1030 rfl ?_
      refine z_iconst O dL_law_1032 kic_3 ?_
      refine z_iadd O dL_law_1033 ?_
      refine z_iaload O dL_law_1034 hr (fun v267 hr => ?_)
      refine b2s hr (fun v269 h268 hF hr => ?_)
      refine z_callV O [vi v265, vi v266, vi v267] (vi v269) fV_X9_falls q2476 (fun l G => mX9_falls l G N x2 v265 v266 v267 h263 _ hF) (zck hF) rfl rfl ⟨Nat.le_of_ble_eq_true rfl, Nat.le_of_ble_eq_true rfl⟩ (Nat.le_of_ble_eq_true rfl) dL_law_1035 ?_
      refine z_icmp_eq (tgt := 1856) O dL_law_1038 (by decide) hr (fun hr => ?_) (fun hr => ?_)
      · refine z_iincL O 4 (fun v270 => [(4, vi v270), (0, vr x0), (1, vr x1), (2, vr x2), (3, vr x3)]) dL_law_1856 rfl rfl (by decide) (fun _ => rfl) hr (fun v270 hr => ?_)
        refine z_goto (tgt := 23) O dL_law_1859 (by decide) ?_
        refine z_sub [1, 2, 3, 4, 0] rfl ?_
        exact hrec23 v270 h268 _ hr
      · refine z_iconst O dL_law_1041 kic_0 ?_
        refine bs hr (fun v271 e0 hr => ?_)
        obtain ⟨e1, e2, -⟩ := zb_spec e0
        exact z_zret O e2 dL_law_1042 (by cases hr; cases e1; rfl)
    refine zite hr (fun c28 hr => ?_) (fun c28 hr => ?_)
    · refine z_tabIn (v := (23 : Int32)) (off := 1003) (tgt := 1043) O dL_law_40 c28 (by decide) (by decide +kernel) (by decide) ?_
      refine z_aload_n O 1 dL_law_1043 rfl rfl ?_
      refine z_aload_n O 0 dL_law_1044 rfl rfl ?_
      refine z_iload O 4 dL_law_1045 rfl ?_
      refine z_iconst O dL_law_1047 kic_1 ?_
      refine z_iadd O dL_law_1048 ?_
      refine z_iaload O dL_law_1049 hr (fun v272 hr => ?_)
      refine b2s hr (fun v274 h273 hF hr => ?_)
      refine z_callV O [vi v272] (vi v274) fV_X1_room q1514 (fun l G => mX1_room l G N x1 v272 h _ hF) (zck hF) rfl rfl ⟨Nat.le_of_ble_eq_true rfl, Nat.le_of_ble_eq_true rfl⟩ (Nat.le_of_ble_eq_true rfl) dL_law_1050 ?_
      refine z_aload_n O 2 dL_law_1053 rfl rfl ?_
      refine z_aload_n O 0 dL_law_1054 rfl rfl ?_
      refine z_iload O 4 dL_law_1055 rfl ?_
      refine z_iconst O dL_law_1057 kic_1 ?_
      refine z_iadd O dL_law_1058 ?_
      refine z_iaload O dL_law_1059 hr (fun v275 hr => ?_)
      refine b2s hr (fun v277 h276 hF hr => ?_)
      refine z_callV O [vi v275] (vi v277) fV_X9_room q2480 (fun l G => mX9_room l G N x2 v275 h273 _ hF) (zck hF) rfl rfl ⟨Nat.le_of_ble_eq_true rfl, Nat.le_of_ble_eq_true rfl⟩ (Nat.le_of_ble_eq_true rfl) dL_law_1060 ?_
      refine z_icmp_eq (tgt := 1856) O dL_law_1063 (by decide) hr (fun hr => ?_) (fun hr => ?_)
      · refine z_iincL O 4 (fun v278 => [(4, vi v278), (0, vr x0), (1, vr x1), (2, vr x2), (3, vr x3)]) dL_law_1856 rfl rfl (by decide) (fun _ => rfl) hr (fun v278 hr => ?_)
        refine z_goto (tgt := 23) O dL_law_1859 (by decide) ?_
        refine z_sub [1, 2, 3, 4, 0] rfl ?_
        exact hrec23 v278 h276 _ hr
      · refine z_iconst O dL_law_1066 kic_0 ?_
        refine bs hr (fun v279 e0 hr => ?_)
        obtain ⟨e1, e2, -⟩ := zb_spec e0
        exact z_zret O e2 dL_law_1067 (by cases hr; cases e1; rfl)
    refine zite hr (fun c29 hr => ?_) (fun c29 hr => ?_)
    · refine z_tabIn (v := (24 : Int32)) (off := 1028) (tgt := 1068) O dL_law_40 c29 (by decide) (by decide +kernel) (by decide) ?_
      refine z_aload_n O 1 dL_law_1068 rfl rfl ?_
      refine z_aload_n O 0 dL_law_1069 rfl rfl ?_
      refine z_iload O 4 dL_law_1070 rfl ?_
      refine z_iconst O dL_law_1072 kic_1 ?_
      refine z_iadd O dL_law_1073 ?_
      refine z_iaload O dL_law_1074 hr (fun v280 hr => ?_)
      refine b2s hr (fun v282 h281 hF hr => ?_)
      refine z_callV O [vi v280] (vi v282) fV_X1_first q1519 (fun l G => mX1_first l G N x1 v280 h _ hF) (zck hF) rfl rfl ⟨Nat.le_of_ble_eq_true rfl, Nat.le_of_ble_eq_true rfl⟩ (Nat.le_of_ble_eq_true rfl) dL_law_1075 ?_
      refine z_aload_n O 2 dL_law_1078 rfl rfl ?_
      refine z_aload_n O 0 dL_law_1079 rfl rfl ?_
      refine z_iload O 4 dL_law_1080 rfl ?_
      refine z_iconst O dL_law_1082 kic_1 ?_
      refine z_iadd O dL_law_1083 ?_
      refine z_iaload O dL_law_1084 hr (fun v283 hr => ?_)
      refine b2s hr (fun v285 h284 hF hr => ?_)
      refine z_callV O [vi v283] (vi v285) fV_X9_first q2484 (fun l G => mX9_first l G N x2 v283 h281 _ hF) (zck hF) rfl rfl ⟨Nat.le_of_ble_eq_true rfl, Nat.le_of_ble_eq_true rfl⟩ (Nat.le_of_ble_eq_true rfl) dL_law_1085 ?_
      refine z_icmp_eq (tgt := 1856) O dL_law_1088 (by decide) hr (fun hr => ?_) (fun hr => ?_)
      · refine z_iincL O 4 (fun v286 => [(4, vi v286), (0, vr x0), (1, vr x1), (2, vr x2), (3, vr x3)]) dL_law_1856 rfl rfl (by decide) (fun _ => rfl) hr (fun v286 hr => ?_)
        refine z_goto (tgt := 23) O dL_law_1859 (by decide) ?_
        refine z_sub [1, 2, 3, 4, 0] rfl ?_
        exact hrec23 v286 h284 _ hr
      · refine z_iconst O dL_law_1091 kic_0 ?_
        refine bs hr (fun v287 e0 hr => ?_)
        obtain ⟨e1, e2, -⟩ := zb_spec e0
        exact z_zret O e2 dL_law_1092 (by cases hr; cases e1; rfl)
    refine zite hr (fun c30 hr => ?_) (fun c30 hr => ?_)
    · refine z_tabIn (v := (25 : Int32)) (off := 1053) (tgt := 1093) O dL_law_40 c30 (by decide) (by decide +kernel) (by decide) ?_
      refine z_aload_n O 1 dL_law_1093 rfl rfl ?_
      refine z_aload_n O 0 dL_law_1094 rfl rfl ?_
      refine z_iload O 4 dL_law_1095 rfl ?_
      refine z_iconst O dL_law_1097 kic_1 ?_
      refine z_iadd O dL_law_1098 ?_
      refine z_iaload O dL_law_1099 hr (fun v288 hr => ?_)
      refine z_aload_n O 0 dL_law_1100 rfl rfl ?_
      refine z_iload O 4 dL_law_1101 rfl ?_
      refine z_iconst O dL_law_1103 kic_2 ?_
      refine z_iadd O dL_law_1104 ?_
      refine z_iaload O dL_law_1105 hr (fun v289 hr => ?_)
      refine b2s hr (fun v291 h290 hF hr => ?_)
      refine z_callV O [vi v288, vi v289] (vi v291) fV_X1_firstAt q1533 (fun l G => mX1_firstAt l G N x1 v288 v289 h _ hF) (zck hF) rfl rfl ⟨Nat.le_of_ble_eq_true rfl, Nat.le_of_ble_eq_true rfl⟩ (Nat.le_of_ble_eq_true rfl) dL_law_1106 ?_
      refine z_aload_n O 2 dL_law_1109 rfl rfl ?_
      refine z_aload_n O 0 dL_law_1110 rfl rfl ?_
      refine z_iload O 4 dL_law_1111 rfl ?_
      refine z_iconst O dL_law_1113 kic_1 ?_
      refine z_iadd O dL_law_1114 ?_
      refine z_iaload O dL_law_1115 hr (fun v292 hr => ?_)
      refine z_aload_n O 0 dL_law_1116 rfl rfl ?_
      refine z_iload O 4 dL_law_1117 rfl ?_
      refine z_iconst O dL_law_1119 kic_2 ?_
      refine z_iadd O dL_law_1120 ?_
      refine z_iaload O dL_law_1121 hr (fun v293 hr => ?_)
      refine b2s hr (fun v295 h294 hF hr => ?_)
      refine z_callV O [vi v292, vi v293] (vi v295) fV_X9_firstAt q2498 (fun l G => mX9_firstAt l G N x2 v292 v293 h290 _ hF) (zck hF) rfl rfl ⟨Nat.le_of_ble_eq_true rfl, Nat.le_of_ble_eq_true rfl⟩ (Nat.le_of_ble_eq_true rfl) dL_law_1122 ?_
      refine z_icmp_eq (tgt := 1856) O dL_law_1125 (by decide) hr (fun hr => ?_) (fun hr => ?_)
      · refine z_iincL O 4 (fun v296 => [(4, vi v296), (0, vr x0), (1, vr x1), (2, vr x2), (3, vr x3)]) dL_law_1856 rfl rfl (by decide) (fun _ => rfl) hr (fun v296 hr => ?_)
        refine z_goto (tgt := 23) O dL_law_1859 (by decide) ?_
        refine z_sub [1, 2, 3, 4, 0] rfl ?_
        exact hrec23 v296 h294 _ hr
      · refine z_iconst O dL_law_1128 kic_0 ?_
        refine bs hr (fun v297 e0 hr => ?_)
        obtain ⟨e1, e2, -⟩ := zb_spec e0
        exact z_zret O e2 dL_law_1129 (by cases hr; cases e1; rfl)
    refine zite hr (fun c31 hr => ?_) (fun c31 hr => ?_)
    · refine z_tabIn (v := (26 : Int32)) (off := 1090) (tgt := 1130) O dL_law_40 c31 (by decide) (by decide +kernel) (by decide) ?_
      refine z_aload_n O 1 dL_law_1130 rfl rfl ?_
      refine z_aload_n O 0 dL_law_1131 rfl rfl ?_
      refine z_iload O 4 dL_law_1132 rfl ?_
      refine z_iconst O dL_law_1134 kic_1 ?_
      refine z_iadd O dL_law_1135 ?_
      refine z_iaload O dL_law_1136 hr (fun v298 hr => ?_)
      refine z_aload_n O 0 dL_law_1137 rfl rfl ?_
      refine z_iload O 4 dL_law_1138 rfl ?_
      refine z_iconst O dL_law_1140 kic_2 ?_
      refine z_iadd O dL_law_1141 ?_
      refine z_iaload O dL_law_1142 hr (fun v299 hr => ?_)
      refine b2s hr (fun v301 h300 hF hr => ?_)
      refine z_callV O [vi v298, vi v299] (vi v301) fV_X1_heads q1537 (fun l G => mX1_heads l G N x1 v298 v299 h _ hF) (zck hF) rfl rfl ⟨Nat.le_of_ble_eq_true rfl, Nat.le_of_ble_eq_true rfl⟩ (Nat.le_of_ble_eq_true rfl) dL_law_1143 ?_
      refine z_aload_n O 2 dL_law_1146 rfl rfl ?_
      refine z_aload_n O 0 dL_law_1147 rfl rfl ?_
      refine z_iload O 4 dL_law_1148 rfl ?_
      refine z_iconst O dL_law_1150 kic_1 ?_
      refine z_iadd O dL_law_1151 ?_
      refine z_iaload O dL_law_1152 hr (fun v302 hr => ?_)
      refine z_aload_n O 0 dL_law_1153 rfl rfl ?_
      refine z_iload O 4 dL_law_1154 rfl ?_
      refine z_iconst O dL_law_1156 kic_2 ?_
      refine z_iadd O dL_law_1157 ?_
      refine z_iaload O dL_law_1158 hr (fun v303 hr => ?_)
      refine b2s hr (fun v305 h304 hF hr => ?_)
      refine z_callV O [vi v302, vi v303] (vi v305) fV_X9_heads q2502 (fun l G => mX9_heads l G N x2 v302 v303 h300 _ hF) (zck hF) rfl rfl ⟨Nat.le_of_ble_eq_true rfl, Nat.le_of_ble_eq_true rfl⟩ (Nat.le_of_ble_eq_true rfl) dL_law_1159 ?_
      refine z_icmp_eq (tgt := 1856) O dL_law_1162 (by decide) hr (fun hr => ?_) (fun hr => ?_)
      · refine z_iincL O 4 (fun v306 => [(4, vi v306), (0, vr x0), (1, vr x1), (2, vr x2), (3, vr x3)]) dL_law_1856 rfl rfl (by decide) (fun _ => rfl) hr (fun v306 hr => ?_)
        refine z_goto (tgt := 23) O dL_law_1859 (by decide) ?_
        refine z_sub [1, 2, 3, 4, 0] rfl ?_
        exact hrec23 v306 h304 _ hr
      · refine z_iconst O dL_law_1165 kic_0 ?_
        refine bs hr (fun v307 e0 hr => ?_)
        obtain ⟨e1, e2, -⟩ := zb_spec e0
        exact z_zret O e2 dL_law_1166 (by cases hr; cases e1; rfl)
    refine zite hr (fun c32 hr => ?_) (fun c32 hr => ?_)
    · refine z_tabIn (v := (27 : Int32)) (off := 1127) (tgt := 1167) O dL_law_40 c32 (by decide) (by decide +kernel) (by decide) ?_
      refine z_aload_n O 1 dL_law_1167 rfl rfl ?_
      refine z_aload_n O 0 dL_law_1168 rfl rfl ?_
      refine z_iload O 4 dL_law_1169 rfl ?_
      refine z_iconst O dL_law_1171 kic_1 ?_
      refine z_iadd O dL_law_1172 ?_
      refine z_iaload O dL_law_1173 hr (fun v308 hr => ?_)
      refine b2s hr (fun v310 h309 hF hr => ?_)
      refine z_callV O [vi v308] (vi v310) fV_X1_takes q1546 (fun l G => mX1_takes l G N x1 v308 h _ hF) (zck hF) rfl rfl ⟨Nat.le_of_ble_eq_true rfl, Nat.le_of_ble_eq_true rfl⟩ (Nat.le_of_ble_eq_true rfl) dL_law_1174 ?_
      refine z_aload_n O 2 dL_law_1177 rfl rfl ?_
      refine z_aload_n O 0 dL_law_1178 rfl rfl ?_
      refine z_iload O 4 dL_law_1179 rfl ?_
      refine z_iconst O dL_law_1181 kic_1 ?_
      refine z_iadd O dL_law_1182 ?_
      refine z_iaload O dL_law_1183 hr (fun v311 hr => ?_)
      refine b2s hr (fun v313 h312 hF hr => ?_)
      refine z_callV O [vi v311] (vi v313) fV_X9_takes q2507 (fun l G => mX9_takes l G N x2 v311 h309 _ hF) (zck hF) rfl rfl ⟨Nat.le_of_ble_eq_true rfl, Nat.le_of_ble_eq_true rfl⟩ (Nat.le_of_ble_eq_true rfl) dL_law_1184 ?_
      refine z_icmp_eq (tgt := 1856) O dL_law_1187 (by decide) hr (fun hr => ?_) (fun hr => ?_)
      · refine z_iincL O 4 (fun v314 => [(4, vi v314), (0, vr x0), (1, vr x1), (2, vr x2), (3, vr x3)]) dL_law_1856 rfl rfl (by decide) (fun _ => rfl) hr (fun v314 hr => ?_)
        refine z_goto (tgt := 23) O dL_law_1859 (by decide) ?_
        refine z_sub [1, 2, 3, 4, 0] rfl ?_
        exact hrec23 v314 h312 _ hr
      · refine z_iconst O dL_law_1190 kic_0 ?_
        refine bs hr (fun v315 e0 hr => ?_)
        obtain ⟨e1, e2, -⟩ := zb_spec e0
        exact z_zret O e2 dL_law_1191 (by cases hr; cases e1; rfl)
    refine zite hr (fun c33 hr => ?_) (fun c33 hr => ?_)
    · refine z_tabIn (v := (28 : Int32)) (off := 1152) (tgt := 1192) O dL_law_40 c33 (by decide) (by decide +kernel) (by decide) ?_
      refine z_aload_n O 1 dL_law_1192 rfl rfl ?_
      refine z_aload_n O 0 dL_law_1193 rfl rfl ?_
      refine z_iload O 4 dL_law_1194 rfl ?_
      refine z_iconst O dL_law_1196 kic_1 ?_
      refine z_iadd O dL_law_1197 ?_
      refine z_iaload O dL_law_1198 hr (fun v316 hr => ?_)
      refine b2s hr (fun v318 h317 hF hr => ?_)
      refine z_callV O [vi v316] (vi v318) fV_X1_worth q1557 (fun l G => mX1_worth l G N x1 v316 h _ hF) (zck hF) rfl rfl ⟨Nat.le_of_ble_eq_true rfl, Nat.le_of_ble_eq_true rfl⟩ (Nat.le_of_ble_eq_true rfl) dL_law_1199 ?_
      refine z_aload_n O 2 dL_law_1202 rfl rfl ?_
      refine z_aload_n O 0 dL_law_1203 rfl rfl ?_
      refine z_iload O 4 dL_law_1204 rfl ?_
      refine z_iconst O dL_law_1206 kic_1 ?_
      refine z_iadd O dL_law_1207 ?_
      refine z_iaload O dL_law_1208 hr (fun v319 hr => ?_)
      refine b2s hr (fun v321 h320 hF hr => ?_)
      refine z_callV O [vi v319] (vi v321) fV_X9_worth q2519 (fun l G => mX9_worth l G N x2 v319 h317 _ hF) (zck hF) rfl rfl ⟨Nat.le_of_ble_eq_true rfl, Nat.le_of_ble_eq_true rfl⟩ (Nat.le_of_ble_eq_true rfl) dL_law_1209 ?_
      refine z_icmp_eq (tgt := 1856) O dL_law_1212 (by decide) hr (fun hr => ?_) (fun hr => ?_)
      · refine z_iincL O 4 (fun v322 => [(4, vi v322), (0, vr x0), (1, vr x1), (2, vr x2), (3, vr x3)]) dL_law_1856 rfl rfl (by decide) (fun _ => rfl) hr (fun v322 hr => ?_)
        refine z_goto (tgt := 23) O dL_law_1859 (by decide) ?_
        refine z_sub [1, 2, 3, 4, 0] rfl ?_
        exact hrec23 v322 h320 _ hr
      · refine z_iconst O dL_law_1215 kic_0 ?_
        refine bs hr (fun v323 e0 hr => ?_)
        obtain ⟨e1, e2, -⟩ := zb_spec e0
        exact z_zret O e2 dL_law_1216 (by cases hr; cases e1; rfl)
    refine zite hr (fun c34 hr => ?_) (fun c34 hr => ?_)
    · refine z_tabIn (v := (29 : Int32)) (off := 1177) (tgt := 1217) O dL_law_40 c34 (by decide) (by decide +kernel) (by decide) ?_
      refine z_aload_n O 1 dL_law_1217 rfl rfl ?_
      refine b2s hr (fun v325 h324 hF hr => ?_)
      refine z_callV O [] (vi v325) fV_X1_orders q1565 (fun l G => mX1_orders l G N x1 h _ hF) (zck hF) rfl rfl ⟨Nat.le_of_ble_eq_true rfl, Nat.le_of_ble_eq_true rfl⟩ (Nat.le_of_ble_eq_true rfl) dL_law_1218 ?_
      refine z_aload_n O 2 dL_law_1221 rfl rfl ?_
      refine b2s hr (fun v327 h326 hF hr => ?_)
      refine z_callV O [] (vi v327) fV_X9_orders q2527 (fun l G => mX9_orders l G N x2 h324 _ hF) (zck hF) rfl rfl ⟨Nat.le_of_ble_eq_true rfl, Nat.le_of_ble_eq_true rfl⟩ (Nat.le_of_ble_eq_true rfl) dL_law_1222 ?_
      refine z_icmp_eq (tgt := 1856) O dL_law_1225 (by decide) hr (fun hr => ?_) (fun hr => ?_)
      · refine z_iincL O 4 (fun v328 => [(4, vi v328), (0, vr x0), (1, vr x1), (2, vr x2), (3, vr x3)]) dL_law_1856 rfl rfl (by decide) (fun _ => rfl) hr (fun v328 hr => ?_)
        refine z_goto (tgt := 23) O dL_law_1859 (by decide) ?_
        refine z_sub [1, 2, 3, 4, 0] rfl ?_
        exact hrec23 v328 h326 _ hr
      · refine z_iconst O dL_law_1228 kic_0 ?_
        refine bs hr (fun v329 e0 hr => ?_)
        obtain ⟨e1, e2, -⟩ := zb_spec e0
        exact z_zret O e2 dL_law_1229 (by cases hr; cases e1; rfl)
    refine zite hr (fun c35 hr => ?_) (fun c35 hr => ?_)
    · refine z_tabIn (v := (30 : Int32)) (off := 1190) (tgt := 1230) O dL_law_40 c35 (by decide) (by decide +kernel) (by decide) ?_
      refine z_aload_n O 1 dL_law_1230 rfl rfl ?_
      refine z_aload_n O 0 dL_law_1231 rfl rfl ?_
      refine z_iload O 4 dL_law_1232 rfl ?_
      refine z_iconst O dL_law_1234 kic_1 ?_
      refine z_iadd O dL_law_1235 ?_
      refine z_iaload O dL_law_1236 hr (fun v330 hr => ?_)
      refine z_aload_n O 0 dL_law_1237 rfl rfl ?_
      refine z_iload O 4 dL_law_1238 rfl ?_
      refine z_iconst O dL_law_1240 kic_2 ?_
      refine z_iadd O dL_law_1241 ?_
      refine z_iaload O dL_law_1242 hr (fun v331 hr => ?_)
      refine b2s hr (fun v333 h332 hF hr => ?_)
      refine z_callV O [vi v330, vi v331] (vi v333) fV_X1_order q1603 (fun l G => mX1_order l G N x1 v330 v331 h _ hF) (zck hF) rfl rfl ⟨Nat.le_of_ble_eq_true rfl, Nat.le_of_ble_eq_true rfl⟩ (Nat.le_of_ble_eq_true rfl) dL_law_1243 ?_
      refine z_aload_n O 2 dL_law_1246 rfl rfl ?_
      refine z_aload_n O 0 dL_law_1247 rfl rfl ?_
      refine z_iload O 4 dL_law_1248 rfl ?_
      refine z_iconst O dL_law_1250 kic_1 ?_
      refine z_iadd O dL_law_1251 ?_
      refine z_iaload O dL_law_1252 hr (fun v334 hr => ?_)
      refine z_aload_n O 0 dL_law_1253 rfl rfl ?_
      refine z_iload O 4 dL_law_1254 rfl ?_
      refine z_iconst O dL_law_1256 kic_2 ?_
      refine z_iadd O dL_law_1257 ?_
      refine z_iaload O dL_law_1258 hr (fun v335 hr => ?_)
      refine b2s hr (fun v337 h336 hF hr => ?_)
      refine z_callV O [vi v334, vi v335] (vi v337) fV_X9_order q2543 (fun l G => mX9_order l G N x2 v334 v335 h332 _ hF) (zck hF) rfl rfl ⟨Nat.le_of_ble_eq_true rfl, Nat.le_of_ble_eq_true rfl⟩ (Nat.le_of_ble_eq_true rfl) dL_law_1259 ?_
      refine z_icmp_eq (tgt := 1856) O dL_law_1262 (by decide) hr (fun hr => ?_) (fun hr => ?_)
      · refine z_iincL O 4 (fun v338 => [(4, vi v338), (0, vr x0), (1, vr x1), (2, vr x2), (3, vr x3)]) dL_law_1856 rfl rfl (by decide) (fun _ => rfl) hr (fun v338 hr => ?_)
        refine z_goto (tgt := 23) O dL_law_1859 (by decide) ?_
        refine z_sub [1, 2, 3, 4, 0] rfl ?_
        exact hrec23 v338 h336 _ hr
      · refine z_iconst O dL_law_1265 kic_0 ?_
        refine bs hr (fun v339 e0 hr => ?_)
        obtain ⟨e1, e2, -⟩ := zb_spec e0
        exact z_zret O e2 dL_law_1266 (by cases hr; cases e1; rfl)
    refine zite hr (fun c36 hr => ?_) (fun c36 hr => ?_)
    · refine z_tabIn (v := (31 : Int32)) (off := 1227) (tgt := 1267) O dL_law_40 c36 (by decide) (by decide +kernel) (by decide) ?_
      refine z_aload_n O 1 dL_law_1267 rfl rfl ?_
      refine z_aload_n O 0 dL_law_1268 rfl rfl ?_
      refine z_iload O 4 dL_law_1269 rfl ?_
      refine z_iconst O dL_law_1271 kic_1 ?_
      refine z_iadd O dL_law_1272 ?_
      refine z_iaload O dL_law_1273 hr (fun v340 hr => ?_)
      refine b2s hr (fun v342 h341 hF hr => ?_)
      refine z_callV O [vi v340] (vi v342) fV_X1_soonest q1615 (fun l G => mX1_soonest l G N x1 v340 h _ hF) (zck hF) rfl rfl ⟨Nat.le_of_ble_eq_true rfl, Nat.le_of_ble_eq_true rfl⟩ (Nat.le_of_ble_eq_true rfl) dL_law_1274 ?_
      refine z_aload_n O 2 dL_law_1277 rfl rfl ?_
      refine z_aload_n O 0 dL_law_1278 rfl rfl ?_
      refine z_iload O 4 dL_law_1279 rfl ?_
      refine z_iconst O dL_law_1281 kic_1 ?_
      refine z_iadd O dL_law_1282 ?_
      refine z_iaload O dL_law_1283 hr (fun v343 hr => ?_)
      refine b2s hr (fun v345 h344 hF hr => ?_)
      refine z_callV O [vi v343] (vi v345) fV_X9_soonest q2551 (fun l G => mX9_soonest l G N x2 v343 h341 _ hF) (zck hF) rfl rfl ⟨Nat.le_of_ble_eq_true rfl, Nat.le_of_ble_eq_true rfl⟩ (Nat.le_of_ble_eq_true rfl) dL_law_1284 ?_
      refine z_icmp_eq (tgt := 1856) O dL_law_1287 (by decide) hr (fun hr => ?_) (fun hr => ?_)
      · refine z_iincL O 4 (fun v346 => [(4, vi v346), (0, vr x0), (1, vr x1), (2, vr x2), (3, vr x3)]) dL_law_1856 rfl rfl (by decide) (fun _ => rfl) hr (fun v346 hr => ?_)
        refine z_goto (tgt := 23) O dL_law_1859 (by decide) ?_
        refine z_sub [1, 2, 3, 4, 0] rfl ?_
        exact hrec23 v346 h344 _ hr
      · refine z_iconst O dL_law_1290 kic_0 ?_
        refine bs hr (fun v347 e0 hr => ?_)
        obtain ⟨e1, e2, -⟩ := zb_spec e0
        exact z_zret O e2 dL_law_1291 (by cases hr; cases e1; rfl)
    refine zite hr (fun c37 hr => ?_) (fun c37 hr => ?_)
    · refine z_tabIn (v := (32 : Int32)) (off := 1252) (tgt := 1292) O dL_law_40 c37 (by decide) (by decide +kernel) (by decide) ?_
      refine z_aload_n O 1 dL_law_1292 rfl rfl ?_
      refine z_aload_n O 0 dL_law_1293 rfl rfl ?_
      refine z_iload O 4 dL_law_1294 rfl ?_
      refine z_iconst O dL_law_1296 kic_1 ?_
      refine z_iadd O dL_law_1297 ?_
      refine z_iaload O dL_law_1298 hr (fun v348 hr => ?_)
      refine b2s hr (fun v350 h349 hF hr => ?_)
      refine z_callV O [vi v348] (vi v350) fV_X1_latest q1623 (fun l G => mX1_latest l G N x1 v348 h _ hF) (zck hF) rfl rfl ⟨Nat.le_of_ble_eq_true rfl, Nat.le_of_ble_eq_true rfl⟩ (Nat.le_of_ble_eq_true rfl) dL_law_1299 ?_
      refine z_aload_n O 2 dL_law_1302 rfl rfl ?_
      refine z_aload_n O 0 dL_law_1303 rfl rfl ?_
      refine z_iload O 4 dL_law_1304 rfl ?_
      refine z_iconst O dL_law_1306 kic_1 ?_
      refine z_iadd O dL_law_1307 ?_
      refine z_iaload O dL_law_1308 hr (fun v351 hr => ?_)
      refine b2s hr (fun v353 h352 hF hr => ?_)
      refine z_callV O [vi v351] (vi v353) fV_X9_latest q2555 (fun l G => mX9_latest l G N x2 v351 h349 _ hF) (zck hF) rfl rfl ⟨Nat.le_of_ble_eq_true rfl, Nat.le_of_ble_eq_true rfl⟩ (Nat.le_of_ble_eq_true rfl) dL_law_1309 ?_
      refine z_icmp_eq (tgt := 1856) O dL_law_1312 (by decide) hr (fun hr => ?_) (fun hr => ?_)
      · refine z_iincL O 4 (fun v354 => [(4, vi v354), (0, vr x0), (1, vr x1), (2, vr x2), (3, vr x3)]) dL_law_1856 rfl rfl (by decide) (fun _ => rfl) hr (fun v354 hr => ?_)
        refine z_goto (tgt := 23) O dL_law_1859 (by decide) ?_
        refine z_sub [1, 2, 3, 4, 0] rfl ?_
        exact hrec23 v354 h352 _ hr
      · refine z_iconst O dL_law_1315 kic_0 ?_
        refine bs hr (fun v355 e0 hr => ?_)
        obtain ⟨e1, e2, -⟩ := zb_spec e0
        exact z_zret O e2 dL_law_1316 (by cases hr; cases e1; rfl)
    refine zite hr (fun c38 hr => ?_) (fun c38 hr => ?_)
    · refine z_tabIn (v := (33 : Int32)) (off := 1277) (tgt := 1317) O dL_law_40 c38 (by decide) (by decide +kernel) (by decide) ?_
      refine z_aload_n O 1 dL_law_1317 rfl rfl ?_
      refine z_aload_n O 0 dL_law_1318 rfl rfl ?_
      refine z_iload O 4 dL_law_1319 rfl ?_
      refine z_iconst O dL_law_1321 kic_1 ?_
      refine z_iadd O dL_law_1322 ?_
      refine z_iaload O dL_law_1323 hr (fun v356 hr => ?_)
      refine z_aload_n O 0 dL_law_1324 rfl rfl ?_
      refine z_iload O 4 dL_law_1325 rfl ?_
      refine z_iconst O dL_law_1327 kic_2 ?_
      refine z_iadd O dL_law_1328 ?_
      refine z_iaload O dL_law_1329 hr (fun v357 hr => ?_)
      refine b2s hr (fun v359 h358 hF hr => ?_)
      refine z_callV O [vi v356, vi v357] (vi v359) fV_X1_surely q1631 (fun l G => mX1_surely l G N x1 v356 v357 h _ hF) (zck hF) rfl rfl ⟨Nat.le_of_ble_eq_true rfl, Nat.le_of_ble_eq_true rfl⟩ (Nat.le_of_ble_eq_true rfl) dL_law_1330 ?_
      refine z_aload_n O 2 dL_law_1333 rfl rfl ?_
      refine z_aload_n O 0 dL_law_1334 rfl rfl ?_
      refine z_iload O 4 dL_law_1335 rfl ?_
      refine z_iconst O dL_law_1337 kic_1 ?_
      refine z_iadd O dL_law_1338 ?_
      refine z_iaload O dL_law_1339 hr (fun v360 hr => ?_)
      refine z_aload_n O 0 dL_law_1340 rfl rfl ?_
      refine z_iload O 4 dL_law_1341 rfl ?_
      refine z_iconst O dL_law_1343 kic_2 ?_
      refine z_iadd O dL_law_1344 ?_
      refine z_iaload O dL_law_1345 hr (fun v361 hr => ?_)
      refine b2s hr (fun v363 h362 hF hr => ?_)
      refine z_callV O [vi v360, vi v361] (vi v363) fV_X9_surely q2559 (fun l G => mX9_surely l G N x2 v360 v361 h358 _ hF) (zck hF) rfl rfl ⟨Nat.le_of_ble_eq_true rfl, Nat.le_of_ble_eq_true rfl⟩ (Nat.le_of_ble_eq_true rfl) dL_law_1346 ?_
      refine z_icmp_eq (tgt := 1856) O dL_law_1349 (by decide) hr (fun hr => ?_) (fun hr => ?_)
      · refine z_iincL O 4 (fun v364 => [(4, vi v364), (0, vr x0), (1, vr x1), (2, vr x2), (3, vr x3)]) dL_law_1856 rfl rfl (by decide) (fun _ => rfl) hr (fun v364 hr => ?_)
        refine z_goto (tgt := 23) O dL_law_1859 (by decide) ?_
        refine z_sub [1, 2, 3, 4, 0] rfl ?_
        exact hrec23 v364 h362 _ hr
      · refine z_iconst O dL_law_1352 kic_0 ?_
        refine bs hr (fun v365 e0 hr => ?_)
        obtain ⟨e1, e2, -⟩ := zb_spec e0
        exact z_zret O e2 dL_law_1353 (by cases hr; cases e1; rfl)
    refine zite hr (fun c39 hr => ?_) (fun c39 hr => ?_)
    · refine z_tabIn (v := (34 : Int32)) (off := 1314) (tgt := 1354) O dL_law_40 c39 (by decide) (by decide +kernel) (by decide) ?_
      refine z_aload_n O 1 dL_law_1354 rfl rfl ?_
      refine z_aload_n O 0 dL_law_1355 rfl rfl ?_
      refine z_iload O 4 dL_law_1356 rfl ?_
      refine z_iconst O dL_law_1358 kic_1 ?_
      refine z_iadd O dL_law_1359 ?_
      refine z_iaload O dL_law_1360 hr (fun v366 hr => ?_)
      refine b2s hr (fun v368 h367 hF hr => ?_)
      refine z_callV O [vi v366] (vi v368) fV_X1_years q1644 (fun l G => mX1_years l G N x1 v366 h _ hF) (zck hF) rfl rfl ⟨Nat.le_of_ble_eq_true rfl, Nat.le_of_ble_eq_true rfl⟩ (Nat.le_of_ble_eq_true rfl) dL_law_1361 ?_
      refine z_aload_n O 2 dL_law_1364 rfl rfl ?_
      refine z_aload_n O 0 dL_law_1365 rfl rfl ?_
      refine z_iload O 4 dL_law_1366 rfl ?_
      refine z_iconst O dL_law_1368 kic_1 ?_
      refine z_iadd O dL_law_1369 ?_
      refine z_iaload O dL_law_1370 hr (fun v369 hr => ?_)
      refine b2s hr (fun v371 h370 hF hr => ?_)
      refine z_callV O [vi v369] (vi v371) fV_X9_years q2563 (fun l G => mX9_years l G N x2 v369 h367 _ hF) (zck hF) rfl rfl ⟨Nat.le_of_ble_eq_true rfl, Nat.le_of_ble_eq_true rfl⟩ (Nat.le_of_ble_eq_true rfl) dL_law_1371 ?_
      refine z_icmp_eq (tgt := 1856) O dL_law_1374 (by decide) hr (fun hr => ?_) (fun hr => ?_)
      · refine z_iincL O 4 (fun v372 => [(4, vi v372), (0, vr x0), (1, vr x1), (2, vr x2), (3, vr x3)]) dL_law_1856 rfl rfl (by decide) (fun _ => rfl) hr (fun v372 hr => ?_)
        refine z_goto (tgt := 23) O dL_law_1859 (by decide) ?_
        refine z_sub [1, 2, 3, 4, 0] rfl ?_
        exact hrec23 v372 h370 _ hr
      · refine z_iconst O dL_law_1377 kic_0 ?_
        refine bs hr (fun v373 e0 hr => ?_)
        obtain ⟨e1, e2, -⟩ := zb_spec e0
        exact z_zret O e2 dL_law_1378 (by cases hr; cases e1; rfl)
    refine zite hr (fun c40 hr => ?_) (fun c40 hr => ?_)
    · refine z_tabIn (v := (35 : Int32)) (off := 1339) (tgt := 1379) O dL_law_40 c40 (by decide) (by decide +kernel) (by decide) ?_
      refine z_aload_n O 1 dL_law_1379 rfl rfl ?_
      refine z_aload_n O 0 dL_law_1380 rfl rfl ?_
      refine z_iload O 4 dL_law_1381 rfl ?_
      refine z_iconst O dL_law_1383 kic_1 ?_
      refine z_iadd O dL_law_1384 ?_
      refine z_iaload O dL_law_1385 hr (fun v374 hr => ?_)
      refine z_aload_n O 0 dL_law_1386 rfl rfl ?_
      refine z_iload O 4 dL_law_1387 rfl ?_
      refine z_iconst O dL_law_1389 kic_2 ?_
      refine z_iadd O dL_law_1390 ?_
      refine z_iaload O dL_law_1391 hr (fun v375 hr => ?_)
      refine z_aload_n O 0 dL_law_1392 rfl rfl ?_
      refine z_iload O 4 dL_law_1393 rfl ?_
      refine z_iconst O dL_law_1395 kic_3 ?_
      refine z_iadd O dL_law_1396 ?_
      refine z_iaload O dL_law_1397 hr (fun v376 hr => ?_)
      refine z_aload_n O 0 dL_law_1398 rfl rfl ?_
      refine z_iload O 4 dL_law_1399 rfl ?_
      refine z_iconst O dL_law_1401 kic_4 ?_
      refine z_iadd O dL_law_1402 ?_
      refine z_iaload O dL_law_1403 hr (fun v377 hr => ?_)
      refine z_aload_n O 0 dL_law_1404 rfl rfl ?_
      refine z_iload O 4 dL_law_1405 rfl ?_
      refine z_iconst O dL_law_1407 kic_5 ?_
      refine z_iadd O dL_law_1408 ?_
      refine z_iaload O dL_law_1409 hr (fun v378 hr => ?_)
      refine b2s hr (fun v380 h379 hF hr => ?_)
      refine z_callV O [vi v374, vi v375, vi v376, vi v377, vi v378] (vi v380) fV_X1_build q1656 (fun l G => mX1_build l G N x1 v374 v375 v376 v377 v378 h _ hF) (zck hF) rfl rfl ⟨Nat.le_of_ble_eq_true rfl, Nat.le_of_ble_eq_true rfl⟩ (Nat.le_of_ble_eq_true rfl) dL_law_1410 ?_
      refine z_aload_n O 2 dL_law_1413 rfl rfl ?_
      refine z_aload_n O 0 dL_law_1414 rfl rfl ?_
      refine z_iload O 4 dL_law_1415 rfl ?_
      refine z_iconst O dL_law_1417 kic_1 ?_
      refine z_iadd O dL_law_1418 ?_
      refine z_iaload O dL_law_1419 hr (fun v381 hr => ?_)
      refine z_aload_n O 0 dL_law_1420 rfl rfl ?_
      refine z_iload O 4 dL_law_1421 rfl ?_
      refine z_iconst O dL_law_1423 kic_2 ?_
      refine z_iadd O dL_law_1424 ?_
      refine z_iaload O dL_law_1425 hr (fun v382 hr => ?_)
      refine z_aload_n O 0 dL_law_1426 rfl rfl ?_
      refine z_iload O 4 dL_law_1427 rfl ?_
      refine z_iconst O dL_law_1429 kic_3 ?_
      refine z_iadd O dL_law_1430 ?_
      refine z_iaload O dL_law_1431 hr (fun v383 hr => ?_)
      refine z_aload_n O 0 dL_law_1432 rfl rfl ?_
      refine z_iload O 4 dL_law_1433 rfl ?_
      refine z_iconst O dL_law_1435 kic_4 ?_
      refine z_iadd O dL_law_1436 ?_
      refine z_iaload O dL_law_1437 hr (fun v384 hr => ?_)
      refine z_aload_n O 0 dL_law_1438 rfl rfl ?_
      refine z_iload O 4 dL_law_1439 rfl ?_
      refine z_iconst O dL_law_1441 kic_5 ?_
      refine z_iadd O dL_law_1442 ?_
      refine z_iaload O dL_law_1443 hr (fun v385 hr => ?_)
      refine b2s hr (fun v387 h386 hF hr => ?_)
      refine z_callV O [vi v381, vi v382, vi v383, vi v384, vi v385] (vi v387) fV_X9_build q2571 (fun l G => mX9_build l G N x2 v381 v382 v383 v384 v385 h379 _ hF) (zck hF) rfl rfl ⟨Nat.le_of_ble_eq_true rfl, Nat.le_of_ble_eq_true rfl⟩ (Nat.le_of_ble_eq_true rfl) dL_law_1444 ?_
      refine z_icmp_eq (tgt := 1856) O dL_law_1447 (by decide) hr (fun hr => ?_) (fun hr => ?_)
      · refine z_iincL O 4 (fun v388 => [(4, vi v388), (0, vr x0), (1, vr x1), (2, vr x2), (3, vr x3)]) dL_law_1856 rfl rfl (by decide) (fun _ => rfl) hr (fun v388 hr => ?_)
        refine z_goto (tgt := 23) O dL_law_1859 (by decide) ?_
        refine z_sub [1, 2, 3, 4, 0] rfl ?_
        exact hrec23 v388 h386 _ hr
      · refine z_iconst O dL_law_1450 kic_0 ?_
        refine bs hr (fun v389 e0 hr => ?_)
        obtain ⟨e1, e2, -⟩ := zb_spec e0
        exact z_zret O e2 dL_law_1451 (by cases hr; cases e1; rfl)
    refine zite hr (fun c41 hr => ?_) (fun c41 hr => ?_)
    · refine z_tabIn (v := (36 : Int32)) (off := 1412) (tgt := 1452) O dL_law_40 c41 (by decide) (by decide +kernel) (by decide) ?_
      refine z_aload_n O 1 dL_law_1452 rfl rfl ?_
      refine z_aload_n O 0 dL_law_1453 rfl rfl ?_
      refine z_iload O 4 dL_law_1454 rfl ?_
      refine z_iconst O dL_law_1456 kic_1 ?_
      refine z_iadd O dL_law_1457 ?_
      refine z_iaload O dL_law_1458 hr (fun v390 hr => ?_)
      refine z_aload_n O 0 dL_law_1459 rfl rfl ?_
      refine z_iload O 4 dL_law_1460 rfl ?_
      refine z_iconst O dL_law_1462 kic_2 ?_
      refine z_iadd O dL_law_1463 ?_
      refine z_iaload O dL_law_1464 hr (fun v391 hr => ?_)
      refine b2s hr (fun v393 h392 hF hr => ?_)
      refine z_callV O [vi v390, vi v391] (vi v393) fV_X1_fill q1661 (fun l G => mX1_fill l G N x1 v390 v391 h _ hF) (zck hF) rfl rfl ⟨Nat.le_of_ble_eq_true rfl, Nat.le_of_ble_eq_true rfl⟩ (Nat.le_of_ble_eq_true rfl) dL_law_1465 ?_
      refine z_aload_n O 2 dL_law_1468 rfl rfl ?_
      refine z_aload_n O 0 dL_law_1469 rfl rfl ?_
      refine z_iload O 4 dL_law_1470 rfl ?_
      refine z_iconst O dL_law_1472 kic_1 ?_
      refine z_iadd O dL_law_1473 ?_
      refine z_iaload O dL_law_1474 hr (fun v394 hr => ?_)
      refine z_aload_n O 0 dL_law_1475 rfl rfl ?_
      refine z_iload O 4 dL_law_1476 rfl ?_
      refine z_iconst O dL_law_1478 kic_2 ?_
      refine z_iadd O dL_law_1479 ?_
      refine z_iaload O dL_law_1480 hr (fun v395 hr => ?_)
      refine b2s hr (fun v397 h396 hF hr => ?_)
      refine z_callV O [vi v394, vi v395] (vi v397) fV_X9_fill q2575 (fun l G => mX9_fill l G N x2 v394 v395 h392 _ hF) (zck hF) rfl rfl ⟨Nat.le_of_ble_eq_true rfl, Nat.le_of_ble_eq_true rfl⟩ (Nat.le_of_ble_eq_true rfl) dL_law_1481 ?_
      refine z_icmp_eq (tgt := 1856) O dL_law_1484 (by decide) hr (fun hr => ?_) (fun hr => ?_)
      · refine z_iincL O 4 (fun v398 => [(4, vi v398), (0, vr x0), (1, vr x1), (2, vr x2), (3, vr x3)]) dL_law_1856 rfl rfl (by decide) (fun _ => rfl) hr (fun v398 hr => ?_)
        refine z_goto (tgt := 23) O dL_law_1859 (by decide) ?_
        refine z_sub [1, 2, 3, 4, 0] rfl ?_
        exact hrec23 v398 h396 _ hr
      · refine z_iconst O dL_law_1487 kic_0 ?_
        refine bs hr (fun v399 e0 hr => ?_)
        obtain ⟨e1, e2, -⟩ := zb_spec e0
        exact z_zret O e2 dL_law_1488 (by cases hr; cases e1; rfl)
    refine zite hr (fun c42 hr => ?_) (fun c42 hr => ?_)
    · refine z_tabIn (v := (37 : Int32)) (off := 1449) (tgt := 1489) O dL_law_40 c42 (by decide) (by decide +kernel) (by decide) ?_
      refine z_aload_n O 1 dL_law_1489 rfl rfl ?_
      refine z_aload_n O 0 dL_law_1490 rfl rfl ?_
      refine z_iload O 4 dL_law_1491 rfl ?_
      refine z_iconst O dL_law_1493 kic_1 ?_
      refine z_iadd O dL_law_1494 ?_
      refine z_iaload O dL_law_1495 hr (fun v400 hr => ?_)
      refine b2s hr (fun v402 h401 hF hr => ?_)
      refine z_callV O [vi v400] (vi v402) fV_X1_take q1670 (fun l G => mX1_take l G N x1 v400 h _ hF) (zck hF) rfl rfl ⟨Nat.le_of_ble_eq_true rfl, Nat.le_of_ble_eq_true rfl⟩ (Nat.le_of_ble_eq_true rfl) dL_law_1496 ?_
      refine z_aload_n O 2 dL_law_1499 rfl rfl ?_
      refine z_aload_n O 0 dL_law_1500 rfl rfl ?_
      refine z_iload O 4 dL_law_1501 rfl ?_
      refine z_iconst O dL_law_1503 kic_1 ?_
      refine z_iadd O dL_law_1504 ?_
      refine z_iaload O dL_law_1505 hr (fun v403 hr => ?_)
      refine b2s hr (fun v405 h404 hF hr => ?_)
      refine z_callV O [vi v403] (vi v405) fV_X9_take q2587 (fun l G => mX9_take l G N x2 v403 h401 _ hF) (zck hF) rfl rfl ⟨Nat.le_of_ble_eq_true rfl, Nat.le_of_ble_eq_true rfl⟩ (Nat.le_of_ble_eq_true rfl) dL_law_1506 ?_
      refine z_icmp_eq (tgt := 1856) O dL_law_1509 (by decide) hr (fun hr => ?_) (fun hr => ?_)
      · refine z_iincL O 4 (fun v406 => [(4, vi v406), (0, vr x0), (1, vr x1), (2, vr x2), (3, vr x3)]) dL_law_1856 rfl rfl (by decide) (fun _ => rfl) hr (fun v406 hr => ?_)
        refine z_goto (tgt := 23) O dL_law_1859 (by decide) ?_
        refine z_sub [1, 2, 3, 4, 0] rfl ?_
        exact hrec23 v406 h404 _ hr
      · refine z_iconst O dL_law_1512 kic_0 ?_
        refine bs hr (fun v407 e0 hr => ?_)
        obtain ⟨e1, e2, -⟩ := zb_spec e0
        exact z_zret O e2 dL_law_1513 (by cases hr; cases e1; rfl)
    refine zite hr (fun c43 hr => ?_) (fun c43 hr => ?_)
    · refine z_tabIn (v := (38 : Int32)) (off := 1474) (tgt := 1514) O dL_law_40 c43 (by decide) (by decide +kernel) (by decide) ?_
      refine z_aload_n O 1 dL_law_1514 rfl rfl ?_
      refine z_aload_n O 0 dL_law_1515 rfl rfl ?_
      refine z_iload O 4 dL_law_1516 rfl ?_
      refine z_iconst O dL_law_1518 kic_1 ?_
      refine z_iadd O dL_law_1519 ?_
      refine z_iaload O dL_law_1520 hr (fun v408 hr => ?_)
      refine z_aload_n O 0 dL_law_1521 rfl rfl ?_
      refine z_iload O 4 dL_law_1522 rfl ?_
      refine z_iconst O dL_law_1524 kic_2 ?_
      refine z_iadd O dL_law_1525 ?_
      refine z_iaload O dL_law_1526 hr (fun v409 hr => ?_)
      refine z_aload_n O 0 dL_law_1527 rfl rfl ?_
      refine z_iload O 4 dL_law_1528 rfl ?_
      refine z_iconst O dL_law_1530 kic_3 ?_
      refine z_iadd O dL_law_1531 ?_
      refine z_iaload O dL_law_1532 hr (fun v410 hr => ?_)
      refine b2s hr (fun v412 h411 hF hr => ?_)
      refine z_callV O [vi v408, vi v409, vi v410] (vi v412) fV_X1_lock q1675 (fun l G => mX1_lock l G N x1 v408 v409 v410 h _ hF) (zck hF) rfl rfl ⟨Nat.le_of_ble_eq_true rfl, Nat.le_of_ble_eq_true rfl⟩ (Nat.le_of_ble_eq_true rfl) dL_law_1533 ?_
      refine z_aload_n O 2 dL_law_1536 rfl rfl ?_
      refine z_aload_n O 0 dL_law_1537 rfl rfl ?_
      refine z_iload O 4 dL_law_1538 rfl ?_
      refine z_iconst O dL_law_1540 kic_1 ?_
      refine z_iadd O dL_law_1541 ?_
      refine z_iaload O dL_law_1542 hr (fun v413 hr => ?_)
      refine z_aload_n O 0 dL_law_1543 rfl rfl ?_
      refine z_iload O 4 dL_law_1544 rfl ?_
      refine z_iconst O dL_law_1546 kic_2 ?_
      refine z_iadd O dL_law_1547 ?_
      refine z_iaload O dL_law_1548 hr (fun v414 hr => ?_)
      refine z_aload_n O 0 dL_law_1549 rfl rfl ?_
      refine z_iload O 4 dL_law_1550 rfl ?_
      refine z_iconst O dL_law_1552 kic_3 ?_
      refine z_iadd O dL_law_1553 ?_
      refine z_iaload O dL_law_1554 hr (fun v415 hr => ?_)
      refine b2s hr (fun v417 h416 hF hr => ?_)
      refine z_callV O [vi v413, vi v414, vi v415] (vi v417) fV_X9_lock q2591 (fun l G => mX9_lock l G N x2 v413 v414 v415 h411 _ hF) (zck hF) rfl rfl ⟨Nat.le_of_ble_eq_true rfl, Nat.le_of_ble_eq_true rfl⟩ (Nat.le_of_ble_eq_true rfl) dL_law_1555 ?_
      refine z_icmp_eq (tgt := 1856) O dL_law_1558 (by decide) hr (fun hr => ?_) (fun hr => ?_)
      · refine z_iincL O 4 (fun v418 => [(4, vi v418), (0, vr x0), (1, vr x1), (2, vr x2), (3, vr x3)]) dL_law_1856 rfl rfl (by decide) (fun _ => rfl) hr (fun v418 hr => ?_)
        refine z_goto (tgt := 23) O dL_law_1859 (by decide) ?_
        refine z_sub [1, 2, 3, 4, 0] rfl ?_
        exact hrec23 v418 h416 _ hr
      · refine z_iconst O dL_law_1561 kic_0 ?_
        refine bs hr (fun v419 e0 hr => ?_)
        obtain ⟨e1, e2, -⟩ := zb_spec e0
        exact z_zret O e2 dL_law_1562 (by cases hr; cases e1; rfl)
    refine zite hr (fun c44 hr => ?_) (fun c44 hr => ?_)
    · refine z_tabIn (v := (39 : Int32)) (off := 1523) (tgt := 1563) O dL_law_40 c44 (by decide) (by decide +kernel) (by decide) ?_
      refine z_aload_n O 1 dL_law_1563 rfl rfl ?_
      refine z_aload_n O 0 dL_law_1564 rfl rfl ?_
      refine z_iload O 4 dL_law_1565 rfl ?_
      refine z_iconst O dL_law_1567 kic_1 ?_
      refine z_iadd O dL_law_1568 ?_
      refine z_iaload O dL_law_1569 hr (fun v420 hr => ?_)
      refine z_aload_n O 0 dL_law_1570 rfl rfl ?_
      refine z_iload O 4 dL_law_1571 rfl ?_
      refine z_iconst O dL_law_1573 kic_2 ?_
      refine z_iadd O dL_law_1574 ?_
      refine z_iaload O dL_law_1575 hr (fun v421 hr => ?_)
      refine b2s hr (fun v423 h422 hF hr => ?_)
      refine z_callV O [vi v420, vi v421] (vi v423) fV_X1_move q1679 (fun l G => mX1_move l G N x1 v420 v421 h _ hF) (zck hF) rfl rfl ⟨Nat.le_of_ble_eq_true rfl, Nat.le_of_ble_eq_true rfl⟩ (Nat.le_of_ble_eq_true rfl) dL_law_1576 ?_
      refine z_aload_n O 2 dL_law_1579 rfl rfl ?_
      refine z_aload_n O 0 dL_law_1580 rfl rfl ?_
      refine z_iload O 4 dL_law_1581 rfl ?_
      refine z_iconst O dL_law_1583 kic_1 ?_
      refine z_iadd O dL_law_1584 ?_
      refine z_iaload O dL_law_1585 hr (fun v424 hr => ?_)
      refine z_aload_n O 0 dL_law_1586 rfl rfl ?_
      refine z_iload O 4 dL_law_1587 rfl ?_
      refine z_iconst O dL_law_1589 kic_2 ?_
      refine z_iadd O dL_law_1590 ?_
      refine z_iaload O dL_law_1591 hr (fun v425 hr => ?_)
      refine b2s hr (fun v427 h426 hF hr => ?_)
      refine z_callV O [vi v424, vi v425] (vi v427) fV_X9_move q2595 (fun l G => mX9_move l G N x2 v424 v425 h422 _ hF) (zck hF) rfl rfl ⟨Nat.le_of_ble_eq_true rfl, Nat.le_of_ble_eq_true rfl⟩ (Nat.le_of_ble_eq_true rfl) dL_law_1592 ?_
      refine z_icmp_eq (tgt := 1856) O dL_law_1595 (by decide) hr (fun hr => ?_) (fun hr => ?_)
      · refine z_iincL O 4 (fun v428 => [(4, vi v428), (0, vr x0), (1, vr x1), (2, vr x2), (3, vr x3)]) dL_law_1856 rfl rfl (by decide) (fun _ => rfl) hr (fun v428 hr => ?_)
        refine z_goto (tgt := 23) O dL_law_1859 (by decide) ?_
        refine z_sub [1, 2, 3, 4, 0] rfl ?_
        exact hrec23 v428 h426 _ hr
      · refine z_iconst O dL_law_1598 kic_0 ?_
        refine bs hr (fun v429 e0 hr => ?_)
        obtain ⟨e1, e2, -⟩ := zb_spec e0
        exact z_zret O e2 dL_law_1599 (by cases hr; cases e1; rfl)
    refine zite hr (fun c45 hr => ?_) (fun c45 hr => ?_)
    · refine z_tabIn (v := (40 : Int32)) (off := 1560) (tgt := 1600) O dL_law_40 c45 (by decide) (by decide +kernel) (by decide) ?_
      refine z_aload_n O 1 dL_law_1600 rfl rfl ?_
      refine z_aload_n O 0 dL_law_1601 rfl rfl ?_
      refine z_iload O 4 dL_law_1602 rfl ?_
      refine z_iconst O dL_law_1604 kic_1 ?_
      refine z_iadd O dL_law_1605 ?_
      refine z_iaload O dL_law_1606 hr (fun v430 hr => ?_)
      refine z_aload_n O 0 dL_law_1607 rfl rfl ?_
      refine z_iload O 4 dL_law_1608 rfl ?_
      refine z_iconst O dL_law_1610 kic_2 ?_
      refine z_iadd O dL_law_1611 ?_
      refine z_iaload O dL_law_1612 hr (fun v431 hr => ?_)
      refine z_aload_n O 0 dL_law_1613 rfl rfl ?_
      refine z_iload O 4 dL_law_1614 rfl ?_
      refine z_iconst O dL_law_1616 kic_3 ?_
      refine z_iadd O dL_law_1617 ?_
      refine z_iaload O dL_law_1618 hr (fun v432 hr => ?_)
      refine b2s hr (fun v434 h433 hF hr => ?_)
      refine z_callV O [vi v430, vi v431, vi v432] (vi v434) fV_X1_give q1683 (fun l G => mX1_give l G N x1 v430 v431 v432 h _ hF) (zck hF) rfl rfl ⟨Nat.le_of_ble_eq_true rfl, Nat.le_of_ble_eq_true rfl⟩ (Nat.le_of_ble_eq_true rfl) dL_law_1619 ?_
      refine z_aload_n O 2 dL_law_1622 rfl rfl ?_
      refine z_aload_n O 0 dL_law_1623 rfl rfl ?_
      refine z_iload O 4 dL_law_1624 rfl ?_
      refine z_iconst O dL_law_1626 kic_1 ?_
      refine z_iadd O dL_law_1627 ?_
      refine z_iaload O dL_law_1628 hr (fun v435 hr => ?_)
      refine z_aload_n O 0 dL_law_1629 rfl rfl ?_
      refine z_iload O 4 dL_law_1630 rfl ?_
      refine z_iconst O dL_law_1632 kic_2 ?_
      refine z_iadd O dL_law_1633 ?_
      refine z_iaload O dL_law_1634 hr (fun v436 hr => ?_)
      refine z_aload_n O 0 dL_law_1635 rfl rfl ?_
      refine z_iload O 4 dL_law_1636 rfl ?_
      refine z_iconst O dL_law_1638 kic_3 ?_
      refine z_iadd O dL_law_1639 ?_
      refine z_iaload O dL_law_1640 hr (fun v437 hr => ?_)
      refine b2s hr (fun v439 h438 hF hr => ?_)
      refine z_callV O [vi v435, vi v436, vi v437] (vi v439) fV_X9_give q2599 (fun l G => mX9_give l G N x2 v435 v436 v437 h433 _ hF) (zck hF) rfl rfl ⟨Nat.le_of_ble_eq_true rfl, Nat.le_of_ble_eq_true rfl⟩ (Nat.le_of_ble_eq_true rfl) dL_law_1641 ?_
      refine z_icmp_eq (tgt := 1856) O dL_law_1644 (by decide) hr (fun hr => ?_) (fun hr => ?_)
      · refine z_iincL O 4 (fun v440 => [(4, vi v440), (0, vr x0), (1, vr x1), (2, vr x2), (3, vr x3)]) dL_law_1856 rfl rfl (by decide) (fun _ => rfl) hr (fun v440 hr => ?_)
        refine z_goto (tgt := 23) O dL_law_1859 (by decide) ?_
        refine z_sub [1, 2, 3, 4, 0] rfl ?_
        exact hrec23 v440 h438 _ hr
      · refine z_iconst O dL_law_1647 kic_0 ?_
        refine bs hr (fun v441 e0 hr => ?_)
        obtain ⟨e1, e2, -⟩ := zb_spec e0
        exact z_zret O e2 dL_law_1648 (by cases hr; cases e1; rfl)
    refine zite hr (fun c46 hr => ?_) (fun c46 hr => ?_)
    · refine z_tabIn (v := (41 : Int32)) (off := 1609) (tgt := 1649) O dL_law_40 c46 (by decide) (by decide +kernel) (by decide) ?_
      refine z_aload_n O 1 dL_law_1649 rfl rfl ?_
      refine z_aload_n O 0 dL_law_1650 rfl rfl ?_
      refine z_iload O 4 dL_law_1651 rfl ?_
      refine z_iconst O dL_law_1653 kic_1 ?_
      refine z_iadd O dL_law_1654 ?_
      refine z_iaload O dL_law_1655 hr (fun v442 hr => ?_)
      refine b2s hr (fun v444 h443 hF hr => ?_)
      refine z_callV O [vi v442] (vi v444) fV_X1_seed q1687 (fun l G => mX1_seed l G x1 v442 h _ hF) (zck hF) rfl rfl ⟨Nat.le_of_ble_eq_true rfl, Nat.le_of_ble_eq_true rfl⟩ (Nat.le_of_ble_eq_true rfl) dL_law_1656 ?_
      refine z_aload_n O 2 dL_law_1659 rfl rfl ?_
      refine z_aload_n O 0 dL_law_1660 rfl rfl ?_
      refine z_iload O 4 dL_law_1661 rfl ?_
      refine z_iconst O dL_law_1663 kic_1 ?_
      refine z_iadd O dL_law_1664 ?_
      refine z_iaload O dL_law_1665 hr (fun v445 hr => ?_)
      refine b2s hr (fun v447 h446 hF hr => ?_)
      refine z_callV O [vi v445] (vi v447) fV_X9_seed q2603 (fun l G => mX9_seed l G x2 v445 h443 _ hF) (zck hF) rfl rfl ⟨Nat.le_of_ble_eq_true rfl, Nat.le_of_ble_eq_true rfl⟩ (Nat.le_of_ble_eq_true rfl) dL_law_1666 ?_
      refine z_icmp_eq (tgt := 1856) O dL_law_1669 (by decide) hr (fun hr => ?_) (fun hr => ?_)
      · refine z_iincL O 4 (fun v448 => [(4, vi v448), (0, vr x0), (1, vr x1), (2, vr x2), (3, vr x3)]) dL_law_1856 rfl rfl (by decide) (fun _ => rfl) hr (fun v448 hr => ?_)
        refine z_goto (tgt := 23) O dL_law_1859 (by decide) ?_
        refine z_sub [1, 2, 3, 4, 0] rfl ?_
        exact hrec23 v448 h446 _ hr
      · refine z_iconst O dL_law_1672 kic_0 ?_
        refine bs hr (fun v449 e0 hr => ?_)
        obtain ⟨e1, e2, -⟩ := zb_spec e0
        exact z_zret O e2 dL_law_1673 (by cases hr; cases e1; rfl)
    refine zite hr (fun c47 hr => ?_) (fun c47 hr => ?_)
    · refine z_tabIn (v := (42 : Int32)) (off := 1634) (tgt := 1674) O dL_law_40 c47 (by decide) (by decide +kernel) (by decide) ?_
      refine z_aload_n O 1 dL_law_1674 rfl rfl ?_
      refine b2s hr (fun v451 h450 hF hr => ?_)
      refine z_callV O [] (vi v451) fV_X1_undo q1691 (fun l G => mX1_undo l G N x1 h _ hF) (zck hF) rfl rfl ⟨Nat.le_of_ble_eq_true rfl, Nat.le_of_ble_eq_true rfl⟩ (Nat.le_of_ble_eq_true rfl) dL_law_1675 ?_
      refine z_aload_n O 2 dL_law_1678 rfl rfl ?_
      refine b2s hr (fun v453 h452 hF hr => ?_)
      refine z_callV O [] (vi v453) fV_X9_undo q2607 (fun l G => mX9_undo l G N x2 h450 _ hF) (zck hF) rfl rfl ⟨Nat.le_of_ble_eq_true rfl, Nat.le_of_ble_eq_true rfl⟩ (Nat.le_of_ble_eq_true rfl) dL_law_1679 ?_
      refine z_icmp_eq (tgt := 1856) O dL_law_1682 (by decide) hr (fun hr => ?_) (fun hr => ?_)
      · refine z_iincL O 4 (fun v454 => [(4, vi v454), (0, vr x0), (1, vr x1), (2, vr x2), (3, vr x3)]) dL_law_1856 rfl rfl (by decide) (fun _ => rfl) hr (fun v454 hr => ?_)
        refine z_goto (tgt := 23) O dL_law_1859 (by decide) ?_
        refine z_sub [1, 2, 3, 4, 0] rfl ?_
        exact hrec23 v454 h452 _ hr
      · refine z_iconst O dL_law_1685 kic_0 ?_
        refine bs hr (fun v455 e0 hr => ?_)
        obtain ⟨e1, e2, -⟩ := zb_spec e0
        exact z_zret O e2 dL_law_1686 (by cases hr; cases e1; rfl)
    refine zite hr (fun c48 hr => ?_) (fun c48 hr => ?_)
    · refine z_tabIn (v := (43 : Int32)) (off := 1647) (tgt := 1687) O dL_law_40 c48 (by decide) (by decide +kernel) (by decide) ?_
      refine z_aload_n O 1 dL_law_1687 rfl rfl ?_
      refine b2s hr (fun v457 h456 hF hr => ?_)
      refine z_callV O [] (vi v457) fV_X1_mark q1695 (fun l G => mX1_mark l G N x1 h _ hF) (zck hF) rfl rfl ⟨Nat.le_of_ble_eq_true rfl, Nat.le_of_ble_eq_true rfl⟩ (Nat.le_of_ble_eq_true rfl) dL_law_1688 ?_
      refine z_aload_n O 2 dL_law_1691 rfl rfl ?_
      refine b2s hr (fun v459 h458 hF hr => ?_)
      refine z_callV O [] (vi v459) fV_X9_mark q2611 (fun l G => mX9_mark l G N x2 h456 _ hF) (zck hF) rfl rfl ⟨Nat.le_of_ble_eq_true rfl, Nat.le_of_ble_eq_true rfl⟩ (Nat.le_of_ble_eq_true rfl) dL_law_1692 ?_
      refine z_icmp_eq (tgt := 1856) O dL_law_1695 (by decide) hr (fun hr => ?_) (fun hr => ?_)
      · refine z_iincL O 4 (fun v460 => [(4, vi v460), (0, vr x0), (1, vr x1), (2, vr x2), (3, vr x3)]) dL_law_1856 rfl rfl (by decide) (fun _ => rfl) hr (fun v460 hr => ?_)
        refine z_goto (tgt := 23) O dL_law_1859 (by decide) ?_
        refine z_sub [1, 2, 3, 4, 0] rfl ?_
        exact hrec23 v460 h458 _ hr
      · refine z_iconst O dL_law_1698 kic_0 ?_
        refine bs hr (fun v461 e0 hr => ?_)
        obtain ⟨e1, e2, -⟩ := zb_spec e0
        exact z_zret O e2 dL_law_1699 (by cases hr; cases e1; rfl)
    refine zite hr (fun c49 hr => ?_) (fun c49 hr => ?_)
    · refine z_tabIn (v := (44 : Int32)) (off := 1660) (tgt := 1700) O dL_law_40 c49 (by decide) (by decide +kernel) (by decide) ?_
      refine z_aload_n O 1 dL_law_1700 rfl rfl ?_
      refine z_aload_n O 0 dL_law_1701 rfl rfl ?_
      refine z_iload O 4 dL_law_1702 rfl ?_
      refine z_iconst O dL_law_1704 kic_1 ?_
      refine z_iadd O dL_law_1705 ?_
      refine z_iaload O dL_law_1706 hr (fun v462 hr => ?_)
      refine b2s hr (fun v464 h463 hF hr => ?_)
      refine z_callV O [vi v462] (vi v464) fV_X1_back q1699 (fun l G => mX1_back l G N x1 v462 h _ hF) (zck hF) rfl rfl ⟨Nat.le_of_ble_eq_true rfl, Nat.le_of_ble_eq_true rfl⟩ (Nat.le_of_ble_eq_true rfl) dL_law_1707 ?_
      refine z_aload_n O 2 dL_law_1710 rfl rfl ?_
      refine z_aload_n O 0 dL_law_1711 rfl rfl ?_
      refine z_iload O 4 dL_law_1712 rfl ?_
      refine z_iconst O dL_law_1714 kic_1 ?_
      refine z_iadd O dL_law_1715 ?_
      refine z_iaload O dL_law_1716 hr (fun v465 hr => ?_)
      refine b2s hr (fun v467 h466 hF hr => ?_)
      refine z_callV O [vi v465] (vi v467) fV_X9_back q2615 (fun l G => mX9_back l G N x2 v465 h463 _ hF) (zck hF) rfl rfl ⟨Nat.le_of_ble_eq_true rfl, Nat.le_of_ble_eq_true rfl⟩ (Nat.le_of_ble_eq_true rfl) dL_law_1717 ?_
      refine z_icmp_eq (tgt := 1856) O dL_law_1720 (by decide) hr (fun hr => ?_) (fun hr => ?_)
      · refine z_iincL O 4 (fun v468 => [(4, vi v468), (0, vr x0), (1, vr x1), (2, vr x2), (3, vr x3)]) dL_law_1856 rfl rfl (by decide) (fun _ => rfl) hr (fun v468 hr => ?_)
        refine z_goto (tgt := 23) O dL_law_1859 (by decide) ?_
        refine z_sub [1, 2, 3, 4, 0] rfl ?_
        exact hrec23 v468 h466 _ hr
      · refine z_iconst O dL_law_1723 kic_0 ?_
        refine bs hr (fun v469 e0 hr => ?_)
        obtain ⟨e1, e2, -⟩ := zb_spec e0
        exact z_zret O e2 dL_law_1724 (by cases hr; cases e1; rfl)
    refine zite hr (fun c50 hr => ?_) (fun c50 hr => ?_)
    · refine z_tabIn (v := (45 : Int32)) (off := 1685) (tgt := 1725) O dL_law_40 c50 (by decide) (by decide +kernel) (by decide) ?_
      refine z_aload_n O 1 dL_law_1725 rfl rfl ?_
      refine z_aload_n O 0 dL_law_1726 rfl rfl ?_
      refine z_iload O 4 dL_law_1727 rfl ?_
      refine z_iconst O dL_law_1729 kic_1 ?_
      refine z_iadd O dL_law_1730 ?_
      refine z_iaload O dL_law_1731 hr (fun v470 hr => ?_)
      refine z_aload_n O 0 dL_law_1732 rfl rfl ?_
      refine z_iload O 4 dL_law_1733 rfl ?_
      refine z_iconst O dL_law_1735 kic_2 ?_
      refine z_iadd O dL_law_1736 ?_
      refine z_iaload O dL_law_1737 hr (fun v471 hr => ?_)
      refine b2s hr (fun v473 h472 hF hr => ?_)
      refine z_callV O [vi v470, vi v471] (vi v473) fV_X1_stone q1703 (fun l G => mX1_stone l G x1 v470 v471 h _ hF) (zck hF) rfl rfl ⟨Nat.le_of_ble_eq_true rfl, Nat.le_of_ble_eq_true rfl⟩ (Nat.le_of_ble_eq_true rfl) dL_law_1738 ?_
      refine z_aload_n O 2 dL_law_1741 rfl rfl ?_
      refine z_aload_n O 0 dL_law_1742 rfl rfl ?_
      refine z_iload O 4 dL_law_1743 rfl ?_
      refine z_iconst O dL_law_1745 kic_1 ?_
      refine z_iadd O dL_law_1746 ?_
      refine z_iaload O dL_law_1747 hr (fun v474 hr => ?_)
      refine z_aload_n O 0 dL_law_1748 rfl rfl ?_
      refine z_iload O 4 dL_law_1749 rfl ?_
      refine z_iconst O dL_law_1751 kic_2 ?_
      refine z_iadd O dL_law_1752 ?_
      refine z_iaload O dL_law_1753 hr (fun v475 hr => ?_)
      refine b2s hr (fun v477 h476 hF hr => ?_)
      refine z_callV O [vi v474, vi v475] (vi v477) fV_X9_stone q2619 (fun l G => mX9_stone l G x2 v474 v475 h472 _ hF) (zck hF) rfl rfl ⟨Nat.le_of_ble_eq_true rfl, Nat.le_of_ble_eq_true rfl⟩ (Nat.le_of_ble_eq_true rfl) dL_law_1754 ?_
      refine z_icmp_eq (tgt := 1856) O dL_law_1757 (by decide) hr (fun hr => ?_) (fun hr => ?_)
      · refine z_iincL O 4 (fun v478 => [(4, vi v478), (0, vr x0), (1, vr x1), (2, vr x2), (3, vr x3)]) dL_law_1856 rfl rfl (by decide) (fun _ => rfl) hr (fun v478 hr => ?_)
        refine z_goto (tgt := 23) O dL_law_1859 (by decide) ?_
        refine z_sub [1, 2, 3, 4, 0] rfl ?_
        exact hrec23 v478 h476 _ hr
      · refine z_iconst O dL_law_1760 kic_0 ?_
        refine bs hr (fun v479 e0 hr => ?_)
        obtain ⟨e1, e2, -⟩ := zb_spec e0
        exact z_zret O e2 dL_law_1761 (by cases hr; cases e1; rfl)
    refine zite hr (fun c51 hr => ?_) (fun c51 hr => ?_)
    · refine z_tabIn (v := (46 : Int32)) (off := 1722) (tgt := 1762) O dL_law_40 c51 (by decide) (by decide +kernel) (by decide) ?_
      refine z_aload_n O 1 dL_law_1762 rfl rfl ?_
      refine z_aload_n O 0 dL_law_1763 rfl rfl ?_
      refine z_iload O 4 dL_law_1764 rfl ?_
      refine z_iconst O dL_law_1766 kic_1 ?_
      refine z_iadd O dL_law_1767 ?_
      refine z_iaload O dL_law_1768 hr (fun v480 hr => ?_)
      refine z_aload_n O 3 dL_law_1769 rfl rfl ?_
      refine b2s hr (fun v482 h481 hF hr => ?_)
      refine z_callSH O [vr x1, vi v480, vr x3] (vi v482) fS_X0_led q1727 (fun l G => mX0_led l G N x1 v480 x3 h _ hF) rfl ⟨Nat.le_of_ble_eq_true rfl, Nat.le_of_ble_eq_true rfl⟩ (Nat.le_of_ble_eq_true rfl) dL_law_1770 ?_
      refine z_istore O [(5, vi v482), (0, vr x0), (1, vr x1), (2, vr x2), (3, vr x3), (4, vi x4)] dL_law_1773 (by decide) rfl ?_
      refine z_aload_n O 3 dL_law_1775 rfl rfl ?_
      refine z_aload_n O 1 dL_law_1776 rfl rfl ?_
      refine z_iload O 5 dL_law_1777 rfl ?_
      refine z_iconst O dL_law_1779 kic_1 ?_
      refine z_iadd O dL_law_1780 ?_
      refine z_iaload O dL_law_1781 hr (fun v483 hr => ?_)
      refine b2s hr (fun v485 h484 hF hr => ?_)
      refine z_callV O [vi v483] (vi v485) fV_X9_led q2623 (fun l G => mX9_led l G N x2 v483 h481 _ hF) (zck hF) rfl rfl ⟨Nat.le_of_ble_eq_true rfl, Nat.le_of_ble_eq_true rfl⟩ (Nat.le_of_ble_eq_true rfl) dL_law_1782 ?_
      refine z_istore O [(6, vi v485), (5, vi v482), (0, vr x0), (1, vr x1), (2, vr x2), (3, vr x3), (4, vi x4)] dL_law_1785 (by decide) rfl ?_
      refine z_aload_n O 4 dL_law_1787 rfl rfl ?_
      refine bs hr (fun v486 hF hr => ?_)
      refine z_callV O [] (vi v486) fV_X9_thrown q1874 (fun l G => mX9_thrown l G x2 h484 _ hF) (zck hF) rfl rfl ⟨Nat.le_of_ble_eq_true rfl, Nat.le_of_ble_eq_true rfl⟩ (Nat.le_of_ble_eq_true rfl) dL_law_1788 ?_
      refine z_iload O 1 dL_law_1791 rfl ?_
      refine z_icmp_eq (tgt := 1798) O dL_law_1793 (by decide) hr (fun hr => ?_) (fun hr => ?_)
      · refine z_iload O 1 dL_law_1798 rfl ?_
        refine z_if_ne (tgt := 1815) O dL_law_1800 (by decide) hr (fun hr => ?_) (fun hr => ?_)
        · refine z_aload_n O 5 dL_law_1803 rfl rfl ?_
          refine z_iconst O dL_law_1804 kic_0 ?_
          refine z_laload O dL_law_1805 hr (fun v488 hr => ?_)
          refine z_iload O 0 dL_law_1806 rfl ?_
          refine z_i2l O dL_law_1808 ?_
          refine z_lcmp O dL_law_1809 ?_
          refine z_if_eq (tgt := 1815) O dL_law_1810 (by decide) hr (fun hr => ?_) (fun hr => ?_)
          · refine z_goto (tgt := 1856) O dL_law_1815 (by decide) ?_
            refine z_iincL O 6 (fun v489 => [(4, vi v489), (6, vi v485), (5, vi v482), (0, vr x0), (1, vr x1), (2, vr x2), (3, vr x3)]) dL_law_1856 rfl rfl (by decide) (fun _ => rfl) hr (fun v489 hr => ?_)
            refine z_goto (tgt := 23) O dL_law_1859 (by decide) ?_
            refine z_sub [3, 4, 5, 6, 0] rfl ?_
            exact hrec23 v489 h484 _ hr
          · refine z_iconst O dL_law_1813 kic_0 ?_
            refine bs hr (fun v490 e0 hr => ?_)
            obtain ⟨e1, e2, -⟩ := zb_spec e0
            exact z_zret O e2 dL_law_1814 (by cases hr; cases e1; rfl)
        · refine z_goto (tgt := 1856) O dL_law_1815 (by decide) ?_
          refine z_iincL O 6 (fun v487 => [(4, vi v487), (6, vi v485), (5, vi v482), (0, vr x0), (1, vr x1), (2, vr x2), (3, vr x3)]) dL_law_1856 rfl rfl (by decide) (fun _ => rfl) hr (fun v487 hr => ?_)
          refine z_goto (tgt := 23) O dL_law_1859 (by decide) ?_
          refine z_sub [3, 4, 5, 6, 0] rfl ?_
          exact hrec23 v487 h484 _ hr
      · refine z_iconst O dL_law_1796 kic_0 ?_
        refine bs hr (fun v491 e0 hr => ?_)
        obtain ⟨e1, e2, -⟩ := zb_spec e0
        exact z_zret O e2 dL_law_1797 (by cases hr; cases e1; rfl)
    refine zite hr (fun c52 hr => ?_) (fun c52 hr => ?_)
    · refine z_tabIn (v := (47 : Int32)) (off := 1778) (tgt := 1818) O dL_law_40 c52 (by decide) (by decide +kernel) (by decide) ?_
      refine z_aload_n O 1 dL_law_1818 rfl rfl ?_
      refine z_aload_n O 0 dL_law_1819 rfl rfl ?_
      refine z_iload O 4 dL_law_1820 rfl ?_
      refine z_iconst O dL_law_1822 kic_1 ?_
      refine z_iadd O dL_law_1823 ?_
      refine z_iaload O dL_law_1824 hr (fun v492 hr => ?_)
      refine bs hr (fun v493 hF hr => ?_)
      refine z_callV O [vi v492] (vi v493) fV_X1_size q1719 (fun l G => mX1_size l G x1 v492 h _ hF) (zck hF) rfl rfl ⟨Nat.le_of_ble_eq_true rfl, Nat.le_of_ble_eq_true rfl⟩ (Nat.le_of_ble_eq_true rfl) dL_law_1825 ?_
      refine z_aload_n O 2 dL_law_1828 rfl rfl ?_
      refine z_aload_n O 0 dL_law_1829 rfl rfl ?_
      refine z_iload O 4 dL_law_1830 rfl ?_
      refine z_iconst O dL_law_1832 kic_1 ?_
      refine z_iadd O dL_law_1833 ?_
      refine z_iaload O dL_law_1834 hr (fun v494 hr => ?_)
      refine b2s hr (fun v496 h495 hF hr => ?_)
      refine z_callV O [vi v494] (vi v496) fV_X9_size q2627 (fun l G => mX9_size l G x2 v494 h _ hF) (zck hF) rfl rfl ⟨Nat.le_of_ble_eq_true rfl, Nat.le_of_ble_eq_true rfl⟩ (Nat.le_of_ble_eq_true rfl) dL_law_1835 ?_
      refine z_icmp_eq (tgt := 1856) O dL_law_1838 (by decide) hr (fun hr => ?_) (fun hr => ?_)
      · refine z_iincL O 4 (fun v497 => [(4, vi v497), (0, vr x0), (1, vr x1), (2, vr x2), (3, vr x3)]) dL_law_1856 rfl rfl (by decide) (fun _ => rfl) hr (fun v497 hr => ?_)
        refine z_goto (tgt := 23) O dL_law_1859 (by decide) ?_
        refine z_sub [1, 2, 3, 4, 0] rfl ?_
        exact hrec23 v497 h495 _ hr
      · refine z_iconst O dL_law_1841 kic_0 ?_
        refine bs hr (fun v498 e0 hr => ?_)
        obtain ⟨e1, e2, -⟩ := zb_spec e0
        exact z_zret O e2 dL_law_1842 (by cases hr; cases e1; rfl)
    refine zite hr (fun c53 hr => ?_) (fun c53 hr => ?_)
    · refine z_tabIn (v := (48 : Int32)) (off := 1803) (tgt := 1843) O dL_law_40 c53 (by decide) (by decide +kernel) (by decide) ?_
      refine z_aload_n O 1 dL_law_1843 rfl rfl ?_
      refine bs hr (fun v499 hF hr => ?_)
      refine z_callV O [] (vi v499) fV_X1_trouble q1723 (fun l G => mX1_trouble l G x1 h _ hF) (zck hF) rfl rfl ⟨Nat.le_of_ble_eq_true rfl, Nat.le_of_ble_eq_true rfl⟩ (Nat.le_of_ble_eq_true rfl) dL_law_1844 ?_
      refine z_aload_n O 2 dL_law_1847 rfl rfl ?_
      refine b2s hr (fun v501 h500 hF hr => ?_)
      refine z_callV O [] (vi v501) fV_X9_trouble q2631 (fun l G => mX9_trouble l G x2 h _ hF) (zck hF) rfl rfl ⟨Nat.le_of_ble_eq_true rfl, Nat.le_of_ble_eq_true rfl⟩ (Nat.le_of_ble_eq_true rfl) dL_law_1848 ?_
      refine z_icmp_eq (tgt := 1856) O dL_law_1851 (by decide) hr (fun hr => ?_) (fun hr => ?_)
      · refine z_iincL O 4 (fun v502 => [(4, vi v502), (0, vr x0), (1, vr x1), (2, vr x2), (3, vr x3)]) dL_law_1856 rfl rfl (by decide) (fun _ => rfl) hr (fun v502 hr => ?_)
        refine z_goto (tgt := 23) O dL_law_1859 (by decide) ?_
        refine z_sub [1, 2, 3, 4, 0] rfl ?_
        exact hrec23 v502 h500 _ hr
      · refine z_iconst O dL_law_1854 kic_0 ?_
        refine bs hr (fun v503 e0 hr => ?_)
        obtain ⟨e1, e2, -⟩ := zb_spec e0
        exact z_zret O e2 dL_law_1855 (by cases hr; cases e1; rfl)
    refine z_tabOut (tgt := 1856) O dL_law_40 (zt_out 49 (by decide) (lt_s (p := fun j : Nat => ¬ v4.toInt = (0 : Int) + (j : Int)) (lt_s (p := fun j : Nat => ¬ v4.toInt = (0 : Int) + (j : Int)) (lt_s (p := fun j : Nat => ¬ v4.toInt = (0 : Int) + (j : Int)) (lt_s (p := fun j : Nat => ¬ v4.toInt = (0 : Int) + (j : Int)) (lt_s (p := fun j : Nat => ¬ v4.toInt = (0 : Int) + (j : Int)) (lt_s (p := fun j : Nat => ¬ v4.toInt = (0 : Int) + (j : Int)) (lt_s (p := fun j : Nat => ¬ v4.toInt = (0 : Int) + (j : Int)) (lt_s (p := fun j : Nat => ¬ v4.toInt = (0 : Int) + (j : Int)) (lt_s (p := fun j : Nat => ¬ v4.toInt = (0 : Int) + (j : Int)) (lt_s (p := fun j : Nat => ¬ v4.toInt = (0 : Int) + (j : Int)) (lt_s (p := fun j : Nat => ¬ v4.toInt = (0 : Int) + (j : Int)) (lt_s (p := fun j : Nat => ¬ v4.toInt = (0 : Int) + (j : Int)) (lt_s (p := fun j : Nat => ¬ v4.toInt = (0 : Int) + (j : Int)) (lt_s (p := fun j : Nat => ¬ v4.toInt = (0 : Int) + (j : Int)) (lt_s (p := fun j : Nat => ¬ v4.toInt = (0 : Int) + (j : Int)) (lt_s (p := fun j : Nat => ¬ v4.toInt = (0 : Int) + (j : Int)) (lt_s (p := fun j : Nat => ¬ v4.toInt = (0 : Int) + (j : Int)) (lt_s (p := fun j : Nat => ¬ v4.toInt = (0 : Int) + (j : Int)) (lt_s (p := fun j : Nat => ¬ v4.toInt = (0 : Int) + (j : Int)) (lt_s (p := fun j : Nat => ¬ v4.toInt = (0 : Int) + (j : Int)) (lt_s (p := fun j : Nat => ¬ v4.toInt = (0 : Int) + (j : Int)) (lt_s (p := fun j : Nat => ¬ v4.toInt = (0 : Int) + (j : Int)) (lt_s (p := fun j : Nat => ¬ v4.toInt = (0 : Int) + (j : Int)) (lt_s (p := fun j : Nat => ¬ v4.toInt = (0 : Int) + (j : Int)) (lt_s (p := fun j : Nat => ¬ v4.toInt = (0 : Int) + (j : Int)) (lt_s (p := fun j : Nat => ¬ v4.toInt = (0 : Int) + (j : Int)) (lt_s (p := fun j : Nat => ¬ v4.toInt = (0 : Int) + (j : Int)) (lt_s (p := fun j : Nat => ¬ v4.toInt = (0 : Int) + (j : Int)) (lt_s (p := fun j : Nat => ¬ v4.toInt = (0 : Int) + (j : Int)) (lt_s (p := fun j : Nat => ¬ v4.toInt = (0 : Int) + (j : Int)) (lt_s (p := fun j : Nat => ¬ v4.toInt = (0 : Int) + (j : Int)) (lt_s (p := fun j : Nat => ¬ v4.toInt = (0 : Int) + (j : Int)) (lt_s (p := fun j : Nat => ¬ v4.toInt = (0 : Int) + (j : Int)) (lt_s (p := fun j : Nat => ¬ v4.toInt = (0 : Int) + (j : Int)) (lt_s (p := fun j : Nat => ¬ v4.toInt = (0 : Int) + (j : Int)) (lt_s (p := fun j : Nat => ¬ v4.toInt = (0 : Int) + (j : Int)) (lt_s (p := fun j : Nat => ¬ v4.toInt = (0 : Int) + (j : Int)) (lt_s (p := fun j : Nat => ¬ v4.toInt = (0 : Int) + (j : Int)) (lt_s (p := fun j : Nat => ¬ v4.toInt = (0 : Int) + (j : Int)) (lt_s (p := fun j : Nat => ¬ v4.toInt = (0 : Int) + (j : Int)) (lt_s (p := fun j : Nat => ¬ v4.toInt = (0 : Int) + (j : Int)) (lt_s (p := fun j : Nat => ¬ v4.toInt = (0 : Int) + (j : Int)) (lt_s (p := fun j : Nat => ¬ v4.toInt = (0 : Int) + (j : Int)) (lt_s (p := fun j : Nat => ¬ v4.toInt = (0 : Int) + (j : Int)) (lt_s (p := fun j : Nat => ¬ v4.toInt = (0 : Int) + (j : Int)) (lt_s (p := fun j : Nat => ¬ v4.toInt = (0 : Int) + (j : Int)) (lt_s (p := fun j : Nat => ¬ v4.toInt = (0 : Int) + (j : Int)) (lt_s (p := fun j : Nat => ¬ v4.toInt = (0 : Int) + (j : Int)) (lt_s (p := fun j : Nat => ¬ v4.toInt = (0 : Int) + (j : Int)) lt_0 (lv_neT c5 (by decide))) (lv_neT c6 (by decide))) (lv_neT c7 (by decide))) (lv_neT c8 (by decide))) (lv_neT c9 (by decide))) (lv_neT c10 (by decide))) (lv_neT c11 (by decide))) (lv_neT c12 (by decide))) (lv_neT c13 (by decide))) (lv_neT c14 (by decide))) (lv_neT c15 (by decide))) (lv_neT c16 (by decide))) (lv_neT c17 (by decide))) (lv_neT c18 (by decide))) (lv_neT c19 (by decide))) (lv_neT c20 (by decide))) (lv_neT c21 (by decide))) (lv_neT c22 (by decide))) (lv_neT c23 (by decide))) (lv_neT c24 (by decide))) (lv_neT c25 (by decide))) (lv_neT c26 (by decide))) (lv_neT c27 (by decide))) (lv_neT c28 (by decide))) (lv_neT c29 (by decide))) (lv_neT c30 (by decide))) (lv_neT c31 (by decide))) (lv_neT c32 (by decide))) (lv_neT c33 (by decide))) (lv_neT c34 (by decide))) (lv_neT c35 (by decide))) (lv_neT c36 (by decide))) (lv_neT c37 (by decide))) (lv_neT c38 (by decide))) (lv_neT c39 (by decide))) (lv_neT c40 (by decide))) (lv_neT c41 (by decide))) (lv_neT c42 (by decide))) (lv_neT c43 (by decide))) (lv_neT c44 (by decide))) (lv_neT c45 (by decide))) (lv_neT c46 (by decide))) (lv_neT c47 (by decide))) (lv_neT c48 (by decide))) (lv_neT c49 (by decide))) (lv_neT c50 (by decide))) (lv_neT c51 (by decide))) (lv_neT c52 (by decide))) (lv_neT c53 (by decide)))) (by decide) ?_
    refine z_iincL O 4 (fun v504 => [(4, vi v504), (0, vr x0), (1, vr x1), (2, vr x2), (3, vr x3)]) dL_law_1856 rfl rfl (by decide) (fun _ => rfl) hr (fun v504 hr => ?_)
    refine z_goto (tgt := 23) O dL_law_1859 (by decide) ?_
    refine z_sub [1, 2, 3, 4, 0] rfl ?_
    exact hrec23 v504 h _ hr
theorem wL_law_23 {K : ZC} (O : ZOk K cL_law RX0 "law" 7 ret 16 389) (N : Nat) (x0 : Option Nat) (x1 : Option Nat) (x2 : Option Nat) (x3 : Option Nat) : ∀ (n : Nat) (x4 : Int32) (h : AH) (r : Int32 × AH), lf (fun _ _ => none) (BL_law_23 N x0 x1 x2 x3) n x4 h = some r → Zw K (eIH r) h 23 [(0, vr x0), (1, vr x1), (2, vr x2), (3, vr x3), (4, vi x4)] [] := by
  intro n
  induction n with
  | zero => intro x4 h r hr; cases hr
  | succ n ih => intro x4 h r hr; exact wL_law_23B O N x0 x1 x2 x3 (lf (fun _ _ => none) (BL_law_23 N x0 x1 x2 x3) n)  ih x4 h r hr
def F_L_law (N : Nat) (x0 : Option Nat) (h : AH) : Option (Int32 × AH) :=
  b2 (nO h 1 18 [.null, .int 0, .null, .null, .int 0, .int 0, .int 0, .int 0, .int 0, .null, .null, .null, .null, .null, .null, .null, .int 0, .null]) fun v1 h2 =>
  (F_X1_init N v1 h2).bind fun h3 =>
  b2 (nO h3 9 37 [.int 0, .int 0, .int 0, .null, .null, .null, .int 0, .int 0, .int 0, .int 0, .int 0, .int 0, .int 0, .int 0, .int 0, .long 0, .null, .null, .null, .null, .int 0, .int 0, .int 0, .int 0, .null, .null, .null, .null, .int 0, .null, .null, .null, .null, .null, .null, .null, .int 0]) fun v4 h5 =>
  (F_X9_init v4 h5).bind fun h6 =>
  b2 (nJ_ h6 (1 : Int32)) fun v7 h8 =>
  LL_law_23 N x0 v1 v4 v7 (0 : Int32) h8
theorem wL_law_0 {K : ZC} (O : ZOk K cL_law RX0 "law" 7 ret 16 389) (N : Nat) (x0 : Option Nat) (h : AH) (r : Int32 × AH) (hr : F_L_law N x0 h = some r) : Zw K (eIH r) h 0 [(0, vr x0)] [] := by
  unfold F_L_law at hr
  refine z_new O (t := 1) (n := 18) (tyf := tyX1) rfl [.null, .int 0, .null, .null, .int 0, .int 0, .int 0, .int 0, .int 0, .null, .null, .null, .null, .null, .null, .null, .int 0, .null] tyX1_ok rfl in_X1 q157 q158 q126 dL_law_0 hr (fun v1 h2 hr => ?_)
  refine z_dup O dL_law_3 rfl ?_
  refine bs hr (fun h3 hF hr => ?_)
  refine z_callI_ O [] fI_X1_init q159 (fun l G => mX1_init l G N (some v1) h2 _ hF) rfl ⟨Nat.le_of_ble_eq_true rfl, Nat.le_of_ble_eq_true rfl⟩ (Nat.le_of_ble_eq_true rfl) dL_law_4 ?_
  refine z_astore_n O [(1, vr (some v1)), (0, vr x0)] dL_law_7 rfl (by decide) rfl ?_
  refine z_new O (t := 9) (n := 37) (tyf := tyX9) rfl [.int 0, .int 0, .int 0, .null, .null, .null, .int 0, .int 0, .int 0, .int 0, .int 0, .int 0, .int 0, .int 0, .int 0, .long 0, .null, .null, .null, .null, .int 0, .int 0, .int 0, .int 0, .null, .null, .null, .null, .int 0, .null, .null, .null, .null, .null, .null, .null, .int 0] tyX9_ok rfl in_X9 q1756 q1757 q137 dL_law_8 hr (fun v4 h5 hr => ?_)
  refine z_dup O dL_law_11 rfl ?_
  refine bs hr (fun h6 hF hr => ?_)
  refine z_callI_ O [] fI_X9_init q1758 (fun l G => mX9_init l G (some v4) h5 _ hF) rfl ⟨Nat.le_of_ble_eq_true rfl, Nat.le_of_ble_eq_true rfl⟩ (Nat.le_of_ble_eq_true rfl) dL_law_12 ?_
  refine z_astore_n O [(2, vr (some v4)), (1, vr (some v1)), (0, vr x0)] dL_law_15 rfl (by decide) rfl ?_
  refine z_iconst O dL_law_16 kic_1 ?_
  refine z_newarrJ O q2011 dL_law_17 hr (fun v7 h8 hr => ?_)
  refine z_astore_n O [(3, vr (some v7)), (2, vr (some v4)), (1, vr (some v1)), (0, vr x0)] dL_law_19 rfl (by decide) rfl ?_
  refine z_iconst O dL_law_20 kic_0 ?_
  refine z_istore O [(4, vi (0 : Int32)), (3, vr (some v7)), (2, vr (some v4)), (1, vr (some v1)), (0, vr x0)] dL_law_21 (by decide) rfl ?_
  refine z_sub [4, 3, 2, 1, 0] rfl ?_
  exact wL_law_23 O N x0 (some v1) (some v4) (some v7) _ (0 : Int32) h8 _ hr
