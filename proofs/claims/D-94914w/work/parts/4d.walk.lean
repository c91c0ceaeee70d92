set_option maxRecDepth 100000
set_option maxHeartbeats 4000000
theorem fV_X1_house : CVf RX1 yX1_house cX1_house 4 (some .int) 2 := ⟨q1242, q1243, q126, q1244, ⟨⟨by decide +kernel, by decide +kernel⟩, by decide +kernel⟩⟩
def F_X1_house (N : Nat) (x0 : Option Nat) (x1 : Int32) (x2 : Int32) (h : AH) : Option (Int32 × AH) :=
  (ck h [1] x0).bind fun _ =>
  (F_X1_anew x0 h).bind fun h1 =>
  (F_X1_isHouse x0 x1 h1).bind fun v2 =>
  if v2 = 0 then
    b2 (F_X1_no x0 (1 : Int32) h1) fun v30 h29 =>
    some (v30, h29)
  else
    (gR h1 f_Year_village x0).bind fun v3 =>
    (F_X4_house v3 x1 h1).bind fun v4 =>
    if x2 = (0 : Int32) then
      (gR h1 f_Year_land x0).bind fun v12 =>
      (gI h1 f_Land_wide v12).bind fun v13 =>
      (gR h1 f_House_site v4).bind fun v14 =>
      (gI h1 f_Site_y v14).bind fun v15 =>
      (gR h1 f_House_site v4).bind fun v16 =>
      (gI h1 f_Site_x v16).bind fun v17 =>
      some (((v13 * v15) + v17), h1)
    else if x2 = (1 : Int32) then
      (gI h1 f_House_many v4).bind fun v18 =>
      some (v18, h1)
    else if x2 = (2 : Int32) then
      (gI h1 f_House_family v4).bind fun v19 =>
      some (v19, h1)
    else if x2 = (3 : Int32) then
      (gI h1 f_House_gold v4).bind fun v20 =>
      some (v20, h1)
    else if x2 = (4 : Int32) then
      (gR h1 f_House_site v4).bind fun v21 =>
      (gR h1 f_Site_stone v21).bind fun v22 =>
      (gI h1 f_Stone_number v22).bind fun v23 =>
      some (v23, h1)
    else if x2 = (5 : Int32) then
      (gR h1 f_Year_village x0).bind fun v24 =>
      (F_X4_isShut N v24 x1 h1).bind fun v25 =>
      if v25 = 0 then
        some ((0 : Int32), h1)
      else
        some ((1 : Int32), h1)
    else if x2 = (6 : Int32) then
      (F_X5_isCrowded v4 h1).bind fun v26 =>
      if v26 = 0 then
        some ((0 : Int32), h1)
      else
        some ((1 : Int32), h1)
    else 
      b2 (F_X1_no x0 (1 : Int32) h1) fun v28 h27 =>
      some (v28, h27)
theorem mX1_house (l : Launch) (G : ZG) (N : Nat) (x0 : Option Nat) (x1 : Int32) (x2 : Int32) (h : AH) (r : Int32 × AH) (hr : F_X1_house N x0 x1 x2 h = some r) : MZ l G yX1_house cX1_house 4 (some .int) 5 141 [vr x0, vi x1, vi x2] h (eIH r) := by
  unfold F_X1_house at hr
  refine MZ.of (by decide) [(0, vr x0), (1, vi x1), (2, vi x2)] rfl (Nat.le_of_ble_eq_true rfl) (fun K O => ?_)
  have O : ZOk K cX1_house RX1 "house" 4 (some .int) 5 141 := O
  refine bs hr (fun _ hck hr => ?_)
  refine z_aload_n O 0 dX1_house_0 rfl rfl ?_
  refine bs hr (fun h1 hF hr => ?_)
  refine z_callVv O [] fV_X1_anew q528 (fun l G => mX1_anew l G x0 h _ hF) (zck hF) rfl rfl ⟨Nat.le_of_ble_eq_true rfl, Nat.le_of_ble_eq_true rfl⟩ (Nat.le_of_ble_eq_true rfl) dX1_house_1 ?_
  refine z_aload_n O 0 dX1_house_4 rfl rfl ?_
  refine z_iload_n O 1 dX1_house_5 rfl rfl ?_
  refine bs hr (fun v2 hF hr => ?_)
  refine z_callV O [vi x1] (vi v2) fV_X1_isHouse q1245 (fun l G => mX1_isHouse l G x0 x1 h1 _ hF) (zck hF) rfl rfl ⟨Nat.le_of_ble_eq_true rfl, Nat.le_of_ble_eq_true rfl⟩ (Nat.le_of_ble_eq_true rfl) dX1_house_6 ?_
  refine z_if_ne (tgt := 18) O dX1_house_9 (by decide) hr (fun hr => ?_) (fun hr => ?_)
  · refine z_aload_n O 0 dX1_house_12 rfl rfl ?_
    refine z_iconst O dX1_house_13 kic_1 ?_
    refine b2s hr (fun v30 h29 hF hr => ?_)
    refine z_callV O [vi (1 : Int32)] (vi v30) fV_X1_no q535 (fun l G => mX1_no l G x0 (1 : Int32) h1 _ hF) (zck hF) rfl rfl ⟨Nat.le_of_ble_eq_true rfl, Nat.le_of_ble_eq_true rfl⟩ (Nat.le_of_ble_eq_true rfl) dX1_house_14 ?_
    exact z_iret O dX1_house_17 (by cases hr; rfl)
  · refine z_aload_n O 0 dX1_house_18 rfl rfl ?_
    refine z_getR O o_Year_village q469 dX1_house_19 hr (fun v3 hr => ?_)
    refine z_iload_n O 1 dX1_house_22 rfl rfl ?_
    refine bs hr (fun v4 hF hr => ?_)
    refine z_callV O [vi x1] (vr v4) fV_X4_house q1249 (fun l G => mX4_house l G v3 x1 h1 _ hF) (zck hF) rfl rfl ⟨Nat.le_of_ble_eq_true rfl, Nat.le_of_ble_eq_true rfl⟩ (Nat.le_of_ble_eq_true rfl) dX1_house_23 ?_
    refine z_astore_n O [(3, vr v4), (0, vr x0), (1, vi x1), (2, vi x2)] dX1_house_26 rfl (by decide) rfl ?_
    refine z_iload_n O 3 dX1_house_27 rfl rfl ?_
    refine zite hr (fun c5 hr => ?_) (fun c5 hr => ?_)
    · refine z_tabIn (v := (0 : Int32)) (off := 44) (tgt := 72) O dX1_house_28 c5 (by decide) (by decide +kernel) (by decide) ?_
      refine z_aload_n O 1 dX1_house_72 rfl rfl ?_
      refine z_getR O o_Year_land q463 dX1_house_73 hr (fun v12 hr => ?_)
      refine z_getI O o_Land_wide q580 dX1_house_76 hr (fun v13 hr => ?_)
      refine z_aload_n O 0 dX1_house_79 rfl rfl ?_
      refine z_getR O o_House_site q310 dX1_house_80 hr (fun v14 hr => ?_)
      refine z_getI O o_Site_y q1025 dX1_house_83 hr (fun v15 hr => ?_)
      refine z_imul O dX1_house_86 ?_
      refine z_aload_n O 0 dX1_house_87 rfl rfl ?_
      refine z_getR O o_House_site q310 dX1_house_88 hr (fun v16 hr => ?_)
      refine z_getI O o_Site_x q1021 dX1_house_91 hr (fun v17 hr => ?_)
      refine z_iadd O dX1_house_94 ?_
      exact z_iret O dX1_house_95 (by cases hr; rfl)
    refine zite hr (fun c6 hr => ?_) (fun c6 hr => ?_)
    · refine z_tabIn (v := (1 : Int32)) (off := 68) (tgt := 96) O dX1_house_28 c6 (by decide) (by decide +kernel) (by decide) ?_
      refine z_aload_n O 0 dX1_house_96 rfl rfl ?_
      refine z_getI O o_House_many q314 dX1_house_97 hr (fun v18 hr => ?_)
      exact z_iret O dX1_house_100 (by cases hr; rfl)
    refine zite hr (fun c7 hr => ?_) (fun c7 hr => ?_)
    · refine z_tabIn (v := (2 : Int32)) (off := 73) (tgt := 101) O dX1_house_28 c7 (by decide) (by decide +kernel) (by decide) ?_
      refine z_aload_n O 0 dX1_house_101 rfl rfl ?_
      refine z_getI O o_House_family q318 dX1_house_102 hr (fun v19 hr => ?_)
      exact z_iret O dX1_house_105 (by cases hr; rfl)
    refine zite hr (fun c8 hr => ?_) (fun c8 hr => ?_)
    · refine z_tabIn (v := (3 : Int32)) (off := 78) (tgt := 106) O dX1_house_28 c8 (by decide) (by decide +kernel) (by decide) ?_
      refine z_aload_n O 0 dX1_house_106 rfl rfl ?_
      refine z_getI O o_House_gold q321 dX1_house_107 hr (fun v20 hr => ?_)
      exact z_iret O dX1_house_110 (by cases hr; rfl)
    refine zite hr (fun c9 hr => ?_) (fun c9 hr => ?_)
    · refine z_tabIn (v := (4 : Int32)) (off := 83) (tgt := 111) O dX1_house_28 c9 (by decide) (by decide +kernel) (by decide) ?_
      refine z_aload_n O 0 dX1_house_111 rfl rfl ?_
      refine z_getR O o_House_site q310 dX1_house_112 hr (fun v21 hr => ?_)
      refine z_getR O o_Site_stone q1028 dX1_house_115 hr (fun v22 hr => ?_)
      refine z_getI O o_Stone_number q958 dX1_house_118 hr (fun v23 hr => ?_)
      exact z_iret O dX1_house_121 (by cases hr; rfl)
    refine zite hr (fun c10 hr => ?_) (fun c10 hr => ?_)
    · refine z_tabIn (v := (5 : Int32)) (off := 94) (tgt := 122) O dX1_house_28 c10 (by decide) (by decide +kernel) (by decide) ?_
      refine z_aload_n O 1 dX1_house_122 rfl rfl ?_
      refine z_getR O o_Year_village q469 dX1_house_123 hr (fun v24 hr => ?_)
      refine z_iload_n O 2 dX1_house_126 rfl rfl ?_
      refine bs hr (fun v25 hF hr => ?_)
      refine z_callV O [vi x1] (vi v25) fV_X4_isShut q1250 (fun l G => mX4_isShut l G N v24 x1 h1 _ hF) (zck hF) rfl rfl ⟨Nat.le_of_ble_eq_true rfl, Nat.le_of_ble_eq_true rfl⟩ (Nat.le_of_ble_eq_true rfl) dX1_house_127 ?_
      refine z_if_eq (tgt := 137) O dX1_house_130 (by decide) hr (fun hr => ?_) (fun hr => ?_)
      · refine z_iconst O dX1_house_137 kic_0 ?_
        exact z_iret O dX1_house_138 (by cases hr; rfl)
      · refine z_iconst O dX1_house_133 kic_1 ?_
        refine z_goto (tgt := 138) O dX1_house_134 (by decide) ?_
        exact z_iret O dX1_house_138 (by cases hr; rfl)
    refine zite hr (fun c11 hr => ?_) (fun c11 hr => ?_)
    · refine z_tabIn (v := (6 : Int32)) (off := 111) (tgt := 139) O dX1_house_28 c11 (by decide) (by decide +kernel) (by decide) ?_
      refine z_aload_n O 0 dX1_house_139 rfl rfl ?_
      refine bs hr (fun v26 hF hr => ?_)
      refine z_callV O [] (vi v26) fV_X5_isCrowded q1270 (fun l G => mX5_isCrowded l G v4 h1 _ hF) (zck hF) rfl rfl ⟨Nat.le_of_ble_eq_true rfl, Nat.le_of_ble_eq_true rfl⟩ (Nat.le_of_ble_eq_true rfl) dX1_house_140 ?_
      refine z_if_eq (tgt := 150) O dX1_house_143 (by decide) hr (fun hr => ?_) (fun hr => ?_)
      · refine z_iconst O dX1_house_150 kic_0 ?_
        exact z_iret O dX1_house_151 (by cases hr; rfl)
      · refine z_iconst O dX1_house_146 kic_1 ?_
        refine z_goto (tgt := 151) O dX1_house_147 (by decide) ?_
        exact z_iret O dX1_house_151 (by cases hr; rfl)
    refine z_tabOut (tgt := 152) O dX1_house_28 (zt_out 7 (by decide) (lt_s (p := fun j : Nat => ¬ x2.toInt = (0 : Int) + (j : Int)) (lt_s (p := fun j : Nat => ¬ x2.toInt = (0 : Int) + (j : Int)) (lt_s (p := fun j : Nat => ¬ x2.toInt = (0 : Int) + (j : Int)) (lt_s (p := fun j : Nat => ¬ x2.toInt = (0 : Int) + (j : Int)) (lt_s (p := fun j : Nat => ¬ x2.toInt = (0 : Int) + (j : Int)) (lt_s (p := fun j : Nat => ¬ x2.toInt = (0 : Int) + (j : Int)) (lt_s (p := fun j : Nat => ¬ x2.toInt = (0 : Int) + (j : Int)) lt_0 (lv_neT c5 (by decide))) (lv_neT c6 (by decide))) (lv_neT c7 (by decide))) (lv_neT c8 (by decide))) (lv_neT c9 (by decide))) (lv_neT c10 (by decide))) (lv_neT c11 (by decide)))) (by decide) ?_
    refine z_aload_n O 1 dX1_house_152 rfl rfl ?_
    refine z_iconst O dX1_house_153 kic_1 ?_
    refine b2s hr (fun v28 h27 hF hr => ?_)
    refine z_callV O [vi (1 : Int32)] (vi v28) fV_X1_no q535 (fun l G => mX1_no l G x0 (1 : Int32) h1 _ hF) (zck hF) rfl rfl ⟨Nat.le_of_ble_eq_true rfl, Nat.le_of_ble_eq_true rfl⟩ (Nat.le_of_ble_eq_true rfl) dX1_house_154 ?_
    exact z_iret O dX1_house_157 (by cases hr; rfl)
theorem fV_X1_inWhy : CVf RX1 yX1_inWhy cX1_inWhy 2 (some .int) 1 := ⟨q1437, qs46, q126, q1438, ⟨⟨by decide +kernel, by decide +kernel⟩, by decide +kernel⟩⟩
def F_X1_inWhy (N : Nat) (x0 : Option Nat) (x1 : Int32) (h : AH) : Option (Int32 × AH) :=
  (ck h [1] x0).bind fun _ =>
  (F_X1_within x1 (0 : Int32) (60 : Int32)).bind fun v1 =>
  if v1 = 0 then
    some ((2 : Int32), h)
  else
    (gR h f_Year_trial x0).bind fun v2 =>
    (gR h f_Year_village x0).bind fun v3 =>
    (F_X4_become N v2 v3 h).bind fun h4 =>
    (gR h4 f_Year_trial x0).bind fun v5 =>
    (F_X4_goesOnFor N v5 x1 h4).bind fun h6 =>
    some ((0 : Int32), h6)
theorem mX1_inWhy (l : Launch) (G : ZG) (N : Nat) (x0 : Option Nat) (x1 : Int32) (h : AH) (r : Int32 × AH) (hr : F_X1_inWhy N x0 x1 h = some r) : MZ l G yX1_inWhy cX1_inWhy 2 (some .int) 11 279 [vr x0, vi x1] h (eIH r) := by
  unfold F_X1_inWhy at hr
  refine MZ.of (by decide) [(0, vr x0), (1, vi x1)] rfl (Nat.le_of_ble_eq_true rfl) (fun K O => ?_)
  have O : ZOk K cX1_inWhy RX1 "inWhy" 2 (some .int) 11 279 := O
  refine bs hr (fun _ hck hr => ?_)
  refine z_iload_n O 1 dX1_inWhy_0 rfl rfl ?_
  refine z_iconst O dX1_inWhy_1 kic_0 ?_
  refine z_bipush O dX1_inWhy_2 kbi_60 ?_
  refine bs hr (fun v1 hF hr => ?_)
  refine z_callS O [vi x1, vi (0 : Int32), vi (60 : Int32)] (vi v1) fS_X1_within q532 (fun l G => mX1_within l G x1 (0 : Int32) (60 : Int32) h _ hF) rfl ⟨Nat.le_of_ble_eq_true rfl, Nat.le_of_ble_eq_true rfl⟩ (Nat.le_of_ble_eq_true rfl) dX1_inWhy_4 ?_
  refine z_if_ne (tgt := 12) O dX1_inWhy_7 (by decide) hr (fun hr => ?_) (fun hr => ?_)
  · refine z_iconst O dX1_inWhy_10 kic_2 ?_
    exact z_iret O dX1_inWhy_11 (by cases hr; rfl)
  · refine z_aload_n O 0 dX1_inWhy_12 rfl rfl ?_
    refine z_getR O o_Year_trial q471 dX1_inWhy_13 hr (fun v2 hr => ?_)
    refine z_aload_n O 0 dX1_inWhy_16 rfl rfl ?_
    refine z_getR O o_Year_village q469 dX1_inWhy_17 hr (fun v3 hr => ?_)
    refine bs hr (fun h4 hF hr => ?_)
    refine z_callVv O [vr v3] fV_X4_become q1199 (fun l G => mX4_become l G N v2 v3 h _ hF) (zck hF) rfl rfl ⟨Nat.le_of_ble_eq_true rfl, Nat.le_of_ble_eq_true rfl⟩ (Nat.le_of_ble_eq_true rfl) dX1_inWhy_20 ?_
    refine z_aload_n O 0 dX1_inWhy_23 rfl rfl ?_
    refine z_getR O o_Year_trial q471 dX1_inWhy_24 hr (fun v5 hr => ?_)
    refine z_iload_n O 1 dX1_inWhy_27 rfl rfl ?_
    refine bs hr (fun h6 hF hr => ?_)
    refine z_callVv O [vi x1] fV_X4_goesOnFor q1439 (fun l G => mX4_goesOnFor l G N v5 x1 h4 _ hF) (zck hF) rfl rfl ⟨Nat.le_of_ble_eq_true rfl, Nat.le_of_ble_eq_true rfl⟩ (Nat.le_of_ble_eq_true rfl) dX1_inWhy_28 ?_
    refine z_iconst O dX1_inWhy_31 kic_0 ?_
    exact z_iret O dX1_inWhy_32 (by cases hr; rfl)
theorem fV_X5_collapsed : CVf RX5 yX5_collapsed cX5_collapsed 3 (some .int) 0 := ⟨q1490, q1491, q133, q1492, ⟨⟨by decide +kernel, by decide +kernel⟩, by decide +kernel⟩⟩
def BX5_collapsed_4 (N : Nat) (x0 : Option Nat) (h : AH) (rec4 : Int32 → Int32 → Option (Int32)) : Int32 → Int32 → Option (Int32) := fun x1 x2 =>
  (gI h f_House_many x0).bind fun v1 =>
  if v1 < x2 then
    some x1
  else
    (F_X5_skin x0 x2 h).bind fun v2 =>
    (gI h f_Skin_collapsed v2).bind fun v3 =>
    if v3 = 0 then
      jlet (x1 + (0 : Int32)) fun v4 =>
      jlet (x2 + (1 : Int32)) fun v5 =>
      rec4 v4 v5
    else
      jlet (x1 + (1 : Int32)) fun v6 =>
      jlet (x2 + (1 : Int32)) fun v7 =>
      rec4 v6 v7
def LX5_collapsed_4 (N : Nat) (x0 : Option Nat) (h : AH) : Int32 → Int32 → Option (Int32) := lf (fun _ _ => none) (BX5_collapsed_4 N x0 h) N
theorem wX5_collapsed_4B {K : ZC} (O : ZOk K cX5_collapsed RX5 "collapsed" 3 (some .int) 2 69) (N : Nat) (x0 : Option Nat) (h : AH) (rec4 : Int32 → Int32 → Option (Int32)) (hrec4 : ∀ (y1 : Int32) (y2 : Int32) (ry : Int32), rec4 y1 y2 = some ry → Zw K (eI h ry) h 4 [(0, vr x0), (1, vi y1), (2, vi y2)] []) (x1 : Int32) (x2 : Int32) (r : Int32) (hr : BX5_collapsed_4 N x0 h rec4 x1 x2 = some r) : Zw K (eI h r) h 4 [(0, vr x0), (1, vi x1), (2, vi x2)] [] := by
  unfold BX5_collapsed_4 at hr
  refine z_iload_n O 2 dX5_collapsed_4 rfl rfl ?_
  refine z_aload_n O 0 dX5_collapsed_5 rfl rfl ?_
  refine z_getI O o_House_many q311 dX5_collapsed_6 hr (fun v1 hr => ?_)
  refine z_icmp_gt (tgt := 37) O dX5_collapsed_9 (by decide) hr (fun hr => ?_) (fun hr => ?_)
  · refine z_iload_n O 1 dX5_collapsed_37 rfl rfl ?_
    exact z_iret O dX5_collapsed_38 (by cases hr; rfl)
  · refine z_iload_n O 1 dX5_collapsed_12 rfl rfl ?_
    refine z_aload_n O 0 dX5_collapsed_13 rfl rfl ?_
    refine z_iload_n O 2 dX5_collapsed_14 rfl rfl ?_
    refine bs hr (fun v2 hF hr => ?_)
    refine z_callV O [vi x2] (vr v2) fV_X5_skin q1127 (fun l G => mX5_skin l G x0 x2 h _ hF) (zck hF) rfl rfl ⟨Nat.le_of_ble_eq_true rfl, Nat.le_of_ble_eq_true rfl⟩ (Nat.le_of_ble_eq_true rfl) dX5_collapsed_15 ?_
    refine z_getI O o_Skin_collapsed q284 dX5_collapsed_18 hr (fun v3 hr => ?_)
    refine z_if_eq (tgt := 28) O dX5_collapsed_21 (by decide) hr (fun hr => ?_) (fun hr => ?_)
    · refine z_iconst O dX5_collapsed_28 kic_0 ?_
      refine z_iadd O dX5_collapsed_29 ?_
      refine z_letI hr (fun v4 hr => ?_)
      refine z_istore_n O [(1, vi v4), (0, vr x0), (2, vi x2)] dX5_collapsed_30 rfl (by decide) rfl ?_
      refine z_iincL O 2 (fun v5 => [(2, vi v5), (1, vi v4), (0, vr x0)]) dX5_collapsed_31 rfl rfl (by decide) (fun _ => rfl) hr (fun v5 hr => ?_)
      refine z_goto (tgt := 4) O dX5_collapsed_34 (by decide) ?_
      refine z_sub [2, 1, 0] rfl ?_
      exact hrec4 v4 v5 _ hr
    · refine z_iconst O dX5_collapsed_24 kic_1 ?_
      refine z_goto (tgt := 29) O dX5_collapsed_25 (by decide) ?_
      refine z_iadd O dX5_collapsed_29 ?_
      refine z_letI hr (fun v6 hr => ?_)
      refine z_istore_n O [(1, vi v6), (0, vr x0), (2, vi x2)] dX5_collapsed_30 rfl (by decide) rfl ?_
      refine z_iincL O 2 (fun v7 => [(2, vi v7), (1, vi v6), (0, vr x0)]) dX5_collapsed_31 rfl rfl (by decide) (fun _ => rfl) hr (fun v7 hr => ?_)
      refine z_goto (tgt := 4) O dX5_collapsed_34 (by decide) ?_
      refine z_sub [2, 1, 0] rfl ?_
      exact hrec4 v6 v7 _ hr
theorem wX5_collapsed_4 {K : ZC} (O : ZOk K cX5_collapsed RX5 "collapsed" 3 (some .int) 2 69) (N : Nat) (x0 : Option Nat) (h : AH) : ∀ (n : Nat) (x1 : Int32) (x2 : Int32) (r : Int32), lf (fun _ _ => none) (BX5_collapsed_4 N x0 h) n x1 x2 = some r → Zw K (eI h r) h 4 [(0, vr x0), (1, vi x1), (2, vi x2)] [] := by
  intro n
  induction n with
  | zero => intro x1 x2 r hr; cases hr
  | succ n ih => intro x1 x2 r hr; exact wX5_collapsed_4B O N x0 h (lf (fun _ _ => none) (BX5_collapsed_4 N x0 h) n)  ih x1 x2 r hr
def F_X5_collapsed (N : Nat) (x0 : Option Nat) (h : AH) : Option (Int32) :=
  (ck h [5] x0).bind fun _ =>
  LX5_collapsed_4 N x0 h (0 : Int32) (1 : Int32)
theorem mX5_collapsed (l : Launch) (G : ZG) (N : Nat) (x0 : Option Nat) (h : AH) (r : Int32) (hr : F_X5_collapsed N x0 h = some r) : MZ l G yX5_collapsed cX5_collapsed 3 (some .int) 2 69 [vr x0] h (eI h r) := by
  unfold F_X5_collapsed at hr
  refine MZ.of (by decide) [(0, vr x0)] rfl (Nat.le_of_ble_eq_true rfl) (fun K O => ?_)
  have O : ZOk K cX5_collapsed RX5 "collapsed" 3 (some .int) 2 69 := O
  refine bs hr (fun _ hck hr => ?_)
  refine z_iconst O dX5_collapsed_0 kic_0 ?_
  refine z_istore_n O [(1, vi (0 : Int32)), (0, vr x0)] dX5_collapsed_1 rfl (by decide) rfl ?_
  refine z_iconst O dX5_collapsed_2 kic_1 ?_
  refine z_istore_n O [(2, vi (1 : Int32)), (1, vi (0 : Int32)), (0, vr x0)] dX5_collapsed_3 rfl (by decide) rfl ?_
  refine z_sub [2, 1, 0] rfl ?_
  exact wX5_collapsed_4 O N x0 h _ (0 : Int32) (1 : Int32) _ hr
theorem fV_X1_in : CVf RX1 yX1_in cX1_in 6 (some .int) 3 := ⟨q1432, q1433, q126, q1434, ⟨⟨by decide +kernel, by decide +kernel⟩, by decide +kernel⟩⟩
def F_X1_in (N : Nat) (x0 : Option Nat) (x1 : Int32) (x2 : Int32) (x3 : Int32) (h : AH) : Option (Int32 × AH) :=
  (ck h [1] x0).bind fun _ =>
  (F_X1_anew x0 h).bind fun h1 =>
  (F_X1_isHouse x0 x1 h1).bind fun v2 =>
  if v2 = 0 then
    b2 (F_X1_no x0 (1 : Int32) h1) fun v4 h3 =>
    some (v4, h3)
  else
    (F_X1_within x3 (0 : Int32) (4 : Int32)).bind fun v5 =>
    if v5 = 0 then
      b2 (F_X1_no x0 (1 : Int32) h1) fun v19 h18 =>
      some (v19, h18)
    else
      b2 (F_X1_inWhy N x0 x2 h1) fun v7 h6 =>
      if v7 = 0 then
        (gR h6 f_Year_trial x0).bind fun v8 =>
        (F_X4_house v8 x1 h6).bind fun v9 =>
        if x3 = 0 then
          (gI h6 f_House_many v9).bind fun v15 =>
          some (v15, h6)
        else
          if x3 = (1 : Int32) then
            (gI h6 f_House_family v9).bind fun v14 =>
            some (v14, h6)
          else
            if x3 = (2 : Int32) then
              (gI h6 f_House_gold v9).bind fun v13 =>
              some (v13, h6)
            else
              if x3 = (3 : Int32) then
                (F_X5_collapsed N v9 h6).bind fun v12 =>
                some (v12, h6)
              else
                (gR h6 f_Year_trial x0).bind fun v10 =>
                (F_X4_isShut N v10 x1 h6).bind fun v11 =>
                if v11 = 0 then
                  some ((0 : Int32), h6)
                else
                  some ((1 : Int32), h6)
      else
        b2 (F_X1_no x0 v7 h6) fun v17 h16 =>
        some (v17, h16)
theorem mX1_in (l : Launch) (G : ZG) (N : Nat) (x0 : Option Nat) (x1 : Int32) (x2 : Int32) (x3 : Int32) (h : AH) (r : Int32 × AH) (hr : F_X1_in N x0 x1 x2 x3 h = some r) : MZ l G yX1_in cX1_in 6 (some .int) 12 300 [vr x0, vi x1, vi x2, vi x3] h (eIH r) := by
  unfold F_X1_in at hr
  refine MZ.of (by decide) [(0, vr x0), (1, vi x1), (2, vi x2), (3, vi x3)] rfl (Nat.le_of_ble_eq_true rfl) (fun K O => ?_)
  have O : ZOk K cX1_in RX1 "in" 6 (some .int) 12 300 := O
  refine bs hr (fun _ hck hr => ?_)
  refine z_aload_n O 0 dX1_in_0 rfl rfl ?_
  refine bs hr (fun h1 hF hr => ?_)
  refine z_callVv O [] fV_X1_anew q528 (fun l G => mX1_anew l G x0 h _ hF) (zck hF) rfl rfl ⟨Nat.le_of_ble_eq_true rfl, Nat.le_of_ble_eq_true rfl⟩ (Nat.le_of_ble_eq_true rfl) dX1_in_1 ?_
  refine z_aload_n O 0 dX1_in_4 rfl rfl ?_
  refine z_iload_n O 1 dX1_in_5 rfl rfl ?_
  refine bs hr (fun v2 hF hr => ?_)
  refine z_callV O [vi x1] (vi v2) fV_X1_isHouse q1245 (fun l G => mX1_isHouse l G x0 x1 h1 _ hF) (zck hF) rfl rfl ⟨Nat.le_of_ble_eq_true rfl, Nat.le_of_ble_eq_true rfl⟩ (Nat.le_of_ble_eq_true rfl) dX1_in_6 ?_
  refine z_if_eq (tgt := 21) O dX1_in_9 (by decide) hr (fun hr => ?_) (fun hr => ?_)
  · refine z_aload_n O 0 dX1_in_21 rfl rfl ?_
    refine z_iconst O dX1_in_22 kic_1 ?_
    refine b2s hr (fun v4 h3 hF hr => ?_)
    refine z_callV O [vi (1 : Int32)] (vi v4) fV_X1_no q535 (fun l G => mX1_no l G x0 (1 : Int32) h1 _ hF) (zck hF) rfl rfl ⟨Nat.le_of_ble_eq_true rfl, Nat.le_of_ble_eq_true rfl⟩ (Nat.le_of_ble_eq_true rfl) dX1_in_23 ?_
    exact z_iret O dX1_in_26 (by cases hr; rfl)
  · refine z_iload_n O 3 dX1_in_12 rfl rfl ?_
    refine z_iconst O dX1_in_13 kic_0 ?_
    refine z_iconst O dX1_in_14 kic_4 ?_
    refine bs hr (fun v5 hF hr => ?_)
    refine z_callS O [vi x3, vi (0 : Int32), vi (4 : Int32)] (vi v5) fS_X1_within q532 (fun l G => mX1_within l G x3 (0 : Int32) (4 : Int32) h1 _ hF) rfl ⟨Nat.le_of_ble_eq_true rfl, Nat.le_of_ble_eq_true rfl⟩ (Nat.le_of_ble_eq_true rfl) dX1_in_15 ?_
    refine z_if_ne (tgt := 27) O dX1_in_18 (by decide) hr (fun hr => ?_) (fun hr => ?_)
    · refine z_aload_n O 0 dX1_in_21 rfl rfl ?_
      refine z_iconst O dX1_in_22 kic_1 ?_
      refine b2s hr (fun v19 h18 hF hr => ?_)
      refine z_callV O [vi (1 : Int32)] (vi v19) fV_X1_no q535 (fun l G => mX1_no l G x0 (1 : Int32) h1 _ hF) (zck hF) rfl rfl ⟨Nat.le_of_ble_eq_true rfl, Nat.le_of_ble_eq_true rfl⟩ (Nat.le_of_ble_eq_true rfl) dX1_in_23 ?_
      exact z_iret O dX1_in_26 (by cases hr; rfl)
    · refine z_aload_n O 0 dX1_in_27 rfl rfl ?_
      refine z_iload_n O 2 dX1_in_28 rfl rfl ?_
      refine b2s hr (fun v7 h6 hF hr => ?_)
      refine z_callV O [vi x2] (vi v7) fV_X1_inWhy q1435 (fun l G => mX1_inWhy l G N x0 x2 h1 _ hF) (zck hF) rfl rfl ⟨Nat.le_of_ble_eq_true rfl, Nat.le_of_ble_eq_true rfl⟩ (Nat.le_of_ble_eq_true rfl) dX1_in_29 ?_
      refine z_istore O [(4, vi v7), (0, vr x0), (1, vi x1), (2, vi x2), (3, vi x3)] dX1_in_32 (by decide) rfl ?_
      refine z_iload O 0 dX1_in_34 rfl ?_
      refine z_if_eq (tgt := 46) O dX1_in_36 (by decide) hr (fun hr => ?_) (fun hr => ?_)
      · refine z_aload_n O 1 dX1_in_46 rfl rfl ?_
        refine z_getR O o_Year_trial q471 dX1_in_47 hr (fun v8 hr => ?_)
        refine z_iload_n O 2 dX1_in_50 rfl rfl ?_
        refine bs hr (fun v9 hF hr => ?_)
        refine z_callV O [vi x1] (vr v9) fV_X4_house q1249 (fun l G => mX4_house l G v8 x1 h6 _ hF) (zck hF) rfl rfl ⟨Nat.le_of_ble_eq_true rfl, Nat.le_of_ble_eq_true rfl⟩ (Nat.le_of_ble_eq_true rfl) dX1_in_51 ?_
        refine z_astore O [(5, vr v9), (4, vi v7), (0, vr x0), (1, vi x1), (2, vi x2), (3, vi x3)] dX1_in_54 (by decide) rfl ?_
        refine z_iload_n O 5 dX1_in_56 rfl rfl ?_
        refine z_if_ne (tgt := 68) O dX1_in_57 (by decide) hr (fun hr => ?_) (fun hr => ?_)
        · refine z_aload O 0 dX1_in_60 rfl ?_
          refine z_getI O o_House_many q314 dX1_in_62 hr (fun v15 hr => ?_)
          refine z_goto (tgt := 123) O dX1_in_65 (by decide) ?_
          exact z_iret O dX1_in_123 (by cases hr; rfl)
        · refine z_iload_n O 5 dX1_in_68 rfl rfl ?_
          refine z_iconst O dX1_in_69 kic_1 ?_
          refine z_icmp_ne (tgt := 81) O dX1_in_70 (by decide) hr (fun hr => ?_) (fun hr => ?_)
          · refine z_aload O 0 dX1_in_73 rfl ?_
            refine z_getI O o_House_family q318 dX1_in_75 hr (fun v14 hr => ?_)
            refine z_goto (tgt := 123) O dX1_in_78 (by decide) ?_
            exact z_iret O dX1_in_123 (by cases hr; rfl)
          · refine z_iload_n O 5 dX1_in_81 rfl rfl ?_
            refine z_iconst O dX1_in_82 kic_2 ?_
            refine z_icmp_ne (tgt := 94) O dX1_in_83 (by decide) hr (fun hr => ?_) (fun hr => ?_)
            · refine z_aload O 0 dX1_in_86 rfl ?_
              refine z_getI O o_House_gold q321 dX1_in_88 hr (fun v13 hr => ?_)
              refine z_goto (tgt := 123) O dX1_in_91 (by decide) ?_
              exact z_iret O dX1_in_123 (by cases hr; rfl)
            · refine z_iload_n O 5 dX1_in_94 rfl rfl ?_
              refine z_iconst O dX1_in_95 kic_3 ?_
              refine z_icmp_ne (tgt := 107) O dX1_in_96 (by decide) hr (fun hr => ?_) (fun hr => ?_)
              · refine z_aload O 0 dX1_in_99 rfl ?_
                refine bs hr (fun v12 hF hr => ?_)
                refine z_callV O [] (vi v12) fV_X5_collapsed q1489 (fun l G => mX5_collapsed l G N v9 h6 _ hF) (zck hF) rfl rfl ⟨Nat.le_of_ble_eq_true rfl, Nat.le_of_ble_eq_true rfl⟩ (Nat.le_of_ble_eq_true rfl) dX1_in_101 ?_
                refine z_goto (tgt := 123) O dX1_in_104 (by decide) ?_
                exact z_iret O dX1_in_123 (by cases hr; rfl)
              · refine z_aload_n O 2 dX1_in_107 rfl rfl ?_
                refine z_getR O o_Year_trial q471 dX1_in_108 hr (fun v10 hr => ?_)
                refine z_iload_n O 3 dX1_in_111 rfl rfl ?_
                refine bs hr (fun v11 hF hr => ?_)
                refine z_callV O [vi x1] (vi v11) fV_X4_isShut q1250 (fun l G => mX4_isShut l G N v10 x1 h6 _ hF) (zck hF) rfl rfl ⟨Nat.le_of_ble_eq_true rfl, Nat.le_of_ble_eq_true rfl⟩ (Nat.le_of_ble_eq_true rfl) dX1_in_112 ?_
                refine z_if_eq (tgt := 122) O dX1_in_115 (by decide) hr (fun hr => ?_) (fun hr => ?_)
                · refine z_iconst O dX1_in_122 kic_0 ?_
                  exact z_iret O dX1_in_123 (by cases hr; rfl)
                · refine z_iconst O dX1_in_118 kic_1 ?_
                  refine z_goto (tgt := 123) O dX1_in_119 (by decide) ?_
                  exact z_iret O dX1_in_123 (by cases hr; rfl)
      · refine z_aload_n O 1 dX1_in_39 rfl rfl ?_
        refine z_iload O 0 dX1_in_40 rfl ?_
        refine b2s hr (fun v17 h16 hF hr => ?_)
        refine z_callV O [vi v7] (vi v17) fV_X1_no q535 (fun l G => mX1_no l G x0 v7 h6 _ hF) (zck hF) rfl rfl ⟨Nat.le_of_ble_eq_true rfl, Nat.le_of_ble_eq_true rfl⟩ (Nat.le_of_ble_eq_true rfl) dX1_in_42 ?_
        exact z_iret O dX1_in_45 (by cases hr; rfl)
theorem fI_J0_init_2 : CIf yJ0_init_2 cJ0_init_2 5 4 := ⟨q221, rfl, q128, q222, ⟨⟨by decide +kernel, by decide +kernel⟩, by decide +kernel⟩⟩
def F_J0_init_2 (x0 : Option Nat) (x1 : Option Nat) (x2 : Option Nat) (x3 : Int32) (x4 : Int32) (h : AH) : Option (AH) :=
  (ck h [3, 22, 23] x0).bind fun _ =>
  (pR h f_Throwable_cause x0 x0).bind fun h1 =>
  (pR h1 f_Throwable_stackTrace x0 (h1.1.2.2.2.2 1)).bind fun h2 =>
  (pR h2 f_Throwable_suppressedExceptions x0 (h2.1.2.2.2.2 2)).bind fun h3 =>
  if x4 = 0 then
    (pR h3 f_Throwable_stackTrace x0 none).bind fun h4 =>
    (pR h4 f_Throwable_detailMessage x0 x1).bind fun h5 =>
    (pR h5 f_Throwable_cause x0 x2).bind fun h6 =>
    if x3 = 0 then
      (pR h6 f_Throwable_suppressedExceptions x0 none).bind fun h7 =>
      some h7
    else
      some h6
  else
    none
theorem mJ0_init_2 (l : Launch) (G : ZG) (x0 : Option Nat) (x1 : Option Nat) (x2 : Option Nat) (x3 : Int32) (x4 : Int32) (h : AH) (r : AH) (hr : F_J0_init_2 x0 x1 x2 x3 x4 h = some r) : MZ l G yJ0_init_2 cJ0_init_2 5 (none : Option Jvm.ClassFile.FieldType) 1 48 [vr x0, vr x1, vr x2, vi x3, vi x4] h (eH r) := by
  unfold F_J0_init_2 at hr
  refine MZ.of (by decide) [(0, vr x0), (1, vr x1), (2, vr x2), (3, vi x3), (4, vi x4)] rfl (Nat.le_of_ble_eq_true rfl) (fun K O => ?_)
  have O : ZOk K cJ0_init_2 RJ0 "<init>" 5 (none : Option Jvm.ClassFile.FieldType) 1 48 := O
  refine bs hr (fun _ hck hr2 => ?_)
  clear hr
  obtain ⟨a0, rfl⟩ := ck_some hck
  have hr := hr2
  refine z_aload_n O 0 dJ0_init_2_0 rfl rfl ?_
  refine z_objInit O q196 q163 q164 ⟨_, rfl⟩ ⟨Nat.le_of_ble_eq_true rfl, Nat.le_of_ble_eq_true rfl⟩ (Nat.le_of_ble_eq_true rfl) dJ0_init_2_1 ?_
  refine z_aload_n O 0 dJ0_init_2_4 rfl rfl ?_
  refine z_aload_n O 0 dJ0_init_2_5 rfl rfl ?_
  refine z_putR O rfl o_Throwable_cause (w_Throwable_cause _) q229 dJ0_init_2_6 hr (fun h1 hr => ?_)
  refine z_aload_n O 0 dJ0_init_2_9 rfl rfl ?_
  refine z_getsR O ztR1 rfl q197 dJ0_init_2_10 ?_
  refine z_putR O rfl o_Throwable_stackTrace (w_Throwable_stackTrace _) q230 dJ0_init_2_13 hr (fun h2 hr => ?_)
  refine z_aload_n O 0 dJ0_init_2_16 rfl rfl ?_
  refine z_getsR O ztR2 rfl q199 dJ0_init_2_17 ?_
  refine z_putR O rfl o_Throwable_suppressedExceptions (w_Throwable_suppressedExceptions _) q231 dJ0_init_2_20 hr (fun h3 hr => ?_)
  refine z_iload O 4 dJ0_init_2_23 rfl ?_
  refine z_if_eq (tgt := 36) O dJ0_init_2_25 (by decide) hr (fun hr => ?_) (fun hr => ?_)
  · refine z_aload_n O 0 dJ0_init_2_36 rfl rfl ?_
    refine z_null O dJ0_init_2_37 ?_
    refine z_putR O rfl o_Throwable_stackTrace (w_Throwable_stackTrace _) q230 dJ0_init_2_38 hr (fun h4 hr => ?_)
    refine z_aload_n O 0 dJ0_init_2_41 rfl rfl ?_
    refine z_aload_n O 1 dJ0_init_2_42 rfl rfl ?_
    refine z_putR O rfl o_Throwable_detailMessage (w_Throwable_detailMessage _) q228 dJ0_init_2_43 hr (fun h5 hr => ?_)
    refine z_aload_n O 0 dJ0_init_2_46 rfl rfl ?_
    refine z_aload_n O 2 dJ0_init_2_47 rfl rfl ?_
    refine z_putR O rfl o_Throwable_cause (w_Throwable_cause _) q229 dJ0_init_2_48 hr (fun h6 hr => ?_)
    refine z_iload_n O 3 dJ0_init_2_51 rfl rfl ?_
    refine z_if_ne (tgt := 60) O dJ0_init_2_52 (by decide) hr (fun hr => ?_) (fun hr => ?_)
    · refine z_aload_n O 0 dJ0_init_2_55 rfl rfl ?_
      refine z_null O dJ0_init_2_56 ?_
      refine z_putR O rfl o_Throwable_suppressedExceptions (w_Throwable_suppressedExceptions _) q231 dJ0_init_2_57 hr (fun h7 hr => ?_)
      exact z_vret O dJ0_init_2_60 (by cases hr; rfl)
    · exact z_vret O dJ0_init_2_60 (by cases hr; rfl)
  · cases hr
theorem fI_J1_init : CIf yJ1_init cJ1_init 5 4 := ⟨q218, rfl, q129, q219, ⟨⟨by decide +kernel, by decide +kernel⟩, by decide +kernel⟩⟩
def F_J1_init (x0 : Option Nat) (x1 : Option Nat) (x2 : Option Nat) (x3 : Int32) (x4 : Int32) (h : AH) : Option (AH) :=
  (ck h [3, 23] x0).bind fun _ =>
  (F_J0_init_2 x0 x1 x2 x3 x4 h).bind fun h1 =>
  some h1
theorem mJ1_init (l : Launch) (G : ZG) (x0 : Option Nat) (x1 : Option Nat) (x2 : Option Nat) (x3 : Int32) (x4 : Int32) (h : AH) (r : AH) (hr : F_J1_init x0 x1 x2 x3 x4 h = some r) : MZ l G yJ1_init cJ1_init 5 (none : Option Jvm.ClassFile.FieldType) 2 72 [vr x0, vr x1, vr x2, vi x3, vi x4] h (eH r) := by
  unfold F_J1_init at hr
  refine MZ.of (by decide) [(0, vr x0), (1, vr x1), (2, vr x2), (3, vi x3), (4, vi x4)] rfl (Nat.le_of_ble_eq_true rfl) (fun K O => ?_)
  have O : ZOk K cJ1_init RJ1 "<init>" 5 (none : Option Jvm.ClassFile.FieldType) 2 72 := O
  refine bs hr (fun _ hck hr2 => ?_)
  clear hr
  obtain ⟨a0, rfl⟩ := ck_some hck
  have hr := hr2
  refine z_aload_n O 0 dJ1_init_0 rfl rfl ?_
  refine z_aload_n O 1 dJ1_init_1 rfl rfl ?_
  refine z_aload_n O 2 dJ1_init_2 rfl rfl ?_
  refine z_iload_n O 3 dJ1_init_3 rfl rfl ?_
  refine z_iload O 4 dJ1_init_4 rfl ?_
  refine bs hr (fun h1 hF hr => ?_)
  refine z_callI_ O [vr x1, vr x2, vi x3, vi x4] fI_J0_init_2 q220 (fun l G => mJ0_init_2 l G (some a0) x1 x2 x3 x4 h _ hF) rfl ⟨Nat.le_of_ble_eq_true rfl, Nat.le_of_ble_eq_true rfl⟩ (Nat.le_of_ble_eq_true rfl) dJ1_init_6 ?_
  exact z_vret O dJ1_init_9 (by cases hr; rfl)
theorem fI_J2_init : CIf yJ2_init cJ2_init 5 4 := ⟨q215, rfl, q130, q216, ⟨⟨by decide +kernel, by decide +kernel⟩, by decide +kernel⟩⟩
def F_J2_init (x0 : Option Nat) (x1 : Option Nat) (x2 : Option Nat) (x3 : Int32) (x4 : Int32) (h : AH) : Option (AH) :=
  (ck h [3, 23] x0).bind fun _ =>
  (F_J1_init x0 x1 x2 x3 x4 h).bind fun h1 =>
  some h1
theorem mJ2_init (l : Launch) (G : ZG) (x0 : Option Nat) (x1 : Option Nat) (x2 : Option Nat) (x3 : Int32) (x4 : Int32) (h : AH) (r : AH) (hr : F_J2_init x0 x1 x2 x3 x4 h = some r) : MZ l G yJ2_init cJ2_init 5 (none : Option Jvm.ClassFile.FieldType) 3 96 [vr x0, vr x1, vr x2, vi x3, vi x4] h (eH r) := by
  unfold F_J2_init at hr
  refine MZ.of (by decide) [(0, vr x0), (1, vr x1), (2, vr x2), (3, vi x3), (4, vi x4)] rfl (Nat.le_of_ble_eq_true rfl) (fun K O => ?_)
  have O : ZOk K cJ2_init RJ2 "<init>" 5 (none : Option Jvm.ClassFile.FieldType) 3 96 := O
  refine bs hr (fun _ hck hr2 => ?_)
  clear hr
  obtain ⟨a0, rfl⟩ := ck_some hck
  have hr := hr2
  refine z_aload_n O 0 dJ2_init_0 rfl rfl ?_
  refine z_aload_n O 1 dJ2_init_1 rfl rfl ?_
  refine z_aload_n O 2 dJ2_init_2 rfl rfl ?_
  refine z_iload_n O 3 dJ2_init_3 rfl rfl ?_
  refine z_iload O 4 dJ2_init_4 rfl ?_
  refine bs hr (fun h1 hF hr => ?_)
  refine z_callI_ O [vr x1, vr x2, vi x3, vi x4] fI_J1_init q217 (fun l G => mJ1_init l G (some a0) x1 x2 x3 x4 h _ hF) rfl ⟨Nat.le_of_ble_eq_true rfl, Nat.le_of_ble_eq_true rfl⟩ (Nat.le_of_ble_eq_true rfl) dJ2_init_6 ?_
  exact z_vret O dJ2_init_9 (by cases hr; rfl)
theorem fI_X3_init : CIf yX3_init cX3_init 1 0 := ⟨q212, rfl, q131, q213, ⟨⟨by decide +kernel, by decide +kernel⟩, by decide +kernel⟩⟩
def F_X3_init (x0 : Option Nat) (h : AH) : Option (AH) :=
  (ck h [3] x0).bind fun _ =>
  (F_J2_init x0 none none (0 : Int32) (0 : Int32) h).bind fun h1 =>
  (pI h1 f_Refused_place x0 (-1 : Int32)).bind fun h2 =>
  some h2
theorem mX3_init (l : Launch) (G : ZG) (x0 : Option Nat) (h : AH) (r : AH) (hr : F_X3_init x0 h = some r) : MZ l G yX3_init cX3_init 1 (none : Option Jvm.ClassFile.FieldType) 4 120 [vr x0] h (eH r) := by
  unfold F_X3_init at hr
  refine MZ.of (by decide) [(0, vr x0)] rfl (Nat.le_of_ble_eq_true rfl) (fun K O => ?_)
  have O : ZOk K cX3_init RX3 "<init>" 1 (none : Option Jvm.ClassFile.FieldType) 4 120 := O
  refine bs hr (fun _ hck hr2 => ?_)
  clear hr
  obtain ⟨a0, rfl⟩ := ck_some hck
  have hr := hr2
  refine z_aload_n O 0 dX3_init_0 rfl rfl ?_
  refine z_null O dX3_init_1 ?_
  refine z_null O dX3_init_2 ?_
  refine z_iconst O dX3_init_3 kic_0 ?_
  refine z_iconst O dX3_init_4 kic_0 ?_
  refine bs hr (fun h1 hF hr => ?_)
  refine z_callI_ O [vr none, vr none, vi (0 : Int32), vi (0 : Int32)] fI_J2_init q214 (fun l G => mJ2_init l G (some a0) none none (0 : Int32) (0 : Int32) h _ hF) rfl ⟨Nat.le_of_ble_eq_true rfl, Nat.le_of_ble_eq_true rfl⟩ (Nat.le_of_ble_eq_true rfl) dX3_init_5 ?_
  refine z_aload_n O 0 dX3_init_8 rfl rfl ?_
  refine z_iconst O dX3_init_9 kic_m1 ?_
  refine z_putI O o_Refused_place (w_Refused_place _) q225 dX3_init_10 hr (fun h2 hr => ?_)
  exact z_vret O dX3_init_13 (by cases hr; rfl)
theorem fI_X6_init : CIf yX6_init cX6_init 1 0 := ⟨q262, rfl, q134, q263, ⟨⟨by decide +kernel, by decide +kernel⟩, by decide +kernel⟩⟩
def F_X6_init (x0 : Option Nat) (h : AH) : Option (Unit) :=
  (ck h [6] x0).bind fun _ =>
  some ()
theorem mX6_init (l : Launch) (G : ZG) (x0 : Option Nat) (h : AH) (r : Unit) (hr : F_X6_init x0 h = some r) : MZ l G yX6_init cX6_init 1 (none : Option Jvm.ClassFile.FieldType) 1 48 [vr x0] h (eU h r) := by
  unfold F_X6_init at hr
  refine MZ.of (by decide) [(0, vr x0)] rfl (Nat.le_of_ble_eq_true rfl) (fun K O => ?_)
  have O : ZOk K cX6_init RX6 "<init>" 1 (none : Option Jvm.ClassFile.FieldType) 1 48 := O
  refine bs hr (fun _ hck hr2 => ?_)
  clear hr
  obtain ⟨a0, rfl⟩ := ck_some hck
  have hr := hr2
  refine z_aload_n O 0 dX6_init_0 rfl rfl ?_
  refine z_objInit O q264 q163 q164 ⟨_, rfl⟩ ⟨Nat.le_of_ble_eq_true rfl, Nat.le_of_ble_eq_true rfl⟩ (Nat.le_of_ble_eq_true rfl) dX6_init_1 ?_
  exact z_vret O dX6_init_4 (by cases hr; rfl)
theorem fI_X5_init : CIf yX5_init cX5_init 2 0 := ⟨q255, rfl, q133, q256, ⟨⟨by decide +kernel, by decide +kernel⟩, by decide +kernel⟩⟩
def BX5_init_15 (N : Nat) (x0 : Option Nat) (rec15 : Int32 → AH → Option (AH)) : Int32 → AH → Option (AH) := fun x1 h =>
  if (6 : Int32) ≤ x1 then
    some h
  else
    (gR h f_House_skins x0).bind fun v1 =>
    b2 (nO h 6 8 [.null, .int 0, .int 0, .int 0, .int 0, .int 0, .int 0, .int 0]) fun v2 h3 =>
    (F_X6_init v2 h3).bind fun _ =>
    (sR h3 v1 x1 v2).bind fun h4 =>
    jlet (x1 + (1 : Int32)) fun v5 =>
    rec15 v5 h4
def LX5_init_15 (N : Nat) (x0 : Option Nat) : Int32 → AH → Option (AH) := lf (fun _ _ => none) (BX5_init_15 N x0) N
theorem wX5_init_15B {K : ZC} (O : ZOk K cX5_init RX5 "<init>" 2 (none : Option Jvm.ClassFile.FieldType) 2 68) (N : Nat) (x0 : Option Nat) (rec15 : Int32 → AH → Option (AH)) (hrec15 : ∀ (y1 : Int32) (hy : AH) (ry : AH), rec15 y1 hy = some ry → Zw K (eH ry) hy 15 [(0, vr x0), (1, vi y1)] []) (x1 : Int32) (h : AH) (r : AH) (hr : BX5_init_15 N x0 rec15 x1 h = some r) : Zw K (eH r) h 15 [(0, vr x0), (1, vi x1)] [] := by
  unfold BX5_init_15 at hr
  refine z_iload_n O 1 dX5_init_15 rfl rfl ?_
  refine z_bipush O dX5_init_16 kbi_6 ?_
  refine z_icmp_ge (tgt := 40) O dX5_init_18 (by decide) hr (fun hr => ?_) (fun hr => ?_)
  · exact z_vret O dX5_init_40 (by cases hr; rfl)
  · refine z_aload_n O 0 dX5_init_21 rfl rfl ?_
    refine z_getR O o_House_skins q307 dX5_init_22 hr (fun v1 hr => ?_)
    refine z_iload_n O 1 dX5_init_25 rfl rfl ?_
    refine z_new O (t := 6) (n := 8) (tyf := tyX6) rfl [.null, .int 0, .int 0, .int 0, .int 0, .int 0, .int 0, .int 0] tyX6_ok rfl in_X6 q258 q260 q134 dX5_init_26 hr (fun v2 h3 hr => ?_)
    refine z_dup O dX5_init_29 rfl ?_
    refine bs hr (fun _ hF hr => ?_)
    refine z_callIN_ O [] fI_X6_init zn261 (fun l G => mX6_init l G (some v2) h3 _ hF) rfl ⟨Nat.le_of_ble_eq_true rfl, Nat.le_of_ble_eq_true rfl⟩ (Nat.le_of_ble_eq_true rfl) dX5_init_30 ?_
    refine z_aastore O dX5_init_33 hr (fun h4 hr => ?_)
    refine z_iincL O 1 (fun v5 => [(1, vi v5), (0, vr x0)]) dX5_init_34 rfl rfl (by decide) (fun _ => rfl) hr (fun v5 hr => ?_)
    refine z_goto (tgt := 15) O dX5_init_37 (by decide) ?_
    refine z_sub [1, 0] rfl ?_
    exact hrec15 v5 h4 _ hr
theorem wX5_init_15 {K : ZC} (O : ZOk K cX5_init RX5 "<init>" 2 (none : Option Jvm.ClassFile.FieldType) 2 68) (N : Nat) (x0 : Option Nat) : ∀ (n : Nat) (x1 : Int32) (h : AH) (r : AH), lf (fun _ _ => none) (BX5_init_15 N x0) n x1 h = some r → Zw K (eH r) h 15 [(0, vr x0), (1, vi x1)] [] := by
  intro n
  induction n with
  | zero => intro x1 h r hr; cases hr
  | succ n ih => intro x1 h r hr; exact wX5_init_15B O N x0 (lf (fun _ _ => none) (BX5_init_15 N x0) n)  ih x1 h r hr
def F_X5_init (N : Nat) (x0 : Option Nat) (h : AH) : Option (AH) :=
  (ck h [5] x0).bind fun _ =>
  b2 (nR_ h 6 (6 : Int32)) fun v1 h2 =>
  (pR h2 f_House_skins x0 v1).bind fun h3 =>
  LX5_init_15 N x0 (0 : Int32) h3
theorem mX5_init (l : Launch) (G : ZG) (N : Nat) (x0 : Option Nat) (h : AH) (r : AH) (hr : F_X5_init N x0 h = some r) : MZ l G yX5_init cX5_init 2 (none : Option Jvm.ClassFile.FieldType) 2 68 [vr x0] h (eH r) := by
  unfold F_X5_init at hr
  refine MZ.of (by decide) [(0, vr x0)] rfl (Nat.le_of_ble_eq_true rfl) (fun K O => ?_)
  have O : ZOk K cX5_init RX5 "<init>" 2 (none : Option Jvm.ClassFile.FieldType) 2 68 := O
  refine bs hr (fun _ hck hr2 => ?_)
  clear hr
  obtain ⟨a0, rfl⟩ := ck_some hck
  have hr := hr2
  refine z_aload_n O 0 dX5_init_0 rfl rfl ?_
  refine z_objInit O q257 q163 q164 ⟨_, rfl⟩ ⟨Nat.le_of_ble_eq_true rfl, Nat.le_of_ble_eq_true rfl⟩ (Nat.le_of_ble_eq_true rfl) dX5_init_1 ?_
  refine z_aload_n O 0 dX5_init_4 rfl rfl ?_
  refine z_bipush O dX5_init_5 kbi_6 ?_
  refine z_anewarr O (t := 6) rfl (by decide) q258 za_Skin dX5_init_7 hr (fun v1 h2 hr => ?_)
  refine z_putRF O rfl o_House_skins w_House_skins rfl q307 dX5_init_10 hr (fun h3 hr => ?_)
  refine z_iconst O dX5_init_13 kic_0 ?_
  refine z_istore_n O [(1, vi (0 : Int32)), (0, vr (some a0))] dX5_init_14 rfl (by decide) rfl ?_
  refine z_sub [1, 0] rfl ?_
  exact wX5_init_15 O N (some a0) _ (0 : Int32) h3 _ hr
theorem fI_X4_init : CIf yX4_init cX4_init 2 0 := ⟨q248, rfl, q132, q249, ⟨⟨by decide +kernel, by decide +kernel⟩, by decide +kernel⟩⟩
def BX4_init_40 (N : Nat) (x0 : Option Nat) (rec40 : Int32 → AH → Option (AH)) : Int32 → AH → Option (AH) := fun x1 h =>
  if (4 : Int32) ≤ x1 then
    (F_X4_straight N x0 h).bind fun h1 =>
    some h1
  else
    (gR h f_Village_houses x0).bind fun v2 =>
    b2 (nO h 5 5 [.null, .null, .int 0, .int 0, .int 0]) fun v3 h4 =>
    (F_X5_init N v3 h4).bind fun h5 =>
    (sR h5 v2 x1 v3).bind fun h6 =>
    jlet (x1 + (1 : Int32)) fun v7 =>
    rec40 v7 h6
def LX4_init_40 (N : Nat) (x0 : Option Nat) : Int32 → AH → Option (AH) := lf (fun _ _ => none) (BX4_init_40 N x0) N
theorem wX4_init_40B {K : ZC} (O : ZOk K cX4_init RX4 "<init>" 2 (none : Option Jvm.ClassFile.FieldType) 3 89) (N : Nat) (x0 : Option Nat) (rec40 : Int32 → AH → Option (AH)) (hrec40 : ∀ (y1 : Int32) (hy : AH) (ry : AH), rec40 y1 hy = some ry → Zw K (eH ry) hy 40 [(0, vr x0), (1, vi y1)] []) (x1 : Int32) (h : AH) (r : AH) (hr : BX4_init_40 N x0 rec40 x1 h = some r) : Zw K (eH r) h 40 [(0, vr x0), (1, vi x1)] [] := by
  unfold BX4_init_40 at hr
  refine z_iload_n O 1 dX4_init_40 rfl rfl ?_
  refine z_iconst O dX4_init_41 kic_4 ?_
  refine z_icmp_ge (tgt := 64) O dX4_init_42 (by decide) hr (fun hr => ?_) (fun hr => ?_)
  · refine z_aload_n O 0 dX4_init_64 rfl rfl ?_
    refine bs hr (fun h1 hF hr => ?_)
    refine z_callVv O [] fV_X4_straight q333 (fun l G => mX4_straight l G N x0 h _ hF) (zck hF) rfl rfl ⟨Nat.le_of_ble_eq_true rfl, Nat.le_of_ble_eq_true rfl⟩ (Nat.le_of_ble_eq_true rfl) dX4_init_65 ?_
    exact z_vret O dX4_init_68 (by cases hr; rfl)
  · refine z_aload_n O 0 dX4_init_45 rfl rfl ?_
    refine z_getR O o_Village_houses q337 dX4_init_46 hr (fun v2 hr => ?_)
    refine z_iload_n O 1 dX4_init_49 rfl rfl ?_
    refine z_new O (t := 5) (n := 5) (tyf := tyX5) rfl [.null, .null, .int 0, .int 0, .int 0] tyX5_ok rfl in_X5 q251 q253 q133 dX4_init_50 hr (fun v3 h4 hr => ?_)
    refine z_dup O dX4_init_53 rfl ?_
    refine bs hr (fun h5 hF hr => ?_)
    refine z_callI_ O [] fI_X5_init q254 (fun l G => mX5_init l G N (some v3) h4 _ hF) rfl ⟨Nat.le_of_ble_eq_true rfl, Nat.le_of_ble_eq_true rfl⟩ (Nat.le_of_ble_eq_true rfl) dX4_init_54 ?_
    refine z_aastore O dX4_init_57 hr (fun h6 hr => ?_)
    refine z_iincL O 1 (fun v7 => [(1, vi v7), (0, vr x0)]) dX4_init_58 rfl rfl (by decide) (fun _ => rfl) hr (fun v7 hr => ?_)
    refine z_goto (tgt := 40) O dX4_init_61 (by decide) ?_
    refine z_sub [1, 0] rfl ?_
    exact hrec40 v7 h6 _ hr
theorem wX4_init_40 {K : ZC} (O : ZOk K cX4_init RX4 "<init>" 2 (none : Option Jvm.ClassFile.FieldType) 3 89) (N : Nat) (x0 : Option Nat) : ∀ (n : Nat) (x1 : Int32) (h : AH) (r : AH), lf (fun _ _ => none) (BX4_init_40 N x0) n x1 h = some r → Zw K (eH r) h 40 [(0, vr x0), (1, vi x1)] [] := by
  intro n
  induction n with
  | zero => intro x1 h r hr; cases hr
  | succ n ih => intro x1 h r hr; exact wX4_init_40B O N x0 (lf (fun _ _ => none) (BX4_init_40 N x0) n)  ih x1 h r hr
def F_X4_init (N : Nat) (x0 : Option Nat) (h : AH) : Option (AH) :=
  (ck h [4] x0).bind fun _ =>
  b2 (nR_ h 5 (4 : Int32)) fun v1 h2 =>
  (pR h2 f_Village_houses x0 v1).bind fun h3 =>
  b2 (nO h3 5 5 [.null, .null, .int 0, .int 0, .int 0]) fun v4 h5 =>
  (F_X5_init N v4 h5).bind fun h6 =>
  (pR h6 f_Village_tried x0 v4).bind fun h7 =>
  b2 (nI_ h7 0 (6 : Int32)) fun v8 h9 =>
  (pR h9 f_Village_depth x0 v8).bind fun h10 =>
  b2 (nI_ h10 0 (4 : Int32)) fun v11 h12 =>
  (pR h12 f_Village_order x0 v11).bind fun h13 =>
  LX4_init_40 N x0 (0 : Int32) h13
theorem mX4_init (l : Launch) (G : ZG) (N : Nat) (x0 : Option Nat) (h : AH) (r : AH) (hr : F_X4_init N x0 h = some r) : MZ l G yX4_init cX4_init 2 (none : Option Jvm.ClassFile.FieldType) 3 89 [vr x0] h (eH r) := by
  unfold F_X4_init at hr
  refine MZ.of (by decide) [(0, vr x0)] rfl (Nat.le_of_ble_eq_true rfl) (fun K O => ?_)
  have O : ZOk K cX4_init RX4 "<init>" 2 (none : Option Jvm.ClassFile.FieldType) 3 89 := O
  refine bs hr (fun _ hck hr2 => ?_)
  clear hr
  obtain ⟨a0, rfl⟩ := ck_some hck
  have hr := hr2
  refine z_aload_n O 0 dX4_init_0 rfl rfl ?_
  refine z_objInit O q250 q163 q164 ⟨_, rfl⟩ ⟨Nat.le_of_ble_eq_true rfl, Nat.le_of_ble_eq_true rfl⟩ (Nat.le_of_ble_eq_true rfl) dX4_init_1 ?_
  refine z_aload_n O 0 dX4_init_4 rfl rfl ?_
  refine z_iconst O dX4_init_5 kic_4 ?_
  refine z_anewarr O (t := 5) rfl (by decide) q251 za_House dX4_init_6 hr (fun v1 h2 hr => ?_)
  refine z_putRF O rfl o_Village_houses w_Village_houses rfl q337 dX4_init_9 hr (fun h3 hr => ?_)
  refine z_aload_n O 0 dX4_init_12 rfl rfl ?_
  refine z_new O (t := 5) (n := 5) (tyf := tyX5) rfl [.null, .null, .int 0, .int 0, .int 0] tyX5_ok rfl in_X5 q251 q253 q133 dX4_init_13 hr (fun v4 h5 hr => ?_)
  refine z_dup O dX4_init_16 rfl ?_
  refine bs hr (fun h6 hF hr => ?_)
  refine z_callI_ O [] fI_X5_init q254 (fun l G => mX5_init l G N (some v4) h5 _ hF) rfl ⟨Nat.le_of_ble_eq_true rfl, Nat.le_of_ble_eq_true rfl⟩ (Nat.le_of_ble_eq_true rfl) dX4_init_17 ?_
  refine z_putRF O rfl o_Village_tried w_Village_tried rfl q338 dX4_init_20 hr (fun h7 hr => ?_)
  refine z_aload_n O 0 dX4_init_23 rfl rfl ?_
  refine z_bipush O dX4_init_24 kbi_6 ?_
  refine z_newarrI O q377 dX4_init_26 hr (fun v8 h9 hr => ?_)
  refine z_putRF O rfl o_Village_depth w_Village_depth rfl q339 dX4_init_28 hr (fun h10 hr => ?_)
  refine z_aload_n O 0 dX4_init_31 rfl rfl ?_
  refine z_iconst O dX4_init_32 kic_4 ?_
  refine z_newarrI O q377 dX4_init_33 hr (fun v11 h12 hr => ?_)
  refine z_putRF O rfl o_Village_order w_Village_order rfl q342 dX4_init_35 hr (fun h13 hr => ?_)
  refine z_iconst O dX4_init_38 kic_0 ?_
  refine z_istore_n O [(1, vi (0 : Int32)), (0, vr (some a0))] dX4_init_39 rfl (by decide) rfl ?_
  refine z_sub [1, 0] rfl ?_
  exact wX4_init_40 O N (some a0) _ (0 : Int32) h13 _ hr
theorem fI_X2_init : CIf yX2_init cX2_init 2 1 := ⟨q168, rfl, q127, q169, ⟨⟨by decide +kernel, by decide +kernel⟩, by decide +kernel⟩⟩
def F_X2_init (N : Nat) (x0 : Option Nat) (x1 : Option Nat) (h : AH) : Option (AH) :=
  (ck h [2] x0).bind fun _ =>
  b2 (nO h 3 8 [.null, .null, .null, .null, .null, .int 0, .int 0, .int 0]) fun v1 h2 =>
  (F_X3_init v1 h2).bind fun h3 =>
  (pR h3 f_Reader_wrong x0 v1).bind fun h4 =>
  b2 (nI_ h4 2 (8 : Int32)) fun v5 h6 =>
  (pR h6 f_Reader_letters x0 v5).bind fun h7 =>
  b2 (nO h7 4 10 [.null, .null, .null, .null, .null, .int 0, .int 0, .int 0, .int 0, .int 0]) fun v8 h9 =>
  (F_X4_init N v8 h9).bind fun h10 =>
  (pR h10 f_Reader_village x0 v8).bind fun h11 =>
  (pR h11 f_Reader_text x0 x1).bind fun h12 =>
  some h12
theorem mX2_init (l : Launch) (G : ZG) (N : Nat) (x0 : Option Nat) (x1 : Option Nat) (h : AH) (r : AH) (hr : F_X2_init N x0 x1 h = some r) : MZ l G yX2_init cX2_init 2 (none : Option Jvm.ClassFile.FieldType) 5 140 [vr x0, vr x1] h (eH r) := by
  unfold F_X2_init at hr
  refine MZ.of (by decide) [(0, vr x0), (1, vr x1)] rfl (Nat.le_of_ble_eq_true rfl) (fun K O => ?_)
  have O : ZOk K cX2_init RX2 "<init>" 2 (none : Option Jvm.ClassFile.FieldType) 5 140 := O
  refine bs hr (fun _ hck hr2 => ?_)
  clear hr
  obtain ⟨a0, rfl⟩ := ck_some hck
  have hr := hr2
  refine z_aload_n O 0 dX2_init_0 rfl rfl ?_
  refine z_objInit O q170 q163 q164 ⟨_, rfl⟩ ⟨Nat.le_of_ble_eq_true rfl, Nat.le_of_ble_eq_true rfl⟩ (Nat.le_of_ble_eq_true rfl) dX2_init_1 ?_
  refine z_aload_n O 0 dX2_init_4 rfl rfl ?_
  refine z_new O (t := 3) (n := 8) (tyf := tyX3) rfl [.null, .null, .null, .null, .null, .int 0, .int 0, .int 0] tyX3_ok rfl in_X3 q171 q172 q131 dX2_init_5 hr (fun v1 h2 hr => ?_)
  refine z_dup O dX2_init_8 rfl ?_
  refine bs hr (fun h3 hF hr => ?_)
  refine z_callI_ O [] fI_X3_init q211 (fun l G => mX3_init l G (some v1) h2 _ hF) rfl ⟨Nat.le_of_ble_eq_true rfl, Nat.le_of_ble_eq_true rfl⟩ (Nat.le_of_ble_eq_true rfl) dX2_init_9 ?_
  refine z_putRF O rfl o_Reader_wrong w_Reader_wrong rfl q378 dX2_init_12 hr (fun h4 hr => ?_)
  refine z_aload_n O 0 dX2_init_15 rfl rfl ?_
  refine z_bipush O dX2_init_16 kbi_8 ?_
  refine z_newarrC O q306 dX2_init_18 hr (fun v5 h6 hr => ?_)
  refine z_putRF O rfl o_Reader_letters w_Reader_letters rfl q380 dX2_init_20 hr (fun h7 hr => ?_)
  refine z_aload_n O 0 dX2_init_23 rfl rfl ?_
  refine z_new O (t := 4) (n := 10) (tyf := tyX4) rfl [.null, .null, .null, .null, .null, .int 0, .int 0, .int 0, .int 0, .int 0] tyX4_ok rfl in_X4 q245 q246 q132 dX2_init_24 hr (fun v8 h9 hr => ?_)
  refine z_dup O dX2_init_27 rfl ?_
  refine bs hr (fun h10 hF hr => ?_)
  refine z_callI_ O [] fI_X4_init q247 (fun l G => mX4_init l G N (some v8) h9 _ hF) rfl ⟨Nat.le_of_ble_eq_true rfl, Nat.le_of_ble_eq_true rfl⟩ (Nat.le_of_ble_eq_true rfl) dX2_init_28 ?_
  refine z_putRF O rfl o_Reader_village w_Reader_village rfl q381 dX2_init_31 hr (fun h11 hr => ?_)
  refine z_aload_n O 0 dX2_init_34 rfl rfl ?_
  refine z_aload_n O 1 dX2_init_35 rfl rfl ?_
  refine z_putRF O rfl o_Reader_text w_Reader_text rfl q379 dX2_init_36 hr (fun h12 hr => ?_)
  exact z_vret O dX2_init_39 (by cases hr; rfl)
theorem fI_X7_init : CIf yX7_init cX7_init 1 0 := ⟨q420, rfl, q135, q421, ⟨⟨by decide +kernel, by decide +kernel⟩, by decide +kernel⟩⟩
def F_X7_init (x0 : Option Nat) (h : AH) : Option (AH) :=
  (ck h [7] x0).bind fun _ =>
  b2 (nI_ h 0 (168 : Int32)) fun v1 h2 =>
  (pR h2 f_Through_best x0 v1).bind fun h3 =>
  some h3
theorem mX7_init (l : Launch) (G : ZG) (x0 : Option Nat) (h : AH) (r : AH) (hr : F_X7_init x0 h = some r) : MZ l G yX7_init cX7_init 1 (none : Option Jvm.ClassFile.FieldType) 1 48 [vr x0] h (eH r) := by
  unfold F_X7_init at hr
  refine MZ.of (by decide) [(0, vr x0)] rfl (Nat.le_of_ble_eq_true rfl) (fun K O => ?_)
  have O : ZOk K cX7_init RX7 "<init>" 1 (none : Option Jvm.ClassFile.FieldType) 1 48 := O
  refine bs hr (fun _ hck hr2 => ?_)
  clear hr
  obtain ⟨a0, rfl⟩ := ck_some hck
  have hr := hr2
  refine z_aload_n O 0 dX7_init_0 rfl rfl ?_
  refine z_objInit O q422 q163 q164 ⟨_, rfl⟩ ⟨Nat.le_of_ble_eq_true rfl, Nat.le_of_ble_eq_true rfl⟩ (Nat.le_of_ble_eq_true rfl) dX7_init_1 ?_
  refine z_aload_n O 0 dX7_init_4 rfl rfl ?_
  refine z_sipush O dX7_init_5 ksi_168 ?_
  refine z_newarrI O q377 dX7_init_8 hr (fun v1 h2 hr => ?_)
  refine z_putRF O rfl o_Through_best w_Through_best rfl q423 dX7_init_10 hr (fun h3 hr => ?_)
  exact z_vret O dX7_init_13 (by cases hr; rfl)
theorem fI_X8_init : CIf yX8_init cX8_init 1 0 := ⟨q433, rfl, q136, q434, ⟨⟨by decide +kernel, by decide +kernel⟩, by decide +kernel⟩⟩
def F_X8_init (x0 : Option Nat) (h : AH) : Option (AH) :=
  (ck h [8] x0).bind fun _ =>
  b2 (nI_ h 0 (6 : Int32)) fun v1 h2 =>
  (pR h2 f_Orders_order x0 v1).bind fun h3 =>
  b2 (nI_ h3 0 (4320 : Int32)) fun v4 h5 =>
  (pR h5 f_Orders_rows x0 v4).bind fun h6 =>
  b2 (nI_ h6 0 (6 : Int32)) fun v7 h8 =>
  (pR h8 f_Orders_soonest x0 v7).bind fun h9 =>
  b2 (nI_ h9 0 (6 : Int32)) fun v10 h11 =>
  (pR h11 f_Orders_latest x0 v10).bind fun h12 =>
  some h12
theorem mX8_init (l : Launch) (G : ZG) (x0 : Option Nat) (h : AH) (r : AH) (hr : F_X8_init x0 h = some r) : MZ l G yX8_init cX8_init 1 (none : Option Jvm.ClassFile.FieldType) 1 48 [vr x0] h (eH r) := by
  unfold F_X8_init at hr
  refine MZ.of (by decide) [(0, vr x0)] rfl (Nat.le_of_ble_eq_true rfl) (fun K O => ?_)
  have O : ZOk K cX8_init RX8 "<init>" 1 (none : Option Jvm.ClassFile.FieldType) 1 48 := O
  refine bs hr (fun _ hck hr2 => ?_)
  clear hr
  obtain ⟨a0, rfl⟩ := ck_some hck
  have hr := hr2
  refine z_aload_n O 0 dX8_init_0 rfl rfl ?_
  refine z_objInit O q435 q163 q164 ⟨_, rfl⟩ ⟨Nat.le_of_ble_eq_true rfl, Nat.le_of_ble_eq_true rfl⟩ (Nat.le_of_ble_eq_true rfl) dX8_init_1 ?_
  refine z_aload_n O 0 dX8_init_4 rfl rfl ?_
  refine z_bipush O dX8_init_5 kbi_6 ?_
  refine z_newarrI O q377 dX8_init_7 hr (fun v1 h2 hr => ?_)
  refine z_putRF O rfl o_Orders_order w_Orders_order rfl q436 dX8_init_9 hr (fun h3 hr => ?_)
  refine z_aload_n O 0 dX8_init_12 rfl rfl ?_
  refine z_sipush O dX8_init_13 ksi_4320 ?_
  refine z_newarrI O q377 dX8_init_16 hr (fun v4 h5 hr => ?_)
  refine z_putRF O rfl o_Orders_rows w_Orders_rows rfl q437 dX8_init_18 hr (fun h6 hr => ?_)
  refine z_aload_n O 0 dX8_init_21 rfl rfl ?_
  refine z_bipush O dX8_init_22 kbi_6 ?_
  refine z_newarrI O q377 dX8_init_24 hr (fun v7 h8 hr => ?_)
  refine z_putRF O rfl o_Orders_soonest w_Orders_soonest rfl q438 dX8_init_26 hr (fun h9 hr => ?_)
  refine z_aload_n O 0 dX8_init_29 rfl rfl ?_
  refine z_bipush O dX8_init_30 kbi_6 ?_
  refine z_newarrI O q377 dX8_init_32 hr (fun v10 h11 hr => ?_)
  refine z_putRF O rfl o_Orders_latest w_Orders_latest rfl q439 dX8_init_34 hr (fun h12 hr => ?_)
  exact z_vret O dX8_init_37 (by cases hr; rfl)
theorem fI_X1_init : CIf yX1_init cX1_init 2 0 := ⟨q160, rfl, q126, q161, ⟨⟨by decide +kernel, by decide +kernel⟩, by decide +kernel⟩⟩
def BX1_init_141 (N : Nat) (x0 : Option Nat) (rec141 : Int32 → AH → Option (AH)) : Int32 → AH → Option (AH) := fun x1 h =>
  if (3 : Int32) ≤ x1 then
    some h
  else
    (gR h f_Year_marks x0).bind fun v1 =>
    b2 (nO h 4 10 [.null, .null, .null, .null, .null, .int 0, .int 0, .int 0, .int 0, .int 0]) fun v2 h3 =>
    (F_X4_init N v2 h3).bind fun h4 =>
    (sR h4 v1 x1 v2).bind fun h5 =>
    jlet (x1 + (1 : Int32)) fun v6 =>
    rec141 v6 h5
def LX1_init_141 (N : Nat) (x0 : Option Nat) : Int32 → AH → Option (AH) := lf (fun _ _ => none) (BX1_init_141 N x0) N
theorem wX1_init_141B {K : ZC} (O : ZOk K cX1_init RX1 "<init>" 2 (none : Option Jvm.ClassFile.FieldType) 6 161) (N : Nat) (x0 : Option Nat) (rec141 : Int32 → AH → Option (AH)) (hrec141 : ∀ (y1 : Int32) (hy : AH) (ry : AH), rec141 y1 hy = some ry → Zw K (eH ry) hy 141 [(0, vr x0), (1, vi y1)] []) (x1 : Int32) (h : AH) (r : AH) (hr : BX1_init_141 N x0 rec141 x1 h = some r) : Zw K (eH r) h 141 [(0, vr x0), (1, vi x1)] [] := by
  unfold BX1_init_141 at hr
  refine z_iload_n O 1 dX1_init_141 rfl rfl ?_
  refine z_iconst O dX1_init_142 kic_3 ?_
  refine z_icmp_ge (tgt := 165) O dX1_init_143 (by decide) hr (fun hr => ?_) (fun hr => ?_)
  · exact z_vret O dX1_init_165 (by cases hr; rfl)
  · refine z_aload_n O 0 dX1_init_146 rfl rfl ?_
    refine z_getR O o_Year_marks q475 dX1_init_147 hr (fun v1 hr => ?_)
    refine z_iload_n O 1 dX1_init_150 rfl rfl ?_
    refine z_new O (t := 4) (n := 10) (tyf := tyX4) rfl [.null, .null, .null, .null, .null, .int 0, .int 0, .int 0, .int 0, .int 0] tyX4_ok rfl in_X4 q415 q246 q132 dX1_init_151 hr (fun v2 h3 hr => ?_)
    refine z_dup O dX1_init_154 rfl ?_
    refine bs hr (fun h4 hF hr => ?_)
    refine z_callI_ O [] fI_X4_init q416 (fun l G => mX4_init l G N (some v2) h3 _ hF) rfl ⟨Nat.le_of_ble_eq_true rfl, Nat.le_of_ble_eq_true rfl⟩ (Nat.le_of_ble_eq_true rfl) dX1_init_155 ?_
    refine z_aastore O dX1_init_158 hr (fun h5 hr => ?_)
    refine z_iincL O 1 (fun v6 => [(1, vi v6), (0, vr x0)]) dX1_init_159 rfl rfl (by decide) (fun _ => rfl) hr (fun v6 hr => ?_)
    refine z_goto (tgt := 141) O dX1_init_162 (by decide) ?_
    refine z_sub [1, 0] rfl ?_
    exact hrec141 v6 h5 _ hr
theorem wX1_init_141 {K : ZC} (O : ZOk K cX1_init RX1 "<init>" 2 (none : Option Jvm.ClassFile.FieldType) 6 161) (N : Nat) (x0 : Option Nat) : ∀ (n : Nat) (x1 : Int32) (h : AH) (r : AH), lf (fun _ _ => none) (BX1_init_141 N x0) n x1 h = some r → Zw K (eH r) h 141 [(0, vr x0), (1, vi x1)] [] := by
  intro n
  induction n with
  | zero => intro x1 h r hr; cases hr
  | succ n ih => intro x1 h r hr; exact wX1_init_141B O N x0 (lf (fun _ _ => none) (BX1_init_141 N x0) n)  ih x1 h r hr
def BX1_init_114 (N : Nat) (x0 : Option Nat) (rec114 : Int32 → AH → Option (AH)) : Int32 → AH → Option (AH) := fun x1 h =>
  if (10 : Int32) ≤ x1 then
    LX1_init_141 N x0 (0 : Int32) h
  else
    (gR h f_Year_undone x0).bind fun v1 =>
    b2 (nO h 4 10 [.null, .null, .null, .null, .null, .int 0, .int 0, .int 0, .int 0, .int 0]) fun v2 h3 =>
    (F_X4_init N v2 h3).bind fun h4 =>
    (sR h4 v1 x1 v2).bind fun h5 =>
    jlet (x1 + (1 : Int32)) fun v6 =>
    rec114 v6 h5
def LX1_init_114 (N : Nat) (x0 : Option Nat) : Int32 → AH → Option (AH) := lf (fun _ _ => none) (BX1_init_114 N x0) N
theorem wX1_init_114B {K : ZC} (O : ZOk K cX1_init RX1 "<init>" 2 (none : Option Jvm.ClassFile.FieldType) 6 161) (N : Nat) (x0 : Option Nat) (rec114 : Int32 → AH → Option (AH)) (hrec114 : ∀ (y1 : Int32) (hy : AH) (ry : AH), rec114 y1 hy = some ry → Zw K (eH ry) hy 114 [(0, vr x0), (1, vi y1)] []) (x1 : Int32) (h : AH) (r : AH) (hr : BX1_init_114 N x0 rec114 x1 h = some r) : Zw K (eH r) h 114 [(0, vr x0), (1, vi x1)] [] := by
  unfold BX1_init_114 at hr
  refine z_iload_n O 1 dX1_init_114 rfl rfl ?_
  refine z_bipush O dX1_init_115 kbi_10 ?_
  refine z_icmp_ge (tgt := 139) O dX1_init_117 (by decide) hr (fun hr => ?_) (fun hr => ?_)
  · refine z_iconst O dX1_init_139 kic_0 ?_
    refine z_istore_n O [(1, vi (0 : Int32)), (0, vr x0)] dX1_init_140 rfl (by decide) rfl ?_
    refine z_sub [1, 0] rfl ?_
    exact wX1_init_141 O N x0 _ (0 : Int32) h _ hr
  · refine z_aload_n O 0 dX1_init_120 rfl rfl ?_
    refine z_getR O o_Year_undone q474 dX1_init_121 hr (fun v1 hr => ?_)
    refine z_iload_n O 1 dX1_init_124 rfl rfl ?_
    refine z_new O (t := 4) (n := 10) (tyf := tyX4) rfl [.null, .null, .null, .null, .null, .int 0, .int 0, .int 0, .int 0, .int 0] tyX4_ok rfl in_X4 q415 q246 q132 dX1_init_125 hr (fun v2 h3 hr => ?_)
    refine z_dup O dX1_init_128 rfl ?_
    refine bs hr (fun h4 hF hr => ?_)
    refine z_callI_ O [] fI_X4_init q416 (fun l G => mX4_init l G N (some v2) h3 _ hF) rfl ⟨Nat.le_of_ble_eq_true rfl, Nat.le_of_ble_eq_true rfl⟩ (Nat.le_of_ble_eq_true rfl) dX1_init_129 ?_
    refine z_aastore O dX1_init_132 hr (fun h5 hr => ?_)
    refine z_iincL O 1 (fun v6 => [(1, vi v6), (0, vr x0)]) dX1_init_133 rfl rfl (by decide) (fun _ => rfl) hr (fun v6 hr => ?_)
    refine z_goto (tgt := 114) O dX1_init_136 (by decide) ?_
    refine z_sub [1, 0] rfl ?_
    exact hrec114 v6 h5 _ hr
theorem wX1_init_114 {K : ZC} (O : ZOk K cX1_init RX1 "<init>" 2 (none : Option Jvm.ClassFile.FieldType) 6 161) (N : Nat) (x0 : Option Nat) : ∀ (n : Nat) (x1 : Int32) (h : AH) (r : AH), lf (fun _ _ => none) (BX1_init_114 N x0) n x1 h = some r → Zw K (eH r) h 114 [(0, vr x0), (1, vi x1)] [] := by
  intro n
  induction n with
  | zero => intro x1 h r hr; cases hr
  | succ n ih => intro x1 h r hr; exact wX1_init_114B O N x0 (lf (fun _ _ => none) (BX1_init_114 N x0) n)  ih x1 h r hr
def F_X1_init (N : Nat) (x0 : Option Nat) (h : AH) : Option (AH) :=
  (ck h [1] x0).bind fun _ =>
  b2 (nI_ h 1 (1000 : Int32)) fun v1 h2 =>
  (pR h2 f_Year_tape x0 v1).bind fun h3 =>
  b2 (nO h3 2 12 [.null, .null, .null, .null, .int 0, .int 0, .int 0, .int 0, .int 0, .int 0, .null, .null]) fun v4 h5 =>
  (gR h5 f_Year_tape x0).bind fun v6 =>
  (F_X2_init N v4 v6 h5).bind fun h7 =>
  (pR h7 f_Year_reader x0 v4).bind fun h8 =>
  (pI h8 f_Year_where x0 (-1 : Int32)).bind fun h9 =>
  b2 (nO h9 4 10 [.null, .null, .null, .null, .null, .int 0, .int 0, .int 0, .int 0, .int 0]) fun v10 h11 =>
  (F_X4_init N v10 h11).bind fun h12 =>
  (pR h12 f_Year_village x0 v10).bind fun h13 =>
  b2 (nO h13 4 10 [.null, .null, .null, .null, .null, .int 0, .int 0, .int 0, .int 0, .int 0]) fun v14 h15 =>
  (F_X4_init N v14 h15).bind fun h16 =>
  (pR h16 f_Year_was x0 v14).bind fun h17 =>
  b2 (nO h17 4 10 [.null, .null, .null, .null, .null, .int 0, .int 0, .int 0, .int 0, .int 0]) fun v18 h19 =>
  (F_X4_init N v18 h19).bind fun h20 =>
  (pR h20 f_Year_trial x0 v18).bind fun h21 =>
  b2 (nO h21 7 2 [.null, .null]) fun v22 h23 =>
  (F_X7_init v22 h23).bind fun h24 =>
  (pR h24 f_Year_through x0 v22).bind fun h25 =>
  b2 (nO h25 8 7 [.null, .null, .null, .null, .null, .int 0, .int 0]) fun v26 h27 =>
  (F_X8_init v26 h27).bind fun h28 =>
  (pR h28 f_Year_orders x0 v26).bind fun h29 =>
  b2 (nR_ h29 7 (10 : Int32)) fun v30 h31 =>
  (pR h31 f_Year_undone x0 v30).bind fun h32 =>
  b2 (nR_ h32 7 (3 : Int32)) fun v33 h34 =>
  (pR h34 f_Year_marks x0 v33).bind fun h35 =>
  b2 (nI_ h35 0 (4 : Int32)) fun v36 h37 =>
  (pR h37 f_Year_firstOrder x0 v36).bind fun h38 =>
  LX1_init_114 N x0 (0 : Int32) h38
theorem mX1_init (l : Launch) (G : ZG) (N : Nat) (x0 : Option Nat) (h : AH) (r : AH) (hr : F_X1_init N x0 h = some r) : MZ l G yX1_init cX1_init 2 (none : Option Jvm.ClassFile.FieldType) 6 161 [vr x0] h (eH r) := by
  unfold F_X1_init at hr
  refine MZ.of (by decide) [(0, vr x0)] rfl (Nat.le_of_ble_eq_true rfl) (fun K O => ?_)
  have O : ZOk K cX1_init RX1 "<init>" 2 (none : Option Jvm.ClassFile.FieldType) 6 161 := O
  refine bs hr (fun _ hck hr2 => ?_)
  clear hr
  obtain ⟨a0, rfl⟩ := ck_some hck
  have hr := hr2
  refine z_aload_n O 0 dX1_init_0 rfl rfl ?_
  refine z_objInit O q162 q163 q164 ⟨_, rfl⟩ ⟨Nat.le_of_ble_eq_true rfl, Nat.le_of_ble_eq_true rfl⟩ (Nat.le_of_ble_eq_true rfl) dX1_init_1 ?_
  refine z_aload_n O 0 dX1_init_4 rfl rfl ?_
  refine z_sipush O dX1_init_5 ksi_1000 ?_
  refine z_newarrB O q244 dX1_init_8 hr (fun v1 h2 hr => ?_)
  refine z_putRF O rfl o_Year_tape w_Year_tape rfl q460 dX1_init_10 hr (fun h3 hr => ?_)
  refine z_aload_n O 0 dX1_init_13 rfl rfl ?_
  refine z_new O (t := 2) (n := 12) (tyf := tyX2) rfl [.null, .null, .null, .null, .int 0, .int 0, .int 0, .int 0, .int 0, .int 0, .null, .null] tyX2_ok rfl in_X2 q165 q166 q127 dX1_init_14 hr (fun v4 h5 hr => ?_)
  refine z_dup O dX1_init_17 rfl ?_
  refine z_aload_n O 0 dX1_init_18 rfl rfl ?_
  refine z_getR O o_Year_tape q460 dX1_init_19 hr (fun v6 hr => ?_)
  refine bs hr (fun h7 hF hr => ?_)
  refine z_callI_ O [vr v6] fI_X2_init q167 (fun l G => mX2_init l G N (some v4) v6 h5 _ hF) rfl ⟨Nat.le_of_ble_eq_true rfl, Nat.le_of_ble_eq_true rfl⟩ (Nat.le_of_ble_eq_true rfl) dX1_init_22 ?_
  refine z_putRF O rfl o_Year_reader w_Year_reader rfl q462 dX1_init_25 hr (fun h8 hr => ?_)
  refine z_aload_n O 0 dX1_init_28 rfl rfl ?_
  refine z_iconst O dX1_init_29 kic_m1 ?_
  refine z_putI O o_Year_where (w_Year_where _) q466 dX1_init_30 hr (fun h9 hr => ?_)
  refine z_aload_n O 0 dX1_init_33 rfl rfl ?_
  refine z_new O (t := 4) (n := 10) (tyf := tyX4) rfl [.null, .null, .null, .null, .null, .int 0, .int 0, .int 0, .int 0, .int 0] tyX4_ok rfl in_X4 q415 q246 q132 dX1_init_34 hr (fun v10 h11 hr => ?_)
  refine z_dup O dX1_init_37 rfl ?_
  refine bs hr (fun h12 hF hr => ?_)
  refine z_callI_ O [] fI_X4_init q416 (fun l G => mX4_init l G N (some v10) h11 _ hF) rfl ⟨Nat.le_of_ble_eq_true rfl, Nat.le_of_ble_eq_true rfl⟩ (Nat.le_of_ble_eq_true rfl) dX1_init_38 ?_
  refine z_putRF O rfl o_Year_village w_Year_village rfl q469 dX1_init_41 hr (fun h13 hr => ?_)
  refine z_aload_n O 0 dX1_init_44 rfl rfl ?_
  refine z_new O (t := 4) (n := 10) (tyf := tyX4) rfl [.null, .null, .null, .null, .null, .int 0, .int 0, .int 0, .int 0, .int 0] tyX4_ok rfl in_X4 q415 q246 q132 dX1_init_45 hr (fun v14 h15 hr => ?_)
  refine z_dup O dX1_init_48 rfl ?_
  refine bs hr (fun h16 hF hr => ?_)
  refine z_callI_ O [] fI_X4_init q416 (fun l G => mX4_init l G N (some v14) h15 _ hF) rfl ⟨Nat.le_of_ble_eq_true rfl, Nat.le_of_ble_eq_true rfl⟩ (Nat.le_of_ble_eq_true rfl) dX1_init_49 ?_
  refine z_putRF O rfl o_Year_was w_Year_was rfl q470 dX1_init_52 hr (fun h17 hr => ?_)
  refine z_aload_n O 0 dX1_init_55 rfl rfl ?_
  refine z_new O (t := 4) (n := 10) (tyf := tyX4) rfl [.null, .null, .null, .null, .null, .int 0, .int 0, .int 0, .int 0, .int 0] tyX4_ok rfl in_X4 q415 q246 q132 dX1_init_56 hr (fun v18 h19 hr => ?_)
  refine z_dup O dX1_init_59 rfl ?_
  refine bs hr (fun h20 hF hr => ?_)
  refine z_callI_ O [] fI_X4_init q416 (fun l G => mX4_init l G N (some v18) h19 _ hF) rfl ⟨Nat.le_of_ble_eq_true rfl, Nat.le_of_ble_eq_true rfl⟩ (Nat.le_of_ble_eq_true rfl) dX1_init_60 ?_
  refine z_putRF O rfl o_Year_trial w_Year_trial rfl q471 dX1_init_63 hr (fun h21 hr => ?_)
  refine z_aload_n O 0 dX1_init_66 rfl rfl ?_
  refine z_new O (t := 7) (n := 2) (tyf := tyX7) rfl [.null, .null] tyX7_ok rfl in_X7 q417 q418 q135 dX1_init_67 hr (fun v22 h23 hr => ?_)
  refine z_dup O dX1_init_70 rfl ?_
  refine bs hr (fun h24 hF hr => ?_)
  refine z_callIN_ O [] fI_X7_init zn419 (fun l G => mX7_init l G (some v22) h23 _ hF) rfl ⟨Nat.le_of_ble_eq_true rfl, Nat.le_of_ble_eq_true rfl⟩ (Nat.le_of_ble_eq_true rfl) dX1_init_71 ?_
  refine z_putRF O rfl o_Year_through w_Year_through rfl q472 dX1_init_74 hr (fun h25 hr => ?_)
  refine z_aload_n O 0 dX1_init_77 rfl rfl ?_
  refine z_new O (t := 8) (n := 7) (tyf := tyX8) rfl [.null, .null, .null, .null, .null, .int 0, .int 0] tyX8_ok rfl in_X8 q430 q431 q136 dX1_init_78 hr (fun v26 h27 hr => ?_)
  refine z_dup O dX1_init_81 rfl ?_
  refine bs hr (fun h28 hF hr => ?_)
  refine z_callIN_ O [] fI_X8_init zn432 (fun l G => mX8_init l G (some v26) h27 _ hF) rfl ⟨Nat.le_of_ble_eq_true rfl, Nat.le_of_ble_eq_true rfl⟩ (Nat.le_of_ble_eq_true rfl) dX1_init_82 ?_
  refine z_putRF O rfl o_Year_orders w_Year_orders rfl q473 dX1_init_85 hr (fun h29 hr => ?_)
  refine z_aload_n O 0 dX1_init_88 rfl rfl ?_
  refine z_bipush O dX1_init_89 kbi_10 ?_
  refine z_anewarr O (t := 7) rfl (by decide) q415 za_Village dX1_init_91 hr (fun v30 h31 hr => ?_)
  refine z_putRF O rfl o_Year_undone w_Year_undone rfl q474 dX1_init_94 hr (fun h32 hr => ?_)
  refine z_aload_n O 0 dX1_init_97 rfl rfl ?_
  refine z_iconst O dX1_init_98 kic_3 ?_
  refine z_anewarr O (t := 7) rfl (by decide) q415 za_Village dX1_init_99 hr (fun v33 h34 hr => ?_)
  refine z_putRF O rfl o_Year_marks w_Year_marks rfl q475 dX1_init_102 hr (fun h35 hr => ?_)
  refine z_aload_n O 0 dX1_init_105 rfl rfl ?_
  refine z_iconst O dX1_init_106 kic_4 ?_
  refine z_newarrI O q377 dX1_init_107 hr (fun v36 h37 hr => ?_)
  refine z_putRF O rfl o_Year_firstOrder w_Year_firstOrder rfl q477 dX1_init_109 hr (fun h38 hr => ?_)
  refine z_iconst O dX1_init_112 kic_0 ?_
  refine z_istore_n O [(1, vi (0 : Int32)), (0, vr (some a0))] dX1_init_113 rfl (by decide) rfl ?_
  refine z_sub [1, 0] rfl ?_
  exact wX1_init_114 O N (some a0) _ (0 : Int32) h38 _ hr
theorem fI_X10_init : CIf yX10_init cX10_init 1 0 := ⟨q546, rfl, q138, q547, ⟨⟨by decide +kernel, by decide +kernel⟩, by decide +kernel⟩⟩
def F_X10_init (x0 : Option Nat) (h : AH) : Option (AH) :=
  (ck h [10] x0).bind fun _ =>
  b2 (nI_ h 0 (10 : Int32)) fun v1 h2 =>
  (pR h2 f_Land_waterX x0 v1).bind fun h3 =>
  b2 (nI_ h3 0 (10 : Int32)) fun v4 h5 =>
  (pR h5 f_Land_waterY x0 v4).bind fun h6 =>
  b2 (nI_ h6 0 (8 : Int32)) fun v7 h8 =>
  (pR h8 f_Land_older x0 v7).bind fun h9 =>
  b2 (nI_ h9 0 (8 : Int32)) fun v10 h11 =>
  (pR h11 f_Land_younger x0 v10).bind fun h12 =>
  b2 (nR_ h12 8 (4 : Int32)) fun v13 h14 =>
  (pR h14 f_Land_stones x0 v13).bind fun h15 =>
  b2 (nR_ h15 9 (4 : Int32)) fun v16 h17 =>
  (pR h17 f_Land_sites x0 v16).bind fun h18 =>
  b2 (nR_ h18 10 (6 : Int32)) fun v19 h20 =>
  (pR h20 f_Land_heirs x0 v19).bind fun h21 =>
  b2 (nR_ h21 11 (6 : Int32)) fun v22 h23 =>
  (pR h23 f_Land_walls x0 v22).bind fun h24 =>
  some h24
theorem mX10_init (l : Launch) (G : ZG) (x0 : Option Nat) (h : AH) (r : AH) (hr : F_X10_init x0 h = some r) : MZ l G yX10_init cX10_init 1 (none : Option Jvm.ClassFile.FieldType) 1 48 [vr x0] h (eH r) := by
  unfold F_X10_init at hr
  refine MZ.of (by decide) [(0, vr x0)] rfl (Nat.le_of_ble_eq_true rfl) (fun K O => ?_)
  have O : ZOk K cX10_init RX10 "<init>" 1 (none : Option Jvm.ClassFile.FieldType) 1 48 := O
  refine bs hr (fun _ hck hr2 => ?_)
  clear hr
  obtain ⟨a0, rfl⟩ := ck_some hck
  have hr := hr2
  refine z_aload_n O 0 dX10_init_0 rfl rfl ?_
  refine z_objInit O q548 q163 q164 ⟨_, rfl⟩ ⟨Nat.le_of_ble_eq_true rfl, Nat.le_of_ble_eq_true rfl⟩ (Nat.le_of_ble_eq_true rfl) dX10_init_1 ?_
  refine z_aload_n O 0 dX10_init_4 rfl rfl ?_
  refine z_bipush O dX10_init_5 kbi_10 ?_
  refine z_newarrI O q377 dX10_init_7 hr (fun v1 h2 hr => ?_)
  refine z_putRF O rfl o_Land_waterX w_Land_waterX rfl q557 dX10_init_9 hr (fun h3 hr => ?_)
  refine z_aload_n O 0 dX10_init_12 rfl rfl ?_
  refine z_bipush O dX10_init_13 kbi_10 ?_
  refine z_newarrI O q377 dX10_init_15 hr (fun v4 h5 hr => ?_)
  refine z_putRF O rfl o_Land_waterY w_Land_waterY rfl q559 dX10_init_17 hr (fun h6 hr => ?_)
  refine z_aload_n O 0 dX10_init_20 rfl rfl ?_
  refine z_bipush O dX10_init_21 kbi_8 ?_
  refine z_newarrI O q377 dX10_init_23 hr (fun v7 h8 hr => ?_)
  refine z_putRF O rfl o_Land_older w_Land_older rfl q561 dX10_init_25 hr (fun h9 hr => ?_)
  refine z_aload_n O 0 dX10_init_28 rfl rfl ?_
  refine z_bipush O dX10_init_29 kbi_8 ?_
  refine z_newarrI O q377 dX10_init_31 hr (fun v10 h11 hr => ?_)
  refine z_putRF O rfl o_Land_younger w_Land_younger rfl q564 dX10_init_33 hr (fun h12 hr => ?_)
  refine z_aload_n O 0 dX10_init_36 rfl rfl ?_
  refine z_iconst O dX10_init_37 kic_4 ?_
  refine z_anewarr O (t := 8) rfl (by decide) q549 za_Stone dX10_init_38 hr (fun v13 h14 hr => ?_)
  refine z_putRF O rfl o_Land_stones w_Land_stones rfl q567 dX10_init_41 hr (fun h15 hr => ?_)
  refine z_aload_n O 0 dX10_init_44 rfl rfl ?_
  refine z_iconst O dX10_init_45 kic_4 ?_
  refine z_anewarr O (t := 9) rfl (by decide) q551 za_Site dX10_init_46 hr (fun v16 h17 hr => ?_)
  refine z_putRF O rfl o_Land_sites w_Land_sites rfl q570 dX10_init_49 hr (fun h18 hr => ?_)
  refine z_aload_n O 0 dX10_init_52 rfl rfl ?_
  refine z_bipush O dX10_init_53 kbi_6 ?_
  refine z_anewarr O (t := 10) rfl (by decide) q553 za_Heir dX10_init_55 hr (fun v19 h20 hr => ?_)
  refine z_putRF O rfl o_Land_heirs w_Land_heirs rfl q572 dX10_init_58 hr (fun h21 hr => ?_)
  refine z_aload_n O 0 dX10_init_61 rfl rfl ?_
  refine z_bipush O dX10_init_62 kbi_6 ?_
  refine z_anewarr O (t := 11) rfl (by decide) q555 za_Wall dX10_init_64 hr (fun v22 h23 hr => ?_)
  refine z_putRF O rfl o_Land_walls w_Land_walls rfl q576 dX10_init_67 hr (fun h24 hr => ?_)
  exact z_vret O dX10_init_70 (by cases hr; rfl)
theorem fV_X3_at : CVf RX3 yX3_at cX3_at 3 (some (.object "YearSkins$Refused")) 2 := ⟨q771, q772, q131, q773, ⟨⟨by decide +kernel, by decide +kernel⟩, by decide +kernel⟩⟩
def F_X3_at (x0 : Option Nat) (x1 : Int32) (x2 : Int32) (h : AH) : Option ((Option Nat) × AH) :=
  (ck h [3] x0).bind fun _ =>
  (pI h f_Refused_fault x0 x1).bind fun h1 =>
  (pI h1 f_Refused_place x0 x2).bind fun h2 =>
  some (x0, h2)
theorem mX3_at (l : Launch) (G : ZG) (x0 : Option Nat) (x1 : Int32) (x2 : Int32) (h : AH) (r : (Option Nat) × AH) (hr : F_X3_at x0 x1 x2 h = some r) : MZ l G yX3_at cX3_at 3 (some (.object "YearSkins$Refused")) 1 48 [vr x0, vi x1, vi x2] h (eRH r) := by
  unfold F_X3_at at hr
  refine MZ.of (by decide) [(0, vr x0), (1, vi x1), (2, vi x2)] rfl (Nat.le_of_ble_eq_true rfl) (fun K O => ?_)
  have O : ZOk K cX3_at RX3 "at" 3 (some (.object "YearSkins$Refused")) 1 48 := O
  refine bs hr (fun _ hck hr => ?_)
  refine z_aload_n O 0 dX3_at_0 rfl rfl ?_
  refine z_iload_n O 1 dX3_at_1 rfl rfl ?_
  refine z_putI O o_Refused_fault (w_Refused_fault _) q223 dX3_at_2 hr (fun h1 hr => ?_)
  refine z_aload_n O 0 dX3_at_5 rfl rfl ?_
  refine z_iload_n O 2 dX3_at_6 rfl rfl ?_
  refine z_putI O o_Refused_place (w_Refused_place _) q225 dX3_at_7 hr (fun h2 hr => ?_)
  refine z_aload_n O 0 dX3_at_10 rfl rfl ?_
  exact z_aret O rfl dX3_at_11 (by cases hr; rfl)
theorem fV_X2_fail : CVf RX2 yX2_fail cX2_fail 2 (some (.object "YearSkins$Refused")) 1 := ⟨q768, qs7, q127, q769, ⟨⟨by decide +kernel, by decide +kernel⟩, by decide +kernel⟩⟩
def F_X2_fail (x0 : Option Nat) (x1 : Int32) (h : AH) : Option ((Option Nat) × AH) :=
  (ck h [2] x0).bind fun _ =>
  (gR h f_Reader_wrong x0).bind fun v1 =>
  (gI h f_Reader_at x0).bind fun v2 =>
  b2 (F_X3_at v1 x1 v2 h) fun v4 h3 =>
  some (v4, h3)
theorem mX2_fail (l : Launch) (G : ZG) (x0 : Option Nat) (x1 : Int32) (h : AH) (r : (Option Nat) × AH) (hr : F_X2_fail x0 x1 h = some r) : MZ l G yX2_fail cX2_fail 2 (some (.object "YearSkins$Refused")) 2 70 [vr x0, vi x1] h (eRH r) := by
  unfold F_X2_fail at hr
  refine MZ.of (by decide) [(0, vr x0), (1, vi x1)] rfl (Nat.le_of_ble_eq_true rfl) (fun K O => ?_)
  have O : ZOk K cX2_fail RX2 "fail" 2 (some (.object "YearSkins$Refused")) 2 70 := O
  refine bs hr (fun _ hck hr => ?_)
  refine z_aload_n O 0 dX2_fail_0 rfl rfl ?_
  refine z_getR O o_Reader_wrong q378 dX2_fail_1 hr (fun v1 hr => ?_)
  refine z_iload_n O 1 dX2_fail_4 rfl rfl ?_
  refine z_aload_n O 0 dX2_fail_5 rfl rfl ?_
  refine z_getI O o_Reader_at q385 dX2_fail_6 hr (fun v2 hr => ?_)
  refine b2s hr (fun v4 h3 hF hr => ?_)
  refine z_callV O [vi x1, vi v2] (vr v4) fV_X3_at q770 (fun l G => mX3_at l G v1 x1 v2 h _ hF) (zck hF) rfl rfl ⟨Nat.le_of_ble_eq_true rfl, Nat.le_of_ble_eq_true rfl⟩ (Nat.le_of_ble_eq_true rfl) dX2_fail_9 ?_
  exact z_aret O rfl dX2_fail_12 (by cases hr; rfl)
theorem fS_J6_equals : CSf yJ6_equals cJ6_equals 3 (some .boolean) 2 := ⟨q834, q142, q835, ⟨⟨by decide +kernel, by decide +kernel⟩, by decide +kernel⟩⟩
def BJ6_equals_9 (N : Nat) (x0 : Option Nat) (x1 : Option Nat) (h : AH) (rec9 : Int32 → Option (Int32)) : Int32 → Option (Int32) := fun x2 =>
  (aL h x0).bind fun v1 =>
  if v1 ≤ x2 then
    zb (1 : Int32)
  else
    (aI h 1 x0 x2).bind fun v2 =>
    (aI h 1 x1 x2).bind fun v3 =>
    if v2 = v3 then
      jlet (x2 + (1 : Int32)) fun v4 =>
      rec9 v4
    else
      zb (0 : Int32)
def LJ6_equals_9 (N : Nat) (x0 : Option Nat) (x1 : Option Nat) (h : AH) : Int32 → Option (Int32) := lf (fun _ => none) (BJ6_equals_9 N x0 x1 h) N
theorem wJ6_equals_9B {K : ZC} (O : ZOk K cJ6_equals RJ6 "equals" 3 (some .boolean) 1 48) (N : Nat) (x0 : Option Nat) (x1 : Option Nat) (h : AH) (rec9 : Int32 → Option (Int32)) (hrec9 : ∀ (y2 : Int32) (ry : Int32), rec9 y2 = some ry → Zw K (eI h ry) h 9 [(0, vr x0), (1, vr x1), (2, vi y2)] []) (x2 : Int32) (r : Int32) (hr : BJ6_equals_9 N x0 x1 h rec9 x2 = some r) : Zw K (eI h r) h 9 [(0, vr x0), (1, vr x1), (2, vi x2)] [] := by
  unfold BJ6_equals_9 at hr
  refine z_iload_n O 2 dJ6_equals_9 rfl rfl ?_
  refine z_aload_n O 0 dJ6_equals_10 rfl rfl ?_
  refine z_arraylength O dJ6_equals_11 hr (fun v1 hr => ?_)
  refine z_icmp_ge (tgt := 32) O dJ6_equals_12 (by decide) hr (fun hr => ?_) (fun hr => ?_)
  · refine z_iconst O dJ6_equals_32 kic_1 ?_
    obtain ⟨e1, e2, -⟩ := zb_spec hr
    exact z_zret O e2 dJ6_equals_33 (by cases e1; rfl)
  · refine z_aload_n O 0 dJ6_equals_15 rfl rfl ?_
    refine z_iload_n O 2 dJ6_equals_16 rfl rfl ?_
    refine z_baload O dJ6_equals_17 hr (fun v2 hr => ?_)
    refine z_aload_n O 1 dJ6_equals_18 rfl rfl ?_
    refine z_iload_n O 2 dJ6_equals_19 rfl rfl ?_
    refine z_baload O dJ6_equals_20 hr (fun v3 hr => ?_)
    refine z_icmp_eq (tgt := 26) O dJ6_equals_21 (by decide) hr (fun hr => ?_) (fun hr => ?_)
    · refine z_iincL O 2 (fun v4 => [(2, vi v4), (0, vr x0), (1, vr x1)]) dJ6_equals_26 rfl rfl (by decide) (fun _ => rfl) hr (fun v4 hr => ?_)
      refine z_goto (tgt := 9) O dJ6_equals_29 (by decide) ?_
      refine z_sub [1, 2, 0] rfl ?_
      exact hrec9 v4 _ hr
    · refine z_iconst O dJ6_equals_24 kic_0 ?_
      obtain ⟨e1, e2, -⟩ := zb_spec hr
      exact z_zret O e2 dJ6_equals_25 (by cases e1; rfl)
theorem wJ6_equals_9 {K : ZC} (O : ZOk K cJ6_equals RJ6 "equals" 3 (some .boolean) 1 48) (N : Nat) (x0 : Option Nat) (x1 : Option Nat) (h : AH) : ∀ (n : Nat) (x2 : Int32) (r : Int32), lf (fun _ => none) (BJ6_equals_9 N x0 x1 h) n x2 = some r → Zw K (eI h r) h 9 [(0, vr x0), (1, vr x1), (2, vi x2)] [] := by
  intro n
  induction n with
  | zero => intro x2 r hr; cases hr
  | succ n ih => intro x2 r hr; exact wJ6_equals_9B O N x0 x1 h (lf (fun _ => none) (BJ6_equals_9 N x0 x1 h) n)  ih x2 r hr
def F_J6_equals (N : Nat) (x0 : Option Nat) (x1 : Option Nat) (h : AH) : Option (Int32) :=
  (aL h x0).bind fun v1 =>
  (aL h x1).bind fun v2 =>
  if v1 = v2 then
    LJ6_equals_9 N x0 x1 h (0 : Int32)
  else
    zb (0 : Int32)
theorem mJ6_equals (l : Launch) (G : ZG) (N : Nat) (x0 : Option Nat) (x1 : Option Nat) (h : AH) (r : Int32) (hr : F_J6_equals N x0 x1 h = some r) : MZ l G yJ6_equals cJ6_equals 3 (some .boolean) 1 48 [vr x0, vr x1] h (eI h r) := by
  unfold F_J6_equals at hr
  refine MZ.of (by decide) [(0, vr x0), (1, vr x1)] rfl (Nat.le_of_ble_eq_true rfl) (fun K O => ?_)
  have O : ZOk K cJ6_equals RJ6 "equals" 3 (some .boolean) 1 48 := O
  refine z_aload_n O 0 dJ6_equals_0 rfl rfl ?_
  refine z_arraylength O dJ6_equals_1 hr (fun v1 hr => ?_)
  refine z_aload_n O 1 dJ6_equals_2 rfl rfl ?_
  refine z_arraylength O dJ6_equals_3 hr (fun v2 hr => ?_)
  refine z_icmp_ne (tgt := 34) O dJ6_equals_4 (by decide) hr (fun hr => ?_) (fun hr => ?_)
  · refine z_iconst O dJ6_equals_7 kic_0 ?_
    refine z_istore_n O [(2, vi (0 : Int32)), (0, vr x0), (1, vr x1)] dJ6_equals_8 rfl (by decide) rfl ?_
    refine z_sub [1, 2, 0] rfl ?_
    exact wJ6_equals_9 O N x0 x1 h _ (0 : Int32) _ hr
  · refine z_iconst O dJ6_equals_34 kic_0 ?_
    obtain ⟨e1, e2, -⟩ := zb_spec hr
    exact z_zret O e2 dJ6_equals_35 (by cases e1; rfl)
theorem fV_J3_equals : CVf RJ3 yJ3_equals cJ3_equals 3 (some .boolean) 1 := ⟨q829, q830, q139, q831, ⟨⟨by decide +kernel, by decide +kernel⟩, by decide +kernel⟩⟩
def bJ3_equals_36 (N : Nat) (x0 : Option Nat) (x2 : Option Nat) (h : AH) : Option (Int32) :=
  (gR h f_String_value x0).bind fun v1 =>
  (gR h f_String_value x2).bind fun v2 =>
  (F_J6_equals N v1 v2 h).bind fun v3 =>
  if v3 = 0 then
    zb (0 : Int32)
  else
    zb (1 : Int32)
theorem wJ3_equals_36 {K : ZC} (O : ZOk K cJ3_equals RJ3 "equals" 3 (some .boolean) 2 70) (N : Nat) (x0 : Option Nat) (x2 : Option Nat) (h : AH) (r : Int32) (hr : bJ3_equals_36 N x0 x2 h = some r) : Zw K (eI h r) h 36 [(0, vr x0), (2, vr x2)] [] := by
  unfold bJ3_equals_36 at hr
  refine z_aload_n O 0 dJ3_equals_36 rfl rfl ?_
  refine z_getR O o_String_value q745 dJ3_equals_37 hr (fun v1 hr => ?_)
  refine z_aload_n O 1 dJ3_equals_40 rfl rfl ?_
  refine z_getR O o_String_value q745 dJ3_equals_41 hr (fun v2 hr => ?_)
  refine bs hr (fun v3 hF hr => ?_)
  refine z_callS O [vr v1, vr v2] (vi v3) fS_J6_equals q833 (fun l G => mJ6_equals l G N v1 v2 h _ hF) rfl ⟨Nat.le_of_ble_eq_true rfl, Nat.le_of_ble_eq_true rfl⟩ (Nat.le_of_ble_eq_true rfl) dJ3_equals_44 ?_
  refine z_if_eq (tgt := 54) O dJ3_equals_47 (by decide) hr (fun hr => ?_) (fun hr => ?_)
  · refine z_iconst O dJ3_equals_54 kic_0 ?_
    obtain ⟨e1, e2, -⟩ := zb_spec hr
    exact z_zret O e2 dJ3_equals_55 (by cases e1; rfl)
  · refine z_iconst O dJ3_equals_50 kic_1 ?_
    refine z_goto (tgt := 55) O dJ3_equals_51 (by decide) ?_
    obtain ⟨e1, e2, -⟩ := zb_spec hr
    exact z_zret O e2 dJ3_equals_55 (by cases e1; rfl)
def F_J3_equals (N : Nat) (x0 : Option Nat) (x1 : Option Nat) (h : AH) : Option (Int32) :=
  (ck h [21] x0).bind fun _ =>
  if x0 = x1 then
    zb (1 : Int32)
  else
    (ist h 21 x1).bind fun v1 =>
    if v1 = 0 then
      zb (0 : Int32)
    else
      (cst h 21 x1).bind fun v2 =>
      if (1 : Int32) = 0 then
        bJ3_equals_36 N x0 x1 h
      else
        (gI h f_String_coder x0).bind fun v3 =>
        (gI h f_String_coder x1).bind fun v4 =>
        if v3 = v4 then
          bJ3_equals_36 N x0 x1 h
        else
          zb (0 : Int32)
theorem mJ3_equals (l : Launch) (G : ZG) (N : Nat) (x0 : Option Nat) (x1 : Option Nat) (h : AH) (r : Int32) (hr : F_J3_equals N x0 x1 h = some r) : MZ l G yJ3_equals cJ3_equals 3 (some .boolean) 2 70 [vr x0, vr x1] h (eI h r) := by
  unfold F_J3_equals at hr
  refine MZ.of (by decide) [(0, vr x0), (1, vr x1)] rfl (Nat.le_of_ble_eq_true rfl) (fun K O => ?_)
  have O : ZOk K cJ3_equals RJ3 "equals" 3 (some .boolean) 2 70 := O
  refine bs hr (fun _ hck hr => ?_)
  refine z_aload_n O 0 dJ3_equals_0 rfl rfl ?_
  refine z_aload_n O 1 dJ3_equals_1 rfl rfl ?_
  refine z_acmp_ne (tgt := 7) O dJ3_equals_2 (by decide) hr (fun hr => ?_) (fun hr => ?_)
  · refine z_iconst O dJ3_equals_5 kic_1 ?_
    obtain ⟨e1, e2, -⟩ := zb_spec hr
    exact z_zret O e2 dJ3_equals_6 (by cases e1; rfl)
  · refine z_aload_n O 1 dJ3_equals_7 rfl rfl ?_
    refine z_inst (t := 21) O rfl q832 dJ3_equals_8 hr (fun v1 hr => ?_)
    refine z_if_eq (tgt := 54) O dJ3_equals_11 (by decide) hr (fun hr => ?_) (fun hr => ?_)
    · refine z_iconst O dJ3_equals_54 kic_0 ?_
      obtain ⟨e1, e2, -⟩ := zb_spec hr
      exact z_zret O e2 dJ3_equals_55 (by cases e1; rfl)
    · refine z_aload_n O 1 dJ3_equals_14 rfl rfl ?_
      refine z_cast (t := 21) O rfl q832 dJ3_equals_15 hr (fun v2 hr => ?_)
      refine z_astore_n O [(2, vr x1), (0, vr x0), (1, vr x1)] dJ3_equals_18 rfl (by decide) rfl ?_
      refine z_getsI O zt0 rfl q701 dJ3_equals_19 ?_
      refine z_if_eq (tgt := 36) O dJ3_equals_22 (by decide) hr (fun hr => ?_) (fun hr => ?_)
      · refine z_sub [1, 0] rfl ?_
        exact wJ3_equals_36 O N x0 x1 h _ hr
      · refine z_aload_n O 1 dJ3_equals_25 rfl rfl ?_
        refine z_getI O o_String_coder q746 dJ3_equals_26 hr (fun v3 hr => ?_)
        refine z_aload_n O 0 dJ3_equals_29 rfl rfl ?_
        refine z_getI O o_String_coder q746 dJ3_equals_30 hr (fun v4 hr => ?_)
        refine z_icmp_ne (tgt := 54) O dJ3_equals_33 (by decide) hr (fun hr => ?_) (fun hr => ?_)
        · refine z_sub [1, 0] rfl ?_
          exact wJ3_equals_36 O N x0 x1 h _ hr
        · refine z_iconst O dJ3_equals_54 kic_0 ?_
          obtain ⟨e1, e2, -⟩ := zb_spec hr
          exact z_zret O e2 dJ3_equals_55 (by cases e1; rfl)
theorem fV_J3_isLatin1 : CVf RJ3 yJ3_isLatin1 cJ3_isLatin1 1 (some .boolean) 0 := ⟨q779, q780, q139, q781, ⟨⟨by decide +kernel, by decide +kernel⟩, by decide +kernel⟩⟩
def F_J3_isLatin1 (x0 : Option Nat) (h : AH) : Option (Int32) :=
  (ck h [21] x0).bind fun _ =>
  if (1 : Int32) = 0 then
    zb (0 : Int32)
  else
    (gI h f_String_coder x0).bind fun v1 =>
    if v1 = 0 then
      zb (1 : Int32)
    else
      zb (0 : Int32)
theorem mJ3_isLatin1 (l : Launch) (G : ZG) (x0 : Option Nat) (h : AH) (r : Int32) (hr : F_J3_isLatin1 x0 h = some r) : MZ l G yJ3_isLatin1 cJ3_isLatin1 1 (some .boolean) 1 48 [vr x0] h (eI h r) := by
  unfold F_J3_isLatin1 at hr
  refine MZ.of (by decide) [(0, vr x0)] rfl (Nat.le_of_ble_eq_true rfl) (fun K O => ?_)
  have O : ZOk K cJ3_isLatin1 RJ3 "isLatin1" 1 (some .boolean) 1 48 := O
  refine bs hr (fun _ hck hr => ?_)
  refine z_getsI O zt0 rfl q701 dJ3_isLatin1_0 ?_
  refine z_if_eq (tgt := 17) O dJ3_isLatin1_3 (by decide) hr (fun hr => ?_) (fun hr => ?_)
  · refine z_iconst O dJ3_isLatin1_17 kic_0 ?_
    obtain ⟨e1, e2, -⟩ := zb_spec hr
    exact z_zret O e2 dJ3_isLatin1_18 (by cases e1; rfl)
  · refine z_aload_n O 0 dJ3_isLatin1_6 rfl rfl ?_
    refine z_getI O o_String_coder q746 dJ3_isLatin1_7 hr (fun v1 hr => ?_)
    refine z_if_ne (tgt := 17) O dJ3_isLatin1_10 (by decide) hr (fun hr => ?_) (fun hr => ?_)
    · refine z_iconst O dJ3_isLatin1_13 kic_1 ?_
      refine z_goto (tgt := 18) O dJ3_isLatin1_14 (by decide) ?_
      obtain ⟨e1, e2, -⟩ := zb_spec hr
      exact z_zret O e2 dJ3_isLatin1_18 (by cases e1; rfl)
    · refine z_iconst O dJ3_isLatin1_17 kic_0 ?_
      obtain ⟨e1, e2, -⟩ := zb_spec hr
      exact z_zret O e2 dJ3_isLatin1_18 (by cases e1; rfl)
theorem fS_J7_signedHashCode : CSf yJ7_signedHashCode cJ7_signedHashCode 6 (some .int) 4 := ⟨q790, q143, q791, ⟨⟨by decide +kernel, by decide +kernel⟩, by decide +kernel⟩⟩
def BJ7_signedHashCode_8 (N : Nat) (x1 : Option Nat) (x4 : Int32) (h : AH) (rec8 : Int32 → Int32 → Option (Int32)) : Int32 → Int32 → Option (Int32) := fun x0 x5 =>
  if x4 ≤ x5 then
    some x0
  else
    (aI h 1 x1 x5).bind fun v1 =>
    jlet (((31 : Int32) * x0) + (v1 &&& (255 : Int32))) fun v2 =>
    jlet (x5 + (1 : Int32)) fun v3 =>
    rec8 v2 v3
def LJ7_signedHashCode_8 (N : Nat) (x1 : Option Nat) (x4 : Int32) (h : AH) : Int32 → Int32 → Option (Int32) := lf (fun _ _ => none) (BJ7_signedHashCode_8 N x1 x4 h) N
theorem wJ7_signedHashCode_8B {K : ZC} (O : ZOk K cJ7_signedHashCode RJ7 "signedHashCode" 6 (some .int) 1 48) (N : Nat) (x1 : Option Nat) (x4 : Int32) (h : AH) (rec8 : Int32 → Int32 → Option (Int32)) (hrec8 : ∀ (y0 : Int32) (y5 : Int32) (ry : Int32), rec8 y0 y5 = some ry → Zw K (eI h ry) h 8 [(0, vi y0), (1, vr x1), (4, vi x4), (5, vi y5)] []) (x0 : Int32) (x5 : Int32) (r : Int32) (hr : BJ7_signedHashCode_8 N x1 x4 h rec8 x0 x5 = some r) : Zw K (eI h r) h 8 [(0, vi x0), (1, vr x1), (4, vi x4), (5, vi x5)] [] := by
  unfold BJ7_signedHashCode_8 at hr
  refine z_iload O 3 dJ7_signedHashCode_8 rfl ?_
  refine z_iload O 2 dJ7_signedHashCode_10 rfl ?_
  refine z_icmp_ge (tgt := 35) O dJ7_signedHashCode_12 (by decide) hr (fun hr => ?_) (fun hr => ?_)
  · refine z_iload_n O 0 dJ7_signedHashCode_35 rfl rfl ?_
    exact z_iret O dJ7_signedHashCode_36 (by cases hr; rfl)
  · refine z_bipush O dJ7_signedHashCode_15 kbi_31 ?_
    refine z_iload_n O 0 dJ7_signedHashCode_17 rfl rfl ?_
    refine z_imul O dJ7_signedHashCode_18 ?_
    refine z_aload_n O 1 dJ7_signedHashCode_19 rfl rfl ?_
    refine z_iload O 3 dJ7_signedHashCode_20 rfl ?_
    refine z_baload O dJ7_signedHashCode_22 hr (fun v1 hr => ?_)
    refine z_sipush O dJ7_signedHashCode_23 ksi_255 ?_
    refine z_iand O dJ7_signedHashCode_26 ?_
    refine z_iadd O dJ7_signedHashCode_27 ?_
    refine z_letI hr (fun v2 hr => ?_)
    refine z_istore_n O [(0, vi v2), (1, vr x1), (4, vi x4), (5, vi x5)] dJ7_signedHashCode_28 rfl (by decide) rfl ?_
    refine z_iincL O 3 (fun v3 => [(5, vi v3), (0, vi v2), (1, vr x1), (4, vi x4)]) dJ7_signedHashCode_29 rfl rfl (by decide) (fun _ => rfl) hr (fun v3 hr => ?_)
    refine z_goto (tgt := 8) O dJ7_signedHashCode_32 (by decide) ?_
    refine z_sub [1, 2, 3, 0] rfl ?_
    exact hrec8 v2 v3 _ hr
theorem wJ7_signedHashCode_8 {K : ZC} (O : ZOk K cJ7_signedHashCode RJ7 "signedHashCode" 6 (some .int) 1 48) (N : Nat) (x1 : Option Nat) (x4 : Int32) (h : AH) : ∀ (n : Nat) (x0 : Int32) (x5 : Int32) (r : Int32), lf (fun _ _ => none) (BJ7_signedHashCode_8 N x1 x4 h) n x0 x5 = some r → Zw K (eI h r) h 8 [(0, vi x0), (1, vr x1), (4, vi x4), (5, vi x5)] [] := by
  intro n
  induction n with
  | zero => intro x0 x5 r hr; cases hr
  | succ n ih => intro x0 x5 r hr; exact wJ7_signedHashCode_8B O N x1 x4 h (lf (fun _ _ => none) (BJ7_signedHashCode_8 N x1 x4 h) n)  ih x0 x5 r hr
def F_J7_signedHashCode (N : Nat) (x0 : Int32) (x1 : Option Nat) (x2 : Int32) (x3 : Int32) (h : AH) : Option (Int32) :=
  jlet (x2 + x3) fun v1 =>
  LJ7_signedHashCode_8 N x1 v1 h x0 x2
theorem mJ7_signedHashCode (l : Launch) (G : ZG) (N : Nat) (x0 : Int32) (x1 : Option Nat) (x2 : Int32) (x3 : Int32) (h : AH) (r : Int32) (hr : F_J7_signedHashCode N x0 x1 x2 x3 h = some r) : MZ l G yJ7_signedHashCode cJ7_signedHashCode 6 (some .int) 1 48 [vi x0, vr x1, vi x2, vi x3] h (eI h r) := by
  unfold F_J7_signedHashCode at hr
  refine MZ.of (by decide) [(0, vi x0), (1, vr x1), (2, vi x2), (3, vi x3)] rfl (Nat.le_of_ble_eq_true rfl) (fun K O => ?_)
  have O : ZOk K cJ7_signedHashCode RJ7 "signedHashCode" 6 (some .int) 1 48 := O
  refine z_iload_n O 2 dJ7_signedHashCode_0 rfl rfl ?_
  refine z_iload_n O 3 dJ7_signedHashCode_1 rfl rfl ?_
  refine z_iadd O dJ7_signedHashCode_2 ?_
  refine z_letI hr (fun v1 hr => ?_)
  refine z_istore O [(4, vi v1), (0, vi x0), (1, vr x1), (2, vi x2), (3, vi x3)] dJ7_signedHashCode_3 (by decide) rfl ?_
  refine z_iload_n O 3 dJ7_signedHashCode_5 rfl rfl ?_
  refine z_istore O [(5, vi x2), (4, vi v1), (0, vi x0), (1, vr x1), (2, vi x2), (3, vi x3)] dJ7_signedHashCode_6 (by decide) rfl ?_
  refine z_sub [2, 3, 1, 0] rfl ?_
  exact wJ7_signedHashCode_8 O N x1 v1 h _ x0 x2 _ hr
theorem fS_J7_vectorizedHashCode : CSf yJ7_vectorizedHashCode cJ7_vectorizedHashCode 5 (some .int) 5 := ⟨q786, q143, q787, ⟨⟨by decide +kernel, by decide +kernel⟩, by decide +kernel⟩⟩
def F_J7_vectorizedHashCode (N : Nat) (x0 : Option Nat) (x1 : Int32) (x2 : Int32) (x3 : Int32) (x4 : Int32) (h : AH) : Option (Int32) :=
  if x4 = (4 : Int32) then
    (aAB h x0).bind fun v8 =>
    (F_J7_signedHashCode N x3 x0 x1 x2 h).bind fun v9 =>
    some v9
  else if x4 = (5 : Int32) then
    none
  else if x4 = (6 : Int32) then
    none
  else if x4 = (7 : Int32) then
    none
  else if x4 = (8 : Int32) then
    none
  else if x4 = (9 : Int32) then
    none
  else if x4 = (10 : Int32) then
    none
  else 
    none
theorem mJ7_vectorizedHashCode (l : Launch) (G : ZG) (N : Nat) (x0 : Option Nat) (x1 : Int32) (x2 : Int32) (x3 : Int32) (x4 : Int32) (h : AH) (r : Int32) (hr : F_J7_vectorizedHashCode N x0 x1 x2 x3 x4 h = some r) : MZ l G yJ7_vectorizedHashCode cJ7_vectorizedHashCode 5 (some .int) 2 73 [vr x0, vi x1, vi x2, vi x3, vi x4] h (eI h r) := by
  unfold F_J7_vectorizedHashCode at hr
  refine MZ.of (by decide) [(0, vr x0), (1, vi x1), (2, vi x2), (3, vi x3), (4, vi x4)] rfl (Nat.le_of_ble_eq_true rfl) (fun K O => ?_)
  have O : ZOk K cJ7_vectorizedHashCode RJ7 "vectorizedHashCode" 5 (some .int) 2 73 := O
  refine z_iload O 4 dJ7_vectorizedHashCode_0 rfl ?_
  refine zite hr (fun c1 hr => ?_) (fun c1 hr => ?_)
  · refine z_tabIn (v := (4 : Int32)) (off := 42) (tgt := 44) O dJ7_vectorizedHashCode_2 c1 (by decide) (by decide +kernel) (by decide) ?_
    refine z_iload_n O 3 dJ7_vectorizedHashCode_44 rfl rfl ?_
    refine z_aload_n O 0 dJ7_vectorizedHashCode_45 rfl rfl ?_
    refine z_castB O q788 dJ7_vectorizedHashCode_46 hr (fun v8 hr => ?_)
    refine z_iload_n O 1 dJ7_vectorizedHashCode_49 rfl rfl ?_
    refine z_iload_n O 2 dJ7_vectorizedHashCode_50 rfl rfl ?_
    refine bs hr (fun v9 hF hr => ?_)
    refine z_callS O [vi x3, vr x0, vi x1, vi x2] (vi v9) fS_J7_signedHashCode q789 (fun l G => mJ7_signedHashCode l G N x3 x0 x1 x2 h _ hF) rfl ⟨Nat.le_of_ble_eq_true rfl, Nat.le_of_ble_eq_true rfl⟩ (Nat.le_of_ble_eq_true rfl) dJ7_vectorizedHashCode_51 ?_
    refine z_goto (tgt := 157) O dJ7_vectorizedHashCode_54 (by decide) ?_
    exact z_iret O dJ7_vectorizedHashCode_157 (by cases hr; rfl)
  refine zite hr (fun c2 hr => ?_) (fun c2 hr => ?_)
  · cases hr
  refine zite hr (fun c3 hr => ?_) (fun c3 hr => ?_)
  · cases hr
  refine zite hr (fun c4 hr => ?_) (fun c4 hr => ?_)
  · cases hr
  refine zite hr (fun c5 hr => ?_) (fun c5 hr => ?_)
  · cases hr
  refine zite hr (fun c6 hr => ?_) (fun c6 hr => ?_)
  · cases hr
  refine zite hr (fun c7 hr => ?_) (fun c7 hr => ?_)
  · cases hr
  cases hr
theorem fS_J6_hashCode : CSf yJ6_hashCode cJ6_hashCode 1 (some .int) 1 := ⟨q783, q142, q784, ⟨⟨by decide +kernel, by decide +kernel⟩, by decide +kernel⟩⟩
def F_J6_hashCode (N : Nat) (x0 : Option Nat) (h : AH) : Option (Int32) :=
  (aL h x0).bind fun v1 =>
  if v1 = (0 : Int32) then
    some (0 : Int32)
  else if v1 = (1 : Int32) then
    (aI h 1 x0 (0 : Int32)).bind fun v4 =>
    some (v4 &&& (255 : Int32))
  else 
    (aL h x0).bind fun v5 =>
    (F_J7_vectorizedHashCode N x0 (0 : Int32) v5 (0 : Int32) (4 : Int32) h).bind fun v6 =>
    some v6
theorem mJ6_hashCode (l : Launch) (G : ZG) (N : Nat) (x0 : Option Nat) (h : AH) (r : Int32) (hr : F_J6_hashCode N x0 h = some r) : MZ l G yJ6_hashCode cJ6_hashCode 1 (some .int) 3 97 [vr x0] h (eI h r) := by
  unfold F_J6_hashCode at hr
  refine MZ.of (by decide) [(0, vr x0)] rfl (Nat.le_of_ble_eq_true rfl) (fun K O => ?_)
  have O : ZOk K cJ6_hashCode RJ6 "hashCode" 1 (some .int) 3 97 := O
  refine z_aload_n O 0 dJ6_hashCode_0 rfl rfl ?_
  refine z_arraylength O dJ6_hashCode_1 hr (fun v1 hr => ?_)
  refine zite hr (fun c2 hr => ?_) (fun c2 hr => ?_)
  · subst c2
    refine z_look (off := 26) (tgt := 28) O dJ6_hashCode_2 (by decide +kernel) (by decide +kernel) (by decide) ?_
    refine z_iconst O dJ6_hashCode_28 kic_0 ?_
    refine z_goto (tgt := 51) O dJ6_hashCode_29 (by decide) ?_
    exact z_iret O dJ6_hashCode_51 (by cases hr; rfl)
  refine zite hr (fun c3 hr => ?_) (fun c3 hr => ?_)
  · subst c3
    refine z_look (off := 30) (tgt := 32) O dJ6_hashCode_2 (by decide +kernel) (by decide +kernel) (by decide) ?_
    refine z_aload_n O 0 dJ6_hashCode_32 rfl rfl ?_
    refine z_iconst O dJ6_hashCode_33 kic_0 ?_
    refine z_baload O dJ6_hashCode_34 hr (fun v4 hr => ?_)
    refine z_sipush O dJ6_hashCode_35 ksi_255 ?_
    refine z_iand O dJ6_hashCode_38 ?_
    refine z_goto (tgt := 51) O dJ6_hashCode_39 (by decide) ?_
    exact z_iret O dJ6_hashCode_51 (by cases hr; rfl)
  refine z_look (off := 40) (tgt := 42) O dJ6_hashCode_2 (by decide +kernel) ((lv_osw c2 (by decide)).trans ((lv_osw c3 (by decide)).trans rfl)) (by decide) ?_
  refine z_aload_n O 0 dJ6_hashCode_42 rfl rfl ?_
  refine z_iconst O dJ6_hashCode_43 kic_0 ?_
  refine z_aload_n O 0 dJ6_hashCode_44 rfl rfl ?_
  refine z_arraylength O dJ6_hashCode_45 hr (fun v5 hr => ?_)
  refine z_iconst O dJ6_hashCode_46 kic_0 ?_
  refine z_iconst O dJ6_hashCode_47 kic_4 ?_
  refine bs hr (fun v6 hF hr => ?_)
  refine z_callS O [vr x0, vi (0 : Int32), vi v5, vi (0 : Int32), vi (4 : Int32)] (vi v6) fS_J7_vectorizedHashCode q785 (fun l G => mJ7_vectorizedHashCode l G N x0 (0 : Int32) v5 (0 : Int32) (4 : Int32) h _ hF) rfl ⟨Nat.le_of_ble_eq_true rfl, Nat.le_of_ble_eq_true rfl⟩ (Nat.le_of_ble_eq_true rfl) dJ6_hashCode_48 ?_
  exact z_iret O dJ6_hashCode_51 (by cases hr; rfl)
theorem fV_J3_hashCode : CVf RJ3 yJ3_hashCode cJ3_hashCode 2 (some .int) 0 := ⟨q775, q776, q139, q777, ⟨⟨by decide +kernel, by decide +kernel⟩, by decide +kernel⟩⟩
def F_J3_hashCode (N : Nat) (x0 : Option Nat) (h : AH) : Option (Int32 × AH) :=
  (ck h [21] x0).bind fun _ =>
  (gI h f_String_hash x0).bind fun v1 =>
  if v1 = 0 then
    (gI h f_String_hashIsZero x0).bind fun v2 =>
    if v2 = 0 then
      (F_J3_isLatin1 x0 h).bind fun v3 =>
      if v3 = 0 then
        none
      else
        (gR h f_String_value x0).bind fun v4 =>
        (F_J6_hashCode N v4 h).bind fun v5 =>
        if v5 = 0 then
          (pZ h f_String_hashIsZero x0 (1 : Int32)).bind fun h7 =>
          some (v5, h7)
        else
          (pI h f_String_hash x0 v5).bind fun h6 =>
          some (v5, h6)
    else
      some (v1, h)
  else
    some (v1, h)
theorem mJ3_hashCode (l : Launch) (G : ZG) (N : Nat) (x0 : Option Nat) (h : AH) (r : Int32 × AH) (hr : F_J3_hashCode N x0 h = some r) : MZ l G yJ3_hashCode cJ3_hashCode 2 (some .int) 4 117 [vr x0] h (eIH r) := by
  unfold F_J3_hashCode at hr
  refine MZ.of (by decide) [(0, vr x0)] rfl (Nat.le_of_ble_eq_true rfl) (fun K O => ?_)
  have O : ZOk K cJ3_hashCode RJ3 "hashCode" 2 (some .int) 4 117 := O
  refine bs hr (fun _ hck hr => ?_)
  refine z_aload_n O 0 dJ3_hashCode_0 rfl rfl ?_
  refine z_getI O o_String_hash q747 dJ3_hashCode_1 hr (fun v1 hr => ?_)
  refine z_istore_n O [(1, vi v1), (0, vr x0)] dJ3_hashCode_4 rfl (by decide) rfl ?_
  refine z_iload_n O 0 dJ3_hashCode_5 rfl rfl ?_
  refine z_if_ne (tgt := 58) O dJ3_hashCode_6 (by decide) hr (fun hr => ?_) (fun hr => ?_)
  · refine z_aload_n O 1 dJ3_hashCode_9 rfl rfl ?_
    refine z_getI O o_String_hashIsZero q748 dJ3_hashCode_10 hr (fun v2 hr => ?_)
    refine z_if_ne (tgt := 58) O dJ3_hashCode_13 (by decide) hr (fun hr => ?_) (fun hr => ?_)
    · refine z_aload_n O 1 dJ3_hashCode_16 rfl rfl ?_
      refine bs hr (fun v3 hF hr => ?_)
      refine z_callV O [] (vi v3) fV_J3_isLatin1 q778 (fun l G => mJ3_isLatin1 l G x0 h _ hF) (zck hF) rfl rfl ⟨Nat.le_of_ble_eq_true rfl, Nat.le_of_ble_eq_true rfl⟩ (Nat.le_of_ble_eq_true rfl) dJ3_hashCode_17 ?_
      refine z_if_eq (tgt := 33) O dJ3_hashCode_20 (by decide) hr (fun hr => ?_) (fun hr => ?_)
      · cases hr
      · refine z_aload_n O 1 dJ3_hashCode_23 rfl rfl ?_
        refine z_getR O o_String_value q745 dJ3_hashCode_24 hr (fun v4 hr => ?_)
        refine bs hr (fun v5 hF hr => ?_)
        refine z_callS O [vr v4] (vi v5) fS_J6_hashCode q782 (fun l G => mJ6_hashCode l G N v4 h _ hF) rfl ⟨Nat.le_of_ble_eq_true rfl, Nat.le_of_ble_eq_true rfl⟩ (Nat.le_of_ble_eq_true rfl) dJ3_hashCode_27 ?_
        refine z_goto (tgt := 40) O dJ3_hashCode_30 (by decide) ?_
        refine z_istore_n O [(1, vi v5), (0, vr x0)] dJ3_hashCode_40 rfl (by decide) rfl ?_
        refine z_iload_n O 0 dJ3_hashCode_41 rfl rfl ?_
        refine z_if_ne (tgt := 53) O dJ3_hashCode_42 (by decide) hr (fun hr => ?_) (fun hr => ?_)
        · refine z_aload_n O 1 dJ3_hashCode_45 rfl rfl ?_
          refine z_iconst O dJ3_hashCode_46 kic_1 ?_
          refine z_putZ O o_String_hashIsZero (w_String_hashIsZero _) q748 dJ3_hashCode_47 hr (fun h7 hr => ?_)
          refine z_goto (tgt := 58) O dJ3_hashCode_50 (by decide) ?_
          refine z_iload_n O 0 dJ3_hashCode_58 rfl rfl ?_
          exact z_iret O dJ3_hashCode_59 (by cases hr; rfl)
        · refine z_aload_n O 1 dJ3_hashCode_53 rfl rfl ?_
          refine z_iload_n O 0 dJ3_hashCode_54 rfl rfl ?_
          refine z_putI O o_String_hash (w_String_hash _) q747 dJ3_hashCode_55 hr (fun h6 hr => ?_)
          refine z_iload_n O 0 dJ3_hashCode_58 rfl rfl ?_
          exact z_iret O dJ3_hashCode_59 (by cases hr; rfl)
    · refine z_iload_n O 0 dJ3_hashCode_58 rfl rfl ?_
      exact z_iret O dJ3_hashCode_59 (by cases hr; rfl)
  · refine z_iload_n O 0 dJ3_hashCode_58 rfl rfl ?_
    exact z_iret O dJ3_hashCode_59 (by cases hr; rfl)
theorem fS_J5_coderFromArrayLen : CSf yJ5_coderFromArrayLen cJ5_coderFromArrayLen 2 (some .byte) 2 := ⟨q742, q141, q743, ⟨⟨by decide +kernel, by decide +kernel⟩, by decide +kernel⟩⟩
def F_J5_coderFromArrayLen (x0 : Option Nat) (x1 : Int32) (h : AH) : Option (Int32) :=
  (aL h x0).bind fun v1 =>
  zby ((((x1 - v1).toUInt32 >>> ((31 : Int32).toUInt32 &&& Int32.toUInt32 31)).toInt32).toInt8.toInt32)
theorem mJ5_coderFromArrayLen (l : Launch) (G : ZG) (x0 : Option Nat) (x1 : Int32) (h : AH) (r : Int32) (hr : F_J5_coderFromArrayLen x0 x1 h = some r) : MZ l G yJ5_coderFromArrayLen cJ5_coderFromArrayLen 2 (some .byte) 1 48 [vr x0, vi x1] h (eI h r) := by
  unfold F_J5_coderFromArrayLen at hr
  refine MZ.of (by decide) [(0, vr x0), (1, vi x1)] rfl (Nat.le_of_ble_eq_true rfl) (fun K O => ?_)
  have O : ZOk K cJ5_coderFromArrayLen RJ5 "coderFromArrayLen" 2 (some .byte) 1 48 := O
  refine z_iload_n O 1 dJ5_coderFromArrayLen_0 rfl rfl ?_
  refine z_aload_n O 0 dJ5_coderFromArrayLen_1 rfl rfl ?_
  refine z_arraylength O dJ5_coderFromArrayLen_2 hr (fun v1 hr => ?_)
  refine z_isub O dJ5_coderFromArrayLen_3 ?_
  refine z_bipush O dJ5_coderFromArrayLen_4 kbi_31 ?_
  refine z_iushr O dJ5_coderFromArrayLen_6 ?_
  refine z_i2b O dJ5_coderFromArrayLen_7 ?_
  obtain ⟨e1, e2, -⟩ := zby_spec hr
  exact z_zret O e2 dJ5_coderFromArrayLen_8 (by cases e1; rfl)
theorem fS_J5_compress_2 : CSf yJ5_compress_2 cJ5_compress_2 7 (some .int) 5 := ⟨q707, q141, q708, ⟨⟨by decide +kernel, by decide +kernel⟩, by decide +kernel⟩⟩
def BJ5_compress_2_3 (N : Nat) (x0 : Option Nat) (x2 : Option Nat) (x4 : Int32) (rec3 : Int32 → Int32 → Int32 → AH → Option (Int32 × AH)) : Int32 → Int32 → Int32 → AH → Option (Int32 × AH) := fun x1 x3 x5 h =>
  if x4 ≤ x5 then
    some (x4, h)
  else
    (aI h 2 x0 x1).bind fun v1 =>
    if v1 ≤ (255 : Int32) then
      (sA h 1 x2 x3 v1.toInt8.toInt32.toInt8.toInt32).bind fun h2 =>
      jlet (x1 + (1 : Int32)) fun v3 =>
      jlet (x3 + (1 : Int32)) fun v4 =>
      jlet (x5 + (1 : Int32)) fun v5 =>
      rec3 v3 v4 v5 h2
    else
      none
def LJ5_compress_2_3 (N : Nat) (x0 : Option Nat) (x2 : Option Nat) (x4 : Int32) : Int32 → Int32 → Int32 → AH → Option (Int32 × AH) := lf (fun _ _ _ _ => none) (BJ5_compress_2_3 N x0 x2 x4) N
theorem wJ5_compress_2_3B {K : ZC} (O : ZOk K cJ5_compress_2 RJ5 "compress" 7 (some .int) 1 48) (N : Nat) (x0 : Option Nat) (x2 : Option Nat) (x4 : Int32) (rec3 : Int32 → Int32 → Int32 → AH → Option (Int32 × AH)) (hrec3 : ∀ (y1 : Int32) (y3 : Int32) (y5 : Int32) (hy : AH) (ry : Int32 × AH), rec3 y1 y3 y5 hy = some ry → Zw K (eIH ry) hy 3 [(0, vr x0), (1, vi y1), (2, vr x2), (3, vi y3), (4, vi x4), (5, vi y5)] []) (x1 : Int32) (x3 : Int32) (x5 : Int32) (h : AH) (r : Int32 × AH) (hr : BJ5_compress_2_3 N x0 x2 x4 rec3 x1 x3 x5 h = some r) : Zw K (eIH r) h 3 [(0, vr x0), (1, vi x1), (2, vr x2), (3, vi x3), (4, vi x4), (5, vi x5)] [] := by
  unfold BJ5_compress_2_3 at hr
  refine z_iload O 5 dJ5_compress_2_3 rfl ?_
  refine z_iload O 4 dJ5_compress_2_5 rfl ?_
  refine z_icmp_ge (tgt := 44) O dJ5_compress_2_7 (by decide) hr (fun hr => ?_) (fun hr => ?_)
  · refine z_iload O 4 dJ5_compress_2_44 rfl ?_
    exact z_iret O dJ5_compress_2_46 (by cases hr; rfl)
  · refine z_aload_n O 0 dJ5_compress_2_10 rfl rfl ?_
    refine z_iload_n O 1 dJ5_compress_2_11 rfl rfl ?_
    refine z_caload O dJ5_compress_2_12 hr (fun v1 hr => ?_)
    refine z_istore O [(6, vi v1), (0, vr x0), (1, vi x1), (2, vr x2), (3, vi x3), (4, vi x4), (5, vi x5)] dJ5_compress_2_13 (by decide) rfl ?_
    refine z_iload O 0 dJ5_compress_2_15 rfl ?_
    refine z_sipush O dJ5_compress_2_17 ksi_255 ?_
    refine z_icmp_le (tgt := 26) O dJ5_compress_2_20 (by decide) hr (fun hr => ?_) (fun hr => ?_)
    · refine z_aload_n O 3 dJ5_compress_2_26 rfl rfl ?_
      refine z_iload_n O 4 dJ5_compress_2_27 rfl rfl ?_
      refine z_iload O 0 dJ5_compress_2_28 rfl ?_
      refine z_i2b O dJ5_compress_2_30 ?_
      refine z_bastore O dJ5_compress_2_31 hr (fun h2 hr => ?_)
      refine z_iincL O 2 (fun v3 => [(1, vi v3), (6, vi v1), (0, vr x0), (2, vr x2), (3, vi x3), (4, vi x4), (5, vi x5)]) dJ5_compress_2_32 rfl rfl (by decide) (fun _ => rfl) hr (fun v3 hr => ?_)
      refine z_iincL O 4 (fun v4 => [(3, vi v4), (1, vi v3), (6, vi v1), (0, vr x0), (2, vr x2), (4, vi x4), (5, vi x5)]) dJ5_compress_2_35 rfl rfl (by decide) (fun _ => rfl) hr (fun v4 hr => ?_)
      refine z_iincL O 6 (fun v5 => [(5, vi v5), (3, vi v4), (1, vi v3), (6, vi v1), (0, vr x0), (2, vr x2), (4, vi x4)]) dJ5_compress_2_38 rfl rfl (by decide) (fun _ => rfl) hr (fun v5 hr => ?_)
      refine z_goto (tgt := 3) O dJ5_compress_2_41 (by decide) ?_
      refine z_sub [4, 2, 5, 1, 6, 0] rfl ?_
      exact hrec3 v3 v4 v5 h2 _ hr
    · cases hr
theorem wJ5_compress_2_3 {K : ZC} (O : ZOk K cJ5_compress_2 RJ5 "compress" 7 (some .int) 1 48) (N : Nat) (x0 : Option Nat) (x2 : Option Nat) (x4 : Int32) : ∀ (n : Nat) (x1 : Int32) (x3 : Int32) (x5 : Int32) (h : AH) (r : Int32 × AH), lf (fun _ _ _ _ => none) (BJ5_compress_2_3 N x0 x2 x4) n x1 x3 x5 h = some r → Zw K (eIH r) h 3 [(0, vr x0), (1, vi x1), (2, vr x2), (3, vi x3), (4, vi x4), (5, vi x5)] [] := by
  intro n
  induction n with
  | zero => intro x1 x3 x5 h r hr; cases hr
  | succ n ih => intro x1 x3 x5 h r hr; exact wJ5_compress_2_3B O N x0 x2 x4 (lf (fun _ _ _ _ => none) (BJ5_compress_2_3 N x0 x2 x4) n)  ih x1 x3 x5 h r hr
def F_J5_compress_2 (N : Nat) (x0 : Option Nat) (x1 : Int32) (x2 : Option Nat) (x3 : Int32) (x4 : Int32) (h : AH) : Option (Int32 × AH) :=
  LJ5_compress_2_3 N x0 x2 x4 x1 x3 (0 : Int32) h
theorem mJ5_compress_2 (l : Launch) (G : ZG) (N : Nat) (x0 : Option Nat) (x1 : Int32) (x2 : Option Nat) (x3 : Int32) (x4 : Int32) (h : AH) (r : Int32 × AH) (hr : F_J5_compress_2 N x0 x1 x2 x3 x4 h = some r) : MZ l G yJ5_compress_2 cJ5_compress_2 7 (some .int) 1 48 [vr x0, vi x1, vr x2, vi x3, vi x4] h (eIH r) := by
  unfold F_J5_compress_2 at hr
  refine MZ.of (by decide) [(0, vr x0), (1, vi x1), (2, vr x2), (3, vi x3), (4, vi x4)] rfl (Nat.le_of_ble_eq_true rfl) (fun K O => ?_)
  have O : ZOk K cJ5_compress_2 RJ5 "compress" 7 (some .int) 1 48 := O
  refine z_iconst O dJ5_compress_2_0 kic_0 ?_
  refine z_istore O [(5, vi (0 : Int32)), (0, vr x0), (1, vi x1), (2, vr x2), (3, vi x3), (4, vi x4)] dJ5_compress_2_1 (by decide) rfl ?_
  refine z_sub [1, 2, 3, 4, 5, 0] rfl ?_
  exact wJ5_compress_2_3 O N x0 x2 x4 _ x1 x3 (0 : Int32) h _ hr
theorem fS_J5_compress : CSf yJ5_compress cJ5_compress 6 (some (.array .byte)) 3 := ⟨q704, q141, q705, ⟨⟨by decide +kernel, by decide +kernel⟩, by decide +kernel⟩⟩
def F_J5_compress (N : Nat) (x0 : Option Nat) (x1 : Int32) (x2 : Int32) (h : AH) : Option ((Option Nat) × AH) :=
  b2 (nI_ h 1 x2) fun v1 h2 =>
  b2 (F_J5_compress_2 N x0 x1 v1 (0 : Int32) x2 h2) fun v4 h3 =>
  if v4 = x2 then
    some (v1, h3)
  else
    none
theorem mJ5_compress (l : Launch) (G : ZG) (N : Nat) (x0 : Option Nat) (x1 : Int32) (x2 : Int32) (h : AH) (r : (Option Nat) × AH) (hr : F_J5_compress N x0 x1 x2 h = some r) : MZ l G yJ5_compress cJ5_compress 6 (some (.array .byte)) 2 74 [vr x0, vi x1, vi x2] h (eRH r) := by
  unfold F_J5_compress at hr
  refine MZ.of (by decide) [(0, vr x0), (1, vi x1), (2, vi x2)] rfl (Nat.le_of_ble_eq_true rfl) (fun K O => ?_)
  have O : ZOk K cJ5_compress RJ5 "compress" 6 (some (.array .byte)) 2 74 := O
  refine z_iload_n O 2 dJ5_compress_0 rfl rfl ?_
  refine z_newarrB O q244 dJ5_compress_1 hr (fun v1 h2 hr => ?_)
  refine z_astore_n O [(3, vr (some v1)), (0, vr x0), (1, vi x1), (2, vi x2)] dJ5_compress_3 rfl (by decide) rfl ?_
  refine z_aload_n O 1 dJ5_compress_4 rfl rfl ?_
  refine z_iload_n O 2 dJ5_compress_5 rfl rfl ?_
  refine z_aload_n O 0 dJ5_compress_6 rfl rfl ?_
  refine z_iconst O dJ5_compress_7 kic_0 ?_
  refine z_iload_n O 3 dJ5_compress_8 rfl rfl ?_
  refine b2s hr (fun v4 h3 hF hr => ?_)
  refine z_callS O [vr x0, vi x1, vr (some v1), vi (0 : Int32), vi x2] (vi v4) fS_J5_compress_2 q706 (fun l G => mJ5_compress_2 l G N x0 x1 (some v1) (0 : Int32) x2 h2 _ hF) rfl ⟨Nat.le_of_ble_eq_true rfl, Nat.le_of_ble_eq_true rfl⟩ (Nat.le_of_ble_eq_true rfl) dJ5_compress_9 ?_
  refine z_istore O [(4, vi v4), (3, vr (some v1)), (0, vr x0), (1, vi x1), (2, vi x2)] dJ5_compress_12 (by decide) rfl ?_
  refine z_iload O 0 dJ5_compress_14 rfl ?_
  refine z_iload_n O 4 dJ5_compress_16 rfl rfl ?_
  refine z_icmp_eq (tgt := 57) O dJ5_compress_17 (by decide) hr (fun hr => ?_) (fun hr => ?_)
  · refine z_aload_n O 1 dJ5_compress_57 rfl rfl ?_
    exact z_aret O rfl dJ5_compress_58 (by cases hr; rfl)
  · cases hr
theorem fI_J3_init_2 : CIf yJ3_init_2 cJ3_init_2 6 4 := ⟨q697, rfl, q139, q698, ⟨⟨by decide +kernel, by decide +kernel⟩, by decide +kernel⟩⟩
def F_J3_init_2 (N : Nat) (x0 : Option Nat) (x1 : Option Nat) (x2 : Int32) (x3 : Int32) (x4 : Option Nat) (h : AH) : Option (AH) :=
  (ck h [21] x0).bind fun _ =>
  if x3 = 0 then
    (gR h f_String_value (some (h.1.2.2.2.1 0))).bind fun v6 =>
    (pR h f_String_value x0 v6).bind fun h7 =>
    (gI h7 f_String_coder (some (h7.1.2.2.2.1 0))).bind fun v8 =>
    (pB h7 f_String_coder x0 v8).bind fun h9 =>
    some h9
  else
    if (1 : Int32) = 0 then
      none
    else
      b2 (F_J5_compress N x1 x2 x3 h) fun v2 h1 =>
      (F_J5_coderFromArrayLen v2 x3 h1).bind fun v3 =>
      (pB h1 f_String_coder x0 v3).bind fun h4 =>
      (pR h4 f_String_value x0 v2).bind fun h5 =>
      some h5
theorem mJ3_init_2 (l : Launch) (G : ZG) (N : Nat) (x0 : Option Nat) (x1 : Option Nat) (x2 : Int32) (x3 : Int32) (x4 : Option Nat) (h : AH) (r : AH) (hr : F_J3_init_2 N x0 x1 x2 x3 x4 h = some r) : MZ l G yJ3_init_2 cJ3_init_2 6 (none : Option Jvm.ClassFile.FieldType) 3 99 [vr x0, vr x1, vi x2, vi x3, vr x4] h (eH r) := by
  unfold F_J3_init_2 at hr
  refine MZ.of (by decide) [(0, vr x0), (1, vr x1), (2, vi x2), (3, vi x3), (4, vr x4)] rfl (Nat.le_of_ble_eq_true rfl) (fun K O => ?_)
  have O : ZOk K cJ3_init_2 RJ3 "<init>" 6 (none : Option Jvm.ClassFile.FieldType) 3 99 := O
  refine bs hr (fun _ hck hr2 => ?_)
  clear hr
  obtain ⟨a0, rfl⟩ := ck_some hck
  have hr := hr2
  refine z_aload_n O 0 dJ3_init_2_0 rfl rfl ?_
  refine z_objInit O q699 q163 q164 ⟨_, rfl⟩ ⟨Nat.le_of_ble_eq_true rfl, Nat.le_of_ble_eq_true rfl⟩ (Nat.le_of_ble_eq_true rfl) dJ3_init_2_1 ?_
  refine z_iload_n O 3 dJ3_init_2_4 rfl rfl ?_
  refine z_if_ne (tgt := 27) O dJ3_init_2_5 (by decide) hr (fun hr => ?_) (fun hr => ?_)
  · refine z_aload_n O 0 dJ3_init_2_8 rfl rfl ?_
    refine z_ldcS O zs700 dJ3_init_2_9 ?_
    refine z_getR O o_String_value q745 dJ3_init_2_11 hr (fun v6 hr => ?_)
    refine z_putRF O rfl o_String_value w_String_value rfl q745 dJ3_init_2_14 hr (fun h7 hr => ?_)
    refine z_aload_n O 0 dJ3_init_2_17 rfl rfl ?_
    refine z_ldcS O zs700 dJ3_init_2_18 ?_
    refine z_getI O o_String_coder q746 dJ3_init_2_20 hr (fun v8 hr => ?_)
    refine z_putBF O o_String_coder w_String_coder rfl q746 dJ3_init_2_23 hr (fun h9 hr => ?_)
    exact z_vret O dJ3_init_2_26 (by cases hr; rfl)
  · refine z_getsI O zt0 rfl q701 dJ3_init_2_27 ?_
    refine z_if_eq (tgt := 58) O dJ3_init_2_30 (by decide) hr (fun hr => ?_) (fun hr => ?_)
    · cases hr
    · refine z_aload_n O 1 dJ3_init_2_33 rfl rfl ?_
      refine z_iload_n O 2 dJ3_init_2_34 rfl rfl ?_
      refine z_iload_n O 3 dJ3_init_2_35 rfl rfl ?_
      refine b2s hr (fun v2 h1 hF hr => ?_)
      refine z_callS O [vr x1, vi x2, vi x3] (vr v2) fS_J5_compress q703 (fun l G => mJ5_compress l G N x1 x2 x3 h _ hF) rfl ⟨Nat.le_of_ble_eq_true rfl, Nat.le_of_ble_eq_true rfl⟩ (Nat.le_of_ble_eq_true rfl) dJ3_init_2_36 ?_
      refine z_astore O [(5, vr v2), (0, vr (some a0)), (1, vr x1), (2, vi x2), (3, vi x3), (4, vr x4)] dJ3_init_2_39 (by decide) rfl ?_
      refine z_aload_n O 1 dJ3_init_2_41 rfl rfl ?_
      refine z_aload O 0 dJ3_init_2_42 rfl ?_
      refine z_iload_n O 4 dJ3_init_2_44 rfl rfl ?_
      refine bs hr (fun v3 hF hr => ?_)
      refine z_callS O [vr v2, vi x3] (vi v3) fS_J5_coderFromArrayLen q741 (fun l G => mJ5_coderFromArrayLen l G v2 x3 h1 _ hF) rfl ⟨Nat.le_of_ble_eq_true rfl, Nat.le_of_ble_eq_true rfl⟩ (Nat.le_of_ble_eq_true rfl) dJ3_init_2_45 ?_
      refine z_putBF O o_String_coder w_String_coder rfl q746 dJ3_init_2_48 hr (fun h4 hr => ?_)
      refine z_aload_n O 1 dJ3_init_2_51 rfl rfl ?_
      refine z_aload O 0 dJ3_init_2_52 rfl ?_
      refine z_putRF O rfl o_String_value w_String_value rfl q745 dJ3_init_2_54 hr (fun h5 hr => ?_)
      exact z_vret O dJ3_init_2_57 (by cases hr; rfl)
theorem fS_J4_checkFromIndexSize : CSf yJ4_checkFromIndexSize cJ4_checkFromIndexSize 4 (some .int) 4 := ⟨q694, q140, q695, ⟨⟨by decide +kernel, by decide +kernel⟩, by decide +kernel⟩⟩
def F_J4_checkFromIndexSize (x0 : Int32) (x1 : Int32) (x2 : Int32) (x3 : Option Nat) : Option (Int32) :=
  if ((x2 ||| x0) ||| x1) < 0 then
    none
  else
    if x1 ≤ (x2 - x0) then
      some x0
    else
      none
theorem mJ4_checkFromIndexSize (l : Launch) (G : ZG) (x0 : Int32) (x1 : Int32) (x2 : Int32) (x3 : Option Nat) (h : AH) (r : Int32) (hr : F_J4_checkFromIndexSize x0 x1 x2 x3 = some r) : MZ l G yJ4_checkFromIndexSize cJ4_checkFromIndexSize 4 (some .int) 1 48 [vi x0, vi x1, vi x2, vr x3] h (eI h r) := by
  unfold F_J4_checkFromIndexSize at hr
  refine MZ.of (by decide) [(0, vi x0), (1, vi x1), (2, vi x2), (3, vr x3)] rfl (Nat.le_of_ble_eq_true rfl) (fun K O => ?_)
  have O : ZOk K cJ4_checkFromIndexSize RJ4 "checkFromIndexSize" 4 (some .int) 1 48 := O
  refine z_iload_n O 2 dJ4_checkFromIndexSize_0 rfl rfl ?_
  refine z_iload_n O 0 dJ4_checkFromIndexSize_1 rfl rfl ?_
  refine z_ior O dJ4_checkFromIndexSize_2 ?_
  refine z_iload_n O 1 dJ4_checkFromIndexSize_3 rfl rfl ?_
  refine z_ior O dJ4_checkFromIndexSize_4 ?_
  refine z_if_lt (tgt := 15) O dJ4_checkFromIndexSize_5 (by decide) hr (fun hr => ?_) (fun hr => ?_)
  · cases hr
  · refine z_iload_n O 1 dJ4_checkFromIndexSize_8 rfl rfl ?_
    refine z_iload_n O 2 dJ4_checkFromIndexSize_9 rfl rfl ?_
    refine z_iload_n O 0 dJ4_checkFromIndexSize_10 rfl rfl ?_
    refine z_isub O dJ4_checkFromIndexSize_11 ?_
    refine z_icmp_le (tgt := 23) O dJ4_checkFromIndexSize_12 (by decide) hr (fun hr => ?_) (fun hr => ?_)
    · refine z_iload_n O 0 dJ4_checkFromIndexSize_23 rfl rfl ?_
      exact z_iret O dJ4_checkFromIndexSize_24 (by cases hr; rfl)
    · cases hr
theorem fS_J3_checkBoundsOffCount : CSf yJ3_checkBoundsOffCount cJ3_checkBoundsOffCount 3 (some .int) 3 := ⟨q689, q139, q690, ⟨⟨by decide +kernel, by decide +kernel⟩, by decide +kernel⟩⟩
def F_J3_checkBoundsOffCount (x0 : Int32) (x1 : Int32) (x2 : Int32) (h : AH) : Option (Int32) :=
  (F_J4_checkFromIndexSize x0 x1 x2 (h.1.2.2.2.2 0)).bind fun v1 =>
  some v1
theorem mJ3_checkBoundsOffCount (l : Launch) (G : ZG) (x0 : Int32) (x1 : Int32) (x2 : Int32) (h : AH) (r : Int32) (hr : F_J3_checkBoundsOffCount x0 x1 x2 h = some r) : MZ l G yJ3_checkBoundsOffCount cJ3_checkBoundsOffCount 3 (some .int) 2 71 [vi x0, vi x1, vi x2] h (eI h r) := by
  unfold F_J3_checkBoundsOffCount at hr
  refine MZ.of (by decide) [(0, vi x0), (1, vi x1), (2, vi x2)] rfl (Nat.le_of_ble_eq_true rfl) (fun K O => ?_)
  have O : ZOk K cJ3_checkBoundsOffCount RJ3 "checkBoundsOffCount" 3 (some .int) 2 71 := O
  refine z_iload_n O 0 dJ3_checkBoundsOffCount_0 rfl rfl ?_
  refine z_iload_n O 1 dJ3_checkBoundsOffCount_1 rfl rfl ?_
  refine z_iload_n O 2 dJ3_checkBoundsOffCount_2 rfl rfl ?_
  refine z_getsR O ztR0 rfl q691 dJ3_checkBoundsOffCount_3 ?_
  refine bs hr (fun v1 hF hr => ?_)
  refine z_callS O [vi x0, vi x1, vi x2, vr (h.1.2.2.2.2 0)] (vi v1) fS_J4_checkFromIndexSize q693 (fun l G => mJ4_checkFromIndexSize l G x0 x1 x2 (h.1.2.2.2.2 0) h _ hF) rfl ⟨Nat.le_of_ble_eq_true rfl, Nat.le_of_ble_eq_true rfl⟩ (Nat.le_of_ble_eq_true rfl) dJ3_checkBoundsOffCount_6 ?_
  exact z_iret O dJ3_checkBoundsOffCount_9 (by cases hr; rfl)
theorem fS_J3_rangeCheck : CSf yJ3_rangeCheck cJ3_rangeCheck 3 (some (.object "java/lang/Void")) 3 := ⟨q686, q139, q687, ⟨⟨by decide +kernel, by decide +kernel⟩, by decide +kernel⟩⟩
def F_J3_rangeCheck (x0 : Option Nat) (x1 : Int32) (x2 : Int32) (h : AH) : Option (Option Nat) :=
  (aL h x0).bind fun v1 =>
  (F_J3_checkBoundsOffCount x1 x2 v1 h).bind fun v2 =>
  some none
theorem mJ3_rangeCheck (l : Launch) (G : ZG) (x0 : Option Nat) (x1 : Int32) (x2 : Int32) (h : AH) (r : Option Nat) (hr : F_J3_rangeCheck x0 x1 x2 h = some r) : MZ l G yJ3_rangeCheck cJ3_rangeCheck 3 (some (.object "java/lang/Void")) 3 93 [vr x0, vi x1, vi x2] h (eR h r) := by
  unfold F_J3_rangeCheck at hr
  refine MZ.of (by decide) [(0, vr x0), (1, vi x1), (2, vi x2)] rfl (Nat.le_of_ble_eq_true rfl) (fun K O => ?_)
  have O : ZOk K cJ3_rangeCheck RJ3 "rangeCheck" 3 (some (.object "java/lang/Void")) 3 93 := O
  refine z_iload_n O 1 dJ3_rangeCheck_0 rfl rfl ?_
  refine z_iload_n O 2 dJ3_rangeCheck_1 rfl rfl ?_
  refine z_aload_n O 0 dJ3_rangeCheck_2 rfl rfl ?_
  refine z_arraylength O dJ3_rangeCheck_3 hr (fun v1 hr => ?_)
  refine bs hr (fun v2 hF hr => ?_)
  refine z_callS O [vi x1, vi x2, vi v1] (vi v2) fS_J3_checkBoundsOffCount q688 (fun l G => mJ3_checkBoundsOffCount l G x1 x2 v1 h _ hF) rfl ⟨Nat.le_of_ble_eq_true rfl, Nat.le_of_ble_eq_true rfl⟩ (Nat.le_of_ble_eq_true rfl) dJ3_rangeCheck_4 ?_
  refine z_pop O dJ3_rangeCheck_7 rfl ?_
  refine z_null O dJ3_rangeCheck_8 ?_
  exact z_aret O rfl dJ3_rangeCheck_9 (by cases hr; rfl)
theorem fI_J3_init : CIf yJ3_init cJ3_init 4 3 := ⟨q683, rfl, q139, q684, ⟨⟨by decide +kernel, by decide +kernel⟩, by decide +kernel⟩⟩
def F_J3_init (N : Nat) (x0 : Option Nat) (x1 : Option Nat) (x2 : Int32) (x3 : Int32) (h : AH) : Option (AH) :=
  (ck h [21] x0).bind fun _ =>
  (F_J3_rangeCheck x1 x2 x3 h).bind fun v1 =>
  (F_J3_init_2 N x0 x1 x2 x3 v1 h).bind fun h2 =>
  some h2
theorem mJ3_init (l : Launch) (G : ZG) (N : Nat) (x0 : Option Nat) (x1 : Option Nat) (x2 : Int32) (x3 : Int32) (h : AH) (r : AH) (hr : F_J3_init N x0 x1 x2 x3 h = some r) : MZ l G yJ3_init cJ3_init 4 (none : Option Jvm.ClassFile.FieldType) 4 124 [vr x0, vr x1, vi x2, vi x3] h (eH r) := by
  unfold F_J3_init at hr
  refine MZ.of (by decide) [(0, vr x0), (1, vr x1), (2, vi x2), (3, vi x3)] rfl (Nat.le_of_ble_eq_true rfl) (fun K O => ?_)
  have O : ZOk K cJ3_init RJ3 "<init>" 4 (none : Option Jvm.ClassFile.FieldType) 4 124 := O
  refine bs hr (fun _ hck hr2 => ?_)
  clear hr
  obtain ⟨a0, rfl⟩ := ck_some hck
  have hr := hr2
  refine z_aload_n O 0 dJ3_init_0 rfl rfl ?_
  refine z_aload_n O 1 dJ3_init_1 rfl rfl ?_
  refine z_iload_n O 2 dJ3_init_2 rfl rfl ?_
  refine z_iload_n O 3 dJ3_init_3 rfl rfl ?_
  refine z_aload_n O 1 dJ3_init_4 rfl rfl ?_
  refine z_iload_n O 2 dJ3_init_5 rfl rfl ?_
  refine z_iload_n O 3 dJ3_init_6 rfl rfl ?_
  refine bs hr (fun v1 hF hr => ?_)
  refine z_callS O [vr x1, vi x2, vi x3] (vr v1) fS_J3_rangeCheck q685 (fun l G => mJ3_rangeCheck l G x1 x2 x3 h _ hF) rfl ⟨Nat.le_of_ble_eq_true rfl, Nat.le_of_ble_eq_true rfl⟩ (Nat.le_of_ble_eq_true rfl) dJ3_init_7 ?_
  refine bs hr (fun h2 hF hr => ?_)
  refine z_callI_ O [vr x1, vi x2, vi x3, vr v1] fI_J3_init_2 q696 (fun l G => mJ3_init_2 l G N (some a0) x1 x2 x3 v1 h _ hF) rfl ⟨Nat.le_of_ble_eq_true rfl, Nat.le_of_ble_eq_true rfl⟩ (Nat.le_of_ble_eq_true rfl) dJ3_init_10 ?_
  exact z_vret O dJ3_init_13 (by cases hr; rfl)
theorem fS_X2_isDigit : CSf yX2_isDigit cX2_isDigit 1 (some .boolean) 1 := ⟨q760, q127, q761, ⟨⟨by decide +kernel, by decide +kernel⟩, by decide +kernel⟩⟩
def F_X2_isDigit (x0 : Int32) : Option (Int32) :=
  (F_X1_within x0 (48 : Int32) (57 : Int32)).bind fun v1 =>
  zb v1
theorem mX2_isDigit (l : Launch) (G : ZG) (x0 : Int32) (h : AH) (r : Int32) (hr : F_X2_isDigit x0 = some r) : MZ l G yX2_isDigit cX2_isDigit 1 (some .boolean) 2 70 [vi x0] h (eI h r) := by
  unfold F_X2_isDigit at hr
  refine MZ.of (by decide) [(0, vi x0)] rfl (Nat.le_of_ble_eq_true rfl) (fun K O => ?_)
  have O : ZOk K cX2_isDigit RX2 "isDigit" 1 (some .boolean) 2 70 := O
  refine z_iload_n O 0 dX2_isDigit_0 rfl rfl ?_
  refine z_bipush O dX2_isDigit_1 kbi_48 ?_
  refine z_bipush O dX2_isDigit_3 kbi_57 ?_
  refine bs hr (fun v1 hF hr => ?_)
  refine z_callSN O [vi x0, vi (48 : Int32), vi (57 : Int32)] (vi v1) fS_X1_within zn679 (fun l G => mX1_within l G x0 (48 : Int32) (57 : Int32) h _ hF) rfl ⟨Nat.le_of_ble_eq_true rfl, Nat.le_of_ble_eq_true rfl⟩ (Nat.le_of_ble_eq_true rfl) dX2_isDigit_5 ?_
  obtain ⟨e1, e2, -⟩ := zb_spec hr
  exact z_zret O e2 dX2_isDigit_8 (by cases e1; rfl)
theorem fS_X2_isSmall : CSf yX2_isSmall cX2_isSmall 1 (some .boolean) 1 := ⟨q677, q127, q678, ⟨⟨by decide +kernel, by decide +kernel⟩, by decide +kernel⟩⟩
def F_X2_isSmall (x0 : Int32) : Option (Int32) :=
  (F_X1_within x0 (97 : Int32) (122 : Int32)).bind fun v1 =>
  zb v1
theorem mX2_isSmall (l : Launch) (G : ZG) (x0 : Int32) (h : AH) (r : Int32) (hr : F_X2_isSmall x0 = some r) : MZ l G yX2_isSmall cX2_isSmall 1 (some .boolean) 2 70 [vi x0] h (eI h r) := by
  unfold F_X2_isSmall at hr
  refine MZ.of (by decide) [(0, vi x0)] rfl (Nat.le_of_ble_eq_true rfl) (fun K O => ?_)
  have O : ZOk K cX2_isSmall RX2 "isSmall" 1 (some .boolean) 2 70 := O
  refine z_iload_n O 0 dX2_isSmall_0 rfl rfl ?_
  refine z_bipush O dX2_isSmall_1 kbi_97 ?_
  refine z_bipush O dX2_isSmall_3 kbi_122 ?_
  refine bs hr (fun v1 hF hr => ?_)
  refine z_callSN O [vi x0, vi (97 : Int32), vi (122 : Int32)] (vi v1) fS_X1_within zn679 (fun l G => mX1_within l G x0 (97 : Int32) (122 : Int32) h _ hF) rfl ⟨Nat.le_of_ble_eq_true rfl, Nat.le_of_ble_eq_true rfl⟩ (Nat.le_of_ble_eq_true rfl) dX2_isSmall_5 ?_
  obtain ⟨e1, e2, -⟩ := zb_spec hr
  exact z_zret O e2 dX2_isSmall_8 (by cases e1; rfl)
theorem fV_X2_see : CVf RX2 yX2_see cX2_see 2 (some .int) 1 := ⟨q674, qs5, q127, q675, ⟨⟨by decide +kernel, by decide +kernel⟩, by decide +kernel⟩⟩
def F_X2_see (x0 : Option Nat) (x1 : Int32) (h : AH) : Option (Int32) :=
  (ck h [2] x0).bind fun _ =>
  (gI h f_Reader_size x0).bind fun v1 =>
  if v1 ≤ x1 then
    some (-1 : Int32)
  else
    (gR h f_Reader_text x0).bind fun v2 =>
    (aI h 1 v2 x1).bind fun v3 =>
    some (v3 &&& (255 : Int32))
theorem mX2_see (l : Launch) (G : ZG) (x0 : Option Nat) (x1 : Int32) (h : AH) (r : Int32) (hr : F_X2_see x0 x1 h = some r) : MZ l G yX2_see cX2_see 2 (some .int) 1 48 [vr x0, vi x1] h (eI h r) := by
  unfold F_X2_see at hr
  refine MZ.of (by decide) [(0, vr x0), (1, vi x1)] rfl (Nat.le_of_ble_eq_true rfl) (fun K O => ?_)
  have O : ZOk K cX2_see RX2 "see" 2 (some .int) 1 48 := O
  refine bs hr (fun _ hck hr => ?_)
  refine z_iload_n O 1 dX2_see_0 rfl rfl ?_
  refine z_aload_n O 0 dX2_see_1 rfl rfl ?_
  refine z_getI O o_Reader_size q382 dX2_see_2 hr (fun v1 hr => ?_)
  refine z_icmp_ge (tgt := 21) O dX2_see_5 (by decide) hr (fun hr => ?_) (fun hr => ?_)
  · refine z_iconst O dX2_see_21 kic_m1 ?_
    exact z_iret O dX2_see_22 (by cases hr; rfl)
  · refine z_aload_n O 0 dX2_see_8 rfl rfl ?_
    refine z_getR O o_Reader_text q379 dX2_see_9 hr (fun v2 hr => ?_)
    refine z_iload_n O 1 dX2_see_12 rfl rfl ?_
    refine z_baload O dX2_see_13 hr (fun v3 hr => ?_)
    refine z_sipush O dX2_see_14 ksi_255 ?_
    refine z_iand O dX2_see_17 ?_
    refine z_goto (tgt := 22) O dX2_see_18 (by decide) ?_
    exact z_iret O dX2_see_22 (by cases hr; rfl)
theorem fV_X2_next : CVf RX2 yX2_next cX2_next 3 (none : Option Jvm.ClassFile.FieldType) 0 := ⟨q670, qs4, q127, q671, ⟨⟨by decide +kernel, by decide +kernel⟩, by decide +kernel⟩⟩
def bX2_next_114 (N : Nat) (rec69 : AH → Option (AH)) (x0 : Option Nat) (x1 : Int32) (h : AH) : Option (AH) :=
  (gI h f_Reader_end x0).bind fun v1 =>
  (pI h f_Reader_end x0 (v1 + (1 : Int32))).bind fun h2 =>
  rec69  h2
theorem wX2_next_114 {K : ZC} (O : ZOk K cX2_next RX2 "next" 3 (none : Option Jvm.ClassFile.FieldType) 5 147) (N : Nat) (rec69 : AH → Option (AH)) (x0 : Option Nat) (x1 : Int32) (h : AH) (hrec69 : ∀  (hy : AH) (ry : AH), rec69  hy = some ry → Zw K (eH ry) hy 69 [(0, vr x0), (1, vi x1)] []) (r : AH) (hr : bX2_next_114 N rec69 x0 x1 h = some r) : Zw K (eH r) h 114 [(0, vr x0), (1, vi x1)] [] := by
  unfold bX2_next_114 at hr
  refine z_aload_n O 0 dX2_next_114 rfl rfl ?_
  refine z_dup O dX2_next_115 rfl ?_
  refine z_getI O o_Reader_end q383 dX2_next_116 hr (fun v1 hr => ?_)
  refine z_iconst O dX2_next_119 kic_1 ?_
  refine z_iadd O dX2_next_120 ?_
  refine z_putI O o_Reader_end (w_Reader_end _) q383 dX2_next_121 hr (fun h2 hr => ?_)
  refine z_goto (tgt := 69) O dX2_next_124 (by decide) ?_
  exact hrec69  h2 _ hr
def bX2_next_144 (N : Nat) (x0 : Option Nat) (x1 : Int32) (s0 : Option Nat) (s1 : Int32) (h : AH) : Option (AH) :=
  (pI h f_Reader_token s0 s1).bind fun h1 =>
  (gI h1 f_Reader_token x0).bind fun v2 =>
  if v2 = (2 : Int32) then
    b2 (nO h1 21 4 [.null, .int 0, .int 0, .int 0]) fun v4 h5 =>
    (gR h5 f_Reader_letters x0).bind fun v6 =>
    (gI h5 f_Reader_end x0).bind fun v7 =>
    (F_J3_init N v4 v6 (0 : Int32) (v7 - x1) h5).bind fun h8 =>
    (pR h8 f_Reader_word x0 v4).bind fun h9 =>
    some h9
  else
    (pR h1 f_Reader_word x0 (some (h1.1.2.2.2.1 0))).bind fun h3 =>
    some h3
theorem wX2_next_144 {K : ZC} (O : ZOk K cX2_next RX2 "next" 3 (none : Option Jvm.ClassFile.FieldType) 5 147) (N : Nat) (x0 : Option Nat) (x1 : Int32) (s0 : Option Nat) (s1 : Int32) (h : AH) (r : AH) (hr : bX2_next_144 N x0 x1 s0 s1 h = some r) : Zw K (eH r) h 144 [(0, vr x0), (1, vi x1)] [vi s1, vr s0] := by
  unfold bX2_next_144 at hr
  refine z_putI O o_Reader_token (w_Reader_token _) q384 dX2_next_144 hr (fun h1 hr => ?_)
  refine z_aload_n O 0 dX2_next_147 rfl rfl ?_
  refine z_aload_n O 0 dX2_next_148 rfl rfl ?_
  refine z_getI O o_Reader_token q384 dX2_next_149 hr (fun v2 hr => ?_)
  refine z_iconst O dX2_next_152 kic_2 ?_
  refine z_icmp_ne (tgt := 177) O dX2_next_153 (by decide) hr (fun hr => ?_) (fun hr => ?_)
  · refine z_new O (t := 21) (n := 4) (tyf := tyJ3) rfl [.null, .int 0, .int 0, .int 0] tyJ3_ok rfl in_J3 q680 q681 q139 dX2_next_156 hr (fun v4 h5 hr => ?_)
    refine z_dup O dX2_next_159 rfl ?_
    refine z_aload_n O 0 dX2_next_160 rfl rfl ?_
    refine z_getR O o_Reader_letters q380 dX2_next_161 hr (fun v6 hr => ?_)
    refine z_iconst O dX2_next_164 kic_0 ?_
    refine z_aload_n O 0 dX2_next_165 rfl rfl ?_
    refine z_getI O o_Reader_end q383 dX2_next_166 hr (fun v7 hr => ?_)
    refine z_iload_n O 1 dX2_next_169 rfl rfl ?_
    refine z_isub O dX2_next_170 ?_
    refine bs hr (fun h8 hF hr => ?_)
    refine z_callI_ O [vr v6, vi (0 : Int32), vi (v7 - x1)] fI_J3_init q682 (fun l G => mJ3_init l G N (some v4) v6 (0 : Int32) (v7 - x1) h5 _ hF) rfl ⟨Nat.le_of_ble_eq_true rfl, Nat.le_of_ble_eq_true rfl⟩ (Nat.le_of_ble_eq_true rfl) dX2_next_171 ?_
    refine z_goto (tgt := 179) O dX2_next_174 (by decide) ?_
    refine z_putR O rfl o_Reader_word (w_Reader_word _) q388 dX2_next_179 hr (fun h9 hr => ?_)
    refine z_goto (tgt := 305) O dX2_next_182 (by decide) ?_
    exact z_vret O dX2_next_305 (by cases hr; rfl)
  · refine z_ldcS O zs758 dX2_next_177 ?_
    refine z_putR O rfl o_Reader_word (w_Reader_word _) q388 dX2_next_179 hr (fun h3 hr => ?_)
    refine z_goto (tgt := 305) O dX2_next_182 (by decide) ?_
    exact z_vret O dX2_next_305 (by cases hr; rfl)
def BX2_next_69 (N : Nat) (x0 : Option Nat) (x1 : Int32) (rec69 : AH → Option (AH)) : AH → Option (AH) := fun h =>
  (gI h f_Reader_end x0).bind fun v1 =>
  (F_X2_see x0 v1 h).bind fun v2 =>
  (F_X2_isSmall v2).bind fun v3 =>
  if v3 = 0 then
    (gI h f_Reader_end x0).bind fun v4 =>
    if (v4 - x1) ≤ (8 : Int32) then
      bX2_next_144 N x0 x1 x0 (2 : Int32) h
    else
      bX2_next_144 N x0 x1 x0 (1 : Int32) h
  else
    (gI h f_Reader_end x0).bind fun v5 =>
    if (8 : Int32) ≤ (v5 - x1) then
      bX2_next_114 N rec69 x0 x1 h
    else
      (gR h f_Reader_letters x0).bind fun v6 =>
      (gI h f_Reader_end x0).bind fun v7 =>
      (gI h f_Reader_end x0).bind fun v8 =>
      (F_X2_see x0 v8 h).bind fun v9 =>
      (sA h 2 v6 (v7 - x1) (vp_nar .char ((v9.toUInt32 % 65536).toInt32))).bind fun h10 =>
      bX2_next_114 N rec69 x0 x1 h10
def LX2_next_69 (N : Nat) (x0 : Option Nat) (x1 : Int32) : AH → Option (AH) := lf (fun _ => none) (BX2_next_69 N x0 x1) N
theorem wX2_next_69B {K : ZC} (O : ZOk K cX2_next RX2 "next" 3 (none : Option Jvm.ClassFile.FieldType) 5 147) (N : Nat) (x0 : Option Nat) (x1 : Int32) (rec69 : AH → Option (AH)) (hrec69 : ∀  (hy : AH) (ry : AH), rec69  hy = some ry → Zw K (eH ry) hy 69 [(0, vr x0), (1, vi x1)] []) (h : AH) (r : AH) (hr : BX2_next_69 N x0 x1 rec69 h = some r) : Zw K (eH r) h 69 [(0, vr x0), (1, vi x1)] [] := by
  unfold BX2_next_69 at hr
  refine z_aload_n O 0 dX2_next_69 rfl rfl ?_
  refine z_aload_n O 0 dX2_next_70 rfl rfl ?_
  refine z_getI O o_Reader_end q383 dX2_next_71 hr (fun v1 hr => ?_)
  refine bs hr (fun v2 hF hr => ?_)
  refine z_callV O [vi v1] (vi v2) fV_X2_see q672 (fun l G => mX2_see l G x0 v1 h _ hF) (zck hF) rfl rfl ⟨Nat.le_of_ble_eq_true rfl, Nat.le_of_ble_eq_true rfl⟩ (Nat.le_of_ble_eq_true rfl) dX2_next_74 ?_
  refine bs hr (fun v3 hF hr => ?_)
  refine z_callS O [vi v2] (vi v3) fS_X2_isSmall q676 (fun l G => mX2_isSmall l G v2 h _ hF) rfl ⟨Nat.le_of_ble_eq_true rfl, Nat.le_of_ble_eq_true rfl⟩ (Nat.le_of_ble_eq_true rfl) dX2_next_77 ?_
  refine z_if_eq (tgt := 127) O dX2_next_80 (by decide) hr (fun hr => ?_) (fun hr => ?_)
  · refine z_aload_n O 0 dX2_next_127 rfl rfl ?_
    refine z_aload_n O 0 dX2_next_128 rfl rfl ?_
    refine z_getI O o_Reader_end q383 dX2_next_129 hr (fun v4 hr => ?_)
    refine z_iload_n O 1 dX2_next_132 rfl rfl ?_
    refine z_isub O dX2_next_133 ?_
    refine z_bipush O dX2_next_134 kbi_8 ?_
    refine z_icmp_le (tgt := 143) O dX2_next_136 (by decide) hr (fun hr => ?_) (fun hr => ?_)
    · refine z_iconst O dX2_next_143 kic_2 ?_
      exact wX2_next_144 O N x0 x1 x0 (2 : Int32) h _ hr
    · refine z_iconst O dX2_next_139 kic_1 ?_
      refine z_goto (tgt := 144) O dX2_next_140 (by decide) ?_
      exact wX2_next_144 O N x0 x1 x0 (1 : Int32) h _ hr
  · refine z_aload_n O 0 dX2_next_83 rfl rfl ?_
    refine z_getI O o_Reader_end q383 dX2_next_84 hr (fun v5 hr => ?_)
    refine z_iload_n O 1 dX2_next_87 rfl rfl ?_
    refine z_isub O dX2_next_88 ?_
    refine z_bipush O dX2_next_89 kbi_8 ?_
    refine z_icmp_ge (tgt := 114) O dX2_next_91 (by decide) hr (fun hr => ?_) (fun hr => ?_)
    · exact wX2_next_114 O N rec69 x0 x1 h hrec69 _ hr
    · refine z_aload_n O 0 dX2_next_94 rfl rfl ?_
      refine z_getR O o_Reader_letters q380 dX2_next_95 hr (fun v6 hr => ?_)
      refine z_aload_n O 0 dX2_next_98 rfl rfl ?_
      refine z_getI O o_Reader_end q383 dX2_next_99 hr (fun v7 hr => ?_)
      refine z_iload_n O 1 dX2_next_102 rfl rfl ?_
      refine z_isub O dX2_next_103 ?_
      refine z_aload_n O 0 dX2_next_104 rfl rfl ?_
      refine z_aload_n O 0 dX2_next_105 rfl rfl ?_
      refine z_getI O o_Reader_end q383 dX2_next_106 hr (fun v8 hr => ?_)
      refine bs hr (fun v9 hF hr => ?_)
      refine z_callV O [vi v8] (vi v9) fV_X2_see q672 (fun l G => mX2_see l G x0 v8 h _ hF) (zck hF) rfl rfl ⟨Nat.le_of_ble_eq_true rfl, Nat.le_of_ble_eq_true rfl⟩ (Nat.le_of_ble_eq_true rfl) dX2_next_109 ?_
      refine z_i2c O dX2_next_112 ?_
      refine z_castore O dX2_next_113 hr (fun h10 hr => ?_)
      exact wX2_next_114 O N rec69 x0 x1 h10 hrec69 _ hr
theorem wX2_next_69 {K : ZC} (O : ZOk K cX2_next RX2 "next" 3 (none : Option Jvm.ClassFile.FieldType) 5 147) (N : Nat) (x0 : Option Nat) (x1 : Int32) : ∀ (n : Nat) (h : AH) (r : AH), lf (fun _ => none) (BX2_next_69 N x0 x1) n h = some r → Zw K (eH r) h 69 [(0, vr x0), (1, vi x1)] [] := by
  intro n
  induction n with
  | zero => intro h r hr; cases hr
  | succ n ih => intro h r hr; exact wX2_next_69B O N x0 x1 (lf (fun _ => none) (BX2_next_69 N x0 x1) n)  ih h r hr
def bX2_next_249 (N : Nat) (rec202 : AH → Option (AH)) (x0 : Option Nat) (x1 : Int32) (h : AH) : Option (AH) :=
  (gI h f_Reader_end x0).bind fun v1 =>
  (pI h f_Reader_end x0 (v1 + (1 : Int32))).bind fun h2 =>
  rec202  h2
theorem wX2_next_249 {K : ZC} (O : ZOk K cX2_next RX2 "next" 3 (none : Option Jvm.ClassFile.FieldType) 5 147) (N : Nat) (rec202 : AH → Option (AH)) (x0 : Option Nat) (x1 : Int32) (h : AH) (hrec202 : ∀  (hy : AH) (ry : AH), rec202  hy = some ry → Zw K (eH ry) hy 202 [(0, vr x0), (1, vi x1)] []) (r : AH) (hr : bX2_next_249 N rec202 x0 x1 h = some r) : Zw K (eH r) h 249 [(0, vr x0), (1, vi x1)] [] := by
  unfold bX2_next_249 at hr
  refine z_aload_n O 0 dX2_next_249 rfl rfl ?_
  refine z_dup O dX2_next_250 rfl ?_
  refine z_getI O o_Reader_end q383 dX2_next_251 hr (fun v1 hr => ?_)
  refine z_iconst O dX2_next_254 kic_1 ?_
  refine z_iadd O dX2_next_255 ?_
  refine z_putI O o_Reader_end (w_Reader_end _) q383 dX2_next_256 hr (fun h2 hr => ?_)
  refine z_goto (tgt := 202) O dX2_next_259 (by decide) ?_
  exact hrec202  h2 _ hr
def BX2_next_202 (N : Nat) (x0 : Option Nat) (x1 : Int32) (rec202 : AH → Option (AH)) : AH → Option (AH) := fun h =>
  (gI h f_Reader_end x0).bind fun v1 =>
  (F_X2_see x0 v1 h).bind fun v2 =>
  (F_X2_isDigit v2).bind fun v3 =>
  if v3 = 0 then
    (gI h f_Reader_end x0).bind fun v4 =>
    if (v4 - x1) ≤ (3 : Int32) then
      (pI h f_Reader_token x0 (3 : Int32)).bind fun h5 =>
      some h5
    else
      (pI h f_Reader_token x0 (1 : Int32)).bind fun h6 =>
      some h6
  else
    (gI h f_Reader_end x0).bind fun v7 =>
    if (3 : Int32) ≤ (v7 - x1) then
      bX2_next_249 N rec202 x0 x1 h
    else
      (gI h f_Reader_whole x0).bind fun v8 =>
      (gI h f_Reader_end x0).bind fun v9 =>
      (F_X2_see x0 v9 h).bind fun v10 =>
      (pI h f_Reader_whole x0 ((((10 : Int32) * v8) + v10) - (48 : Int32))).bind fun h11 =>
      bX2_next_249 N rec202 x0 x1 h11
def LX2_next_202 (N : Nat) (x0 : Option Nat) (x1 : Int32) : AH → Option (AH) := lf (fun _ => none) (BX2_next_202 N x0 x1) N
theorem wX2_next_202B {K : ZC} (O : ZOk K cX2_next RX2 "next" 3 (none : Option Jvm.ClassFile.FieldType) 5 147) (N : Nat) (x0 : Option Nat) (x1 : Int32) (rec202 : AH → Option (AH)) (hrec202 : ∀  (hy : AH) (ry : AH), rec202  hy = some ry → Zw K (eH ry) hy 202 [(0, vr x0), (1, vi x1)] []) (h : AH) (r : AH) (hr : BX2_next_202 N x0 x1 rec202 h = some r) : Zw K (eH r) h 202 [(0, vr x0), (1, vi x1)] [] := by
  unfold BX2_next_202 at hr
  refine z_aload_n O 0 dX2_next_202 rfl rfl ?_
  refine z_aload_n O 0 dX2_next_203 rfl rfl ?_
  refine z_getI O o_Reader_end q383 dX2_next_204 hr (fun v1 hr => ?_)
  refine bs hr (fun v2 hF hr => ?_)
  refine z_callV O [vi v1] (vi v2) fV_X2_see q672 (fun l G => mX2_see l G x0 v1 h _ hF) (zck hF) rfl rfl ⟨Nat.le_of_ble_eq_true rfl, Nat.le_of_ble_eq_true rfl⟩ (Nat.le_of_ble_eq_true rfl) dX2_next_207 ?_
  refine bs hr (fun v3 hF hr => ?_)
  refine z_callS O [vi v2] (vi v3) fS_X2_isDigit q759 (fun l G => mX2_isDigit l G v2 h _ hF) rfl ⟨Nat.le_of_ble_eq_true rfl, Nat.le_of_ble_eq_true rfl⟩ (Nat.le_of_ble_eq_true rfl) dX2_next_210 ?_
  refine z_if_eq (tgt := 262) O dX2_next_213 (by decide) hr (fun hr => ?_) (fun hr => ?_)
  · refine z_aload_n O 0 dX2_next_262 rfl rfl ?_
    refine z_aload_n O 0 dX2_next_263 rfl rfl ?_
    refine z_getI O o_Reader_end q383 dX2_next_264 hr (fun v4 hr => ?_)
    refine z_iload_n O 1 dX2_next_267 rfl rfl ?_
    refine z_isub O dX2_next_268 ?_
    refine z_iconst O dX2_next_269 kic_3 ?_
    refine z_icmp_le (tgt := 277) O dX2_next_270 (by decide) hr (fun hr => ?_) (fun hr => ?_)
    · refine z_iconst O dX2_next_277 kic_3 ?_
      refine z_putI O o_Reader_token (w_Reader_token _) q384 dX2_next_278 hr (fun h5 hr => ?_)
      refine z_goto (tgt := 305) O dX2_next_281 (by decide) ?_
      exact z_vret O dX2_next_305 (by cases hr; rfl)
    · refine z_iconst O dX2_next_273 kic_1 ?_
      refine z_goto (tgt := 278) O dX2_next_274 (by decide) ?_
      refine z_putI O o_Reader_token (w_Reader_token _) q384 dX2_next_278 hr (fun h6 hr => ?_)
      refine z_goto (tgt := 305) O dX2_next_281 (by decide) ?_
      exact z_vret O dX2_next_305 (by cases hr; rfl)
  · refine z_aload_n O 0 dX2_next_216 rfl rfl ?_
    refine z_getI O o_Reader_end q383 dX2_next_217 hr (fun v7 hr => ?_)
    refine z_iload_n O 1 dX2_next_220 rfl rfl ?_
    refine z_isub O dX2_next_221 ?_
    refine z_iconst O dX2_next_222 kic_3 ?_
    refine z_icmp_ge (tgt := 249) O dX2_next_223 (by decide) hr (fun hr => ?_) (fun hr => ?_)
    · exact wX2_next_249 O N rec202 x0 x1 h hrec202 _ hr
    · refine z_aload_n O 0 dX2_next_226 rfl rfl ?_
      refine z_bipush O dX2_next_227 kbi_10 ?_
      refine z_aload_n O 0 dX2_next_229 rfl rfl ?_
      refine z_getI O o_Reader_whole q386 dX2_next_230 hr (fun v8 hr => ?_)
      refine z_imul O dX2_next_233 ?_
      refine z_aload_n O 0 dX2_next_234 rfl rfl ?_
      refine z_aload_n O 0 dX2_next_235 rfl rfl ?_
      refine z_getI O o_Reader_end q383 dX2_next_236 hr (fun v9 hr => ?_)
      refine bs hr (fun v10 hF hr => ?_)
      refine z_callV O [vi v9] (vi v10) fV_X2_see q672 (fun l G => mX2_see l G x0 v9 h _ hF) (zck hF) rfl rfl ⟨Nat.le_of_ble_eq_true rfl, Nat.le_of_ble_eq_true rfl⟩ (Nat.le_of_ble_eq_true rfl) dX2_next_239 ?_
      refine z_iadd O dX2_next_242 ?_
      refine z_bipush O dX2_next_243 kbi_48 ?_
      refine z_isub O dX2_next_245 ?_
      refine z_putI O o_Reader_whole (w_Reader_whole _) q386 dX2_next_246 hr (fun h11 hr => ?_)
      exact wX2_next_249 O N rec202 x0 x1 h11 hrec202 _ hr
theorem wX2_next_202 {K : ZC} (O : ZOk K cX2_next RX2 "next" 3 (none : Option Jvm.ClassFile.FieldType) 5 147) (N : Nat) (x0 : Option Nat) (x1 : Int32) : ∀ (n : Nat) (h : AH) (r : AH), lf (fun _ => none) (BX2_next_202 N x0 x1) n h = some r → Zw K (eH r) h 202 [(0, vr x0), (1, vi x1)] [] := by
  intro n
  induction n with
  | zero => intro h r hr; cases hr
  | succ n ih => intro h r hr; exact wX2_next_202B O N x0 x1 (lf (fun _ => none) (BX2_next_202 N x0 x1) n)  ih h r hr
def BX2_next_5 (N : Nat) (x0 : Option Nat) (rec5 : Int32 → AH → Option (AH)) : Int32 → AH → Option (AH) := fun x1 h =>
  (F_X2_see x0 x1 h).bind fun v1 =>
  if v1 = (32 : Int32) then
    jlet (x1 + (1 : Int32)) fun v15 =>
    rec5 v15 h
  else
    (pI h f_Reader_at x0 x1).bind fun h2 =>
    (pI h2 f_Reader_end x0 (x1 + (1 : Int32))).bind fun h3 =>
    (F_X2_see x0 x1 h3).bind fun v4 =>
    if v4 = (-1 : Int32) then
      (pI h3 f_Reader_token x0 (0 : Int32)).bind fun h13 =>
      (pI h13 f_Reader_end x0 x1).bind fun h14 =>
      some h14
    else
      (F_X2_isSmall v4).bind fun v5 =>
      if v5 = 0 then
        (F_X2_isDigit v4).bind fun v6 =>
        if v6 = 0 then
          if v4 = (59 : Int32) then
            (pI h3 f_Reader_token x0 v4).bind fun h7 =>
            some h7
          else
            if v4 = (44 : Int32) then
              (pI h3 f_Reader_token x0 v4).bind fun h9 =>
              some h9
            else
              (pI h3 f_Reader_token x0 (1 : Int32)).bind fun h8 =>
              some h8
        else
          (pI h3 f_Reader_whole x0 (0 : Int32)).bind fun h10 =>
          (pI h10 f_Reader_end x0 x1).bind fun h11 =>
          LX2_next_202 N x0 x1 h11
      else
        (pI h3 f_Reader_end x0 x1).bind fun h12 =>
        LX2_next_69 N x0 x1 h12
def LX2_next_5 (N : Nat) (x0 : Option Nat) : Int32 → AH → Option (AH) := lf (fun _ _ => none) (BX2_next_5 N x0) N
theorem wX2_next_5B {K : ZC} (O : ZOk K cX2_next RX2 "next" 3 (none : Option Jvm.ClassFile.FieldType) 5 147) (N : Nat) (x0 : Option Nat) (rec5 : Int32 → AH → Option (AH)) (hrec5 : ∀ (y1 : Int32) (hy : AH) (ry : AH), rec5 y1 hy = some ry → Zw K (eH ry) hy 5 [(0, vr x0), (1, vi y1)] []) (x1 : Int32) (h : AH) (r : AH) (hr : BX2_next_5 N x0 rec5 x1 h = some r) : Zw K (eH r) h 5 [(0, vr x0), (1, vi x1)] [] := by
  unfold BX2_next_5 at hr
  refine z_aload_n O 0 dX2_next_5 rfl rfl ?_
  refine z_iload_n O 1 dX2_next_6 rfl rfl ?_
  refine bs hr (fun v1 hF hr => ?_)
  refine z_callV O [vi x1] (vi v1) fV_X2_see q672 (fun l G => mX2_see l G x0 x1 h _ hF) (zck hF) rfl rfl ⟨Nat.le_of_ble_eq_true rfl, Nat.le_of_ble_eq_true rfl⟩ (Nat.le_of_ble_eq_true rfl) dX2_next_7 ?_
  refine z_bipush O dX2_next_10 kbi_32 ?_
  refine z_icmp_ne (tgt := 21) O dX2_next_12 (by decide) hr (fun hr => ?_) (fun hr => ?_)
  · refine z_iincL O 1 (fun v15 => [(1, vi v15), (0, vr x0)]) dX2_next_15 rfl rfl (by decide) (fun _ => rfl) hr (fun v15 hr => ?_)
    refine z_goto (tgt := 5) O dX2_next_18 (by decide) ?_
    refine z_sub [1, 0] rfl ?_
    exact hrec5 v15 h _ hr
  · refine z_aload_n O 0 dX2_next_21 rfl rfl ?_
    refine z_iload_n O 1 dX2_next_22 rfl rfl ?_
    refine z_putI O o_Reader_at (w_Reader_at _) q385 dX2_next_23 hr (fun h2 hr => ?_)
    refine z_aload_n O 0 dX2_next_26 rfl rfl ?_
    refine z_iload_n O 1 dX2_next_27 rfl rfl ?_
    refine z_iconst O dX2_next_28 kic_1 ?_
    refine z_iadd O dX2_next_29 ?_
    refine z_putI O o_Reader_end (w_Reader_end _) q383 dX2_next_30 hr (fun h3 hr => ?_)
    refine z_aload_n O 0 dX2_next_33 rfl rfl ?_
    refine z_iload_n O 1 dX2_next_34 rfl rfl ?_
    refine bs hr (fun v4 hF hr => ?_)
    refine z_callV O [vi x1] (vi v4) fV_X2_see q672 (fun l G => mX2_see l G x0 x1 h3 _ hF) (zck hF) rfl rfl ⟨Nat.le_of_ble_eq_true rfl, Nat.le_of_ble_eq_true rfl⟩ (Nat.le_of_ble_eq_true rfl) dX2_next_35 ?_
    refine z_istore_n O [(2, vi v4), (0, vr x0), (1, vi x1)] dX2_next_38 rfl (by decide) rfl ?_
    refine z_iload_n O 0 dX2_next_39 rfl rfl ?_
    refine z_iconst O dX2_next_40 kic_m1 ?_
    refine z_icmp_ne (tgt := 57) O dX2_next_41 (by decide) hr (fun hr => ?_) (fun hr => ?_)
    · refine z_aload_n O 1 dX2_next_44 rfl rfl ?_
      refine z_iconst O dX2_next_45 kic_0 ?_
      refine z_putI O o_Reader_token (w_Reader_token _) q384 dX2_next_46 hr (fun h13 hr => ?_)
      refine z_aload_n O 1 dX2_next_49 rfl rfl ?_
      refine z_iload_n O 2 dX2_next_50 rfl rfl ?_
      refine z_putI O o_Reader_end (w_Reader_end _) q383 dX2_next_51 hr (fun h14 hr => ?_)
      refine z_goto (tgt := 305) O dX2_next_54 (by decide) ?_
      exact z_vret O dX2_next_305 (by cases hr; rfl)
    · refine z_iload_n O 0 dX2_next_57 rfl rfl ?_
      refine bs hr (fun v5 hF hr => ?_)
      refine z_callS O [vi v4] (vi v5) fS_X2_isSmall q676 (fun l G => mX2_isSmall l G v4 h3 _ hF) rfl ⟨Nat.le_of_ble_eq_true rfl, Nat.le_of_ble_eq_true rfl⟩ (Nat.le_of_ble_eq_true rfl) dX2_next_58 ?_
      refine z_if_eq (tgt := 185) O dX2_next_61 (by decide) hr (fun hr => ?_) (fun hr => ?_)
      · refine z_iload_n O 0 dX2_next_185 rfl rfl ?_
        refine bs hr (fun v6 hF hr => ?_)
        refine z_callS O [vi v4] (vi v6) fS_X2_isDigit q759 (fun l G => mX2_isDigit l G v4 h3 _ hF) rfl ⟨Nat.le_of_ble_eq_true rfl, Nat.le_of_ble_eq_true rfl⟩ (Nat.le_of_ble_eq_true rfl) dX2_next_186 ?_
        refine z_if_eq (tgt := 284) O dX2_next_189 (by decide) hr (fun hr => ?_) (fun hr => ?_)
        · refine z_aload_n O 1 dX2_next_284 rfl rfl ?_
          refine z_iload_n O 0 dX2_next_285 rfl rfl ?_
          refine z_bipush O dX2_next_286 kbi_59 ?_
          refine z_icmp_eq (tgt := 297) O dX2_next_288 (by decide) hr (fun hr => ?_) (fun hr => ?_)
          · refine z_iload_n O 0 dX2_next_297 rfl rfl ?_
            refine z_goto (tgt := 302) O dX2_next_298 (by decide) ?_
            refine z_putI O o_Reader_token (w_Reader_token _) q384 dX2_next_302 hr (fun h7 hr => ?_)
            exact z_vret O dX2_next_305 (by cases hr; rfl)
          · refine z_iload_n O 0 dX2_next_291 rfl rfl ?_
            refine z_bipush O dX2_next_292 kbi_44 ?_
            refine z_icmp_ne (tgt := 301) O dX2_next_294 (by decide) hr (fun hr => ?_) (fun hr => ?_)
            · refine z_iload_n O 0 dX2_next_297 rfl rfl ?_
              refine z_goto (tgt := 302) O dX2_next_298 (by decide) ?_
              refine z_putI O o_Reader_token (w_Reader_token _) q384 dX2_next_302 hr (fun h9 hr => ?_)
              exact z_vret O dX2_next_305 (by cases hr; rfl)
            · refine z_iconst O dX2_next_301 kic_1 ?_
              refine z_putI O o_Reader_token (w_Reader_token _) q384 dX2_next_302 hr (fun h8 hr => ?_)
              exact z_vret O dX2_next_305 (by cases hr; rfl)
        · refine z_aload_n O 1 dX2_next_192 rfl rfl ?_
          refine z_iconst O dX2_next_193 kic_0 ?_
          refine z_putI O o_Reader_whole (w_Reader_whole _) q386 dX2_next_194 hr (fun h10 hr => ?_)
          refine z_aload_n O 1 dX2_next_197 rfl rfl ?_
          refine z_iload_n O 2 dX2_next_198 rfl rfl ?_
          refine z_putI O o_Reader_end (w_Reader_end _) q383 dX2_next_199 hr (fun h11 hr => ?_)
          refine z_sub [1, 2] rfl ?_
          exact wX2_next_202 O N x0 x1 _ h11 _ hr
      · refine z_aload_n O 1 dX2_next_64 rfl rfl ?_
        refine z_iload_n O 2 dX2_next_65 rfl rfl ?_
        refine z_putI O o_Reader_end (w_Reader_end _) q383 dX2_next_66 hr (fun h12 hr => ?_)
        refine z_sub [1, 2] rfl ?_
        exact wX2_next_69 O N x0 x1 _ h12 _ hr
theorem wX2_next_5 {K : ZC} (O : ZOk K cX2_next RX2 "next" 3 (none : Option Jvm.ClassFile.FieldType) 5 147) (N : Nat) (x0 : Option Nat) : ∀ (n : Nat) (x1 : Int32) (h : AH) (r : AH), lf (fun _ _ => none) (BX2_next_5 N x0) n x1 h = some r → Zw K (eH r) h 5 [(0, vr x0), (1, vi x1)] [] := by
  intro n
  induction n with
  | zero => intro x1 h r hr; cases hr
  | succ n ih => intro x1 h r hr; exact wX2_next_5B O N x0 (lf (fun _ _ => none) (BX2_next_5 N x0) n)  ih x1 h r hr
def F_X2_next (N : Nat) (x0 : Option Nat) (h : AH) : Option (AH) :=
  (ck h [2] x0).bind fun _ =>
  (gI h f_Reader_end x0).bind fun v1 =>
  LX2_next_5 N x0 v1 h
theorem mX2_next (l : Launch) (G : ZG) (N : Nat) (x0 : Option Nat) (h : AH) (r : AH) (hr : F_X2_next N x0 h = some r) : MZ l G yX2_next cX2_next 3 (none : Option Jvm.ClassFile.FieldType) 5 147 [vr x0] h (eH r) := by
  unfold F_X2_next at hr
  refine MZ.of (by decide) [(0, vr x0)] rfl (Nat.le_of_ble_eq_true rfl) (fun K O => ?_)
  have O : ZOk K cX2_next RX2 "next" 3 (none : Option Jvm.ClassFile.FieldType) 5 147 := O
  refine bs hr (fun _ hck hr => ?_)
  refine z_aload_n O 0 dX2_next_0 rfl rfl ?_
  refine z_getI O o_Reader_end q383 dX2_next_1 hr (fun v1 hr => ?_)
  refine z_istore_n O [(1, vi v1), (0, vr x0)] dX2_next_4 rfl (by decide) rfl ?_
  refine z_sub [1, 0] rfl ?_
  exact wX2_next_5 O N x0 _ v1 h _ hr
