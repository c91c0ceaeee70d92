set_option maxRecDepth 100000
set_option maxHeartbeats 4000000
theorem fV_X1_skin : CVf RX1 yX1_skin cX1_skin 5 (some .int) 3 := ⟨q1275, q1276, q126, q1277, ⟨⟨by decide +kernel, by decide +kernel⟩, by decide +kernel⟩⟩
def F_X1_skin (x0 : Option Nat) (x1 : Int32) (x2 : Int32) (x3 : Int32) (h : AH) : Option (Int32 × AH) :=
  (ck h [1] x0).bind fun _ =>
  (F_X1_anew x0 h).bind fun h1 =>
  (F_X1_isSkin x0 x1 x2 h1).bind fun v2 =>
  if v2 = 0 then
    b2 (F_X1_no x0 (1 : Int32) h1) fun v26 h25 =>
    some (v26, h25)
  else
    (gR h1 f_Year_village x0).bind fun v3 =>
    (F_X4_house v3 x1 h1).bind fun v4 =>
    (F_X5_skin v4 x2 h1).bind fun v5 =>
    if x3 = (0 : Int32) then
      (gR h1 f_Skin_stone v5).bind fun v14 =>
      (gI h1 f_Stone_number v14).bind fun v15 =>
      some (v15, h1)
    else if x3 = (1 : Int32) then
      (gI h1 f_Skin_side v5).bind fun v16 =>
      some (v16, h1)
    else if x3 = (2 : Int32) then
      (gI h1 f_Skin_on v5).bind fun v17 =>
      some (v17, h1)
    else if x3 = (3 : Int32) then
      (gI h1 f_Skin_lock v5).bind fun v18 =>
      some (v18, h1)
    else if x3 = (4 : Int32) then
      (gI h1 f_Skin_rot v5).bind fun v19 =>
      some (v19, h1)
    else if x3 = (5 : Int32) then
      (gI h1 f_Skin_collapsed v5).bind fun v20 =>
      if v20 = 0 then
        some ((0 : Int32), h1)
      else
        some ((1 : Int32), h1)
    else if x3 = (6 : Int32) then
      (gI h1 f_Skin_filled v5).bind fun v21 =>
      if v21 = 0 then
        some ((0 : Int32), h1)
      else
        some ((1 : Int32), h1)
    else if x3 = (7 : Int32) then
      (gI h1 f_Skin_built v5).bind fun v22 =>
      some (v22, h1)
    else 
      b2 (F_X1_no x0 (1 : Int32) h1) fun v24 h23 =>
      some (v24, h23)
theorem mX1_skin (l : Launch) (G : ZG) (x0 : Option Nat) (x1 : Int32) (x2 : Int32) (x3 : Int32) (h : AH) (r : Int32 × AH) (hr : F_X1_skin x0 x1 x2 x3 h = some r) : MZ l G yX1_skin cX1_skin 5 (some .int) 5 135 [vr x0, vi x1, vi x2, vi x3] h (eIH r) := by
  unfold F_X1_skin at hr
  refine MZ.of (by decide) [(0, vr x0), (1, vi x1), (2, vi x2), (3, vi x3)] rfl (Nat.le_of_ble_eq_true rfl) (fun K O => ?_)
  have O : ZOk K cX1_skin RX1 "skin" 5 (some .int) 5 135 := O
  refine bs hr (fun _ hck hr => ?_)
  refine z_aload_n O 0 dX1_skin_0 rfl rfl ?_
  refine bs hr (fun h1 hF hr => ?_)
  refine z_callVv O [] fV_X1_anew q528 (fun l G => mX1_anew l G x0 h _ hF) (zck hF) rfl rfl ⟨Nat.le_of_ble_eq_true rfl, Nat.le_of_ble_eq_true rfl⟩ (Nat.le_of_ble_eq_true rfl) dX1_skin_1 ?_
  refine z_aload_n O 0 dX1_skin_4 rfl rfl ?_
  refine z_iload_n O 1 dX1_skin_5 rfl rfl ?_
  refine z_iload_n O 2 dX1_skin_6 rfl rfl ?_
  refine bs hr (fun v2 hF hr => ?_)
  refine z_callV O [vi x1, vi x2] (vi v2) fV_X1_isSkin q1278 (fun l G => mX1_isSkin l G x0 x1 x2 h1 _ hF) (zck hF) rfl rfl ⟨Nat.le_of_ble_eq_true rfl, Nat.le_of_ble_eq_true rfl⟩ (Nat.le_of_ble_eq_true rfl) dX1_skin_7 ?_
  refine z_if_ne (tgt := 19) O dX1_skin_10 (by decide) hr (fun hr => ?_) (fun hr => ?_)
  · refine z_aload_n O 0 dX1_skin_13 rfl rfl ?_
    refine z_iconst O dX1_skin_14 kic_1 ?_
    refine b2s hr (fun v26 h25 hF hr => ?_)
    refine z_callV O [vi (1 : Int32)] (vi v26) fV_X1_no q535 (fun l G => mX1_no l G x0 (1 : Int32) h1 _ hF) (zck hF) rfl rfl ⟨Nat.le_of_ble_eq_true rfl, Nat.le_of_ble_eq_true rfl⟩ (Nat.le_of_ble_eq_true rfl) dX1_skin_15 ?_
    exact z_iret O dX1_skin_18 (by cases hr; rfl)
  · refine z_aload_n O 0 dX1_skin_19 rfl rfl ?_
    refine z_getR O o_Year_village q469 dX1_skin_20 hr (fun v3 hr => ?_)
    refine z_iload_n O 1 dX1_skin_23 rfl rfl ?_
    refine bs hr (fun v4 hF hr => ?_)
    refine z_callV O [vi x1] (vr v4) fV_X4_house q1249 (fun l G => mX4_house l G v3 x1 h1 _ hF) (zck hF) rfl rfl ⟨Nat.le_of_ble_eq_true rfl, Nat.le_of_ble_eq_true rfl⟩ (Nat.le_of_ble_eq_true rfl) dX1_skin_24 ?_
    refine z_iload_n O 2 dX1_skin_27 rfl rfl ?_
    refine bs hr (fun v5 hF hr => ?_)
    refine z_callV O [vi x2] (vr v5) fV_X5_skin q1286 (fun l G => mX5_skin l G v4 x2 h1 _ hF) (zck hF) rfl rfl ⟨Nat.le_of_ble_eq_true rfl, Nat.le_of_ble_eq_true rfl⟩ (Nat.le_of_ble_eq_true rfl) dX1_skin_28 ?_
    refine z_astore O [(4, vr v5), (0, vr x0), (1, vi x1), (2, vi x2), (3, vi x3)] dX1_skin_31 (by decide) rfl ?_
    refine z_iload_n O 4 dX1_skin_33 rfl rfl ?_
    refine zite hr (fun c6 hr => ?_) (fun c6 hr => ?_)
    · refine z_tabIn (v := (0 : Int32)) (off := 46) (tgt := 80) O dX1_skin_34 c6 (by decide) (by decide +kernel) (by decide) ?_
      refine z_aload O 0 dX1_skin_80 rfl ?_
      refine z_getR O o_Skin_stone q267 dX1_skin_82 hr (fun v14 hr => ?_)
      refine z_getI O o_Stone_number q958 dX1_skin_85 hr (fun v15 hr => ?_)
      exact z_iret O dX1_skin_88 (by cases hr; rfl)
    refine zite hr (fun c7 hr => ?_) (fun c7 hr => ?_)
    · refine z_tabIn (v := (1 : Int32)) (off := 55) (tgt := 89) O dX1_skin_34 c7 (by decide) (by decide +kernel) (by decide) ?_
      refine z_aload O 0 dX1_skin_89 rfl ?_
      refine z_getI O o_Skin_side q270 dX1_skin_91 hr (fun v16 hr => ?_)
      exact z_iret O dX1_skin_94 (by cases hr; rfl)
    refine zite hr (fun c8 hr => ?_) (fun c8 hr => ?_)
    · refine z_tabIn (v := (2 : Int32)) (off := 61) (tgt := 95) O dX1_skin_34 c8 (by decide) (by decide +kernel) (by decide) ?_
      refine z_aload O 0 dX1_skin_95 rfl ?_
      refine z_getI O o_Skin_on q273 dX1_skin_97 hr (fun v17 hr => ?_)
      exact z_iret O dX1_skin_100 (by cases hr; rfl)
    refine zite hr (fun c9 hr => ?_) (fun c9 hr => ?_)
    · refine z_tabIn (v := (3 : Int32)) (off := 67) (tgt := 101) O dX1_skin_34 c9 (by decide) (by decide +kernel) (by decide) ?_
      refine z_aload O 0 dX1_skin_101 rfl ?_
      refine z_getI O o_Skin_lock q276 dX1_skin_103 hr (fun v18 hr => ?_)
      exact z_iret O dX1_skin_106 (by cases hr; rfl)
    refine zite hr (fun c10 hr => ?_) (fun c10 hr => ?_)
    · refine z_tabIn (v := (4 : Int32)) (off := 73) (tgt := 107) O dX1_skin_34 c10 (by decide) (by decide +kernel) (by decide) ?_
      refine z_aload O 0 dX1_skin_107 rfl ?_
      refine z_getI O o_Skin_rot q279 dX1_skin_109 hr (fun v19 hr => ?_)
      exact z_iret O dX1_skin_112 (by cases hr; rfl)
    refine zite hr (fun c11 hr => ?_) (fun c11 hr => ?_)
    · refine z_tabIn (v := (5 : Int32)) (off := 79) (tgt := 113) O dX1_skin_34 c11 (by decide) (by decide +kernel) (by decide) ?_
      refine z_aload O 0 dX1_skin_113 rfl ?_
      refine z_getI O o_Skin_collapsed q285 dX1_skin_115 hr (fun v20 hr => ?_)
      refine z_if_eq (tgt := 125) O dX1_skin_118 (by decide) hr (fun hr => ?_) (fun hr => ?_)
      · refine z_iconst O dX1_skin_125 kic_0 ?_
        exact z_iret O dX1_skin_126 (by cases hr; rfl)
      · refine z_iconst O dX1_skin_121 kic_1 ?_
        refine z_goto (tgt := 126) O dX1_skin_122 (by decide) ?_
        exact z_iret O dX1_skin_126 (by cases hr; rfl)
    refine zite hr (fun c12 hr => ?_) (fun c12 hr => ?_)
    · refine z_tabIn (v := (6 : Int32)) (off := 93) (tgt := 127) O dX1_skin_34 c12 (by decide) (by decide +kernel) (by decide) ?_
      refine z_aload O 0 dX1_skin_127 rfl ?_
      refine z_getI O o_Skin_filled q288 dX1_skin_129 hr (fun v21 hr => ?_)
      refine z_if_eq (tgt := 139) O dX1_skin_132 (by decide) hr (fun hr => ?_) (fun hr => ?_)
      · refine z_iconst O dX1_skin_139 kic_0 ?_
        exact z_iret O dX1_skin_140 (by cases hr; rfl)
      · refine z_iconst O dX1_skin_135 kic_1 ?_
        refine z_goto (tgt := 140) O dX1_skin_136 (by decide) ?_
        exact z_iret O dX1_skin_140 (by cases hr; rfl)
    refine zite hr (fun c13 hr => ?_) (fun c13 hr => ?_)
    · refine z_tabIn (v := (7 : Int32)) (off := 107) (tgt := 141) O dX1_skin_34 c13 (by decide) (by decide +kernel) (by decide) ?_
      refine z_aload O 0 dX1_skin_141 rfl ?_
      refine z_getI O o_Skin_built q282 dX1_skin_143 hr (fun v22 hr => ?_)
      exact z_iret O dX1_skin_146 (by cases hr; rfl)
    refine z_tabOut (tgt := 147) O dX1_skin_34 (zt_out 8 (by decide) (lt_s (p := fun j : Nat => ¬ x3.toInt = (0 : Int) + (j : Int)) (lt_s (p := fun j : Nat => ¬ x3.toInt = (0 : Int) + (j : Int)) (lt_s (p := fun j : Nat => ¬ x3.toInt = (0 : Int) + (j : Int)) (lt_s (p := fun j : Nat => ¬ x3.toInt = (0 : Int) + (j : Int)) (lt_s (p := fun j : Nat => ¬ x3.toInt = (0 : Int) + (j : Int)) (lt_s (p := fun j : Nat => ¬ x3.toInt = (0 : Int) + (j : Int)) (lt_s (p := fun j : Nat => ¬ x3.toInt = (0 : Int) + (j : Int)) (lt_s (p := fun j : Nat => ¬ x3.toInt = (0 : Int) + (j : Int)) lt_0 (lv_neT c6 (by decide))) (lv_neT c7 (by decide))) (lv_neT c8 (by decide))) (lv_neT c9 (by decide))) (lv_neT c10 (by decide))) (lv_neT c11 (by decide))) (lv_neT c12 (by decide))) (lv_neT c13 (by decide)))) (by decide) ?_
    refine z_aload_n O 1 dX1_skin_147 rfl rfl ?_
    refine z_iconst O dX1_skin_148 kic_1 ?_
    refine b2s hr (fun v24 h23 hF hr => ?_)
    refine z_callV O [vi (1 : Int32)] (vi v24) fV_X1_no q535 (fun l G => mX1_no l G x0 (1 : Int32) h1 _ hF) (zck hF) rfl rfl ⟨Nat.le_of_ble_eq_true rfl, Nat.le_of_ble_eq_true rfl⟩ (Nat.le_of_ble_eq_true rfl) dX1_skin_149 ?_
    exact z_iret O dX1_skin_152 (by cases hr; rfl)
theorem fV_X1_skinsIn : CVf RX1 yX1_skinsIn cX1_skinsIn 3 (some .int) 1 := ⟨q1494, q1495, q126, q1496, ⟨⟨by decide +kernel, by decide +kernel⟩, by decide +kernel⟩⟩
def F_X1_skinsIn (N : Nat) (x0 : Option Nat) (x1 : Int32) (h : AH) : Option (Int32 × AH) :=
  (ck h [1] x0).bind fun _ =>
  (F_X1_anew x0 h).bind fun h1 =>
  (gR h1 f_Year_land x0).bind fun v2 =>
  if v2 = none then
    b2 (F_X1_no x0 (1 : Int32) h1) fun v10 h9 =>
    some (v10, h9)
  else
    b2 (F_X1_inWhy N x0 x1 h1) fun v4 h3 =>
    if v4 = 0 then
      (gR h3 f_Year_trial x0).bind fun v5 =>
      (F_X4_skins N v5 h3).bind fun v6 =>
      some (v6, h3)
    else
      b2 (F_X1_no x0 v4 h3) fun v8 h7 =>
      some (v8, h7)
theorem mX1_skinsIn (l : Launch) (G : ZG) (N : Nat) (x0 : Option Nat) (x1 : Int32) (h : AH) (r : Int32 × AH) (hr : F_X1_skinsIn N x0 x1 h = some r) : MZ l G yX1_skinsIn cX1_skinsIn 3 (some .int) 12 300 [vr x0, vi x1] h (eIH r) := by
  unfold F_X1_skinsIn at hr
  refine MZ.of (by decide) [(0, vr x0), (1, vi x1)] rfl (Nat.le_of_ble_eq_true rfl) (fun K O => ?_)
  have O : ZOk K cX1_skinsIn RX1 "skinsIn" 3 (some .int) 12 300 := O
  refine bs hr (fun _ hck hr => ?_)
  refine z_aload_n O 0 dX1_skinsIn_0 rfl rfl ?_
  refine bs hr (fun h1 hF hr => ?_)
  refine z_callVv O [] fV_X1_anew q528 (fun l G => mX1_anew l G x0 h _ hF) (zck hF) rfl rfl ⟨Nat.le_of_ble_eq_true rfl, Nat.le_of_ble_eq_true rfl⟩ (Nat.le_of_ble_eq_true rfl) dX1_skinsIn_1 ?_
  refine z_aload_n O 0 dX1_skinsIn_4 rfl rfl ?_
  refine z_getR O o_Year_land q463 dX1_skinsIn_5 hr (fun v2 hr => ?_)
  refine z_ifnonnull (tgt := 17) O dX1_skinsIn_8 (by decide) hr (fun hr => ?_) (fun hr => ?_)
  · refine z_aload_n O 0 dX1_skinsIn_11 rfl rfl ?_
    refine z_iconst O dX1_skinsIn_12 kic_1 ?_
    refine b2s hr (fun v10 h9 hF hr => ?_)
    refine z_callV O [vi (1 : Int32)] (vi v10) fV_X1_no q535 (fun l G => mX1_no l G x0 (1 : Int32) h1 _ hF) (zck hF) rfl rfl ⟨Nat.le_of_ble_eq_true rfl, Nat.le_of_ble_eq_true rfl⟩ (Nat.le_of_ble_eq_true rfl) dX1_skinsIn_13 ?_
    exact z_iret O dX1_skinsIn_16 (by cases hr; rfl)
  · refine z_aload_n O 0 dX1_skinsIn_17 rfl rfl ?_
    refine z_iload_n O 1 dX1_skinsIn_18 rfl rfl ?_
    refine b2s hr (fun v4 h3 hF hr => ?_)
    refine z_callV O [vi x1] (vi v4) fV_X1_inWhy q1435 (fun l G => mX1_inWhy l G N x0 x1 h1 _ hF) (zck hF) rfl rfl ⟨Nat.le_of_ble_eq_true rfl, Nat.le_of_ble_eq_true rfl⟩ (Nat.le_of_ble_eq_true rfl) dX1_skinsIn_19 ?_
    refine z_istore_n O [(2, vi v4), (0, vr x0), (1, vi x1)] dX1_skinsIn_22 rfl (by decide) rfl ?_
    refine z_iload_n O 0 dX1_skinsIn_23 rfl rfl ?_
    refine z_if_eq (tgt := 35) O dX1_skinsIn_24 (by decide) hr (fun hr => ?_) (fun hr => ?_)
    · refine z_aload_n O 1 dX1_skinsIn_35 rfl rfl ?_
      refine z_getR O o_Year_trial q471 dX1_skinsIn_36 hr (fun v5 hr => ?_)
      refine bs hr (fun v6 hF hr => ?_)
      refine z_callV O [] (vi v6) fV_X4_skins q1497 (fun l G => mX4_skins l G N v5 h3 _ hF) (zck hF) rfl rfl ⟨Nat.le_of_ble_eq_true rfl, Nat.le_of_ble_eq_true rfl⟩ (Nat.le_of_ble_eq_true rfl) dX1_skinsIn_39 ?_
      exact z_iret O dX1_skinsIn_42 (by cases hr; rfl)
    · refine z_aload_n O 1 dX1_skinsIn_27 rfl rfl ?_
      refine z_iload_n O 0 dX1_skinsIn_28 rfl rfl ?_
      refine b2s hr (fun v8 h7 hF hr => ?_)
      refine z_callV O [vi v4] (vi v8) fV_X1_no q535 (fun l G => mX1_no l G x0 v4 h3 _ hF) (zck hF) rfl rfl ⟨Nat.le_of_ble_eq_true rfl, Nat.le_of_ble_eq_true rfl⟩ (Nat.le_of_ble_eq_true rfl) dX1_skinsIn_29 ?_
      refine z_goto (tgt := 42) O dX1_skinsIn_32 (by decide) ?_
      exact z_iret O dX1_skinsIn_42 (by cases hr; rfl)
theorem fV_X8_soonest : CVf RX8 yX8_soonest cX8_soonest 2 (some .int) 1 := ⟨q1620, q1621, q136, q1622, ⟨⟨by decide +kernel, by decide +kernel⟩, by decide +kernel⟩⟩
def F_X8_soonest (x0 : Option Nat) (x1 : Int32) (h : AH) : Option (Int32) :=
  (ck h [8] x0).bind fun _ =>
  (gR h f_Orders_soonest x0).bind fun v1 =>
  (aI h 0 v1 x1).bind fun v2 =>
  some v2
theorem mX8_soonest (l : Launch) (G : ZG) (x0 : Option Nat) (x1 : Int32) (h : AH) (r : Int32) (hr : F_X8_soonest x0 x1 h = some r) : MZ l G yX8_soonest cX8_soonest 2 (some .int) 1 48 [vr x0, vi x1] h (eI h r) := by
  unfold F_X8_soonest at hr
  refine MZ.of (by decide) [(0, vr x0), (1, vi x1)] rfl (Nat.le_of_ble_eq_true rfl) (fun K O => ?_)
  have O : ZOk K cX8_soonest RX8 "soonest" 2 (some .int) 1 48 := O
  refine bs hr (fun _ hck hr => ?_)
  refine z_aload_n O 0 dX8_soonest_0 rfl rfl ?_
  refine z_getR O o_Orders_soonest q438 dX8_soonest_1 hr (fun v1 hr => ?_)
  refine z_iload_n O 1 dX8_soonest_4 rfl rfl ?_
  refine z_iaload O dX8_soonest_5 hr (fun v2 hr => ?_)
  exact z_iret O dX8_soonest_6 (by cases hr; rfl)
theorem fV_X1_soonest : CVf RX1 yX1_soonest cX1_soonest 2 (some .int) 1 := ⟨q1616, q1617, q126, q1618, ⟨⟨by decide +kernel, by decide +kernel⟩, by decide +kernel⟩⟩
def F_X1_soonest (N : Nat) (x0 : Option Nat) (x1 : Int32) (h : AH) : Option (Int32 × AH) :=
  (ck h [1] x0).bind fun _ =>
  (F_X1_anew x0 h).bind fun h1 =>
  (F_X1_isWall x0 x1 h1).bind fun v2 =>
  if v2 = 0 then
    b2 (F_X1_no x0 (1 : Int32) h1) fun v7 h6 =>
    some (v7, h6)
  else
    (F_X1_layOrders N x0 h1).bind fun h3 =>
    (gR h3 f_Year_orders x0).bind fun v4 =>
    (F_X8_soonest v4 x1 h3).bind fun v5 =>
    some (v5, h3)
theorem mX1_soonest (l : Launch) (G : ZG) (N : Nat) (x0 : Option Nat) (x1 : Int32) (h : AH) (r : Int32 × AH) (hr : F_X1_soonest N x0 x1 h = some r) : MZ l G yX1_soonest cX1_soonest 2 (some .int) 15 367 [vr x0, vi x1] h (eIH r) := by
  unfold F_X1_soonest at hr
  refine MZ.of (by decide) [(0, vr x0), (1, vi x1)] rfl (Nat.le_of_ble_eq_true rfl) (fun K O => ?_)
  have O : ZOk K cX1_soonest RX1 "soonest" 2 (some .int) 15 367 := O
  refine bs hr (fun _ hck hr => ?_)
  refine z_aload_n O 0 dX1_soonest_0 rfl rfl ?_
  refine bs hr (fun h1 hF hr => ?_)
  refine z_callVv O [] fV_X1_anew q528 (fun l G => mX1_anew l G x0 h _ hF) (zck hF) rfl rfl ⟨Nat.le_of_ble_eq_true rfl, Nat.le_of_ble_eq_true rfl⟩ (Nat.le_of_ble_eq_true rfl) dX1_soonest_1 ?_
  refine z_aload_n O 0 dX1_soonest_4 rfl rfl ?_
  refine z_iload_n O 1 dX1_soonest_5 rfl rfl ?_
  refine bs hr (fun v2 hF hr => ?_)
  refine z_callV O [vi x1] (vi v2) fV_X1_isWall q1607 (fun l G => mX1_isWall l G x0 x1 h1 _ hF) (zck hF) rfl rfl ⟨Nat.le_of_ble_eq_true rfl, Nat.le_of_ble_eq_true rfl⟩ (Nat.le_of_ble_eq_true rfl) dX1_soonest_6 ?_
  refine z_if_ne (tgt := 18) O dX1_soonest_9 (by decide) hr (fun hr => ?_) (fun hr => ?_)
  · refine z_aload_n O 0 dX1_soonest_12 rfl rfl ?_
    refine z_iconst O dX1_soonest_13 kic_1 ?_
    refine b2s hr (fun v7 h6 hF hr => ?_)
    refine z_callV O [vi (1 : Int32)] (vi v7) fV_X1_no q535 (fun l G => mX1_no l G x0 (1 : Int32) h1 _ hF) (zck hF) rfl rfl ⟨Nat.le_of_ble_eq_true rfl, Nat.le_of_ble_eq_true rfl⟩ (Nat.le_of_ble_eq_true rfl) dX1_soonest_14 ?_
    exact z_iret O dX1_soonest_17 (by cases hr; rfl)
  · refine z_aload_n O 0 dX1_soonest_18 rfl rfl ?_
    refine bs hr (fun h3 hF hr => ?_)
    refine z_callVv O [] fV_X1_layOrders q1569 (fun l G => mX1_layOrders l G N x0 h1 _ hF) (zck hF) rfl rfl ⟨Nat.le_of_ble_eq_true rfl, Nat.le_of_ble_eq_true rfl⟩ (Nat.le_of_ble_eq_true rfl) dX1_soonest_19 ?_
    refine z_aload_n O 0 dX1_soonest_22 rfl rfl ?_
    refine z_getR O o_Year_orders q473 dX1_soonest_23 hr (fun v4 hr => ?_)
    refine z_iload_n O 1 dX1_soonest_26 rfl rfl ?_
    refine bs hr (fun v5 hF hr => ?_)
    refine z_callV O [vi x1] (vi v5) fV_X8_soonest q1619 (fun l G => mX8_soonest l G v4 x1 h3 _ hF) (zck hF) rfl rfl ⟨Nat.le_of_ble_eq_true rfl, Nat.le_of_ble_eq_true rfl⟩ (Nat.le_of_ble_eq_true rfl) dX1_soonest_27 ?_
    exact z_iret O dX1_soonest_30 (by cases hr; rfl)
def F_X13_kind (x0 : Option Nat) (h : AH) : Option (Int32) :=
  (ck h [13] x0).bind fun _ =>
  some (0 : Int32)
theorem mX13_kind (l : Launch) (G : ZG) (x0 : Option Nat) (h : AH) (r : Int32) (hr : F_X13_kind x0 h = some r) : MZ l G yX13_kind cX13_kind 1 (some .int) 1 48 [vr x0] h (eI h r) := by
  unfold F_X13_kind at hr
  refine MZ.of (by decide) [(0, vr x0)] rfl (Nat.le_of_ble_eq_true rfl) (fun K O => ?_)
  have O : ZOk K cX13_kind RX13 "kind" 1 (some .int) 1 48 := O
  refine bs hr (fun _ hck hr => ?_)
  refine z_iconst O dX13_kind_0 kic_0 ?_
  exact z_iret O dX13_kind_1 (by cases hr; rfl)
def F_X14_kind (x0 : Option Nat) (h : AH) : Option (Int32) :=
  (ck h [14] x0).bind fun _ =>
  some (1 : Int32)
theorem mX14_kind (l : Launch) (G : ZG) (x0 : Option Nat) (h : AH) (r : Int32) (hr : F_X14_kind x0 h = some r) : MZ l G yX14_kind cX14_kind 1 (some .int) 1 48 [vr x0] h (eI h r) := by
  unfold F_X14_kind at hr
  refine MZ.of (by decide) [(0, vr x0)] rfl (Nat.le_of_ble_eq_true rfl) (fun K O => ?_)
  have O : ZOk K cX14_kind RX14 "kind" 1 (some .int) 1 48 := O
  refine bs hr (fun _ hck hr => ?_)
  refine z_iconst O dX14_kind_0 kic_1 ?_
  exact z_iret O dX14_kind_1 (by cases hr; rfl)
def F_X15_kind (x0 : Option Nat) (h : AH) : Option (Int32) :=
  (ck h [15] x0).bind fun _ =>
  some (2 : Int32)
theorem mX15_kind (l : Launch) (G : ZG) (x0 : Option Nat) (h : AH) (r : Int32) (hr : F_X15_kind x0 h = some r) : MZ l G yX15_kind cX15_kind 1 (some .int) 1 48 [vr x0] h (eI h r) := by
  unfold F_X15_kind at hr
  refine MZ.of (by decide) [(0, vr x0)] rfl (Nat.le_of_ble_eq_true rfl) (fun K O => ?_)
  have O : ZOk K cX15_kind RX15 "kind" 1 (some .int) 1 48 := O
  refine bs hr (fun _ hck hr => ?_)
  refine z_iconst O dX15_kind_0 kic_2 ?_
  exact z_iret O dX15_kind_1 (by cases hr; rfl)
def D_kind (x : Option Nat) (h : AH) : Option Int32 := (tg h x).bind fun c => if c = 13 then F_X13_kind x h else if c = 14 then F_X14_kind x h else if c = 15 then F_X15_kind x h else none
theorem z_D_kind {K : ZC} {cc : ByteArray} {own nm : String} {nL : Nat} {ret : Option FieldType} {fr lc : Nat} (O : ZOk K cc own nm nL ret fr lc) {z : ZT} {h : AH} {pc : Nat} {lv : List (Nat × ZV)} {rest : List ZV} {index : Nat} {x : Option Nat} {v : Int32} (hl : Cond.methodLink own index ⟨"YearSkins$Stone", "kind", "()I"⟩ ∈ lw_all) (hF : D_kind x h = some v) (hR : 2 ≤ fr ∧ 68 ≤ lc) (hrest : (rest.map zcat).sum ≤ 8) (hd : decode cc pc = .ok (.invokevirtual index, 3)) (k : Zw K z h (pc + 3) lv (vi v :: rest)) : Zw K z h pc lv (vr x :: rest) := by
  unfold D_kind at hF
  refine bs hF (fun c hc hF2 => ?_)
  have hyx : YK ⟨"YearSkins$Stone", "kind", "()I"⟩ 0 := ⟨⟨by decide +kernel, by decide +kernel⟩, by decide +kernel⟩
  refine zite hF2 (fun e hF3 => ?_) (fun e hF13 => ?_)
  · subst e
    exact z_callU O [] (vi v) hl q1709 (Or.inr zn1708) hyx q1710 q1711 q146 q1712 (fun l G => mX13_kind l G x h _ hF3) hc rfl rfl ⟨by have := hR.1; omega, by have := hR.2; omega⟩ hrest hd k
  refine zite hF13 (fun e hF3 => ?_) (fun e hF14 => ?_)
  · subst e
    exact z_callU O [] (vi v) hl q1709 (Or.inr zn1708) hyx q1713 q1714 q147 q1715 (fun l G => mX14_kind l G x h _ hF3) hc rfl rfl ⟨by have := hR.1; omega, by have := hR.2; omega⟩ hrest hd k
  refine zite hF14 (fun e hF3 => ?_) (fun e hF15 => ?_)
  · subst e
    exact z_callU O [] (vi v) hl q1709 (Or.inr zn1708) hyx q1716 q1717 q148 q1718 (fun l G => mX15_kind l G x h _ hF3) hc rfl rfl ⟨by have := hR.1; omega, by have := hR.2; omega⟩ hrest hd k
  cases hF15
theorem fV_X1_stone : CVf RX1 yX1_stone cX1_stone 4 (some .int) 2 := ⟨q1704, q1705, q126, q1706, ⟨⟨by decide +kernel, by decide +kernel⟩, by decide +kernel⟩⟩
def F_X1_stone (x0 : Option Nat) (x1 : Int32) (x2 : Int32) (h : AH) : Option (Int32 × AH) :=
  (ck h [1] x0).bind fun _ =>
  (F_X1_anew x0 h).bind fun h1 =>
  (F_X1_isStone x0 x1 h1).bind fun v2 =>
  if v2 = 0 then
    b2 (F_X1_no x0 (1 : Int32) h1) fun v19 h18 =>
    some (v19, h18)
  else
    (gR h1 f_Year_land x0).bind fun v3 =>
    (gR h1 f_Land_stones v3).bind fun v4 =>
    (aR h1 v4 x1).bind fun v5 =>
    if x2 = (0 : Int32) then
      (D_kind v5 h1).bind fun v11 =>
      some (v11, h1)
    else if x2 = (1 : Int32) then
      (gI h1 f_Stone_costs v5).bind fun v12 =>
      some (v12, h1)
    else if x2 = (2 : Int32) then
      (gI h1 f_Stone_warm v5).bind fun v13 =>
      some (v13, h1)
    else if x2 = (3 : Int32) then
      (gI h1 f_Stone_rots v5).bind fun v14 =>
      some (v14, h1)
    else if x2 = (4 : Int32) then
      (gI h1 f_Stone_strong v5).bind fun v15 =>
      some (v15, h1)
    else 
      b2 (F_X1_no x0 (1 : Int32) h1) fun v17 h16 =>
      some (v17, h16)
theorem mX1_stone (l : Launch) (G : ZG) (x0 : Option Nat) (x1 : Int32) (x2 : Int32) (h : AH) (r : Int32 × AH) (hr : F_X1_stone x0 x1 x2 h = some r) : MZ l G yX1_stone cX1_stone 4 (some .int) 3 91 [vr x0, vi x1, vi x2] h (eIH r) := by
  unfold F_X1_stone at hr
  refine MZ.of (by decide) [(0, vr x0), (1, vi x1), (2, vi x2)] rfl (Nat.le_of_ble_eq_true rfl) (fun K O => ?_)
  have O : ZOk K cX1_stone RX1 "stone" 4 (some .int) 3 91 := O
  refine bs hr (fun _ hck hr => ?_)
  refine z_aload_n O 0 dX1_stone_0 rfl rfl ?_
  refine bs hr (fun h1 hF hr => ?_)
  refine z_callVv O [] fV_X1_anew q528 (fun l G => mX1_anew l G x0 h _ hF) (zck hF) rfl rfl ⟨Nat.le_of_ble_eq_true rfl, Nat.le_of_ble_eq_true rfl⟩ (Nat.le_of_ble_eq_true rfl) dX1_stone_1 ?_
  refine z_aload_n O 0 dX1_stone_4 rfl rfl ?_
  refine z_iload_n O 1 dX1_stone_5 rfl rfl ?_
  refine bs hr (fun v2 hF hr => ?_)
  refine z_callV O [vi x1] (vi v2) fV_X1_isStone q1353 (fun l G => mX1_isStone l G x0 x1 h1 _ hF) (zck hF) rfl rfl ⟨Nat.le_of_ble_eq_true rfl, Nat.le_of_ble_eq_true rfl⟩ (Nat.le_of_ble_eq_true rfl) dX1_stone_6 ?_
  refine z_if_ne (tgt := 18) O dX1_stone_9 (by decide) hr (fun hr => ?_) (fun hr => ?_)
  · refine z_aload_n O 0 dX1_stone_12 rfl rfl ?_
    refine z_iconst O dX1_stone_13 kic_1 ?_
    refine b2s hr (fun v19 h18 hF hr => ?_)
    refine z_callV O [vi (1 : Int32)] (vi v19) fV_X1_no q535 (fun l G => mX1_no l G x0 (1 : Int32) h1 _ hF) (zck hF) rfl rfl ⟨Nat.le_of_ble_eq_true rfl, Nat.le_of_ble_eq_true rfl⟩ (Nat.le_of_ble_eq_true rfl) dX1_stone_14 ?_
    exact z_iret O dX1_stone_17 (by cases hr; rfl)
  · refine z_aload_n O 0 dX1_stone_18 rfl rfl ?_
    refine z_getR O o_Year_land q463 dX1_stone_19 hr (fun v3 hr => ?_)
    refine z_getR O o_Land_stones q569 dX1_stone_22 hr (fun v4 hr => ?_)
    refine z_iload_n O 1 dX1_stone_25 rfl rfl ?_
    refine z_aaload O dX1_stone_26 hr (fun v5 hr => ?_)
    refine z_astore_n O [(3, vr v5), (0, vr x0), (1, vi x1), (2, vi x2)] dX1_stone_27 rfl (by decide) rfl ?_
    refine z_iload_n O 3 dX1_stone_28 rfl rfl ?_
    refine zite hr (fun c6 hr => ?_) (fun c6 hr => ?_)
    · refine z_tabIn (v := (0 : Int32)) (off := 35) (tgt := 64) O dX1_stone_29 c6 (by decide) (by decide +kernel) (by decide) ?_
      refine z_aload_n O 0 dX1_stone_64 rfl rfl ?_
      refine bs hr (fun v11 hF hr => ?_)
      refine z_D_kind O q1707 hF ⟨Nat.le_of_ble_eq_true rfl, Nat.le_of_ble_eq_true rfl⟩ (Nat.le_of_ble_eq_true rfl) dX1_stone_65 ?_
      exact z_iret O dX1_stone_68 (by cases hr; rfl)
    refine zite hr (fun c7 hr => ?_) (fun c7 hr => ?_)
    · refine z_tabIn (v := (1 : Int32)) (off := 40) (tgt := 69) O dX1_stone_29 c7 (by decide) (by decide +kernel) (by decide) ?_
      refine z_aload_n O 0 dX1_stone_69 rfl rfl ?_
      refine z_getI O o_Stone_costs q944 dX1_stone_70 hr (fun v12 hr => ?_)
      exact z_iret O dX1_stone_73 (by cases hr; rfl)
    refine zite hr (fun c8 hr => ?_) (fun c8 hr => ?_)
    · refine z_tabIn (v := (2 : Int32)) (off := 45) (tgt := 74) O dX1_stone_29 c8 (by decide) (by decide +kernel) (by decide) ?_
      refine z_aload_n O 0 dX1_stone_74 rfl rfl ?_
      refine z_getI O o_Stone_warm q947 dX1_stone_75 hr (fun v13 hr => ?_)
      exact z_iret O dX1_stone_78 (by cases hr; rfl)
    refine zite hr (fun c9 hr => ?_) (fun c9 hr => ?_)
    · refine z_tabIn (v := (3 : Int32)) (off := 50) (tgt := 79) O dX1_stone_29 c9 (by decide) (by decide +kernel) (by decide) ?_
      refine z_aload_n O 0 dX1_stone_79 rfl rfl ?_
      refine z_getI O o_Stone_rots q950 dX1_stone_80 hr (fun v14 hr => ?_)
      exact z_iret O dX1_stone_83 (by cases hr; rfl)
    refine zite hr (fun c10 hr => ?_) (fun c10 hr => ?_)
    · refine z_tabIn (v := (4 : Int32)) (off := 55) (tgt := 84) O dX1_stone_29 c10 (by decide) (by decide +kernel) (by decide) ?_
      refine z_aload_n O 0 dX1_stone_84 rfl rfl ?_
      refine z_getI O o_Stone_strong q954 dX1_stone_85 hr (fun v15 hr => ?_)
      exact z_iret O dX1_stone_88 (by cases hr; rfl)
    refine z_tabOut (tgt := 89) O dX1_stone_29 (zt_out 5 (by decide) (lt_s (p := fun j : Nat => ¬ x2.toInt = (0 : Int) + (j : Int)) (lt_s (p := fun j : Nat => ¬ x2.toInt = (0 : Int) + (j : Int)) (lt_s (p := fun j : Nat => ¬ x2.toInt = (0 : Int) + (j : Int)) (lt_s (p := fun j : Nat => ¬ x2.toInt = (0 : Int) + (j : Int)) (lt_s (p := fun j : Nat => ¬ x2.toInt = (0 : Int) + (j : Int)) lt_0 (lv_neT c6 (by decide))) (lv_neT c7 (by decide))) (lv_neT c8 (by decide))) (lv_neT c9 (by decide))) (lv_neT c10 (by decide)))) (by decide) ?_
    refine z_aload_n O 1 dX1_stone_89 rfl rfl ?_
    refine z_iconst O dX1_stone_90 kic_1 ?_
    refine b2s hr (fun v17 h16 hF hr => ?_)
    refine z_callV O [vi (1 : Int32)] (vi v17) fV_X1_no q535 (fun l G => mX1_no l G x0 (1 : Int32) h1 _ hF) (zck hF) rfl rfl ⟨Nat.le_of_ble_eq_true rfl, Nat.le_of_ble_eq_true rfl⟩ (Nat.le_of_ble_eq_true rfl) dX1_stone_91 ?_
    exact z_iret O dX1_stone_94 (by cases hr; rfl)
theorem fV_X8_isAhead : CVf RX8 yX8_isAhead cX8_isAhead 5 (some .boolean) 3 := ⟨q1640, q1641, q136, q1642, ⟨⟨by decide +kernel, by decide +kernel⟩, by decide +kernel⟩⟩
def bX8_isAhead_37 (N : Nat) (x0 : Option Nat) (x1 : Int32) (x2 : Int32) (x4 : Int32) (h : AH) : Option (Int32) :=
  (F_X8_at x0 x1 x4 h).bind fun v1 =>
  if v1 = x2 then
    zb (1 : Int32)
  else
    zb (0 : Int32)
theorem wX8_isAhead_37 {K : ZC} (O : ZOk K cX8_isAhead RX8 "isAhead" 5 (some .boolean) 2 70) (N : Nat) (x0 : Option Nat) (x1 : Int32) (x2 : Int32) (x4 : Int32) (h : AH) (r : Int32) (hr : bX8_isAhead_37 N x0 x1 x2 x4 h = some r) : Zw K (eI h r) h 37 [(0, vr x0), (1, vi x1), (2, vi x2), (4, vi x4)] [] := by
  unfold bX8_isAhead_37 at hr
  refine z_aload_n O 0 dX8_isAhead_37 rfl rfl ?_
  refine z_iload_n O 1 dX8_isAhead_38 rfl rfl ?_
  refine z_iload O 3 dX8_isAhead_39 rfl ?_
  refine bs hr (fun v1 hF hr => ?_)
  refine z_callV O [vi x1, vi x4] (vi v1) fV_X8_at q1643 (fun l G => mX8_at l G x0 x1 x4 h _ hF) (zck hF) rfl rfl ⟨Nat.le_of_ble_eq_true rfl, Nat.le_of_ble_eq_true rfl⟩ (Nat.le_of_ble_eq_true rfl) dX8_isAhead_41 ?_
  refine z_iload_n O 2 dX8_isAhead_44 rfl rfl ?_
  refine z_icmp_ne (tgt := 52) O dX8_isAhead_45 (by decide) hr (fun hr => ?_) (fun hr => ?_)
  · refine z_iconst O dX8_isAhead_48 kic_1 ?_
    refine z_goto (tgt := 53) O dX8_isAhead_49 (by decide) ?_
    obtain ⟨e1, e2, -⟩ := zb_spec hr
    exact z_zret O e2 dX8_isAhead_53 (by cases e1; rfl)
  · refine z_iconst O dX8_isAhead_52 kic_0 ?_
    obtain ⟨e1, e2, -⟩ := zb_spec hr
    exact z_zret O e2 dX8_isAhead_53 (by cases e1; rfl)
def BX8_isAhead_3 (N : Nat) (x0 : Option Nat) (x1 : Int32) (x2 : Int32) (x3 : Int32) (h : AH) (rec3 : Int32 → Option (Int32)) : Int32 → Option (Int32) := fun x4 =>
  (gR h f_Orders_land x0).bind fun v1 =>
  (gI h f_Land_wallMany v1).bind fun v2 =>
  if v2 ≤ x4 then
    zb (0 : Int32)
  else
    (F_X8_at x0 x1 x4 h).bind fun v3 =>
    if v3 = x2 then
      bX8_isAhead_37 N x0 x1 x2 x4 h
    else
      (F_X8_at x0 x1 x4 h).bind fun v4 =>
      if v4 = x3 then
        bX8_isAhead_37 N x0 x1 x2 x4 h
      else
        jlet (x4 + (1 : Int32)) fun v5 =>
        rec3 v5
def LX8_isAhead_3 (N : Nat) (x0 : Option Nat) (x1 : Int32) (x2 : Int32) (x3 : Int32) (h : AH) : Int32 → Option (Int32) := lf (fun _ => none) (BX8_isAhead_3 N x0 x1 x2 x3 h) N
theorem wX8_isAhead_3B {K : ZC} (O : ZOk K cX8_isAhead RX8 "isAhead" 5 (some .boolean) 2 70) (N : Nat) (x0 : Option Nat) (x1 : Int32) (x2 : Int32) (x3 : Int32) (h : AH) (rec3 : Int32 → Option (Int32)) (hrec3 : ∀ (y4 : Int32) (ry : Int32), rec3 y4 = some ry → Zw K (eI h ry) h 3 [(0, vr x0), (1, vi x1), (2, vi x2), (3, vi x3), (4, vi y4)] []) (x4 : Int32) (r : Int32) (hr : BX8_isAhead_3 N x0 x1 x2 x3 h rec3 x4 = some r) : Zw K (eI h r) h 3 [(0, vr x0), (1, vi x1), (2, vi x2), (3, vi x3), (4, vi x4)] [] := by
  unfold BX8_isAhead_3 at hr
  refine z_iload O 4 dX8_isAhead_3 rfl ?_
  refine z_aload_n O 0 dX8_isAhead_5 rfl rfl ?_
  refine z_getR O o_Orders_land q440 dX8_isAhead_6 hr (fun v1 hr => ?_)
  refine z_getI O o_Land_wallMany q606 dX8_isAhead_9 hr (fun v2 hr => ?_)
  refine z_icmp_ge (tgt := 60) O dX8_isAhead_12 (by decide) hr (fun hr => ?_) (fun hr => ?_)
  · refine z_iconst O dX8_isAhead_60 kic_0 ?_
    obtain ⟨e1, e2, -⟩ := zb_spec hr
    exact z_zret O e2 dX8_isAhead_61 (by cases e1; rfl)
  · refine z_aload_n O 0 dX8_isAhead_15 rfl rfl ?_
    refine z_iload_n O 1 dX8_isAhead_16 rfl rfl ?_
    refine z_iload O 4 dX8_isAhead_17 rfl ?_
    refine bs hr (fun v3 hF hr => ?_)
    refine z_callV O [vi x1, vi x4] (vi v3) fV_X8_at q1643 (fun l G => mX8_at l G x0 x1 x4 h _ hF) (zck hF) rfl rfl ⟨Nat.le_of_ble_eq_true rfl, Nat.le_of_ble_eq_true rfl⟩ (Nat.le_of_ble_eq_true rfl) dX8_isAhead_19 ?_
    refine z_iload_n O 2 dX8_isAhead_22 rfl rfl ?_
    refine z_icmp_eq (tgt := 37) O dX8_isAhead_23 (by decide) hr (fun hr => ?_) (fun hr => ?_)
    · refine z_sub [0, 1, 2, 4] rfl ?_
      exact wX8_isAhead_37 O N x0 x1 x2 x4 h _ hr
    · refine z_aload_n O 0 dX8_isAhead_26 rfl rfl ?_
      refine z_iload_n O 1 dX8_isAhead_27 rfl rfl ?_
      refine z_iload O 4 dX8_isAhead_28 rfl ?_
      refine bs hr (fun v4 hF hr => ?_)
      refine z_callV O [vi x1, vi x4] (vi v4) fV_X8_at q1643 (fun l G => mX8_at l G x0 x1 x4 h _ hF) (zck hF) rfl rfl ⟨Nat.le_of_ble_eq_true rfl, Nat.le_of_ble_eq_true rfl⟩ (Nat.le_of_ble_eq_true rfl) dX8_isAhead_30 ?_
      refine z_iload_n O 3 dX8_isAhead_33 rfl rfl ?_
      refine z_icmp_ne (tgt := 54) O dX8_isAhead_34 (by decide) hr (fun hr => ?_) (fun hr => ?_)
      · refine z_sub [0, 1, 2, 4] rfl ?_
        exact wX8_isAhead_37 O N x0 x1 x2 x4 h _ hr
      · refine z_iincL O 4 (fun v5 => [(4, vi v5), (0, vr x0), (1, vi x1), (2, vi x2), (3, vi x3)]) dX8_isAhead_54 rfl rfl (by decide) (fun _ => rfl) hr (fun v5 hr => ?_)
        refine z_goto (tgt := 3) O dX8_isAhead_57 (by decide) ?_
        refine z_sub [1, 2, 3, 4, 0] rfl ?_
        exact hrec3 v5 _ hr
theorem wX8_isAhead_3 {K : ZC} (O : ZOk K cX8_isAhead RX8 "isAhead" 5 (some .boolean) 2 70) (N : Nat) (x0 : Option Nat) (x1 : Int32) (x2 : Int32) (x3 : Int32) (h : AH) : ∀ (n : Nat) (x4 : Int32) (r : Int32), lf (fun _ => none) (BX8_isAhead_3 N x0 x1 x2 x3 h) n x4 = some r → Zw K (eI h r) h 3 [(0, vr x0), (1, vi x1), (2, vi x2), (3, vi x3), (4, vi x4)] [] := by
  intro n
  induction n with
  | zero => intro x4 r hr; cases hr
  | succ n ih => intro x4 r hr; exact wX8_isAhead_3B O N x0 x1 x2 x3 h (lf (fun _ => none) (BX8_isAhead_3 N x0 x1 x2 x3 h) n)  ih x4 r hr
def F_X8_isAhead (N : Nat) (x0 : Option Nat) (x1 : Int32) (x2 : Int32) (x3 : Int32) (h : AH) : Option (Int32) :=
  (ck h [8] x0).bind fun _ =>
  LX8_isAhead_3 N x0 x1 x2 x3 h (0 : Int32)
theorem mX8_isAhead (l : Launch) (G : ZG) (N : Nat) (x0 : Option Nat) (x1 : Int32) (x2 : Int32) (x3 : Int32) (h : AH) (r : Int32) (hr : F_X8_isAhead N x0 x1 x2 x3 h = some r) : MZ l G yX8_isAhead cX8_isAhead 5 (some .boolean) 2 70 [vr x0, vi x1, vi x2, vi x3] h (eI h r) := by
  unfold F_X8_isAhead at hr
  refine MZ.of (by decide) [(0, vr x0), (1, vi x1), (2, vi x2), (3, vi x3)] rfl (Nat.le_of_ble_eq_true rfl) (fun K O => ?_)
  have O : ZOk K cX8_isAhead RX8 "isAhead" 5 (some .boolean) 2 70 := O
  refine bs hr (fun _ hck hr => ?_)
  refine z_iconst O dX8_isAhead_0 kic_0 ?_
  refine z_istore O [(4, vi (0 : Int32)), (0, vr x0), (1, vi x1), (2, vi x2), (3, vi x3)] dX8_isAhead_1 (by decide) rfl ?_
  refine z_sub [1, 2, 3, 4, 0] rfl ?_
  exact wX8_isAhead_3 O N x0 x1 x2 x3 h _ (0 : Int32) _ hr
theorem fV_X8_isSure : CVf RX8 yX8_isSure cX8_isSure 5 (some .boolean) 2 := ⟨q1636, q1637, q136, q1638, ⟨⟨by decide +kernel, by decide +kernel⟩, by decide +kernel⟩⟩
def BX8_isSure_16 (N : Nat) (x0 : Option Nat) (x1 : Int32) (x2 : Int32) (h : AH) (rec16 : Int32 → Int32 → Option (Int32)) : Int32 → Int32 → Option (Int32) := fun x3 x4 =>
  (gI h f_Orders_many x0).bind fun v1 =>
  if v1 ≤ x4 then
    zb x3
  else
    if x3 = 0 then
      jlet (x4 + (1 : Int32)) fun v2 =>
      rec16 (0 : Int32) v2
    else
      (F_X8_isAhead N x0 x4 x1 x2 h).bind fun v3 =>
      if v3 = 0 then
        jlet (x4 + (1 : Int32)) fun v4 =>
        rec16 (0 : Int32) v4
      else
        jlet (x4 + (1 : Int32)) fun v5 =>
        rec16 (1 : Int32) v5
def LX8_isSure_16 (N : Nat) (x0 : Option Nat) (x1 : Int32) (x2 : Int32) (h : AH) : Int32 → Int32 → Option (Int32) := lf (fun _ _ => none) (BX8_isSure_16 N x0 x1 x2 h) N
theorem wX8_isSure_16B {K : ZC} (O : ZOk K cX8_isSure RX8 "isSure" 5 (some .boolean) 3 94) (N : Nat) (x0 : Option Nat) (x1 : Int32) (x2 : Int32) (h : AH) (rec16 : Int32 → Int32 → Option (Int32)) (hrec16 : ∀ (y3 : Int32) (y4 : Int32) (ry : Int32), rec16 y3 y4 = some ry → Zw K (eI h ry) h 16 [(0, vr x0), (1, vi x1), (2, vi x2), (3, vi y3), (4, vi y4)] []) (x3 : Int32) (x4 : Int32) (r : Int32) (hr : BX8_isSure_16 N x0 x1 x2 h rec16 x3 x4 = some r) : Zw K (eI h r) h 16 [(0, vr x0), (1, vi x1), (2, vi x2), (3, vi x3), (4, vi x4)] [] := by
  unfold BX8_isSure_16 at hr
  refine z_iload O 4 dX8_isSure_16 rfl ?_
  refine z_aload_n O 0 dX8_isSure_18 rfl rfl ?_
  refine z_getI O o_Orders_many q442 dX8_isSure_19 hr (fun v1 hr => ?_)
  refine z_icmp_ge (tgt := 52) O dX8_isSure_22 (by decide) hr (fun hr => ?_) (fun hr => ?_)
  · refine z_iload_n O 3 dX8_isSure_52 rfl rfl ?_
    obtain ⟨e1, e2, -⟩ := zb_spec hr
    exact z_zret O e2 dX8_isSure_53 (by cases e1; rfl)
  · refine z_iload_n O 3 dX8_isSure_25 rfl rfl ?_
    refine z_if_eq (tgt := 44) O dX8_isSure_26 (by decide) hr (fun hr => ?_) (fun hr => ?_)
    · refine z_iconst O dX8_isSure_44 kic_0 ?_
      refine z_istore_n O [(3, vi (0 : Int32)), (0, vr x0), (1, vi x1), (2, vi x2), (4, vi x4)] dX8_isSure_45 rfl (by decide) rfl ?_
      refine z_iincL O 4 (fun v2 => [(4, vi v2), (3, vi (0 : Int32)), (0, vr x0), (1, vi x1), (2, vi x2)]) dX8_isSure_46 rfl rfl (by decide) (fun _ => rfl) hr (fun v2 hr => ?_)
      refine z_goto (tgt := 16) O dX8_isSure_49 (by decide) ?_
      refine z_sub [2, 3, 4, 1, 0] rfl ?_
      exact hrec16 (0 : Int32) v2 _ hr
    · refine z_aload_n O 0 dX8_isSure_29 rfl rfl ?_
      refine z_iload O 4 dX8_isSure_30 rfl ?_
      refine z_iload_n O 1 dX8_isSure_32 rfl rfl ?_
      refine z_iload_n O 2 dX8_isSure_33 rfl rfl ?_
      refine bs hr (fun v3 hF hr => ?_)
      refine z_callV O [vi x4, vi x1, vi x2] (vi v3) fV_X8_isAhead q1639 (fun l G => mX8_isAhead l G N x0 x4 x1 x2 h _ hF) (zck hF) rfl rfl ⟨Nat.le_of_ble_eq_true rfl, Nat.le_of_ble_eq_true rfl⟩ (Nat.le_of_ble_eq_true rfl) dX8_isSure_34 ?_
      refine z_if_eq (tgt := 44) O dX8_isSure_37 (by decide) hr (fun hr => ?_) (fun hr => ?_)
      · refine z_iconst O dX8_isSure_44 kic_0 ?_
        refine z_istore_n O [(3, vi (0 : Int32)), (0, vr x0), (1, vi x1), (2, vi x2), (4, vi x4)] dX8_isSure_45 rfl (by decide) rfl ?_
        refine z_iincL O 4 (fun v4 => [(4, vi v4), (3, vi (0 : Int32)), (0, vr x0), (1, vi x1), (2, vi x2)]) dX8_isSure_46 rfl rfl (by decide) (fun _ => rfl) hr (fun v4 hr => ?_)
        refine z_goto (tgt := 16) O dX8_isSure_49 (by decide) ?_
        refine z_sub [2, 3, 4, 1, 0] rfl ?_
        exact hrec16 (0 : Int32) v4 _ hr
      · refine z_iconst O dX8_isSure_40 kic_1 ?_
        refine z_goto (tgt := 45) O dX8_isSure_41 (by decide) ?_
        refine z_istore_n O [(3, vi (1 : Int32)), (0, vr x0), (1, vi x1), (2, vi x2), (4, vi x4)] dX8_isSure_45 rfl (by decide) rfl ?_
        refine z_iincL O 4 (fun v5 => [(4, vi v5), (3, vi (1 : Int32)), (0, vr x0), (1, vi x1), (2, vi x2)]) dX8_isSure_46 rfl rfl (by decide) (fun _ => rfl) hr (fun v5 hr => ?_)
        refine z_goto (tgt := 16) O dX8_isSure_49 (by decide) ?_
        refine z_sub [2, 3, 4, 1, 0] rfl ?_
        exact hrec16 (1 : Int32) v5 _ hr
theorem wX8_isSure_16 {K : ZC} (O : ZOk K cX8_isSure RX8 "isSure" 5 (some .boolean) 3 94) (N : Nat) (x0 : Option Nat) (x1 : Int32) (x2 : Int32) (h : AH) : ∀ (n : Nat) (x3 : Int32) (x4 : Int32) (r : Int32), lf (fun _ _ => none) (BX8_isSure_16 N x0 x1 x2 h) n x3 x4 = some r → Zw K (eI h r) h 16 [(0, vr x0), (1, vi x1), (2, vi x2), (3, vi x3), (4, vi x4)] [] := by
  intro n
  induction n with
  | zero => intro x3 x4 r hr; cases hr
  | succ n ih => intro x3 x4 r hr; exact wX8_isSure_16B O N x0 x1 x2 h (lf (fun _ _ => none) (BX8_isSure_16 N x0 x1 x2 h) n)  ih x3 x4 r hr
def F_X8_isSure (N : Nat) (x0 : Option Nat) (x1 : Int32) (x2 : Int32) (h : AH) : Option (Int32) :=
  (ck h [8] x0).bind fun _ =>
  (gI h f_Orders_many x0).bind fun v1 =>
  if v1 ≤ 0 then
    LX8_isSure_16 N x0 x1 x2 h (0 : Int32) (0 : Int32)
  else
    LX8_isSure_16 N x0 x1 x2 h (1 : Int32) (0 : Int32)
theorem mX8_isSure (l : Launch) (G : ZG) (N : Nat) (x0 : Option Nat) (x1 : Int32) (x2 : Int32) (h : AH) (r : Int32) (hr : F_X8_isSure N x0 x1 x2 h = some r) : MZ l G yX8_isSure cX8_isSure 5 (some .boolean) 3 94 [vr x0, vi x1, vi x2] h (eI h r) := by
  unfold F_X8_isSure at hr
  refine MZ.of (by decide) [(0, vr x0), (1, vi x1), (2, vi x2)] rfl (Nat.le_of_ble_eq_true rfl) (fun K O => ?_)
  have O : ZOk K cX8_isSure RX8 "isSure" 5 (some .boolean) 3 94 := O
  refine bs hr (fun _ hck hr => ?_)
  refine z_aload_n O 0 dX8_isSure_0 rfl rfl ?_
  refine z_getI O o_Orders_many q442 dX8_isSure_1 hr (fun v1 hr => ?_)
  refine z_if_le (tgt := 11) O dX8_isSure_4 (by decide) hr (fun hr => ?_) (fun hr => ?_)
  · refine z_iconst O dX8_isSure_11 kic_0 ?_
    refine z_istore_n O [(3, vi (0 : Int32)), (0, vr x0), (1, vi x1), (2, vi x2)] dX8_isSure_12 rfl (by decide) rfl ?_
    refine z_iconst O dX8_isSure_13 kic_0 ?_
    refine z_istore O [(4, vi (0 : Int32)), (3, vi (0 : Int32)), (0, vr x0), (1, vi x1), (2, vi x2)] dX8_isSure_14 (by decide) rfl ?_
    refine z_sub [2, 3, 4, 1, 0] rfl ?_
    exact wX8_isSure_16 O N x0 x1 x2 h _ (0 : Int32) (0 : Int32) _ hr
  · refine z_iconst O dX8_isSure_7 kic_1 ?_
    refine z_goto (tgt := 12) O dX8_isSure_8 (by decide) ?_
    refine z_istore_n O [(3, vi (1 : Int32)), (0, vr x0), (1, vi x1), (2, vi x2)] dX8_isSure_12 rfl (by decide) rfl ?_
    refine z_iconst O dX8_isSure_13 kic_0 ?_
    refine z_istore O [(4, vi (0 : Int32)), (3, vi (1 : Int32)), (0, vr x0), (1, vi x1), (2, vi x2)] dX8_isSure_14 (by decide) rfl ?_
    refine z_sub [2, 3, 4, 1, 0] rfl ?_
    exact wX8_isSure_16 O N x0 x1 x2 h _ (1 : Int32) (0 : Int32) _ hr
theorem fV_X1_surely : CVf RX1 yX1_surely cX1_surely 3 (some .int) 2 := ⟨q1632, q1633, q126, q1634, ⟨⟨by decide +kernel, by decide +kernel⟩, by decide +kernel⟩⟩
def F_X1_surely (N : Nat) (x0 : Option Nat) (x1 : Int32) (x2 : Int32) (h : AH) : Option (Int32 × AH) :=
  (ck h [1] x0).bind fun _ =>
  (F_X1_anew x0 h).bind fun h1 =>
  (F_X1_isWall x0 x1 h1).bind fun v2 =>
  if v2 = 0 then
    b2 (F_X1_no x0 (1 : Int32) h1) fun v4 h3 =>
    some (v4, h3)
  else
    (F_X1_isWall x0 x2 h1).bind fun v5 =>
    if v5 = 0 then
      b2 (F_X1_no x0 (1 : Int32) h1) fun v7 h6 =>
      some (v7, h6)
    else
      if x1 = x2 then
        b2 (F_X1_no x0 (1 : Int32) h1) fun v12 h11 =>
        some (v12, h11)
      else
        (F_X1_layOrders N x0 h1).bind fun h8 =>
        (gR h8 f_Year_orders x0).bind fun v9 =>
        (F_X8_isSure N v9 x1 x2 h8).bind fun v10 =>
        if v10 = 0 then
          some ((0 : Int32), h8)
        else
          some ((1 : Int32), h8)
theorem mX1_surely (l : Launch) (G : ZG) (N : Nat) (x0 : Option Nat) (x1 : Int32) (x2 : Int32) (h : AH) (r : Int32 × AH) (hr : F_X1_surely N x0 x1 x2 h = some r) : MZ l G yX1_surely cX1_surely 3 (some .int) 15 367 [vr x0, vi x1, vi x2] h (eIH r) := by
  unfold F_X1_surely at hr
  refine MZ.of (by decide) [(0, vr x0), (1, vi x1), (2, vi x2)] rfl (Nat.le_of_ble_eq_true rfl) (fun K O => ?_)
  have O : ZOk K cX1_surely RX1 "surely" 3 (some .int) 15 367 := O
  refine bs hr (fun _ hck hr => ?_)
  refine z_aload_n O 0 dX1_surely_0 rfl rfl ?_
  refine bs hr (fun h1 hF hr => ?_)
  refine z_callVv O [] fV_X1_anew q528 (fun l G => mX1_anew l G x0 h _ hF) (zck hF) rfl rfl ⟨Nat.le_of_ble_eq_true rfl, Nat.le_of_ble_eq_true rfl⟩ (Nat.le_of_ble_eq_true rfl) dX1_surely_1 ?_
  refine z_aload_n O 0 dX1_surely_4 rfl rfl ?_
  refine z_iload_n O 1 dX1_surely_5 rfl rfl ?_
  refine bs hr (fun v2 hF hr => ?_)
  refine z_callV O [vi x1] (vi v2) fV_X1_isWall q1607 (fun l G => mX1_isWall l G x0 x1 h1 _ hF) (zck hF) rfl rfl ⟨Nat.le_of_ble_eq_true rfl, Nat.le_of_ble_eq_true rfl⟩ (Nat.le_of_ble_eq_true rfl) dX1_surely_6 ?_
  refine z_if_eq (tgt := 25) O dX1_surely_9 (by decide) hr (fun hr => ?_) (fun hr => ?_)
  · refine z_aload_n O 0 dX1_surely_25 rfl rfl ?_
    refine z_iconst O dX1_surely_26 kic_1 ?_
    refine b2s hr (fun v4 h3 hF hr => ?_)
    refine z_callV O [vi (1 : Int32)] (vi v4) fV_X1_no q535 (fun l G => mX1_no l G x0 (1 : Int32) h1 _ hF) (zck hF) rfl rfl ⟨Nat.le_of_ble_eq_true rfl, Nat.le_of_ble_eq_true rfl⟩ (Nat.le_of_ble_eq_true rfl) dX1_surely_27 ?_
    exact z_iret O dX1_surely_30 (by cases hr; rfl)
  · refine z_aload_n O 0 dX1_surely_12 rfl rfl ?_
    refine z_iload_n O 2 dX1_surely_13 rfl rfl ?_
    refine bs hr (fun v5 hF hr => ?_)
    refine z_callV O [vi x2] (vi v5) fV_X1_isWall q1607 (fun l G => mX1_isWall l G x0 x2 h1 _ hF) (zck hF) rfl rfl ⟨Nat.le_of_ble_eq_true rfl, Nat.le_of_ble_eq_true rfl⟩ (Nat.le_of_ble_eq_true rfl) dX1_surely_14 ?_
    refine z_if_eq (tgt := 25) O dX1_surely_17 (by decide) hr (fun hr => ?_) (fun hr => ?_)
    · refine z_aload_n O 0 dX1_surely_25 rfl rfl ?_
      refine z_iconst O dX1_surely_26 kic_1 ?_
      refine b2s hr (fun v7 h6 hF hr => ?_)
      refine z_callV O [vi (1 : Int32)] (vi v7) fV_X1_no q535 (fun l G => mX1_no l G x0 (1 : Int32) h1 _ hF) (zck hF) rfl rfl ⟨Nat.le_of_ble_eq_true rfl, Nat.le_of_ble_eq_true rfl⟩ (Nat.le_of_ble_eq_true rfl) dX1_surely_27 ?_
      exact z_iret O dX1_surely_30 (by cases hr; rfl)
    · refine z_iload_n O 1 dX1_surely_20 rfl rfl ?_
      refine z_iload_n O 2 dX1_surely_21 rfl rfl ?_
      refine z_icmp_ne (tgt := 31) O dX1_surely_22 (by decide) hr (fun hr => ?_) (fun hr => ?_)
      · refine z_aload_n O 0 dX1_surely_25 rfl rfl ?_
        refine z_iconst O dX1_surely_26 kic_1 ?_
        refine b2s hr (fun v12 h11 hF hr => ?_)
        refine z_callV O [vi (1 : Int32)] (vi v12) fV_X1_no q535 (fun l G => mX1_no l G x0 (1 : Int32) h1 _ hF) (zck hF) rfl rfl ⟨Nat.le_of_ble_eq_true rfl, Nat.le_of_ble_eq_true rfl⟩ (Nat.le_of_ble_eq_true rfl) dX1_surely_27 ?_
        exact z_iret O dX1_surely_30 (by cases hr; rfl)
      · refine z_aload_n O 0 dX1_surely_31 rfl rfl ?_
        refine bs hr (fun h8 hF hr => ?_)
        refine z_callVv O [] fV_X1_layOrders q1569 (fun l G => mX1_layOrders l G N x0 h1 _ hF) (zck hF) rfl rfl ⟨Nat.le_of_ble_eq_true rfl, Nat.le_of_ble_eq_true rfl⟩ (Nat.le_of_ble_eq_true rfl) dX1_surely_32 ?_
        refine z_aload_n O 0 dX1_surely_35 rfl rfl ?_
        refine z_getR O o_Year_orders q473 dX1_surely_36 hr (fun v9 hr => ?_)
        refine z_iload_n O 1 dX1_surely_39 rfl rfl ?_
        refine z_iload_n O 2 dX1_surely_40 rfl rfl ?_
        refine bs hr (fun v10 hF hr => ?_)
        refine z_callV O [vi x1, vi x2] (vi v10) fV_X8_isSure q1635 (fun l G => mX8_isSure l G N v9 x1 x2 h8 _ hF) (zck hF) rfl rfl ⟨Nat.le_of_ble_eq_true rfl, Nat.le_of_ble_eq_true rfl⟩ (Nat.le_of_ble_eq_true rfl) dX1_surely_41 ?_
        refine z_if_eq (tgt := 51) O dX1_surely_44 (by decide) hr (fun hr => ?_) (fun hr => ?_)
        · refine z_iconst O dX1_surely_51 kic_0 ?_
          exact z_iret O dX1_surely_52 (by cases hr; rfl)
        · refine z_iconst O dX1_surely_47 kic_1 ?_
          refine z_goto (tgt := 52) O dX1_surely_48 (by decide) ?_
          exact z_iret O dX1_surely_52 (by cases hr; rfl)
theorem fS_X1_half : CSf yX1_half cX1_half 2 (some .int) 2 := ⟨q1555, q126, q1556, ⟨⟨by decide +kernel, by decide +kernel⟩, by decide +kernel⟩⟩
def F_X1_half (x0 : Option Nat) (x1 : Int32) (h : AH) : Option (Int32) :=
  (F_X5_skin x0 x1 h).bind fun v1 =>
  (gR h f_Skin_stone v1).bind fun v2 =>
  (gI h f_Stone_costs v2).bind fun v3 =>
  (dv ((v3 * (8 : Int32)) * x1) (2 : Int32)).bind fun v4 =>
  some v4
theorem mX1_half (l : Launch) (G : ZG) (x0 : Option Nat) (x1 : Int32) (h : AH) (r : Int32) (hr : F_X1_half x0 x1 h = some r) : MZ l G yX1_half cX1_half 2 (some .int) 2 69 [vr x0, vi x1] h (eI h r) := by
  unfold F_X1_half at hr
  refine MZ.of (by decide) [(0, vr x0), (1, vi x1)] rfl (Nat.le_of_ble_eq_true rfl) (fun K O => ?_)
  have O : ZOk K cX1_half RX1 "half" 2 (some .int) 2 69 := O
  refine z_aload_n O 0 dX1_half_0 rfl rfl ?_
  refine z_iload_n O 1 dX1_half_1 rfl rfl ?_
  refine bs hr (fun v1 hF hr => ?_)
  refine z_callV O [vi x1] (vr v1) fV_X5_skin q1286 (fun l G => mX5_skin l G x0 x1 h _ hF) (zck hF) rfl rfl ⟨Nat.le_of_ble_eq_true rfl, Nat.le_of_ble_eq_true rfl⟩ (Nat.le_of_ble_eq_true rfl) dX1_half_2 ?_
  refine z_getR O o_Skin_stone q267 dX1_half_5 hr (fun v2 hr => ?_)
  refine z_getI O o_Stone_costs q944 dX1_half_8 hr (fun v3 hr => ?_)
  refine z_bipush O dX1_half_11 kbi_8 ?_
  refine z_imul O dX1_half_13 ?_
  refine z_iload_n O 1 dX1_half_14 rfl rfl ?_
  refine z_imul O dX1_half_15 ?_
  refine z_iconst O dX1_half_16 kic_2 ?_
  refine z_idiv O dX1_half_17 hr (fun v4 hr => ?_)
  exact z_iret O dX1_half_18 (by cases hr; rfl)
theorem fV_X5_inmost : CVf RX5 yX5_inmost cX5_inmost 2 (some .int) 0 := ⟨q1551, q1552, q133, q1553, ⟨⟨by decide +kernel, by decide +kernel⟩, by decide +kernel⟩⟩
def BX5_inmost_2 (N : Nat) (x0 : Option Nat) (h : AH) (rec2 : Int32 → Option (Int32)) : Int32 → Option (Int32) := fun x1 =>
  (gI h f_House_many x0).bind fun v1 =>
  if v1 < x1 then
    some (0 : Int32)
  else
    (F_X5_skin x0 x1 h).bind fun v2 =>
    (gI h f_Skin_collapsed v2).bind fun v3 =>
    if v3 = 0 then
      some x1
    else
      jlet (x1 + (1 : Int32)) fun v4 =>
      rec2 v4
def LX5_inmost_2 (N : Nat) (x0 : Option Nat) (h : AH) : Int32 → Option (Int32) := lf (fun _ => none) (BX5_inmost_2 N x0 h) N
theorem wX5_inmost_2B {K : ZC} (O : ZOk K cX5_inmost RX5 "inmost" 2 (some .int) 2 69) (N : Nat) (x0 : Option Nat) (h : AH) (rec2 : Int32 → Option (Int32)) (hrec2 : ∀ (y1 : Int32) (ry : Int32), rec2 y1 = some ry → Zw K (eI h ry) h 2 [(0, vr x0), (1, vi y1)] []) (x1 : Int32) (r : Int32) (hr : BX5_inmost_2 N x0 h rec2 x1 = some r) : Zw K (eI h r) h 2 [(0, vr x0), (1, vi x1)] [] := by
  unfold BX5_inmost_2 at hr
  refine z_iload_n O 1 dX5_inmost_2 rfl rfl ?_
  refine z_aload_n O 0 dX5_inmost_3 rfl rfl ?_
  refine z_getI O o_House_many q311 dX5_inmost_4 hr (fun v1 hr => ?_)
  refine z_icmp_gt (tgt := 29) O dX5_inmost_7 (by decide) hr (fun hr => ?_) (fun hr => ?_)
  · refine z_iconst O dX5_inmost_29 kic_0 ?_
    exact z_iret O dX5_inmost_30 (by cases hr; rfl)
  · refine z_aload_n O 0 dX5_inmost_10 rfl rfl ?_
    refine z_iload_n O 1 dX5_inmost_11 rfl rfl ?_
    refine bs hr (fun v2 hF hr => ?_)
    refine z_callV O [vi x1] (vr v2) fV_X5_skin q1127 (fun l G => mX5_skin l G x0 x1 h _ hF) (zck hF) rfl rfl ⟨Nat.le_of_ble_eq_true rfl, Nat.le_of_ble_eq_true rfl⟩ (Nat.le_of_ble_eq_true rfl) dX5_inmost_12 ?_
    refine z_getI O o_Skin_collapsed q284 dX5_inmost_15 hr (fun v3 hr => ?_)
    refine z_if_ne (tgt := 23) O dX5_inmost_18 (by decide) hr (fun hr => ?_) (fun hr => ?_)
    · refine z_iload_n O 1 dX5_inmost_21 rfl rfl ?_
      exact z_iret O dX5_inmost_22 (by cases hr; rfl)
    · refine z_iincL O 1 (fun v4 => [(1, vi v4), (0, vr x0)]) dX5_inmost_23 rfl rfl (by decide) (fun _ => rfl) hr (fun v4 hr => ?_)
      refine z_goto (tgt := 2) O dX5_inmost_26 (by decide) ?_
      refine z_sub [1, 0] rfl ?_
      exact hrec2 v4 _ hr
theorem wX5_inmost_2 {K : ZC} (O : ZOk K cX5_inmost RX5 "inmost" 2 (some .int) 2 69) (N : Nat) (x0 : Option Nat) (h : AH) : ∀ (n : Nat) (x1 : Int32) (r : Int32), lf (fun _ => none) (BX5_inmost_2 N x0 h) n x1 = some r → Zw K (eI h r) h 2 [(0, vr x0), (1, vi x1)] [] := by
  intro n
  induction n with
  | zero => intro x1 r hr; cases hr
  | succ n ih => intro x1 r hr; exact wX5_inmost_2B O N x0 h (lf (fun _ => none) (BX5_inmost_2 N x0 h) n)  ih x1 r hr
def F_X5_inmost (N : Nat) (x0 : Option Nat) (h : AH) : Option (Int32) :=
  (ck h [5] x0).bind fun _ =>
  LX5_inmost_2 N x0 h (1 : Int32)
theorem mX5_inmost (l : Launch) (G : ZG) (N : Nat) (x0 : Option Nat) (h : AH) (r : Int32) (hr : F_X5_inmost N x0 h = some r) : MZ l G yX5_inmost cX5_inmost 2 (some .int) 2 69 [vr x0] h (eI h r) := by
  unfold F_X5_inmost at hr
  refine MZ.of (by decide) [(0, vr x0)] rfl (Nat.le_of_ble_eq_true rfl) (fun K O => ?_)
  have O : ZOk K cX5_inmost RX5 "inmost" 2 (some .int) 2 69 := O
  refine bs hr (fun _ hck hr => ?_)
  refine z_iconst O dX5_inmost_0 kic_1 ?_
  refine z_istore_n O [(1, vi (1 : Int32)), (0, vr x0)] dX5_inmost_1 rfl (by decide) rfl ?_
  refine z_sub [1, 0] rfl ?_
  exact wX5_inmost_2 O N x0 h _ (1 : Int32) _ hr
theorem fV_X1_take : CVf RX1 yX1_take cX1_take 5 (some .int) 1 := ⟨q1671, q1672, q126, q1673, ⟨⟨by decide +kernel, by decide +kernel⟩, by decide +kernel⟩⟩
def F_X1_take (N : Nat) (x0 : Option Nat) (x1 : Int32) (h : AH) : Option (Int32 × AH) :=
  (ck h [1] x0).bind fun _ =>
  (F_X1_anew x0 h).bind fun h1 =>
  (F_X1_isHouse x0 x1 h1).bind fun v2 =>
  if v2 = 0 then
    b2 (F_X1_no x0 (1 : Int32) h1) fun v23 h22 =>
    some (v23, h22)
  else
    (gR h1 f_Year_village x0).bind fun v3 =>
    (F_X4_house v3 x1 h1).bind fun v4 =>
    (F_X5_inmost N v4 h1).bind fun v5 =>
    if v5 = 0 then
      b2 (F_X1_no x0 (6 : Int32) h1) fun v21 h20 =>
      some (v21, h20)
    else
      (gR h1 f_Year_village x0).bind fun v6 =>
      (F_X4_isLivedIn N v6 x1 v5 h1).bind fun v7 =>
      if v7 = 0 then
        (F_X1_note N x0 h1).bind fun h8 =>
        (F_X1_half v4 v5 h8).bind fun v9 =>
        (gI h8 f_House_gold v4).bind fun v10 =>
        (pI h8 f_House_gold v4 (jmin (999 : Int32) (v10 + v9))).bind fun h11 =>
        (F_X5_skin v4 v5 h11).bind fun v12 =>
        (pZ h11 f_Skin_collapsed v12 (1 : Int32)).bind fun h13 =>
        (F_X5_skin v4 v5 h13).bind fun v14 =>
        (pZ h13 f_Skin_filled v14 (0 : Int32)).bind fun h15 =>
        b2 (F_X1_done N x0 h15) fun v17 h16 =>
        some (v9, h16)
      else
        b2 (F_X1_no x0 (5 : Int32) h1) fun v19 h18 =>
        some (v19, h18)
theorem mX1_take (l : Launch) (G : ZG) (N : Nat) (x0 : Option Nat) (x1 : Int32) (h : AH) (r : Int32 × AH) (hr : F_X1_take N x0 x1 h = some r) : MZ l G yX1_take cX1_take 5 (some .int) 5 135 [vr x0, vi x1] h (eIH r) := by
  unfold F_X1_take at hr
  refine MZ.of (by decide) [(0, vr x0), (1, vi x1)] rfl (Nat.le_of_ble_eq_true rfl) (fun K O => ?_)
  have O : ZOk K cX1_take RX1 "take" 5 (some .int) 5 135 := O
  refine bs hr (fun _ hck hr => ?_)
  refine z_aload_n O 0 dX1_take_0 rfl rfl ?_
  refine bs hr (fun h1 hF hr => ?_)
  refine z_callVv O [] fV_X1_anew q528 (fun l G => mX1_anew l G x0 h _ hF) (zck hF) rfl rfl ⟨Nat.le_of_ble_eq_true rfl, Nat.le_of_ble_eq_true rfl⟩ (Nat.le_of_ble_eq_true rfl) dX1_take_1 ?_
  refine z_aload_n O 0 dX1_take_4 rfl rfl ?_
  refine z_iload_n O 1 dX1_take_5 rfl rfl ?_
  refine bs hr (fun v2 hF hr => ?_)
  refine z_callV O [vi x1] (vi v2) fV_X1_isHouse q1245 (fun l G => mX1_isHouse l G x0 x1 h1 _ hF) (zck hF) rfl rfl ⟨Nat.le_of_ble_eq_true rfl, Nat.le_of_ble_eq_true rfl⟩ (Nat.le_of_ble_eq_true rfl) dX1_take_6 ?_
  refine z_if_ne (tgt := 18) O dX1_take_9 (by decide) hr (fun hr => ?_) (fun hr => ?_)
  · refine z_aload_n O 0 dX1_take_12 rfl rfl ?_
    refine z_iconst O dX1_take_13 kic_1 ?_
    refine b2s hr (fun v23 h22 hF hr => ?_)
    refine z_callV O [vi (1 : Int32)] (vi v23) fV_X1_no q535 (fun l G => mX1_no l G x0 (1 : Int32) h1 _ hF) (zck hF) rfl rfl ⟨Nat.le_of_ble_eq_true rfl, Nat.le_of_ble_eq_true rfl⟩ (Nat.le_of_ble_eq_true rfl) dX1_take_14 ?_
    exact z_iret O dX1_take_17 (by cases hr; rfl)
  · refine z_aload_n O 0 dX1_take_18 rfl rfl ?_
    refine z_getR O o_Year_village q469 dX1_take_19 hr (fun v3 hr => ?_)
    refine z_iload_n O 1 dX1_take_22 rfl rfl ?_
    refine bs hr (fun v4 hF hr => ?_)
    refine z_callV O [vi x1] (vr v4) fV_X4_house q1249 (fun l G => mX4_house l G v3 x1 h1 _ hF) (zck hF) rfl rfl ⟨Nat.le_of_ble_eq_true rfl, Nat.le_of_ble_eq_true rfl⟩ (Nat.le_of_ble_eq_true rfl) dX1_take_23 ?_
    refine z_astore_n O [(2, vr v4), (0, vr x0), (1, vi x1)] dX1_take_26 rfl (by decide) rfl ?_
    refine z_aload_n O 0 dX1_take_27 rfl rfl ?_
    refine bs hr (fun v5 hF hr => ?_)
    refine z_callV O [] (vi v5) fV_X5_inmost q1550 (fun l G => mX5_inmost l G N v4 h1 _ hF) (zck hF) rfl rfl ⟨Nat.le_of_ble_eq_true rfl, Nat.le_of_ble_eq_true rfl⟩ (Nat.le_of_ble_eq_true rfl) dX1_take_28 ?_
    refine z_istore_n O [(3, vi v5), (2, vr v4), (0, vr x0), (1, vi x1)] dX1_take_31 rfl (by decide) rfl ?_
    refine z_iload_n O 0 dX1_take_32 rfl rfl ?_
    refine z_if_ne (tgt := 43) O dX1_take_33 (by decide) hr (fun hr => ?_) (fun hr => ?_)
    · refine z_aload_n O 2 dX1_take_36 rfl rfl ?_
      refine z_bipush O dX1_take_37 kbi_6 ?_
      refine b2s hr (fun v21 h20 hF hr => ?_)
      refine z_callV O [vi (6 : Int32)] (vi v21) fV_X1_no q535 (fun l G => mX1_no l G x0 (6 : Int32) h1 _ hF) (zck hF) rfl rfl ⟨Nat.le_of_ble_eq_true rfl, Nat.le_of_ble_eq_true rfl⟩ (Nat.le_of_ble_eq_true rfl) dX1_take_39 ?_
      exact z_iret O dX1_take_42 (by cases hr; rfl)
    · refine z_aload_n O 2 dX1_take_43 rfl rfl ?_
      refine z_getR O o_Year_village q469 dX1_take_44 hr (fun v6 hr => ?_)
      refine z_iload_n O 3 dX1_take_47 rfl rfl ?_
      refine z_iload_n O 0 dX1_take_48 rfl rfl ?_
      refine bs hr (fun v7 hF hr => ?_)
      refine z_callV O [vi x1, vi v5] (vi v7) fV_X4_isLivedIn q1561 (fun l G => mX4_isLivedIn l G N v6 x1 v5 h1 _ hF) (zck hF) rfl rfl ⟨Nat.le_of_ble_eq_true rfl, Nat.le_of_ble_eq_true rfl⟩ (Nat.le_of_ble_eq_true rfl) dX1_take_49 ?_
      refine z_if_eq (tgt := 61) O dX1_take_52 (by decide) hr (fun hr => ?_) (fun hr => ?_)
      · refine z_aload_n O 2 dX1_take_61 rfl rfl ?_
        refine bs hr (fun h8 hF hr => ?_)
        refine z_callVv O [] fV_X1_note q1648 (fun l G => mX1_note l G N x0 h1 _ hF) (zck hF) rfl rfl ⟨Nat.le_of_ble_eq_true rfl, Nat.le_of_ble_eq_true rfl⟩ (Nat.le_of_ble_eq_true rfl) dX1_take_62 ?_
        refine z_aload_n O 1 dX1_take_65 rfl rfl ?_
        refine z_iload_n O 0 dX1_take_66 rfl rfl ?_
        refine bs hr (fun v9 hF hr => ?_)
        refine z_callS O [vr v4, vi v5] (vi v9) fS_X1_half q1554 (fun l G => mX1_half l G v4 v5 h8 _ hF) rfl ⟨Nat.le_of_ble_eq_true rfl, Nat.le_of_ble_eq_true rfl⟩ (Nat.le_of_ble_eq_true rfl) dX1_take_67 ?_
        refine z_istore O [(4, vi v9), (3, vi v5), (2, vr v4), (0, vr x0), (1, vi x1)] dX1_take_70 (by decide) rfl ?_
        refine z_aload_n O 2 dX1_take_72 rfl rfl ?_
        refine z_sipush O dX1_take_73 ksi_999 ?_
        refine z_aload_n O 2 dX1_take_76 rfl rfl ?_
        refine z_getI O o_House_gold q321 dX1_take_77 hr (fun v10 hr => ?_)
        refine z_iload O 0 dX1_take_80 rfl ?_
        refine z_iadd O dX1_take_82 ?_
        refine z_mmin O q1674 ⟨Nat.le_of_ble_eq_true rfl, Nat.le_of_ble_eq_true rfl⟩ (Nat.le_of_ble_eq_true rfl) dX1_take_83 ?_
        refine z_putI O o_House_gold (w_House_gold _) q321 dX1_take_86 hr (fun h11 hr => ?_)
        refine z_aload_n O 2 dX1_take_89 rfl rfl ?_
        refine z_iload_n O 1 dX1_take_90 rfl rfl ?_
        refine bs hr (fun v12 hF hr => ?_)
        refine z_callV O [vi v5] (vr v12) fV_X5_skin q1286 (fun l G => mX5_skin l G v4 v5 h11 _ hF) (zck hF) rfl rfl ⟨Nat.le_of_ble_eq_true rfl, Nat.le_of_ble_eq_true rfl⟩ (Nat.le_of_ble_eq_true rfl) dX1_take_91 ?_
        refine z_iconst O dX1_take_94 kic_1 ?_
        refine z_putZ O o_Skin_collapsed (w_Skin_collapsed _) q285 dX1_take_95 hr (fun h13 hr => ?_)
        refine z_aload_n O 2 dX1_take_98 rfl rfl ?_
        refine z_iload_n O 1 dX1_take_99 rfl rfl ?_
        refine bs hr (fun v14 hF hr => ?_)
        refine z_callV O [vi v5] (vr v14) fV_X5_skin q1286 (fun l G => mX5_skin l G v4 v5 h13 _ hF) (zck hF) rfl rfl ⟨Nat.le_of_ble_eq_true rfl, Nat.le_of_ble_eq_true rfl⟩ (Nat.le_of_ble_eq_true rfl) dX1_take_100 ?_
        refine z_iconst O dX1_take_103 kic_0 ?_
        refine z_putZ O o_Skin_filled (w_Skin_filled _) q288 dX1_take_104 hr (fun h15 hr => ?_)
        refine z_aload_n O 3 dX1_take_107 rfl rfl ?_
        refine b2s hr (fun v17 h16 hF hr => ?_)
        refine z_callV O [] (vi v17) fV_X1_done q1652 (fun l G => mX1_done l G N x0 h15 _ hF) (zck hF) rfl rfl ⟨Nat.le_of_ble_eq_true rfl, Nat.le_of_ble_eq_true rfl⟩ (Nat.le_of_ble_eq_true rfl) dX1_take_108 ?_
        refine z_pop O dX1_take_111 rfl ?_
        refine z_iload O 0 dX1_take_112 rfl ?_
        exact z_iret O dX1_take_114 (by cases hr; rfl)
      · refine z_aload_n O 2 dX1_take_55 rfl rfl ?_
        refine z_iconst O dX1_take_56 kic_5 ?_
        refine b2s hr (fun v19 h18 hF hr => ?_)
        refine z_callV O [vi (5 : Int32)] (vi v19) fV_X1_no q535 (fun l G => mX1_no l G x0 (5 : Int32) h1 _ hF) (zck hF) rfl rfl ⟨Nat.le_of_ble_eq_true rfl, Nat.le_of_ble_eq_true rfl⟩ (Nat.le_of_ble_eq_true rfl) dX1_take_57 ?_
        exact z_iret O dX1_take_60 (by cases hr; rfl)
theorem fV_X1_takes : CVf RX1 yX1_takes cX1_takes 3 (some .int) 1 := ⟨q1547, q1548, q126, q1549, ⟨⟨by decide +kernel, by decide +kernel⟩, by decide +kernel⟩⟩
def F_X1_takes (N : Nat) (x0 : Option Nat) (x1 : Int32) (h : AH) : Option (Int32 × AH) :=
  (ck h [1] x0).bind fun _ =>
  (F_X1_anew x0 h).bind fun h1 =>
  (F_X1_isHouse x0 x1 h1).bind fun v2 =>
  if v2 = 0 then
    b2 (F_X1_no x0 (1 : Int32) h1) fun v10 h9 =>
    some (v10, h9)
  else
    (gR h1 f_Year_village x0).bind fun v3 =>
    (F_X4_house v3 x1 h1).bind fun v4 =>
    (F_X5_inmost N v4 h1).bind fun v5 =>
    if v5 = 0 then
      some ((-2 : Int32), h1)
    else
      (gR h1 f_Year_village x0).bind fun v6 =>
      (F_X4_house v6 x1 h1).bind fun v7 =>
      (F_X1_half v7 v5 h1).bind fun v8 =>
      some (v8, h1)
theorem mX1_takes (l : Launch) (G : ZG) (N : Nat) (x0 : Option Nat) (x1 : Int32) (h : AH) (r : Int32 × AH) (hr : F_X1_takes N x0 x1 h = some r) : MZ l G yX1_takes cX1_takes 3 (some .int) 3 91 [vr x0, vi x1] h (eIH r) := by
  unfold F_X1_takes at hr
  refine MZ.of (by decide) [(0, vr x0), (1, vi x1)] rfl (Nat.le_of_ble_eq_true rfl) (fun K O => ?_)
  have O : ZOk K cX1_takes RX1 "takes" 3 (some .int) 3 91 := O
  refine bs hr (fun _ hck hr => ?_)
  refine z_aload_n O 0 dX1_takes_0 rfl rfl ?_
  refine bs hr (fun h1 hF hr => ?_)
  refine z_callVv O [] fV_X1_anew q528 (fun l G => mX1_anew l G x0 h _ hF) (zck hF) rfl rfl ⟨Nat.le_of_ble_eq_true rfl, Nat.le_of_ble_eq_true rfl⟩ (Nat.le_of_ble_eq_true rfl) dX1_takes_1 ?_
  refine z_aload_n O 0 dX1_takes_4 rfl rfl ?_
  refine z_iload_n O 1 dX1_takes_5 rfl rfl ?_
  refine bs hr (fun v2 hF hr => ?_)
  refine z_callV O [vi x1] (vi v2) fV_X1_isHouse q1245 (fun l G => mX1_isHouse l G x0 x1 h1 _ hF) (zck hF) rfl rfl ⟨Nat.le_of_ble_eq_true rfl, Nat.le_of_ble_eq_true rfl⟩ (Nat.le_of_ble_eq_true rfl) dX1_takes_6 ?_
  refine z_if_ne (tgt := 18) O dX1_takes_9 (by decide) hr (fun hr => ?_) (fun hr => ?_)
  · refine z_aload_n O 0 dX1_takes_12 rfl rfl ?_
    refine z_iconst O dX1_takes_13 kic_1 ?_
    refine b2s hr (fun v10 h9 hF hr => ?_)
    refine z_callV O [vi (1 : Int32)] (vi v10) fV_X1_no q535 (fun l G => mX1_no l G x0 (1 : Int32) h1 _ hF) (zck hF) rfl rfl ⟨Nat.le_of_ble_eq_true rfl, Nat.le_of_ble_eq_true rfl⟩ (Nat.le_of_ble_eq_true rfl) dX1_takes_14 ?_
    exact z_iret O dX1_takes_17 (by cases hr; rfl)
  · refine z_aload_n O 0 dX1_takes_18 rfl rfl ?_
    refine z_getR O o_Year_village q469 dX1_takes_19 hr (fun v3 hr => ?_)
    refine z_iload_n O 1 dX1_takes_22 rfl rfl ?_
    refine bs hr (fun v4 hF hr => ?_)
    refine z_callV O [vi x1] (vr v4) fV_X4_house q1249 (fun l G => mX4_house l G v3 x1 h1 _ hF) (zck hF) rfl rfl ⟨Nat.le_of_ble_eq_true rfl, Nat.le_of_ble_eq_true rfl⟩ (Nat.le_of_ble_eq_true rfl) dX1_takes_23 ?_
    refine bs hr (fun v5 hF hr => ?_)
    refine z_callV O [] (vi v5) fV_X5_inmost q1550 (fun l G => mX5_inmost l G N v4 h1 _ hF) (zck hF) rfl rfl ⟨Nat.le_of_ble_eq_true rfl, Nat.le_of_ble_eq_true rfl⟩ (Nat.le_of_ble_eq_true rfl) dX1_takes_26 ?_
    refine z_istore_n O [(2, vi v5), (0, vr x0), (1, vi x1)] dX1_takes_29 rfl (by decide) rfl ?_
    refine z_iload_n O 0 dX1_takes_30 rfl rfl ?_
    refine z_if_ne (tgt := 39) O dX1_takes_31 (by decide) hr (fun hr => ?_) (fun hr => ?_)
    · refine z_bipush O dX1_takes_34 kbi_m2 ?_
      refine z_goto (tgt := 51) O dX1_takes_36 (by decide) ?_
      exact z_iret O dX1_takes_51 (by cases hr; rfl)
    · refine z_aload_n O 1 dX1_takes_39 rfl rfl ?_
      refine z_getR O o_Year_village q469 dX1_takes_40 hr (fun v6 hr => ?_)
      refine z_iload_n O 2 dX1_takes_43 rfl rfl ?_
      refine bs hr (fun v7 hF hr => ?_)
      refine z_callV O [vi x1] (vr v7) fV_X4_house q1249 (fun l G => mX4_house l G v6 x1 h1 _ hF) (zck hF) rfl rfl ⟨Nat.le_of_ble_eq_true rfl, Nat.le_of_ble_eq_true rfl⟩ (Nat.le_of_ble_eq_true rfl) dX1_takes_44 ?_
      refine z_iload_n O 0 dX1_takes_47 rfl rfl ?_
      refine bs hr (fun v8 hF hr => ?_)
      refine z_callS O [vr v7, vi v5] (vi v8) fS_X1_half q1554 (fun l G => mX1_half l G v7 v5 h1 _ hF) rfl ⟨Nat.le_of_ble_eq_true rfl, Nat.le_of_ble_eq_true rfl⟩ (Nat.le_of_ble_eq_true rfl) dX1_takes_48 ?_
      exact z_iret O dX1_takes_51 (by cases hr; rfl)
theorem fV_X1_through : CVf RX1 yX1_through cX1_through 3 (some .int) 2 := ⟨q1375, q1376, q126, q1377, ⟨⟨by decide +kernel, by decide +kernel⟩, by decide +kernel⟩⟩
def F_X1_through (N : Nat) (x0 : Option Nat) (x1 : Int32) (x2 : Int32) (h : AH) : Option (Int32 × AH) :=
  (ck h [1] x0).bind fun _ =>
  (F_X1_anew x0 h).bind fun h1 =>
  (F_X1_isDepth x0 x1 x2 h1).bind fun v2 =>
  if v2 = 0 then
    b2 (F_X1_no x0 (1 : Int32) h1) fun v4 h3 =>
    some (v4, h3)
  else
    b2 (F_X1_throughTo N x0 x1 x2 h1) fun v6 h5 =>
    (dv v6 (1000 : Int32)).bind fun v7 =>
    some (v7, h5)
theorem mX1_through (l : Launch) (G : ZG) (N : Nat) (x0 : Option Nat) (x1 : Int32) (x2 : Int32) (h : AH) (r : Int32 × AH) (hr : F_X1_through N x0 x1 x2 h = some r) : MZ l G yX1_through cX1_through 3 (some .int) 8 208 [vr x0, vi x1, vi x2] h (eIH r) := by
  unfold F_X1_through at hr
  refine MZ.of (by decide) [(0, vr x0), (1, vi x1), (2, vi x2)] rfl (Nat.le_of_ble_eq_true rfl) (fun K O => ?_)
  have O : ZOk K cX1_through RX1 "through" 3 (some .int) 8 208 := O
  refine bs hr (fun _ hck hr => ?_)
  refine z_aload_n O 0 dX1_through_0 rfl rfl ?_
  refine bs hr (fun h1 hF hr => ?_)
  refine z_callVv O [] fV_X1_anew q528 (fun l G => mX1_anew l G x0 h _ hF) (zck hF) rfl rfl ⟨Nat.le_of_ble_eq_true rfl, Nat.le_of_ble_eq_true rfl⟩ (Nat.le_of_ble_eq_true rfl) dX1_through_1 ?_
  refine z_aload_n O 0 dX1_through_4 rfl rfl ?_
  refine z_iload_n O 1 dX1_through_5 rfl rfl ?_
  refine z_iload_n O 2 dX1_through_6 rfl rfl ?_
  refine bs hr (fun v2 hF hr => ?_)
  refine z_callV O [vi x1, vi x2] (vi v2) fV_X1_isDepth q1282 (fun l G => mX1_isDepth l G x0 x1 x2 h1 _ hF) (zck hF) rfl rfl ⟨Nat.le_of_ble_eq_true rfl, Nat.le_of_ble_eq_true rfl⟩ (Nat.le_of_ble_eq_true rfl) dX1_through_7 ?_
  refine z_if_eq (tgt := 26) O dX1_through_10 (by decide) hr (fun hr => ?_) (fun hr => ?_)
  · refine z_aload_n O 0 dX1_through_26 rfl rfl ?_
    refine z_iconst O dX1_through_27 kic_1 ?_
    refine b2s hr (fun v4 h3 hF hr => ?_)
    refine z_callV O [vi (1 : Int32)] (vi v4) fV_X1_no q535 (fun l G => mX1_no l G x0 (1 : Int32) h1 _ hF) (zck hF) rfl rfl ⟨Nat.le_of_ble_eq_true rfl, Nat.le_of_ble_eq_true rfl⟩ (Nat.le_of_ble_eq_true rfl) dX1_through_28 ?_
    exact z_iret O dX1_through_31 (by cases hr; rfl)
  · refine z_aload_n O 0 dX1_through_13 rfl rfl ?_
    refine z_iload_n O 1 dX1_through_14 rfl rfl ?_
    refine z_iload_n O 2 dX1_through_15 rfl rfl ?_
    refine b2s hr (fun v6 h5 hF hr => ?_)
    refine z_callV O [vi x1, vi x2] (vi v6) fV_X1_throughTo q1378 (fun l G => mX1_throughTo l G N x0 x1 x2 h1 _ hF) (zck hF) rfl rfl ⟨Nat.le_of_ble_eq_true rfl, Nat.le_of_ble_eq_true rfl⟩ (Nat.le_of_ble_eq_true rfl) dX1_through_16 ?_
    refine z_sipush O dX1_through_19 ksi_1000 ?_
    refine z_idiv O dX1_through_22 hr (fun v7 hr => ?_)
    refine z_goto (tgt := 31) O dX1_through_23 (by decide) ?_
    exact z_iret O dX1_through_31 (by cases hr; rfl)
theorem fV_X1_trouble : CVf RX1 yX1_trouble cX1_trouble 1 (some .int) 0 := ⟨q1724, q1725, q126, q1726, ⟨⟨by decide +kernel, by decide +kernel⟩, by decide +kernel⟩⟩
def F_X1_trouble (x0 : Option Nat) (h : AH) : Option (Int32) :=
  (ck h [1] x0).bind fun _ =>
  (gI h f_Year_trouble x0).bind fun v1 =>
  some v1
theorem mX1_trouble (l : Launch) (G : ZG) (x0 : Option Nat) (h : AH) (r : Int32) (hr : F_X1_trouble x0 h = some r) : MZ l G yX1_trouble cX1_trouble 1 (some .int) 1 48 [vr x0] h (eI h r) := by
  unfold F_X1_trouble at hr
  refine MZ.of (by decide) [(0, vr x0)] rfl (Nat.le_of_ble_eq_true rfl) (fun K O => ?_)
  have O : ZOk K cX1_trouble RX1 "trouble" 1 (some .int) 1 48 := O
  refine bs hr (fun _ hck hr => ?_)
  refine z_aload_n O 0 dX1_trouble_0 rfl rfl ?_
  refine z_getI O o_Year_trouble q464 dX1_trouble_1 hr (fun v1 hr => ?_)
  exact z_iret O dX1_trouble_4 (by cases hr; rfl)
theorem fV_X1_undo : CVf RX1 yX1_undo cX1_undo 1 (some .boolean) 0 := ⟨q1692, q1693, q126, q1694, ⟨⟨by decide +kernel, by decide +kernel⟩, by decide +kernel⟩⟩
def bX1_undo_14 (N : Nat) (x0 : Option Nat) (s0 : Option Nat) (s1 : Int32) (h : AH) : Option (Int32 × AH) :=
  b2 (F_X1_yes s0 s1 h) fun v2 h1 =>
  if v2 = 0 then
    (zb (0 : Int32)).bind fun v11 => some (v11, h1)
  else
    (gI h1 f_Year_undoMany x0).bind fun v3 =>
    (pI h1 f_Year_undoMany x0 (v3 - (1 : Int32))).bind fun h4 =>
    (gR h4 f_Year_village x0).bind fun v5 =>
    (gR h4 f_Year_undone x0).bind fun v6 =>
    (gI h4 f_Year_undoMany x0).bind fun v7 =>
    (aR h4 v6 v7).bind fun v8 =>
    (F_X4_become N v5 v8 h4).bind fun h9 =>
    (zb (1 : Int32)).bind fun v10 => some (v10, h9)
theorem wX1_undo_14 {K : ZC} (O : ZOk K cX1_undo RX1 "undo" 1 (some .boolean) 4 113) (N : Nat) (x0 : Option Nat) (s0 : Option Nat) (s1 : Int32) (h : AH) (r : Int32 × AH) (hr : bX1_undo_14 N x0 s0 s1 h = some r) : Zw K (eIH r) h 14 [(0, vr x0)] [vi s1, vr s0] := by
  unfold bX1_undo_14 at hr
  refine b2s hr (fun v2 h1 hF hr => ?_)
  refine z_callV O [vi s1] (vi v2) fV_X1_yes q1666 (fun l G => mX1_yes l G s0 s1 h _ hF) (zck hF) rfl rfl ⟨Nat.le_of_ble_eq_true rfl, Nat.le_of_ble_eq_true rfl⟩ (Nat.le_of_ble_eq_true rfl) dX1_undo_14 ?_
  refine z_if_ne (tgt := 22) O dX1_undo_17 (by decide) hr (fun hr => ?_) (fun hr => ?_)
  · refine z_iconst O dX1_undo_20 kic_0 ?_
    refine bs hr (fun v11 e0 hr => ?_)
    obtain ⟨e1, e2, -⟩ := zb_spec e0
    exact z_zret O e2 dX1_undo_21 (by cases hr; cases e1; rfl)
  · refine z_aload_n O 0 dX1_undo_22 rfl rfl ?_
    refine z_dup O dX1_undo_23 rfl ?_
    refine z_getI O o_Year_undoMany q468 dX1_undo_24 hr (fun v3 hr => ?_)
    refine z_iconst O dX1_undo_27 kic_1 ?_
    refine z_isub O dX1_undo_28 ?_
    refine z_putI O o_Year_undoMany (w_Year_undoMany _) q468 dX1_undo_29 hr (fun h4 hr => ?_)
    refine z_aload_n O 0 dX1_undo_32 rfl rfl ?_
    refine z_getR O o_Year_village q469 dX1_undo_33 hr (fun v5 hr => ?_)
    refine z_aload_n O 0 dX1_undo_36 rfl rfl ?_
    refine z_getR O o_Year_undone q474 dX1_undo_37 hr (fun v6 hr => ?_)
    refine z_aload_n O 0 dX1_undo_40 rfl rfl ?_
    refine z_getI O o_Year_undoMany q468 dX1_undo_41 hr (fun v7 hr => ?_)
    refine z_aaload O dX1_undo_44 hr (fun v8 hr => ?_)
    refine bs hr (fun h9 hF hr => ?_)
    refine z_callVv O [vr v8] fV_X4_become q1199 (fun l G => mX4_become l G N v5 v8 h4 _ hF) (zck hF) rfl rfl ⟨Nat.le_of_ble_eq_true rfl, Nat.le_of_ble_eq_true rfl⟩ (Nat.le_of_ble_eq_true rfl) dX1_undo_45 ?_
    refine z_iconst O dX1_undo_48 kic_1 ?_
    refine bs hr (fun v10 e0 hr => ?_)
    obtain ⟨e1, e2, -⟩ := zb_spec e0
    exact z_zret O e2 dX1_undo_49 (by cases hr; cases e1; rfl)
def F_X1_undo (N : Nat) (x0 : Option Nat) (h : AH) : Option (Int32 × AH) :=
  (ck h [1] x0).bind fun _ =>
  (gI h f_Year_undoMany x0).bind fun v1 =>
  if v1 = 0 then
    bX1_undo_14 N x0 x0 (6 : Int32) h
  else
    bX1_undo_14 N x0 x0 (0 : Int32) h
theorem mX1_undo (l : Launch) (G : ZG) (N : Nat) (x0 : Option Nat) (h : AH) (r : Int32 × AH) (hr : F_X1_undo N x0 h = some r) : MZ l G yX1_undo cX1_undo 1 (some .boolean) 4 113 [vr x0] h (eIH r) := by
  unfold F_X1_undo at hr
  refine MZ.of (by decide) [(0, vr x0)] rfl (Nat.le_of_ble_eq_true rfl) (fun K O => ?_)
  have O : ZOk K cX1_undo RX1 "undo" 1 (some .boolean) 4 113 := O
  refine bs hr (fun _ hck hr => ?_)
  refine z_aload_n O 0 dX1_undo_0 rfl rfl ?_
  refine z_aload_n O 0 dX1_undo_1 rfl rfl ?_
  refine z_getI O o_Year_undoMany q468 dX1_undo_2 hr (fun v1 hr => ?_)
  refine z_if_ne (tgt := 13) O dX1_undo_5 (by decide) hr (fun hr => ?_) (fun hr => ?_)
  · refine z_bipush O dX1_undo_8 kbi_6 ?_
    refine z_goto (tgt := 14) O dX1_undo_10 (by decide) ?_
    exact wX1_undo_14 O N x0 x0 (6 : Int32) h _ hr
  · refine z_iconst O dX1_undo_13 kic_0 ?_
    exact wX1_undo_14 O N x0 x0 (0 : Int32) h _ hr
theorem fV_X1_warm : CVf RX1 yX1_warm cX1_warm 3 (some .int) 2 := ⟨q1288, q1289, q126, q1290, ⟨⟨by decide +kernel, by decide +kernel⟩, by decide +kernel⟩⟩
def F_X1_warm (N : Nat) (x0 : Option Nat) (x1 : Int32) (x2 : Int32) (h : AH) : Option (Int32 × AH) :=
  (ck h [1] x0).bind fun _ =>
  (F_X1_anew x0 h).bind fun h1 =>
  (F_X1_isDepth x0 x1 x2 h1).bind fun v2 =>
  if v2 = 0 then
    b2 (F_X1_no x0 (1 : Int32) h1) fun v4 h3 =>
    some (v4, h3)
  else
    (gR h1 f_Year_village x0).bind fun v5 =>
    (F_X4_house v5 x1 h1).bind fun v6 =>
    (F_X5_warm N v6 x2 h1).bind fun v7 =>
    some (v7, h1)
theorem mX1_warm (l : Launch) (G : ZG) (N : Nat) (x0 : Option Nat) (x1 : Int32) (x2 : Int32) (h : AH) (r : Int32 × AH) (hr : F_X1_warm N x0 x1 x2 h = some r) : MZ l G yX1_warm cX1_warm 3 (some .int) 4 113 [vr x0, vi x1, vi x2] h (eIH r) := by
  unfold F_X1_warm at hr
  refine MZ.of (by decide) [(0, vr x0), (1, vi x1), (2, vi x2)] rfl (Nat.le_of_ble_eq_true rfl) (fun K O => ?_)
  have O : ZOk K cX1_warm RX1 "warm" 3 (some .int) 4 113 := O
  refine bs hr (fun _ hck hr => ?_)
  refine z_aload_n O 0 dX1_warm_0 rfl rfl ?_
  refine bs hr (fun h1 hF hr => ?_)
  refine z_callVv O [] fV_X1_anew q528 (fun l G => mX1_anew l G x0 h _ hF) (zck hF) rfl rfl ⟨Nat.le_of_ble_eq_true rfl, Nat.le_of_ble_eq_true rfl⟩ (Nat.le_of_ble_eq_true rfl) dX1_warm_1 ?_
  refine z_aload_n O 0 dX1_warm_4 rfl rfl ?_
  refine z_iload_n O 1 dX1_warm_5 rfl rfl ?_
  refine z_iload_n O 2 dX1_warm_6 rfl rfl ?_
  refine bs hr (fun v2 hF hr => ?_)
  refine z_callV O [vi x1, vi x2] (vi v2) fV_X1_isDepth q1282 (fun l G => mX1_isDepth l G x0 x1 x2 h1 _ hF) (zck hF) rfl rfl ⟨Nat.le_of_ble_eq_true rfl, Nat.le_of_ble_eq_true rfl⟩ (Nat.le_of_ble_eq_true rfl) dX1_warm_7 ?_
  refine z_if_eq (tgt := 28) O dX1_warm_10 (by decide) hr (fun hr => ?_) (fun hr => ?_)
  · refine z_aload_n O 0 dX1_warm_28 rfl rfl ?_
    refine z_iconst O dX1_warm_29 kic_1 ?_
    refine b2s hr (fun v4 h3 hF hr => ?_)
    refine z_callV O [vi (1 : Int32)] (vi v4) fV_X1_no q535 (fun l G => mX1_no l G x0 (1 : Int32) h1 _ hF) (zck hF) rfl rfl ⟨Nat.le_of_ble_eq_true rfl, Nat.le_of_ble_eq_true rfl⟩ (Nat.le_of_ble_eq_true rfl) dX1_warm_30 ?_
    exact z_iret O dX1_warm_33 (by cases hr; rfl)
  · refine z_aload_n O 0 dX1_warm_13 rfl rfl ?_
    refine z_getR O o_Year_village q469 dX1_warm_14 hr (fun v5 hr => ?_)
    refine z_iload_n O 1 dX1_warm_17 rfl rfl ?_
    refine bs hr (fun v6 hF hr => ?_)
    refine z_callV O [vi x1] (vr v6) fV_X4_house q1249 (fun l G => mX4_house l G v5 x1 h1 _ hF) (zck hF) rfl rfl ⟨Nat.le_of_ble_eq_true rfl, Nat.le_of_ble_eq_true rfl⟩ (Nat.le_of_ble_eq_true rfl) dX1_warm_18 ?_
    refine z_iload_n O 2 dX1_warm_21 rfl rfl ?_
    refine bs hr (fun v7 hF hr => ?_)
    refine z_callV O [vi x2] (vi v7) fV_X5_warm q1291 (fun l G => mX5_warm l G N v6 x2 h1 _ hF) (zck hF) rfl rfl ⟨Nat.le_of_ble_eq_true rfl, Nat.le_of_ble_eq_true rfl⟩ (Nat.le_of_ble_eq_true rfl) dX1_warm_22 ?_
    refine z_goto (tgt := 33) O dX1_warm_25 (by decide) ?_
    exact z_iret O dX1_warm_33 (by cases hr; rfl)
theorem fV_X5_isOpenTo : CVf RX5 yX5_isOpenTo cX5_isOpenTo 4 (some .boolean) 1 := ⟨q1366, q1367, q133, q1368, ⟨⟨by decide +kernel, by decide +kernel⟩, by decide +kernel⟩⟩
def BX5_isOpenTo_7 (N : Nat) (x0 : Option Nat) (x1 : Int32) (h : AH) (rec7 : Int32 → Int32 → Option (Int32)) : Int32 → Int32 → Option (Int32) := fun x2 x3 =>
  if x3 < x1 then
    zb x2
  else
    if x3 ≤ 0 then
      zb x2
    else
      if x2 = 0 then
        jlet (x3 + (-1 : Int32)) fun v1 =>
        rec7 (0 : Int32) v1
      else
        (F_X5_skin x0 x3 h).bind fun v2 =>
        (F_X6_isOpen v2 h).bind fun v3 =>
        if v3 = 0 then
          jlet (x3 + (-1 : Int32)) fun v4 =>
          rec7 (0 : Int32) v4
        else
          jlet (x3 + (-1 : Int32)) fun v5 =>
          rec7 (1 : Int32) v5
def LX5_isOpenTo_7 (N : Nat) (x0 : Option Nat) (x1 : Int32) (h : AH) : Int32 → Int32 → Option (Int32) := lf (fun _ _ => none) (BX5_isOpenTo_7 N x0 x1 h) N
theorem wX5_isOpenTo_7B {K : ZC} (O : ZOk K cX5_isOpenTo RX5 "isOpenTo" 4 (some .boolean) 2 69) (N : Nat) (x0 : Option Nat) (x1 : Int32) (h : AH) (rec7 : Int32 → Int32 → Option (Int32)) (hrec7 : ∀ (y2 : Int32) (y3 : Int32) (ry : Int32), rec7 y2 y3 = some ry → Zw K (eI h ry) h 7 [(0, vr x0), (1, vi x1), (2, vi y2), (3, vi y3)] []) (x2 : Int32) (x3 : Int32) (r : Int32) (hr : BX5_isOpenTo_7 N x0 x1 h rec7 x2 x3 = some r) : Zw K (eI h r) h 7 [(0, vr x0), (1, vi x1), (2, vi x2), (3, vi x3)] [] := by
  unfold BX5_isOpenTo_7 at hr
  refine z_iload_n O 3 dX5_isOpenTo_7 rfl rfl ?_
  refine z_iload_n O 1 dX5_isOpenTo_8 rfl rfl ?_
  refine z_icmp_lt (tgt := 43) O dX5_isOpenTo_9 (by decide) hr (fun hr => ?_) (fun hr => ?_)
  · refine z_iload_n O 2 dX5_isOpenTo_43 rfl rfl ?_
    obtain ⟨e1, e2, -⟩ := zb_spec hr
    exact z_zret O e2 dX5_isOpenTo_44 (by cases e1; rfl)
  · refine z_iload_n O 3 dX5_isOpenTo_12 rfl rfl ?_
    refine z_if_le (tgt := 43) O dX5_isOpenTo_13 (by decide) hr (fun hr => ?_) (fun hr => ?_)
    · refine z_iload_n O 2 dX5_isOpenTo_43 rfl rfl ?_
      obtain ⟨e1, e2, -⟩ := zb_spec hr
      exact z_zret O e2 dX5_isOpenTo_44 (by cases e1; rfl)
    · refine z_iload_n O 2 dX5_isOpenTo_16 rfl rfl ?_
      refine z_if_eq (tgt := 35) O dX5_isOpenTo_17 (by decide) hr (fun hr => ?_) (fun hr => ?_)
      · refine z_iconst O dX5_isOpenTo_35 kic_0 ?_
        refine z_istore_n O [(2, vi (0 : Int32)), (0, vr x0), (1, vi x1), (3, vi x3)] dX5_isOpenTo_36 rfl (by decide) rfl ?_
        refine z_iincL O 3 (fun v1 => [(3, vi v1), (2, vi (0 : Int32)), (0, vr x0), (1, vi x1)]) dX5_isOpenTo_37 rfl rfl (by decide) (fun _ => rfl) hr (fun v1 hr => ?_)
        refine z_goto (tgt := 7) O dX5_isOpenTo_40 (by decide) ?_
        refine z_sub [2, 3, 1, 0] rfl ?_
        exact hrec7 (0 : Int32) v1 _ hr
      · refine z_aload_n O 0 dX5_isOpenTo_20 rfl rfl ?_
        refine z_iload_n O 3 dX5_isOpenTo_21 rfl rfl ?_
        refine bs hr (fun v2 hF hr => ?_)
        refine z_callV O [vi x3] (vr v2) fV_X5_skin q1127 (fun l G => mX5_skin l G x0 x3 h _ hF) (zck hF) rfl rfl ⟨Nat.le_of_ble_eq_true rfl, Nat.le_of_ble_eq_true rfl⟩ (Nat.le_of_ble_eq_true rfl) dX5_isOpenTo_22 ?_
        refine bs hr (fun v3 hF hr => ?_)
        refine z_callV O [] (vi v3) fV_X6_isOpen q1369 (fun l G => mX6_isOpen l G v2 h _ hF) (zck hF) rfl rfl ⟨Nat.le_of_ble_eq_true rfl, Nat.le_of_ble_eq_true rfl⟩ (Nat.le_of_ble_eq_true rfl) dX5_isOpenTo_25 ?_
        refine z_if_eq (tgt := 35) O dX5_isOpenTo_28 (by decide) hr (fun hr => ?_) (fun hr => ?_)
        · refine z_iconst O dX5_isOpenTo_35 kic_0 ?_
          refine z_istore_n O [(2, vi (0 : Int32)), (0, vr x0), (1, vi x1), (3, vi x3)] dX5_isOpenTo_36 rfl (by decide) rfl ?_
          refine z_iincL O 3 (fun v4 => [(3, vi v4), (2, vi (0 : Int32)), (0, vr x0), (1, vi x1)]) dX5_isOpenTo_37 rfl rfl (by decide) (fun _ => rfl) hr (fun v4 hr => ?_)
          refine z_goto (tgt := 7) O dX5_isOpenTo_40 (by decide) ?_
          refine z_sub [2, 3, 1, 0] rfl ?_
          exact hrec7 (0 : Int32) v4 _ hr
        · refine z_iconst O dX5_isOpenTo_31 kic_1 ?_
          refine z_goto (tgt := 36) O dX5_isOpenTo_32 (by decide) ?_
          refine z_istore_n O [(2, vi (1 : Int32)), (0, vr x0), (1, vi x1), (3, vi x3)] dX5_isOpenTo_36 rfl (by decide) rfl ?_
          refine z_iincL O 3 (fun v5 => [(3, vi v5), (2, vi (1 : Int32)), (0, vr x0), (1, vi x1)]) dX5_isOpenTo_37 rfl rfl (by decide) (fun _ => rfl) hr (fun v5 hr => ?_)
          refine z_goto (tgt := 7) O dX5_isOpenTo_40 (by decide) ?_
          refine z_sub [2, 3, 1, 0] rfl ?_
          exact hrec7 (1 : Int32) v5 _ hr
theorem wX5_isOpenTo_7 {K : ZC} (O : ZOk K cX5_isOpenTo RX5 "isOpenTo" 4 (some .boolean) 2 69) (N : Nat) (x0 : Option Nat) (x1 : Int32) (h : AH) : ∀ (n : Nat) (x2 : Int32) (x3 : Int32) (r : Int32), lf (fun _ _ => none) (BX5_isOpenTo_7 N x0 x1 h) n x2 x3 = some r → Zw K (eI h r) h 7 [(0, vr x0), (1, vi x1), (2, vi x2), (3, vi x3)] [] := by
  intro n
  induction n with
  | zero => intro x2 x3 r hr; cases hr
  | succ n ih => intro x2 x3 r hr; exact wX5_isOpenTo_7B O N x0 x1 h (lf (fun _ _ => none) (BX5_isOpenTo_7 N x0 x1 h) n)  ih x2 x3 r hr
def F_X5_isOpenTo (N : Nat) (x0 : Option Nat) (x1 : Int32) (h : AH) : Option (Int32) :=
  (ck h [5] x0).bind fun _ =>
  (gI h f_House_many x0).bind fun v1 =>
  LX5_isOpenTo_7 N x0 x1 h (1 : Int32) v1
theorem mX5_isOpenTo (l : Launch) (G : ZG) (N : Nat) (x0 : Option Nat) (x1 : Int32) (h : AH) (r : Int32) (hr : F_X5_isOpenTo N x0 x1 h = some r) : MZ l G yX5_isOpenTo cX5_isOpenTo 4 (some .boolean) 2 69 [vr x0, vi x1] h (eI h r) := by
  unfold F_X5_isOpenTo at hr
  refine MZ.of (by decide) [(0, vr x0), (1, vi x1)] rfl (Nat.le_of_ble_eq_true rfl) (fun K O => ?_)
  have O : ZOk K cX5_isOpenTo RX5 "isOpenTo" 4 (some .boolean) 2 69 := O
  refine bs hr (fun _ hck hr => ?_)
  refine z_iconst O dX5_isOpenTo_0 kic_1 ?_
  refine z_istore_n O [(2, vi (1 : Int32)), (0, vr x0), (1, vi x1)] dX5_isOpenTo_1 rfl (by decide) rfl ?_
  refine z_aload_n O 1 dX5_isOpenTo_2 rfl rfl ?_
  refine z_getI O o_House_many q311 dX5_isOpenTo_3 hr (fun v1 hr => ?_)
  refine z_istore_n O [(3, vi v1), (2, vi (1 : Int32)), (0, vr x0), (1, vi x1)] dX5_isOpenTo_6 rfl (by decide) rfl ?_
  refine z_sub [2, 3, 1, 0] rfl ?_
  exact wX5_isOpenTo_7 O N x0 x1 h _ (1 : Int32) v1 _ hr
theorem fV_X1_way : CVf RX1 yX1_way cX1_way 3 (some .int) 2 := ⟨q1362, q1363, q126, q1364, ⟨⟨by decide +kernel, by decide +kernel⟩, by decide +kernel⟩⟩
def F_X1_way (N : Nat) (x0 : Option Nat) (x1 : Int32) (x2 : Int32) (h : AH) : Option (Int32 × AH) :=
  (ck h [1] x0).bind fun _ =>
  (F_X1_anew x0 h).bind fun h1 =>
  (F_X1_isDepth x0 x1 x2 h1).bind fun v2 =>
  if v2 = 0 then
    b2 (F_X1_no x0 (1 : Int32) h1) fun v10 h9 =>
    some (v10, h9)
  else
    (gR h1 f_Year_village x0).bind fun v3 =>
    (F_X4_house v3 x1 h1).bind fun v4 =>
    (F_X5_isOpenTo N v4 x2 h1).bind fun v5 =>
    if v5 = 0 then
      some ((-2 : Int32), h1)
    else
      (gR h1 f_Year_village x0).bind fun v6 =>
      (F_X4_house v6 x1 h1).bind fun v7 =>
      (F_X5_way N v7 x2 h1).bind fun v8 =>
      some (v8, h1)
theorem mX1_way (l : Launch) (G : ZG) (N : Nat) (x0 : Option Nat) (x1 : Int32) (x2 : Int32) (h : AH) (r : Int32 × AH) (hr : F_X1_way N x0 x1 x2 h = some r) : MZ l G yX1_way cX1_way 3 (some .int) 6 157 [vr x0, vi x1, vi x2] h (eIH r) := by
  unfold F_X1_way at hr
  refine MZ.of (by decide) [(0, vr x0), (1, vi x1), (2, vi x2)] rfl (Nat.le_of_ble_eq_true rfl) (fun K O => ?_)
  have O : ZOk K cX1_way RX1 "way" 3 (some .int) 6 157 := O
  refine bs hr (fun _ hck hr => ?_)
  refine z_aload_n O 0 dX1_way_0 rfl rfl ?_
  refine bs hr (fun h1 hF hr => ?_)
  refine z_callVv O [] fV_X1_anew q528 (fun l G => mX1_anew l G x0 h _ hF) (zck hF) rfl rfl ⟨Nat.le_of_ble_eq_true rfl, Nat.le_of_ble_eq_true rfl⟩ (Nat.le_of_ble_eq_true rfl) dX1_way_1 ?_
  refine z_aload_n O 0 dX1_way_4 rfl rfl ?_
  refine z_iload_n O 1 dX1_way_5 rfl rfl ?_
  refine z_iload_n O 2 dX1_way_6 rfl rfl ?_
  refine bs hr (fun v2 hF hr => ?_)
  refine z_callV O [vi x1, vi x2] (vi v2) fV_X1_isDepth q1282 (fun l G => mX1_isDepth l G x0 x1 x2 h1 _ hF) (zck hF) rfl rfl ⟨Nat.le_of_ble_eq_true rfl, Nat.le_of_ble_eq_true rfl⟩ (Nat.le_of_ble_eq_true rfl) dX1_way_7 ?_
  refine z_if_ne (tgt := 19) O dX1_way_10 (by decide) hr (fun hr => ?_) (fun hr => ?_)
  · refine z_aload_n O 0 dX1_way_13 rfl rfl ?_
    refine z_iconst O dX1_way_14 kic_1 ?_
    refine b2s hr (fun v10 h9 hF hr => ?_)
    refine z_callV O [vi (1 : Int32)] (vi v10) fV_X1_no q535 (fun l G => mX1_no l G x0 (1 : Int32) h1 _ hF) (zck hF) rfl rfl ⟨Nat.le_of_ble_eq_true rfl, Nat.le_of_ble_eq_true rfl⟩ (Nat.le_of_ble_eq_true rfl) dX1_way_15 ?_
    exact z_iret O dX1_way_18 (by cases hr; rfl)
  · refine z_aload_n O 0 dX1_way_19 rfl rfl ?_
    refine z_getR O o_Year_village q469 dX1_way_20 hr (fun v3 hr => ?_)
    refine z_iload_n O 1 dX1_way_23 rfl rfl ?_
    refine bs hr (fun v4 hF hr => ?_)
    refine z_callV O [vi x1] (vr v4) fV_X4_house q1249 (fun l G => mX4_house l G v3 x1 h1 _ hF) (zck hF) rfl rfl ⟨Nat.le_of_ble_eq_true rfl, Nat.le_of_ble_eq_true rfl⟩ (Nat.le_of_ble_eq_true rfl) dX1_way_24 ?_
    refine z_iload_n O 2 dX1_way_27 rfl rfl ?_
    refine bs hr (fun v5 hF hr => ?_)
    refine z_callV O [vi x2] (vi v5) fV_X5_isOpenTo q1365 (fun l G => mX5_isOpenTo l G N v4 x2 h1 _ hF) (zck hF) rfl rfl ⟨Nat.le_of_ble_eq_true rfl, Nat.le_of_ble_eq_true rfl⟩ (Nat.le_of_ble_eq_true rfl) dX1_way_28 ?_
    refine z_if_eq (tgt := 49) O dX1_way_31 (by decide) hr (fun hr => ?_) (fun hr => ?_)
    · refine z_bipush O dX1_way_49 kbi_m2 ?_
      exact z_iret O dX1_way_51 (by cases hr; rfl)
    · refine z_aload_n O 0 dX1_way_34 rfl rfl ?_
      refine z_getR O o_Year_village q469 dX1_way_35 hr (fun v6 hr => ?_)
      refine z_iload_n O 1 dX1_way_38 rfl rfl ?_
      refine bs hr (fun v7 hF hr => ?_)
      refine z_callV O [vi x1] (vr v7) fV_X4_house q1249 (fun l G => mX4_house l G v6 x1 h1 _ hF) (zck hF) rfl rfl ⟨Nat.le_of_ble_eq_true rfl, Nat.le_of_ble_eq_true rfl⟩ (Nat.le_of_ble_eq_true rfl) dX1_way_39 ?_
      refine z_iload_n O 2 dX1_way_42 rfl rfl ?_
      refine bs hr (fun v8 hF hr => ?_)
      refine z_callV O [vi x2] (vi v8) fV_X5_way q1373 (fun l G => mX5_way l G N v7 x2 h1 _ hF) (zck hF) rfl rfl ⟨Nat.le_of_ble_eq_true rfl, Nat.le_of_ble_eq_true rfl⟩ (Nat.le_of_ble_eq_true rfl) dX1_way_43 ?_
      refine z_goto (tgt := 51) O dX1_way_46 (by decide) ?_
      exact z_iret O dX1_way_51 (by cases hr; rfl)
theorem fV_X1_where : CVf RX1 yX1_where cX1_where 1 (some .int) 0 := ⟨q1219, q1220, q126, q1221, ⟨⟨by decide +kernel, by decide +kernel⟩, by decide +kernel⟩⟩
def F_X1_where (x0 : Option Nat) (h : AH) : Option (Int32) :=
  (ck h [1] x0).bind fun _ =>
  (gI h f_Year_trouble x0).bind fun v1 =>
  if v1 = (4 : Int32) then
    (gI h f_Year_where x0).bind fun v2 =>
    some v2
  else
    some (-1 : Int32)
theorem mX1_where (l : Launch) (G : ZG) (x0 : Option Nat) (h : AH) (r : Int32) (hr : F_X1_where x0 h = some r) : MZ l G yX1_where cX1_where 1 (some .int) 1 48 [vr x0] h (eI h r) := by
  unfold F_X1_where at hr
  refine MZ.of (by decide) [(0, vr x0)] rfl (Nat.le_of_ble_eq_true rfl) (fun K O => ?_)
  have O : ZOk K cX1_where RX1 "where" 1 (some .int) 1 48 := O
  refine bs hr (fun _ hck hr => ?_)
  refine z_aload_n O 0 dX1_where_0 rfl rfl ?_
  refine z_getI O o_Year_trouble q464 dX1_where_1 hr (fun v1 hr => ?_)
  refine z_iconst O dX1_where_4 kic_4 ?_
  refine z_icmp_ne (tgt := 15) O dX1_where_5 (by decide) hr (fun hr => ?_) (fun hr => ?_)
  · refine z_aload_n O 0 dX1_where_8 rfl rfl ?_
    refine z_getI O o_Year_where q466 dX1_where_9 hr (fun v2 hr => ?_)
    refine z_goto (tgt := 16) O dX1_where_12 (by decide) ?_
    exact z_iret O dX1_where_16 (by cases hr; rfl)
  · refine z_iconst O dX1_where_15 kic_m1 ?_
    exact z_iret O dX1_where_16 (by cases hr; rfl)
theorem fV_X1_whose : CVf RX1 yX1_whose cX1_whose 3 (some .int) 2 := ⟨q1223, q1224, q126, q1225, ⟨⟨by decide +kernel, by decide +kernel⟩, by decide +kernel⟩⟩
def F_X1_whose (N : Nat) (x0 : Option Nat) (x1 : Int32) (x2 : Int32) (h : AH) : Option (Int32 × AH) :=
  (ck h [1] x0).bind fun _ =>
  (F_X1_anew x0 h).bind fun h1 =>
  (gR h1 f_Year_land x0).bind fun v2 =>
  if v2 = none then
    b2 (F_X1_no x0 (1 : Int32) h1) fun v4 h3 =>
    some (v4, h3)
  else
    (gR h1 f_Year_land x0).bind fun v5 =>
    (F_X10_isCell v5 x1 x2 h1).bind fun v6 =>
    if v6 = 0 then
      b2 (F_X1_no x0 (1 : Int32) h1) fun v8 h7 =>
      some (v8, h7)
    else
      (gR h1 f_Year_village x0).bind fun v9 =>
      (F_X4_whose N v9 x1 x2 h1).bind fun v10 =>
      some (v10, h1)
theorem mX1_whose (l : Launch) (G : ZG) (N : Nat) (x0 : Option Nat) (x1 : Int32) (x2 : Int32) (h : AH) (r : Int32 × AH) (hr : F_X1_whose N x0 x1 x2 h = some r) : MZ l G yX1_whose cX1_whose 3 (some .int) 4 116 [vr x0, vi x1, vi x2] h (eIH r) := by
  unfold F_X1_whose at hr
  refine MZ.of (by decide) [(0, vr x0), (1, vi x1), (2, vi x2)] rfl (Nat.le_of_ble_eq_true rfl) (fun K O => ?_)
  have O : ZOk K cX1_whose RX1 "whose" 3 (some .int) 4 116 := O
  refine bs hr (fun _ hck hr => ?_)
  refine z_aload_n O 0 dX1_whose_0 rfl rfl ?_
  refine bs hr (fun h1 hF hr => ?_)
  refine z_callVv O [] fV_X1_anew q528 (fun l G => mX1_anew l G x0 h _ hF) (zck hF) rfl rfl ⟨Nat.le_of_ble_eq_true rfl, Nat.le_of_ble_eq_true rfl⟩ (Nat.le_of_ble_eq_true rfl) dX1_whose_1 ?_
  refine z_aload_n O 0 dX1_whose_4 rfl rfl ?_
  refine z_getR O o_Year_land q463 dX1_whose_5 hr (fun v2 hr => ?_)
  refine z_ifnull (tgt := 35) O dX1_whose_8 (by decide) hr (fun hr => ?_) (fun hr => ?_)
  · refine z_aload_n O 0 dX1_whose_35 rfl rfl ?_
    refine z_iconst O dX1_whose_36 kic_1 ?_
    refine b2s hr (fun v4 h3 hF hr => ?_)
    refine z_callV O [vi (1 : Int32)] (vi v4) fV_X1_no q535 (fun l G => mX1_no l G x0 (1 : Int32) h1 _ hF) (zck hF) rfl rfl ⟨Nat.le_of_ble_eq_true rfl, Nat.le_of_ble_eq_true rfl⟩ (Nat.le_of_ble_eq_true rfl) dX1_whose_37 ?_
    exact z_iret O dX1_whose_40 (by cases hr; rfl)
  · refine z_aload_n O 0 dX1_whose_11 rfl rfl ?_
    refine z_getR O o_Year_land q463 dX1_whose_12 hr (fun v5 hr => ?_)
    refine z_iload_n O 1 dX1_whose_15 rfl rfl ?_
    refine z_iload_n O 2 dX1_whose_16 rfl rfl ?_
    refine bs hr (fun v6 hF hr => ?_)
    refine z_callV O [vi x1, vi x2] (vi v6) fV_X10_isCell q1226 (fun l G => mX10_isCell l G v5 x1 x2 h1 _ hF) (zck hF) rfl rfl ⟨Nat.le_of_ble_eq_true rfl, Nat.le_of_ble_eq_true rfl⟩ (Nat.le_of_ble_eq_true rfl) dX1_whose_17 ?_
    refine z_if_eq (tgt := 35) O dX1_whose_20 (by decide) hr (fun hr => ?_) (fun hr => ?_)
    · refine z_aload_n O 0 dX1_whose_35 rfl rfl ?_
      refine z_iconst O dX1_whose_36 kic_1 ?_
      refine b2s hr (fun v8 h7 hF hr => ?_)
      refine z_callV O [vi (1 : Int32)] (vi v8) fV_X1_no q535 (fun l G => mX1_no l G x0 (1 : Int32) h1 _ hF) (zck hF) rfl rfl ⟨Nat.le_of_ble_eq_true rfl, Nat.le_of_ble_eq_true rfl⟩ (Nat.le_of_ble_eq_true rfl) dX1_whose_37 ?_
      exact z_iret O dX1_whose_40 (by cases hr; rfl)
    · refine z_aload_n O 0 dX1_whose_23 rfl rfl ?_
      refine z_getR O o_Year_village q469 dX1_whose_24 hr (fun v9 hr => ?_)
      refine z_iload_n O 1 dX1_whose_27 rfl rfl ?_
      refine z_iload_n O 2 dX1_whose_28 rfl rfl ?_
      refine bs hr (fun v10 hF hr => ?_)
      refine z_callV O [vi x1, vi x2] (vi v10) fV_X4_whose q1227 (fun l G => mX4_whose l G N v9 x1 x2 h1 _ hF) (zck hF) rfl rfl ⟨Nat.le_of_ble_eq_true rfl, Nat.le_of_ble_eq_true rfl⟩ (Nat.le_of_ble_eq_true rfl) dX1_whose_29 ?_
      refine z_goto (tgt := 40) O dX1_whose_32 (by decide) ?_
      exact z_iret O dX1_whose_40 (by cases hr; rfl)
theorem fV_X1_worth : CVf RX1 yX1_worth cX1_worth 5 (some .int) 1 := ⟨q1558, q1559, q126, q1560, ⟨⟨by decide +kernel, by decide +kernel⟩, by decide +kernel⟩⟩
def bX1_worth_66 (N : Nat) (rec32 : Int32 → Int32 → AH → Option (Int32 × AH)) (x0 : Option Nat) (x1 : Int32) (x2 : Option Nat) (x3 : Int32) (x4 : Int32) (h : AH) : Option (Int32 × AH) :=
  (F_X5_skin x2 x4 h).bind fun v1 =>
  (gI h f_Skin_collapsed v1).bind fun v2 =>
  if v2 = 0 then
    (F_X1_half x2 x4 h).bind fun v3 =>
    jlet (x3 + v3) fun v4 =>
    jlet (x4 + (1 : Int32)) fun v5 =>
    rec32 v4 v5 h
  else
    jlet (x3 + (0 : Int32)) fun v6 =>
    jlet (x4 + (1 : Int32)) fun v7 =>
    rec32 v6 v7 h
theorem wX1_worth_66 {K : ZC} (O : ZOk K cX1_worth RX1 "worth" 5 (some .int) 3 91) (N : Nat) (rec32 : Int32 → Int32 → AH → Option (Int32 × AH)) (x0 : Option Nat) (x1 : Int32) (x2 : Option Nat) (x3 : Int32) (x4 : Int32) (h : AH) (hrec32 : ∀ (y3 : Int32) (y4 : Int32) (hy : AH) (ry : Int32 × AH), rec32 y3 y4 hy = some ry → Zw K (eIH ry) hy 32 [(0, vr x0), (1, vi x1), (2, vr x2), (3, vi y3), (4, vi y4)] []) (r : Int32 × AH) (hr : bX1_worth_66 N rec32 x0 x1 x2 x3 x4 h = some r) : Zw K (eIH r) h 66 [(0, vr x0), (1, vi x1), (2, vr x2), (3, vi x3), (4, vi x4)] [] := by
  unfold bX1_worth_66 at hr
  refine z_iload_n O 3 dX1_worth_66 rfl rfl ?_
  refine z_aload_n O 2 dX1_worth_67 rfl rfl ?_
  refine z_iload O 4 dX1_worth_68 rfl ?_
  refine bs hr (fun v1 hF hr => ?_)
  refine z_callV O [vi x4] (vr v1) fV_X5_skin q1286 (fun l G => mX5_skin l G x2 x4 h _ hF) (zck hF) rfl rfl ⟨Nat.le_of_ble_eq_true rfl, Nat.le_of_ble_eq_true rfl⟩ (Nat.le_of_ble_eq_true rfl) dX1_worth_70 ?_
  refine z_getI O o_Skin_collapsed q285 dX1_worth_73 hr (fun v2 hr => ?_)
  refine z_if_eq (tgt := 83) O dX1_worth_76 (by decide) hr (fun hr => ?_) (fun hr => ?_)
  · refine z_aload_n O 2 dX1_worth_83 rfl rfl ?_
    refine z_iload O 4 dX1_worth_84 rfl ?_
    refine bs hr (fun v3 hF hr => ?_)
    refine z_callS O [vr x2, vi x4] (vi v3) fS_X1_half q1554 (fun l G => mX1_half l G x2 x4 h _ hF) rfl ⟨Nat.le_of_ble_eq_true rfl, Nat.le_of_ble_eq_true rfl⟩ (Nat.le_of_ble_eq_true rfl) dX1_worth_86 ?_
    refine z_iadd O dX1_worth_89 ?_
    refine z_letI hr (fun v4 hr => ?_)
    refine z_istore_n O [(3, vi v4), (0, vr x0), (1, vi x1), (2, vr x2), (4, vi x4)] dX1_worth_90 rfl (by decide) rfl ?_
    refine z_iincL O 4 (fun v5 => [(4, vi v5), (3, vi v4), (0, vr x0), (1, vi x1), (2, vr x2)]) dX1_worth_91 rfl rfl (by decide) (fun _ => rfl) hr (fun v5 hr => ?_)
    refine z_goto (tgt := 32) O dX1_worth_94 (by decide) ?_
    refine z_sub [2, 3, 4, 1, 0] rfl ?_
    exact hrec32 v4 v5 h _ hr
  · refine z_iconst O dX1_worth_79 kic_0 ?_
    refine z_goto (tgt := 89) O dX1_worth_80 (by decide) ?_
    refine z_iadd O dX1_worth_89 ?_
    refine z_letI hr (fun v6 hr => ?_)
    refine z_istore_n O [(3, vi v6), (0, vr x0), (1, vi x1), (2, vr x2), (4, vi x4)] dX1_worth_90 rfl (by decide) rfl ?_
    refine z_iincL O 4 (fun v7 => [(4, vi v7), (3, vi v6), (0, vr x0), (1, vi x1), (2, vr x2)]) dX1_worth_91 rfl rfl (by decide) (fun _ => rfl) hr (fun v7 hr => ?_)
    refine z_goto (tgt := 32) O dX1_worth_94 (by decide) ?_
    refine z_sub [2, 3, 4, 1, 0] rfl ?_
    exact hrec32 v6 v7 h _ hr
def BX1_worth_32 (N : Nat) (x0 : Option Nat) (x1 : Int32) (x2 : Option Nat) (rec32 : Int32 → Int32 → AH → Option (Int32 × AH)) : Int32 → Int32 → AH → Option (Int32 × AH) := fun x3 x4 h =>
  (gI h f_House_many x2).bind fun v1 =>
  if v1 ≤ x4 then
    some (x3, h)
  else
    (gR h f_Year_village x0).bind fun v2 =>
    (F_X4_isLivedIn N v2 x1 x4 h).bind fun v3 =>
    if v3 = 0 then
      bX1_worth_66 N rec32 x0 x1 x2 x3 x4 h
    else
      (F_X5_skin x2 x4 h).bind fun v4 =>
      (gI h f_Skin_collapsed v4).bind fun v5 =>
      if v5 = 0 then
        some (x3, h)
      else
        bX1_worth_66 N rec32 x0 x1 x2 x3 x4 h
def LX1_worth_32 (N : Nat) (x0 : Option Nat) (x1 : Int32) (x2 : Option Nat) : Int32 → Int32 → AH → Option (Int32 × AH) := lf (fun _ _ _ => none) (BX1_worth_32 N x0 x1 x2) N
theorem wX1_worth_32B {K : ZC} (O : ZOk K cX1_worth RX1 "worth" 5 (some .int) 3 91) (N : Nat) (x0 : Option Nat) (x1 : Int32) (x2 : Option Nat) (rec32 : Int32 → Int32 → AH → Option (Int32 × AH)) (hrec32 : ∀ (y3 : Int32) (y4 : Int32) (hy : AH) (ry : Int32 × AH), rec32 y3 y4 hy = some ry → Zw K (eIH ry) hy 32 [(0, vr x0), (1, vi x1), (2, vr x2), (3, vi y3), (4, vi y4)] []) (x3 : Int32) (x4 : Int32) (h : AH) (r : Int32 × AH) (hr : BX1_worth_32 N x0 x1 x2 rec32 x3 x4 h = some r) : Zw K (eIH r) h 32 [(0, vr x0), (1, vi x1), (2, vr x2), (3, vi x3), (4, vi x4)] [] := by
  unfold BX1_worth_32 at hr
  refine z_iload O 4 dX1_worth_32 rfl ?_
  refine z_aload_n O 2 dX1_worth_34 rfl rfl ?_
  refine z_getI O o_House_many q314 dX1_worth_35 hr (fun v1 hr => ?_)
  refine z_icmp_ge (tgt := 97) O dX1_worth_38 (by decide) hr (fun hr => ?_) (fun hr => ?_)
  · refine z_iload_n O 3 dX1_worth_97 rfl rfl ?_
    exact z_iret O dX1_worth_98 (by cases hr; rfl)
  · refine z_aload_n O 0 dX1_worth_41 rfl rfl ?_
    refine z_getR O o_Year_village q469 dX1_worth_42 hr (fun v2 hr => ?_)
    refine z_iload_n O 1 dX1_worth_45 rfl rfl ?_
    refine z_iload O 4 dX1_worth_46 rfl ?_
    refine bs hr (fun v3 hF hr => ?_)
    refine z_callV O [vi x1, vi x4] (vi v3) fV_X4_isLivedIn q1561 (fun l G => mX4_isLivedIn l G N v2 x1 x4 h _ hF) (zck hF) rfl rfl ⟨Nat.le_of_ble_eq_true rfl, Nat.le_of_ble_eq_true rfl⟩ (Nat.le_of_ble_eq_true rfl) dX1_worth_48 ?_
    refine z_if_eq (tgt := 66) O dX1_worth_51 (by decide) hr (fun hr => ?_) (fun hr => ?_)
    · exact wX1_worth_66 O N rec32 x0 x1 x2 x3 x4 h hrec32 _ hr
    · refine z_aload_n O 2 dX1_worth_54 rfl rfl ?_
      refine z_iload O 4 dX1_worth_55 rfl ?_
      refine bs hr (fun v4 hF hr => ?_)
      refine z_callV O [vi x4] (vr v4) fV_X5_skin q1286 (fun l G => mX5_skin l G x2 x4 h _ hF) (zck hF) rfl rfl ⟨Nat.le_of_ble_eq_true rfl, Nat.le_of_ble_eq_true rfl⟩ (Nat.le_of_ble_eq_true rfl) dX1_worth_57 ?_
      refine z_getI O o_Skin_collapsed q285 dX1_worth_60 hr (fun v5 hr => ?_)
      refine z_if_eq (tgt := 97) O dX1_worth_63 (by decide) hr (fun hr => ?_) (fun hr => ?_)
      · refine z_iload_n O 3 dX1_worth_97 rfl rfl ?_
        exact z_iret O dX1_worth_98 (by cases hr; rfl)
      · exact wX1_worth_66 O N rec32 x0 x1 x2 x3 x4 h hrec32 _ hr
theorem wX1_worth_32 {K : ZC} (O : ZOk K cX1_worth RX1 "worth" 5 (some .int) 3 91) (N : Nat) (x0 : Option Nat) (x1 : Int32) (x2 : Option Nat) : ∀ (n : Nat) (x3 : Int32) (x4 : Int32) (h : AH) (r : Int32 × AH), lf (fun _ _ _ => none) (BX1_worth_32 N x0 x1 x2) n x3 x4 h = some r → Zw K (eIH r) h 32 [(0, vr x0), (1, vi x1), (2, vr x2), (3, vi x3), (4, vi x4)] [] := by
  intro n
  induction n with
  | zero => intro x3 x4 h r hr; cases hr
  | succ n ih => intro x3 x4 h r hr; exact wX1_worth_32B O N x0 x1 x2 (lf (fun _ _ _ => none) (BX1_worth_32 N x0 x1 x2) n)  ih x3 x4 h r hr
def F_X1_worth (N : Nat) (x0 : Option Nat) (x1 : Int32) (h : AH) : Option (Int32 × AH) :=
  (ck h [1] x0).bind fun _ =>
  (F_X1_anew x0 h).bind fun h1 =>
  (F_X1_isHouse x0 x1 h1).bind fun v2 =>
  if v2 = 0 then
    b2 (F_X1_no x0 (1 : Int32) h1) fun v6 h5 =>
    some (v6, h5)
  else
    (gR h1 f_Year_village x0).bind fun v3 =>
    (F_X4_house v3 x1 h1).bind fun v4 =>
    LX1_worth_32 N x0 x1 v4 (0 : Int32) (1 : Int32) h1
theorem mX1_worth (l : Launch) (G : ZG) (N : Nat) (x0 : Option Nat) (x1 : Int32) (h : AH) (r : Int32 × AH) (hr : F_X1_worth N x0 x1 h = some r) : MZ l G yX1_worth cX1_worth 5 (some .int) 3 91 [vr x0, vi x1] h (eIH r) := by
  unfold F_X1_worth at hr
  refine MZ.of (by decide) [(0, vr x0), (1, vi x1)] rfl (Nat.le_of_ble_eq_true rfl) (fun K O => ?_)
  have O : ZOk K cX1_worth RX1 "worth" 5 (some .int) 3 91 := O
  refine bs hr (fun _ hck hr => ?_)
  refine z_aload_n O 0 dX1_worth_0 rfl rfl ?_
  refine bs hr (fun h1 hF hr => ?_)
  refine z_callVv O [] fV_X1_anew q528 (fun l G => mX1_anew l G x0 h _ hF) (zck hF) rfl rfl ⟨Nat.le_of_ble_eq_true rfl, Nat.le_of_ble_eq_true rfl⟩ (Nat.le_of_ble_eq_true rfl) dX1_worth_1 ?_
  refine z_aload_n O 0 dX1_worth_4 rfl rfl ?_
  refine z_iload_n O 1 dX1_worth_5 rfl rfl ?_
  refine bs hr (fun v2 hF hr => ?_)
  refine z_callV O [vi x1] (vi v2) fV_X1_isHouse q1245 (fun l G => mX1_isHouse l G x0 x1 h1 _ hF) (zck hF) rfl rfl ⟨Nat.le_of_ble_eq_true rfl, Nat.le_of_ble_eq_true rfl⟩ (Nat.le_of_ble_eq_true rfl) dX1_worth_6 ?_
  refine z_if_ne (tgt := 18) O dX1_worth_9 (by decide) hr (fun hr => ?_) (fun hr => ?_)
  · refine z_aload_n O 0 dX1_worth_12 rfl rfl ?_
    refine z_iconst O dX1_worth_13 kic_1 ?_
    refine b2s hr (fun v6 h5 hF hr => ?_)
    refine z_callV O [vi (1 : Int32)] (vi v6) fV_X1_no q535 (fun l G => mX1_no l G x0 (1 : Int32) h1 _ hF) (zck hF) rfl rfl ⟨Nat.le_of_ble_eq_true rfl, Nat.le_of_ble_eq_true rfl⟩ (Nat.le_of_ble_eq_true rfl) dX1_worth_14 ?_
    exact z_iret O dX1_worth_17 (by cases hr; rfl)
  · refine z_aload_n O 0 dX1_worth_18 rfl rfl ?_
    refine z_getR O o_Year_village q469 dX1_worth_19 hr (fun v3 hr => ?_)
    refine z_iload_n O 1 dX1_worth_22 rfl rfl ?_
    refine bs hr (fun v4 hF hr => ?_)
    refine z_callV O [vi x1] (vr v4) fV_X4_house q1249 (fun l G => mX4_house l G v3 x1 h1 _ hF) (zck hF) rfl rfl ⟨Nat.le_of_ble_eq_true rfl, Nat.le_of_ble_eq_true rfl⟩ (Nat.le_of_ble_eq_true rfl) dX1_worth_23 ?_
    refine z_astore_n O [(2, vr v4), (0, vr x0), (1, vi x1)] dX1_worth_26 rfl (by decide) rfl ?_
    refine z_iconst O dX1_worth_27 kic_0 ?_
    refine z_istore_n O [(3, vi (0 : Int32)), (2, vr v4), (0, vr x0), (1, vi x1)] dX1_worth_28 rfl (by decide) rfl ?_
    refine z_iconst O dX1_worth_29 kic_1 ?_
    refine z_istore O [(4, vi (1 : Int32)), (3, vi (0 : Int32)), (2, vr v4), (0, vr x0), (1, vi x1)] dX1_worth_30 (by decide) rfl ?_
    refine z_sub [3, 4, 2, 1, 0] rfl ?_
    exact wX1_worth_32 O N x0 x1 v4 _ (0 : Int32) (1 : Int32) h1 _ hr
theorem fV_X1_years : CVf RX1 yX1_years cX1_years 2 (some .int) 1 := ⟨q1645, q1646, q126, q1647, ⟨⟨by decide +kernel, by decide +kernel⟩, by decide +kernel⟩⟩
def F_X1_years (N : Nat) (x0 : Option Nat) (x1 : Int32) (h : AH) : Option (Int32 × AH) :=
  (ck h [1] x0).bind fun _ =>
  (F_X1_anew x0 h).bind fun h1 =>
  (gR h1 f_Year_land x0).bind fun v2 =>
  if v2 = none then
    b2 (F_X1_no x0 (1 : Int32) h1) fun v18 h17 =>
    some (v18, h17)
  else
    (F_X1_within x1 (1 : Int32) (20 : Int32)).bind fun v3 =>
    if v3 = 0 then
      b2 (F_X1_no x0 (2 : Int32) h1) fun v16 h15 =>
      some (v16, h15)
    else
      (gR h1 f_Year_village x0).bind fun v4 =>
      (gI h1 f_Village_year v4).bind fun v5 =>
      if (v5 + x1) ≤ (999 : Int32) then
        (F_X1_note N x0 h1).bind fun h6 =>
        (gR h6 f_Year_village x0).bind fun v7 =>
        (F_X4_goesOnFor N v7 x1 h6).bind fun h8 =>
        b2 (F_X1_done N x0 h8) fun v10 h9 =>
        (gR h9 f_Year_village x0).bind fun v11 =>
        (F_X4_skins N v11 h9).bind fun v12 =>
        some (v12, h9)
      else
        b2 (F_X1_no x0 (3 : Int32) h1) fun v14 h13 =>
        some (v14, h13)
theorem mX1_years (l : Launch) (G : ZG) (N : Nat) (x0 : Option Nat) (x1 : Int32) (h : AH) (r : Int32 × AH) (hr : F_X1_years N x0 x1 h = some r) : MZ l G yX1_years cX1_years 2 (some .int) 11 279 [vr x0, vi x1] h (eIH r) := by
  unfold F_X1_years at hr
  refine MZ.of (by decide) [(0, vr x0), (1, vi x1)] rfl (Nat.le_of_ble_eq_true rfl) (fun K O => ?_)
  have O : ZOk K cX1_years RX1 "years" 2 (some .int) 11 279 := O
  refine bs hr (fun _ hck hr => ?_)
  refine z_aload_n O 0 dX1_years_0 rfl rfl ?_
  refine bs hr (fun h1 hF hr => ?_)
  refine z_callVv O [] fV_X1_anew q528 (fun l G => mX1_anew l G x0 h _ hF) (zck hF) rfl rfl ⟨Nat.le_of_ble_eq_true rfl, Nat.le_of_ble_eq_true rfl⟩ (Nat.le_of_ble_eq_true rfl) dX1_years_1 ?_
  refine z_aload_n O 0 dX1_years_4 rfl rfl ?_
  refine z_getR O o_Year_land q463 dX1_years_5 hr (fun v2 hr => ?_)
  refine z_ifnonnull (tgt := 17) O dX1_years_8 (by decide) hr (fun hr => ?_) (fun hr => ?_)
  · refine z_aload_n O 0 dX1_years_11 rfl rfl ?_
    refine z_iconst O dX1_years_12 kic_1 ?_
    refine b2s hr (fun v18 h17 hF hr => ?_)
    refine z_callV O [vi (1 : Int32)] (vi v18) fV_X1_no q535 (fun l G => mX1_no l G x0 (1 : Int32) h1 _ hF) (zck hF) rfl rfl ⟨Nat.le_of_ble_eq_true rfl, Nat.le_of_ble_eq_true rfl⟩ (Nat.le_of_ble_eq_true rfl) dX1_years_13 ?_
    exact z_iret O dX1_years_16 (by cases hr; rfl)
  · refine z_iload_n O 1 dX1_years_17 rfl rfl ?_
    refine z_iconst O dX1_years_18 kic_1 ?_
    refine z_bipush O dX1_years_19 kbi_20 ?_
    refine bs hr (fun v3 hF hr => ?_)
    refine z_callS O [vi x1, vi (1 : Int32), vi (20 : Int32)] (vi v3) fS_X1_within q532 (fun l G => mX1_within l G x1 (1 : Int32) (20 : Int32) h1 _ hF) rfl ⟨Nat.le_of_ble_eq_true rfl, Nat.le_of_ble_eq_true rfl⟩ (Nat.le_of_ble_eq_true rfl) dX1_years_21 ?_
    refine z_if_ne (tgt := 33) O dX1_years_24 (by decide) hr (fun hr => ?_) (fun hr => ?_)
    · refine z_aload_n O 0 dX1_years_27 rfl rfl ?_
      refine z_iconst O dX1_years_28 kic_2 ?_
      refine b2s hr (fun v16 h15 hF hr => ?_)
      refine z_callV O [vi (2 : Int32)] (vi v16) fV_X1_no q535 (fun l G => mX1_no l G x0 (2 : Int32) h1 _ hF) (zck hF) rfl rfl ⟨Nat.le_of_ble_eq_true rfl, Nat.le_of_ble_eq_true rfl⟩ (Nat.le_of_ble_eq_true rfl) dX1_years_29 ?_
      exact z_iret O dX1_years_32 (by cases hr; rfl)
    · refine z_aload_n O 0 dX1_years_33 rfl rfl ?_
      refine z_getR O o_Year_village q469 dX1_years_34 hr (fun v4 hr => ?_)
      refine z_getI O o_Village_year q349 dX1_years_37 hr (fun v5 hr => ?_)
      refine z_iload_n O 1 dX1_years_40 rfl rfl ?_
      refine z_iadd O dX1_years_41 ?_
      refine z_sipush O dX1_years_42 ksi_999 ?_
      refine z_icmp_le (tgt := 54) O dX1_years_45 (by decide) hr (fun hr => ?_) (fun hr => ?_)
      · refine z_aload_n O 0 dX1_years_54 rfl rfl ?_
        refine bs hr (fun h6 hF hr => ?_)
        refine z_callVv O [] fV_X1_note q1648 (fun l G => mX1_note l G N x0 h1 _ hF) (zck hF) rfl rfl ⟨Nat.le_of_ble_eq_true rfl, Nat.le_of_ble_eq_true rfl⟩ (Nat.le_of_ble_eq_true rfl) dX1_years_55 ?_
        refine z_aload_n O 0 dX1_years_58 rfl rfl ?_
        refine z_getR O o_Year_village q469 dX1_years_59 hr (fun v7 hr => ?_)
        refine z_iload_n O 1 dX1_years_62 rfl rfl ?_
        refine bs hr (fun h8 hF hr => ?_)
        refine z_callVv O [vi x1] fV_X4_goesOnFor q1439 (fun l G => mX4_goesOnFor l G N v7 x1 h6 _ hF) (zck hF) rfl rfl ⟨Nat.le_of_ble_eq_true rfl, Nat.le_of_ble_eq_true rfl⟩ (Nat.le_of_ble_eq_true rfl) dX1_years_63 ?_
        refine z_aload_n O 0 dX1_years_66 rfl rfl ?_
        refine b2s hr (fun v10 h9 hF hr => ?_)
        refine z_callV O [] (vi v10) fV_X1_done q1652 (fun l G => mX1_done l G N x0 h8 _ hF) (zck hF) rfl rfl ⟨Nat.le_of_ble_eq_true rfl, Nat.le_of_ble_eq_true rfl⟩ (Nat.le_of_ble_eq_true rfl) dX1_years_67 ?_
        refine z_pop O dX1_years_70 rfl ?_
        refine z_aload_n O 0 dX1_years_71 rfl rfl ?_
        refine z_getR O o_Year_village q469 dX1_years_72 hr (fun v11 hr => ?_)
        refine bs hr (fun v12 hF hr => ?_)
        refine z_callV O [] (vi v12) fV_X4_skins q1497 (fun l G => mX4_skins l G N v11 h9 _ hF) (zck hF) rfl rfl ⟨Nat.le_of_ble_eq_true rfl, Nat.le_of_ble_eq_true rfl⟩ (Nat.le_of_ble_eq_true rfl) dX1_years_75 ?_
        exact z_iret O dX1_years_78 (by cases hr; rfl)
      · refine z_aload_n O 0 dX1_years_48 rfl rfl ?_
        refine z_iconst O dX1_years_49 kic_3 ?_
        refine b2s hr (fun v14 h13 hF hr => ?_)
        refine z_callV O [vi (3 : Int32)] (vi v14) fV_X1_no q535 (fun l G => mX1_no l G x0 (3 : Int32) h1 _ hF) (zck hF) rfl rfl ⟨Nat.le_of_ble_eq_true rfl, Nat.le_of_ble_eq_true rfl⟩ (Nat.le_of_ble_eq_true rfl) dX1_years_50 ?_
        exact z_iret O dX1_years_53 (by cases hr; rfl)
theorem fV_X9_refused : CVf RX9 yX9_refused cX9_refused 2 (some .int) 1 := ⟨q1888, qs61, q137, q1889, ⟨⟨by decide +kernel, by decide +kernel⟩, by decide +kernel⟩⟩
def F_X9_refused (x0 : Option Nat) (x1 : Int32) (h : AH) : Option (Int32 × AH) :=
  (ck h [9] x0).bind fun _ =>
  (pI h f_Model_trouble x0 x1).bind fun h1 =>
  (pI h1 f_Model_where x0 (-1 : Int32)).bind fun h2 =>
  some ((-1 : Int32), h2)
theorem mX9_refused (l : Launch) (G : ZG) (x0 : Option Nat) (x1 : Int32) (h : AH) (r : Int32 × AH) (hr : F_X9_refused x0 x1 h = some r) : MZ l G yX9_refused cX9_refused 2 (some .int) 1 48 [vr x0, vi x1] h (eIH r) := by
  unfold F_X9_refused at hr
  refine MZ.of (by decide) [(0, vr x0), (1, vi x1)] rfl (Nat.le_of_ble_eq_true rfl) (fun K O => ?_)
  have O : ZOk K cX9_refused RX9 "refused" 2 (some .int) 1 48 := O
  refine bs hr (fun _ hck hr => ?_)
  refine z_aload_n O 0 dX9_refused_0 rfl rfl ?_
  refine z_iload_n O 1 dX9_refused_1 rfl rfl ?_
  refine z_putI O o_Model_trouble (w_Model_trouble _) q1763 dX9_refused_2 hr (fun h1 hr => ?_)
  refine z_aload_n O 0 dX9_refused_5 rfl rfl ?_
  refine z_iconst O dX9_refused_6 kic_m1 ?_
  refine z_putI O o_Model_where (w_Model_where _) q1764 dX9_refused_7 hr (fun h2 hr => ?_)
  refine z_iconst O dX9_refused_10 kic_m1 ?_
  exact z_iret O dX9_refused_11 (by cases hr; rfl)
theorem fV_X9_denied : CVf RX9 yX9_denied cX9_denied 2 (some .boolean) 1 := ⟨q2581, qs123, q137, q2582, ⟨⟨by decide +kernel, by decide +kernel⟩, by decide +kernel⟩⟩
def F_X9_denied (x0 : Option Nat) (x1 : Int32) (h : AH) : Option (Int32 × AH) :=
  (ck h [9] x0).bind fun _ =>
  b2 (F_X9_refused x0 x1 h) fun v2 h1 =>
  (zb (0 : Int32)).bind fun v3 => some (v3, h1)
theorem mX9_denied (l : Launch) (G : ZG) (x0 : Option Nat) (x1 : Int32) (h : AH) (r : Int32 × AH) (hr : F_X9_denied x0 x1 h = some r) : MZ l G yX9_denied cX9_denied 2 (some .boolean) 2 69 [vr x0, vi x1] h (eIH r) := by
  unfold F_X9_denied at hr
  refine MZ.of (by decide) [(0, vr x0), (1, vi x1)] rfl (Nat.le_of_ble_eq_true rfl) (fun K O => ?_)
  have O : ZOk K cX9_denied RX9 "denied" 2 (some .boolean) 2 69 := O
  refine bs hr (fun _ hck hr => ?_)
  refine z_aload_n O 0 dX9_denied_0 rfl rfl ?_
  refine z_iload_n O 1 dX9_denied_1 rfl rfl ?_
  refine b2s hr (fun v2 h1 hF hr => ?_)
  refine z_callV O [vi x1] (vi v2) fV_X9_refused q1886 (fun l G => mX9_refused l G x0 x1 h _ hF) (zck hF) rfl rfl ⟨Nat.le_of_ble_eq_true rfl, Nat.le_of_ble_eq_true rfl⟩ (Nat.le_of_ble_eq_true rfl) dX9_denied_2 ?_
  refine z_pop O dX9_denied_5 rfl ?_
  refine z_iconst O dX9_denied_6 kic_0 ?_
  refine bs hr (fun v3 e0 hr => ?_)
  obtain ⟨e1, e2, -⟩ := zb_spec e0
  exact z_zret O e2 dX9_denied_7 (by cases hr; cases e1; rfl)
theorem fV_X9_good : CVf RX9 yX9_good cX9_good 2 (some .int) 1 := ⟨q2251, qs92, q137, q2252, ⟨⟨by decide +kernel, by decide +kernel⟩, by decide +kernel⟩⟩
def F_X9_good (x0 : Option Nat) (x1 : Int32) (h : AH) : Option (Int32 × AH) :=
  (ck h [9] x0).bind fun _ =>
  (pI h f_Model_trouble x0 (0 : Int32)).bind fun h1 =>
  (pI h1 f_Model_where x0 (-1 : Int32)).bind fun h2 =>
  some (x1, h2)
theorem mX9_good (l : Launch) (G : ZG) (x0 : Option Nat) (x1 : Int32) (h : AH) (r : Int32 × AH) (hr : F_X9_good x0 x1 h = some r) : MZ l G yX9_good cX9_good 2 (some .int) 1 48 [vr x0, vi x1] h (eIH r) := by
  unfold F_X9_good at hr
  refine MZ.of (by decide) [(0, vr x0), (1, vi x1)] rfl (Nat.le_of_ble_eq_true rfl) (fun K O => ?_)
  have O : ZOk K cX9_good RX9 "good" 2 (some .int) 1 48 := O
  refine bs hr (fun _ hck hr => ?_)
  refine z_aload_n O 0 dX9_good_0 rfl rfl ?_
  refine z_iconst O dX9_good_1 kic_0 ?_
  refine z_putI O o_Model_trouble (w_Model_trouble _) q1763 dX9_good_2 hr (fun h1 hr => ?_)
  refine z_aload_n O 0 dX9_good_5 rfl rfl ?_
  refine z_iconst O dX9_good_6 kic_m1 ?_
  refine z_putI O o_Model_where (w_Model_where _) q1764 dX9_good_7 hr (fun h2 hr => ?_)
  refine z_iload_n O 1 dX9_good_10 rfl rfl ?_
  exact z_iret O dX9_good_11 (by cases hr; rfl)
theorem fV_X9_granted : CVf RX9 yX9_granted cX9_granted 1 (some .boolean) 0 := ⟨q2585, qs124, q137, q2586, ⟨⟨by decide +kernel, by decide +kernel⟩, by decide +kernel⟩⟩
def F_X9_granted (x0 : Option Nat) (h : AH) : Option (Int32 × AH) :=
  (ck h [9] x0).bind fun _ =>
  b2 (F_X9_good x0 (0 : Int32) h) fun v2 h1 =>
  (zb (1 : Int32)).bind fun v3 => some (v3, h1)
theorem mX9_granted (l : Launch) (G : ZG) (x0 : Option Nat) (h : AH) (r : Int32 × AH) (hr : F_X9_granted x0 h = some r) : MZ l G yX9_granted cX9_granted 1 (some .boolean) 2 69 [vr x0] h (eIH r) := by
  unfold F_X9_granted at hr
  refine MZ.of (by decide) [(0, vr x0)] rfl (Nat.le_of_ble_eq_true rfl) (fun K O => ?_)
  have O : ZOk K cX9_granted RX9 "granted" 1 (some .boolean) 2 69 := O
  refine bs hr (fun _ hck hr => ?_)
  refine z_aload_n O 0 dX9_granted_0 rfl rfl ?_
  refine z_iconst O dX9_granted_1 kic_0 ?_
  refine b2s hr (fun v2 h1 hF hr => ?_)
  refine z_callV O [vi (0 : Int32)] (vi v2) fV_X9_good q2249 (fun l G => mX9_good l G x0 (0 : Int32) h _ hF) (zck hF) rfl rfl ⟨Nat.le_of_ble_eq_true rfl, Nat.le_of_ble_eq_true rfl⟩ (Nat.le_of_ble_eq_true rfl) dX9_granted_2 ?_
  refine z_pop O dX9_granted_5 rfl ?_
  refine z_iconst O dX9_granted_6 kic_1 ?_
  refine bs hr (fun v3 e0 hr => ?_)
  obtain ⟨e1, e2, -⟩ := zb_spec e0
  exact z_zret O e2 dX9_granted_7 (by cases hr; cases e1; rfl)
theorem fV_X9_back : CVf RX9 yX9_back cX9_back 3 (some .boolean) 1 := ⟨q2616, q2617, q137, q2618, ⟨⟨by decide +kernel, by decide +kernel⟩, by decide +kernel⟩⟩
def BX9_back_32 (N : Nat) (x0 : Option Nat) (x1 : Int32) (rec32 : Int32 → AH → Option (Int32 × AH)) : Int32 → AH → Option (Int32 × AH) := fun x2 h =>
  if (212 : Int32) ≤ x2 then
    (pI h f_Model_acts x0 (0 : Int32)).bind fun h1 =>
    b2 (F_X9_granted x0 h1) fun v3 h2 =>
    (zb v3).bind fun v4 => some (v4, h2)
  else
    (gR h f_Model_v x0).bind fun v5 =>
    (gR h f_Model_kept x0).bind fun v6 =>
    (aI h 0 v6 (((212 : Int32) * x1) + x2)).bind fun v7 =>
    (sA h 0 v5 x2 v7).bind fun h8 =>
    jlet (x2 + (1 : Int32)) fun v9 =>
    rec32 v9 h8
def LX9_back_32 (N : Nat) (x0 : Option Nat) (x1 : Int32) : Int32 → AH → Option (Int32 × AH) := lf (fun _ _ => none) (BX9_back_32 N x0 x1) N
theorem wX9_back_32B {K : ZC} (O : ZOk K cX9_back RX9 "back" 3 (some .boolean) 3 90) (N : Nat) (x0 : Option Nat) (x1 : Int32) (rec32 : Int32 → AH → Option (Int32 × AH)) (hrec32 : ∀ (y2 : Int32) (hy : AH) (ry : Int32 × AH), rec32 y2 hy = some ry → Zw K (eIH ry) hy 32 [(0, vr x0), (1, vi x1), (2, vi y2)] []) (x2 : Int32) (h : AH) (r : Int32 × AH) (hr : BX9_back_32 N x0 x1 rec32 x2 h = some r) : Zw K (eIH r) h 32 [(0, vr x0), (1, vi x1), (2, vi x2)] [] := by
  unfold BX9_back_32 at hr
  refine z_iload_n O 2 dX9_back_32 rfl rfl ?_
  refine z_sipush O dX9_back_33 ksi_212 ?_
  refine z_icmp_ge (tgt := 63) O dX9_back_36 (by decide) hr (fun hr => ?_) (fun hr => ?_)
  · refine z_aload_n O 0 dX9_back_63 rfl rfl ?_
    refine z_iconst O dX9_back_64 kic_0 ?_
    refine z_putI O o_Model_acts (w_Model_acts _) q1782 dX9_back_65 hr (fun h1 hr => ?_)
    refine z_aload_n O 0 dX9_back_68 rfl rfl ?_
    refine b2s hr (fun v3 h2 hF hr => ?_)
    refine z_callV O [] (vi v3) fV_X9_granted q2583 (fun l G => mX9_granted l G x0 h1 _ hF) (zck hF) rfl rfl ⟨Nat.le_of_ble_eq_true rfl, Nat.le_of_ble_eq_true rfl⟩ (Nat.le_of_ble_eq_true rfl) dX9_back_69 ?_
    refine bs hr (fun v4 e0 hr => ?_)
    obtain ⟨e1, e2, -⟩ := zb_spec e0
    exact z_zret O e2 dX9_back_72 (by cases hr; cases e1; rfl)
  · refine z_aload_n O 0 dX9_back_39 rfl rfl ?_
    refine z_getR O o_Model_v q1778 dX9_back_40 hr (fun v5 hr => ?_)
    refine z_iload_n O 2 dX9_back_43 rfl rfl ?_
    refine z_aload_n O 0 dX9_back_44 rfl rfl ?_
    refine z_getR O o_Model_kept q1781 dX9_back_45 hr (fun v6 hr => ?_)
    refine z_sipush O dX9_back_48 ksi_212 ?_
    refine z_iload_n O 1 dX9_back_51 rfl rfl ?_
    refine z_imul O dX9_back_52 ?_
    refine z_iload_n O 2 dX9_back_53 rfl rfl ?_
    refine z_iadd O dX9_back_54 ?_
    refine z_iaload O dX9_back_55 hr (fun v7 hr => ?_)
    refine z_iastore O dX9_back_56 hr (fun h8 hr => ?_)
    refine z_iincL O 2 (fun v9 => [(2, vi v9), (0, vr x0), (1, vi x1)]) dX9_back_57 rfl rfl (by decide) (fun _ => rfl) hr (fun v9 hr => ?_)
    refine z_goto (tgt := 32) O dX9_back_60 (by decide) ?_
    refine z_sub [1, 2, 0] rfl ?_
    exact hrec32 v9 h8 _ hr
theorem wX9_back_32 {K : ZC} (O : ZOk K cX9_back RX9 "back" 3 (some .boolean) 3 90) (N : Nat) (x0 : Option Nat) (x1 : Int32) : ∀ (n : Nat) (x2 : Int32) (h : AH) (r : Int32 × AH), lf (fun _ _ => none) (BX9_back_32 N x0 x1) n x2 h = some r → Zw K (eIH r) h 32 [(0, vr x0), (1, vi x1), (2, vi x2)] [] := by
  intro n
  induction n with
  | zero => intro x2 h r hr; cases hr
  | succ n ih => intro x2 h r hr; exact wX9_back_32B O N x0 x1 (lf (fun _ _ => none) (BX9_back_32 N x0 x1) n)  ih x2 h r hr
def F_X9_back (N : Nat) (x0 : Option Nat) (x1 : Int32) (h : AH) : Option (Int32 × AH) :=
  (ck h [9] x0).bind fun _ =>
  (pI h f_Model_thrown x0 (0 : Int32)).bind fun h1 =>
  (gR h1 f_Model_land x0).bind fun v2 =>
  if v2 = none then
    b2 (F_X9_denied x0 (1 : Int32) h1) fun v4 h3 =>
    (zb v4).bind fun v5 => some (v5, h3)
  else
    if x1 < 0 then
      b2 (F_X9_denied x0 (1 : Int32) h1) fun v7 h6 =>
      (zb v7).bind fun v8 => some (v8, h6)
    else
      (gI h1 f_Model_marks x0).bind fun v9 =>
      if x1 < v9 then
        LX9_back_32 N x0 x1 (0 : Int32) h1
      else
        b2 (F_X9_denied x0 (1 : Int32) h1) fun v11 h10 =>
        (zb v11).bind fun v12 => some (v12, h10)
theorem mX9_back (l : Launch) (G : ZG) (N : Nat) (x0 : Option Nat) (x1 : Int32) (h : AH) (r : Int32 × AH) (hr : F_X9_back N x0 x1 h = some r) : MZ l G yX9_back cX9_back 3 (some .boolean) 3 90 [vr x0, vi x1] h (eIH r) := by
  unfold F_X9_back at hr
  refine MZ.of (by decide) [(0, vr x0), (1, vi x1)] rfl (Nat.le_of_ble_eq_true rfl) (fun K O => ?_)
  have O : ZOk K cX9_back RX9 "back" 3 (some .boolean) 3 90 := O
  refine bs hr (fun _ hck hr => ?_)
  refine z_aload_n O 0 dX9_back_0 rfl rfl ?_
  refine z_iconst O dX9_back_1 kic_0 ?_
  refine z_putI O o_Model_thrown (w_Model_thrown _) q1762 dX9_back_2 hr (fun h1 hr => ?_)
  refine z_aload_n O 0 dX9_back_5 rfl rfl ?_
  refine z_getR O o_Model_land q1765 dX9_back_6 hr (fun v2 hr => ?_)
  refine z_ifnull (tgt := 24) O dX9_back_9 (by decide) hr (fun hr => ?_) (fun hr => ?_)
  · refine z_aload_n O 0 dX9_back_24 rfl rfl ?_
    refine z_iconst O dX9_back_25 kic_1 ?_
    refine b2s hr (fun v4 h3 hF hr => ?_)
    refine z_callV O [vi (1 : Int32)] (vi v4) fV_X9_denied q2579 (fun l G => mX9_denied l G x0 (1 : Int32) h1 _ hF) (zck hF) rfl rfl ⟨Nat.le_of_ble_eq_true rfl, Nat.le_of_ble_eq_true rfl⟩ (Nat.le_of_ble_eq_true rfl) dX9_back_26 ?_
    refine bs hr (fun v5 e0 hr => ?_)
    obtain ⟨e1, e2, -⟩ := zb_spec e0
    exact z_zret O e2 dX9_back_29 (by cases hr; cases e1; rfl)
  · refine z_iload_n O 1 dX9_back_12 rfl rfl ?_
    refine z_if_lt (tgt := 24) O dX9_back_13 (by decide) hr (fun hr => ?_) (fun hr => ?_)
    · refine z_aload_n O 0 dX9_back_24 rfl rfl ?_
      refine z_iconst O dX9_back_25 kic_1 ?_
      refine b2s hr (fun v7 h6 hF hr => ?_)
      refine z_callV O [vi (1 : Int32)] (vi v7) fV_X9_denied q2579 (fun l G => mX9_denied l G x0 (1 : Int32) h1 _ hF) (zck hF) rfl rfl ⟨Nat.le_of_ble_eq_true rfl, Nat.le_of_ble_eq_true rfl⟩ (Nat.le_of_ble_eq_true rfl) dX9_back_26 ?_
      refine bs hr (fun v8 e0 hr => ?_)
      obtain ⟨e1, e2, -⟩ := zb_spec e0
      exact z_zret O e2 dX9_back_29 (by cases hr; cases e1; rfl)
    · refine z_iload_n O 1 dX9_back_16 rfl rfl ?_
      refine z_aload_n O 0 dX9_back_17 rfl rfl ?_
      refine z_getI O o_Model_marks q1783 dX9_back_18 hr (fun v9 hr => ?_)
      refine z_icmp_lt (tgt := 30) O dX9_back_21 (by decide) hr (fun hr => ?_) (fun hr => ?_)
      · refine z_iconst O dX9_back_30 kic_0 ?_
        refine z_istore_n O [(2, vi (0 : Int32)), (0, vr x0), (1, vi x1)] dX9_back_31 rfl (by decide) rfl ?_
        refine z_sub [1, 2, 0] rfl ?_
        exact wX9_back_32 O N x0 x1 _ (0 : Int32) h1 _ hr
      · refine z_aload_n O 0 dX9_back_24 rfl rfl ?_
        refine z_iconst O dX9_back_25 kic_1 ?_
        refine b2s hr (fun v11 h10 hF hr => ?_)
        refine z_callV O [vi (1 : Int32)] (vi v11) fV_X9_denied q2579 (fun l G => mX9_denied l G x0 (1 : Int32) h1 _ hF) (zck hF) rfl rfl ⟨Nat.le_of_ble_eq_true rfl, Nat.le_of_ble_eq_true rfl⟩ (Nat.le_of_ble_eq_true rfl) dX9_back_26 ?_
        refine bs hr (fun v12 e0 hr => ?_)
        obtain ⟨e1, e2, -⟩ := zb_spec e0
        exact z_zret O e2 dX9_back_29 (by cases hr; cases e1; rfl)
theorem fV_X9_isHouse : CVf RX9 yX9_isHouse cX9_isHouse 2 (some .boolean) 1 := ⟨q2294, qs95, q137, q2295, ⟨⟨by decide +kernel, by decide +kernel⟩, by decide +kernel⟩⟩
def F_X9_isHouse (x0 : Option Nat) (x1 : Int32) (h : AH) : Option (Int32) :=
  (ck h [9] x0).bind fun _ =>
  (gR h f_Model_land x0).bind fun v1 =>
  if v1 = none then
    zb (0 : Int32)
  else
    if x1 < 0 then
      zb (0 : Int32)
    else
      (gR h f_Model_land x0).bind fun v2 =>
      (gI h f_MLand_houses v2).bind fun v3 =>
      if v3 ≤ x1 then
        zb (0 : Int32)
      else
        zb (1 : Int32)
theorem mX9_isHouse (l : Launch) (G : ZG) (x0 : Option Nat) (x1 : Int32) (h : AH) (r : Int32) (hr : F_X9_isHouse x0 x1 h = some r) : MZ l G yX9_isHouse cX9_isHouse 2 (some .boolean) 1 48 [vr x0, vi x1] h (eI h r) := by
  unfold F_X9_isHouse at hr
  refine MZ.of (by decide) [(0, vr x0), (1, vi x1)] rfl (Nat.le_of_ble_eq_true rfl) (fun K O => ?_)
  have O : ZOk K cX9_isHouse RX9 "isHouse" 2 (some .boolean) 1 48 := O
  refine bs hr (fun _ hck hr => ?_)
  refine z_aload_n O 0 dX9_isHouse_0 rfl rfl ?_
  refine z_getR O o_Model_land q1765 dX9_isHouse_1 hr (fun v1 hr => ?_)
  refine z_ifnull (tgt := 26) O dX9_isHouse_4 (by decide) hr (fun hr => ?_) (fun hr => ?_)
  · refine z_iconst O dX9_isHouse_26 kic_0 ?_
    obtain ⟨e1, e2, -⟩ := zb_spec hr
    exact z_zret O e2 dX9_isHouse_27 (by cases e1; rfl)
  · refine z_iload_n O 1 dX9_isHouse_7 rfl rfl ?_
    refine z_if_lt (tgt := 26) O dX9_isHouse_8 (by decide) hr (fun hr => ?_) (fun hr => ?_)
    · refine z_iconst O dX9_isHouse_26 kic_0 ?_
      obtain ⟨e1, e2, -⟩ := zb_spec hr
      exact z_zret O e2 dX9_isHouse_27 (by cases e1; rfl)
    · refine z_iload_n O 1 dX9_isHouse_11 rfl rfl ?_
      refine z_aload_n O 0 dX9_isHouse_12 rfl rfl ?_
      refine z_getR O o_Model_land q1765 dX9_isHouse_13 hr (fun v2 hr => ?_)
      refine z_getIN O o_MLand_houses zn1907 dX9_isHouse_16 hr (fun v3 hr => ?_)
      refine z_icmp_ge (tgt := 26) O dX9_isHouse_19 (by decide) hr (fun hr => ?_) (fun hr => ?_)
      · refine z_iconst O dX9_isHouse_26 kic_0 ?_
        obtain ⟨e1, e2, -⟩ := zb_spec hr
        exact z_zret O e2 dX9_isHouse_27 (by cases e1; rfl)
      · refine z_iconst O dX9_isHouse_22 kic_1 ?_
        refine z_goto (tgt := 27) O dX9_isHouse_23 (by decide) ?_
        obtain ⟨e1, e2, -⟩ := zb_spec hr
        exact z_zret O e2 dX9_isHouse_27 (by cases e1; rfl)
theorem fV_X9_isDepth : CVf RX9 yX9_isDepth cX9_isDepth 3 (some .boolean) 2 := ⟨q2329, qs98, q137, q2330, ⟨⟨by decide +kernel, by decide +kernel⟩, by decide +kernel⟩⟩
def F_X9_isDepth (x0 : Option Nat) (x1 : Int32) (x2 : Int32) (h : AH) : Option (Int32) :=
  (ck h [9] x0).bind fun _ =>
  (F_X9_isHouse x0 x1 h).bind fun v1 =>
  if v1 = 0 then
    zb (0 : Int32)
  else
    if x2 < 0 then
      zb (0 : Int32)
    else
      (gR h f_Model_v x0).bind fun v2 =>
      (aI h 0 v2 ((0 : Int32) + x1)).bind fun v3 =>
      if v3 < x2 then
        zb (0 : Int32)
      else
        zb (1 : Int32)
theorem mX9_isDepth (l : Launch) (G : ZG) (x0 : Option Nat) (x1 : Int32) (x2 : Int32) (h : AH) (r : Int32) (hr : F_X9_isDepth x0 x1 x2 h = some r) : MZ l G yX9_isDepth cX9_isDepth 3 (some .boolean) 2 69 [vr x0, vi x1, vi x2] h (eI h r) := by
  unfold F_X9_isDepth at hr
  refine MZ.of (by decide) [(0, vr x0), (1, vi x1), (2, vi x2)] rfl (Nat.le_of_ble_eq_true rfl) (fun K O => ?_)
  have O : ZOk K cX9_isDepth RX9 "isDepth" 3 (some .boolean) 2 69 := O
  refine bs hr (fun _ hck hr => ?_)
  refine z_aload_n O 0 dX9_isDepth_0 rfl rfl ?_
  refine z_iload_n O 1 dX9_isDepth_1 rfl rfl ?_
  refine bs hr (fun v1 hF hr => ?_)
  refine z_callV O [vi x1] (vi v1) fV_X9_isHouse q2292 (fun l G => mX9_isHouse l G x0 x1 h _ hF) (zck hF) rfl rfl ⟨Nat.le_of_ble_eq_true rfl, Nat.le_of_ble_eq_true rfl⟩ (Nat.le_of_ble_eq_true rfl) dX9_isDepth_2 ?_
  refine z_if_eq (tgt := 28) O dX9_isDepth_5 (by decide) hr (fun hr => ?_) (fun hr => ?_)
  · refine z_iconst O dX9_isDepth_28 kic_0 ?_
    obtain ⟨e1, e2, -⟩ := zb_spec hr
    exact z_zret O e2 dX9_isDepth_29 (by cases e1; rfl)
  · refine z_iload_n O 2 dX9_isDepth_8 rfl rfl ?_
    refine z_if_lt (tgt := 28) O dX9_isDepth_9 (by decide) hr (fun hr => ?_) (fun hr => ?_)
    · refine z_iconst O dX9_isDepth_28 kic_0 ?_
      obtain ⟨e1, e2, -⟩ := zb_spec hr
      exact z_zret O e2 dX9_isDepth_29 (by cases e1; rfl)
    · refine z_iload_n O 2 dX9_isDepth_12 rfl rfl ?_
      refine z_aload_n O 0 dX9_isDepth_13 rfl rfl ?_
      refine z_getR O o_Model_v q1778 dX9_isDepth_14 hr (fun v2 hr => ?_)
      refine z_iconst O dX9_isDepth_17 kic_0 ?_
      refine z_iload_n O 1 dX9_isDepth_18 rfl rfl ?_
      refine z_iadd O dX9_isDepth_19 ?_
      refine z_iaload O dX9_isDepth_20 hr (fun v3 hr => ?_)
      refine z_icmp_gt (tgt := 28) O dX9_isDepth_21 (by decide) hr (fun hr => ?_) (fun hr => ?_)
      · refine z_iconst O dX9_isDepth_28 kic_0 ?_
        obtain ⟨e1, e2, -⟩ := zb_spec hr
        exact z_zret O e2 dX9_isDepth_29 (by cases e1; rfl)
      · refine z_iconst O dX9_isDepth_24 kic_1 ?_
        refine z_goto (tgt := 29) O dX9_isDepth_25 (by decide) ?_
        obtain ⟨e1, e2, -⟩ := zb_spec hr
        exact z_zret O e2 dX9_isDepth_29 (by cases e1; rfl)
theorem fS_X9_doorX : CSf yX9_doorX cX9_doorX 3 (some .int) 3 := ⟨q2304, q137, q2305, ⟨⟨by decide +kernel, by decide +kernel⟩, by decide +kernel⟩⟩
def F_X9_doorX (x0 : Int32) (x1 : Int32) (x2 : Int32) : Option (Int32) :=
  if x1 = (1 : Int32) then
    some x0
  else
    if x1 = (3 : Int32) then
      some (-x0)
    else
      some ((x2 + (1 : Int32)) - x0)
theorem mX9_doorX (l : Launch) (G : ZG) (x0 : Int32) (x1 : Int32) (x2 : Int32) (h : AH) (r : Int32) (hr : F_X9_doorX x0 x1 x2 = some r) : MZ l G yX9_doorX cX9_doorX 3 (some .int) 1 48 [vi x0, vi x1, vi x2] h (eI h r) := by
  unfold F_X9_doorX at hr
  refine MZ.of (by decide) [(0, vi x0), (1, vi x1), (2, vi x2)] rfl (Nat.le_of_ble_eq_true rfl) (fun K O => ?_)
  have O : ZOk K cX9_doorX RX9 "doorX" 3 (some .int) 1 48 := O
  refine z_iload_n O 1 dX9_doorX_0 rfl rfl ?_
  refine z_iconst O dX9_doorX_1 kic_1 ?_
  refine z_icmp_ne (tgt := 9) O dX9_doorX_2 (by decide) hr (fun hr => ?_) (fun hr => ?_)
  · refine z_iload_n O 0 dX9_doorX_5 rfl rfl ?_
    refine z_goto (tgt := 24) O dX9_doorX_6 (by decide) ?_
    exact z_iret O dX9_doorX_24 (by cases hr; rfl)
  · refine z_iload_n O 1 dX9_doorX_9 rfl rfl ?_
    refine z_iconst O dX9_doorX_10 kic_3 ?_
    refine z_icmp_ne (tgt := 19) O dX9_doorX_11 (by decide) hr (fun hr => ?_) (fun hr => ?_)
    · refine z_iload_n O 0 dX9_doorX_14 rfl rfl ?_
      refine z_ineg O dX9_doorX_15 ?_
      refine z_goto (tgt := 24) O dX9_doorX_16 (by decide) ?_
      exact z_iret O dX9_doorX_24 (by cases hr; rfl)
    · refine z_iload_n O 2 dX9_doorX_19 rfl rfl ?_
      refine z_iconst O dX9_doorX_20 kic_1 ?_
      refine z_iadd O dX9_doorX_21 ?_
      refine z_iload_n O 0 dX9_doorX_22 rfl rfl ?_
      refine z_isub O dX9_doorX_23 ?_
      exact z_iret O dX9_doorX_24 (by cases hr; rfl)
theorem fS_X9_doorY : CSf yX9_doorY cX9_doorY 3 (some .int) 3 := ⟨q2310, q137, q2311, ⟨⟨by decide +kernel, by decide +kernel⟩, by decide +kernel⟩⟩
def F_X9_doorY (x0 : Int32) (x1 : Int32) (x2 : Int32) : Option (Int32) :=
  if x1 = (2 : Int32) then
    some x0
  else
    if x1 = 0 then
      some (-x0)
    else
      some ((x2 + (1 : Int32)) - x0)
theorem mX9_doorY (l : Launch) (G : ZG) (x0 : Int32) (x1 : Int32) (x2 : Int32) (h : AH) (r : Int32) (hr : F_X9_doorY x0 x1 x2 = some r) : MZ l G yX9_doorY cX9_doorY 3 (some .int) 1 48 [vi x0, vi x1, vi x2] h (eI h r) := by
  unfold F_X9_doorY at hr
  refine MZ.of (by decide) [(0, vi x0), (1, vi x1), (2, vi x2)] rfl (Nat.le_of_ble_eq_true rfl) (fun K O => ?_)
  have O : ZOk K cX9_doorY RX9 "doorY" 3 (some .int) 1 48 := O
  refine z_iload_n O 1 dX9_doorY_0 rfl rfl ?_
  refine z_iconst O dX9_doorY_1 kic_2 ?_
  refine z_icmp_ne (tgt := 9) O dX9_doorY_2 (by decide) hr (fun hr => ?_) (fun hr => ?_)
  · refine z_iload_n O 0 dX9_doorY_5 rfl rfl ?_
    refine z_goto (tgt := 23) O dX9_doorY_6 (by decide) ?_
    exact z_iret O dX9_doorY_23 (by cases hr; rfl)
  · refine z_iload_n O 1 dX9_doorY_9 rfl rfl ?_
    refine z_if_ne (tgt := 18) O dX9_doorY_10 (by decide) hr (fun hr => ?_) (fun hr => ?_)
    · refine z_iload_n O 0 dX9_doorY_13 rfl rfl ?_
      refine z_ineg O dX9_doorY_14 ?_
      refine z_goto (tgt := 23) O dX9_doorY_15 (by decide) ?_
      exact z_iret O dX9_doorY_23 (by cases hr; rfl)
    · refine z_iload_n O 2 dX9_doorY_18 rfl rfl ?_
      refine z_iconst O dX9_doorY_19 kic_1 ?_
      refine z_iadd O dX9_doorY_20 ?_
      refine z_iload_n O 0 dX9_doorY_21 rfl rfl ?_
      refine z_isub O dX9_doorY_22 ?_
      exact z_iret O dX9_doorY_23 (by cases hr; rfl)
theorem fS_X9_placeOf : CSf yX9_placeOf cX9_placeOf 3 (some .int) 3 := ⟨q2363, q137, q2364, ⟨⟨by decide +kernel, by decide +kernel⟩, by decide +kernel⟩⟩
def F_X9_placeOf (x0 : Int32) (x1 : Int32) (x2 : Int32) : Option (Int32) :=
  if x2 = (-x0) then
    some (x1 + x0)
  else
    if x1 = x0 then
      some ((((2 : Int32) * x0) + x2) + x0)
    else
      if x2 = x0 then
        some ((((4 : Int32) * x0) + x0) - x1)
      else
        some ((((6 : Int32) * x0) + x0) - x2)
theorem mX9_placeOf (l : Launch) (G : ZG) (x0 : Int32) (x1 : Int32) (x2 : Int32) (h : AH) (r : Int32) (hr : F_X9_placeOf x0 x1 x2 = some r) : MZ l G yX9_placeOf cX9_placeOf 3 (some .int) 1 48 [vi x0, vi x1, vi x2] h (eI h r) := by
  unfold F_X9_placeOf at hr
  refine MZ.of (by decide) [(0, vi x0), (1, vi x1), (2, vi x2)] rfl (Nat.le_of_ble_eq_true rfl) (fun K O => ?_)
  have O : ZOk K cX9_placeOf RX9 "placeOf" 3 (some .int) 1 48 := O
  refine z_iload_n O 2 dX9_placeOf_0 rfl rfl ?_
  refine z_iload_n O 0 dX9_placeOf_1 rfl rfl ?_
  refine z_ineg O dX9_placeOf_2 ?_
  refine z_icmp_ne (tgt := 10) O dX9_placeOf_3 (by decide) hr (fun hr => ?_) (fun hr => ?_)
  · refine z_iload_n O 1 dX9_placeOf_6 rfl rfl ?_
    refine z_iload_n O 0 dX9_placeOf_7 rfl rfl ?_
    refine z_iadd O dX9_placeOf_8 ?_
    exact z_iret O dX9_placeOf_9 (by cases hr; rfl)
  · refine z_iload_n O 1 dX9_placeOf_10 rfl rfl ?_
    refine z_iload_n O 0 dX9_placeOf_11 rfl rfl ?_
    refine z_icmp_ne (tgt := 23) O dX9_placeOf_12 (by decide) hr (fun hr => ?_) (fun hr => ?_)
    · refine z_iconst O dX9_placeOf_15 kic_2 ?_
      refine z_iload_n O 0 dX9_placeOf_16 rfl rfl ?_
      refine z_imul O dX9_placeOf_17 ?_
      refine z_iload_n O 2 dX9_placeOf_18 rfl rfl ?_
      refine z_iadd O dX9_placeOf_19 ?_
      refine z_iload_n O 0 dX9_placeOf_20 rfl rfl ?_
      refine z_iadd O dX9_placeOf_21 ?_
      exact z_iret O dX9_placeOf_22 (by cases hr; rfl)
    · refine z_iload_n O 2 dX9_placeOf_23 rfl rfl ?_
      refine z_iload_n O 0 dX9_placeOf_24 rfl rfl ?_
      refine z_icmp_ne (tgt := 38) O dX9_placeOf_25 (by decide) hr (fun hr => ?_) (fun hr => ?_)
      · refine z_iconst O dX9_placeOf_28 kic_4 ?_
        refine z_iload_n O 0 dX9_placeOf_29 rfl rfl ?_
        refine z_imul O dX9_placeOf_30 ?_
        refine z_iload_n O 0 dX9_placeOf_31 rfl rfl ?_
        refine z_iadd O dX9_placeOf_32 ?_
        refine z_iload_n O 1 dX9_placeOf_33 rfl rfl ?_
        refine z_isub O dX9_placeOf_34 ?_
        refine z_goto (tgt := 46) O dX9_placeOf_35 (by decide) ?_
        exact z_iret O dX9_placeOf_46 (by cases hr; rfl)
      · refine z_bipush O dX9_placeOf_38 kbi_6 ?_
        refine z_iload_n O 0 dX9_placeOf_40 rfl rfl ?_
        refine z_imul O dX9_placeOf_41 ?_
        refine z_iload_n O 0 dX9_placeOf_42 rfl rfl ?_
        refine z_iadd O dX9_placeOf_43 ?_
        refine z_iload_n O 2 dX9_placeOf_44 rfl rfl ?_
        refine z_isub O dX9_placeOf_45 ?_
        exact z_iret O dX9_placeOf_46 (by cases hr; rfl)
theorem fS_X9_doorPlace : CSf yX9_doorPlace cX9_doorPlace 3 (some .int) 3 := ⟨q2360, q137, q2361, ⟨⟨by decide +kernel, by decide +kernel⟩, by decide +kernel⟩⟩
def F_X9_doorPlace (x0 : Int32) (x1 : Int32) (x2 : Int32) : Option (Int32) :=
  (F_X9_doorX x0 x1 x2).bind fun v1 =>
  (F_X9_doorY x0 x1 x2).bind fun v2 =>
  (F_X9_placeOf x0 v1 v2).bind fun v3 =>
  some v3
theorem mX9_doorPlace (l : Launch) (G : ZG) (x0 : Int32) (x1 : Int32) (x2 : Int32) (h : AH) (r : Int32) (hr : F_X9_doorPlace x0 x1 x2 = some r) : MZ l G yX9_doorPlace cX9_doorPlace 3 (some .int) 2 70 [vi x0, vi x1, vi x2] h (eI h r) := by
  unfold F_X9_doorPlace at hr
  refine MZ.of (by decide) [(0, vi x0), (1, vi x1), (2, vi x2)] rfl (Nat.le_of_ble_eq_true rfl) (fun K O => ?_)
  have O : ZOk K cX9_doorPlace RX9 "doorPlace" 3 (some .int) 2 70 := O
  refine z_iload_n O 0 dX9_doorPlace_0 rfl rfl ?_
  refine z_iload_n O 0 dX9_doorPlace_1 rfl rfl ?_
  refine z_iload_n O 1 dX9_doorPlace_2 rfl rfl ?_
  refine z_iload_n O 2 dX9_doorPlace_3 rfl rfl ?_
  refine bs hr (fun v1 hF hr => ?_)
  refine z_callS O [vi x0, vi x1, vi x2] (vi v1) fS_X9_doorX q2303 (fun l G => mX9_doorX l G x0 x1 x2 h _ hF) rfl ⟨Nat.le_of_ble_eq_true rfl, Nat.le_of_ble_eq_true rfl⟩ (Nat.le_of_ble_eq_true rfl) dX9_doorPlace_4 ?_
  refine z_iload_n O 0 dX9_doorPlace_7 rfl rfl ?_
  refine z_iload_n O 1 dX9_doorPlace_8 rfl rfl ?_
  refine z_iload_n O 2 dX9_doorPlace_9 rfl rfl ?_
  refine bs hr (fun v2 hF hr => ?_)
  refine z_callS O [vi x0, vi x1, vi x2] (vi v2) fS_X9_doorY q2309 (fun l G => mX9_doorY l G x0 x1 x2 h _ hF) rfl ⟨Nat.le_of_ble_eq_true rfl, Nat.le_of_ble_eq_true rfl⟩ (Nat.le_of_ble_eq_true rfl) dX9_doorPlace_10 ?_
  refine bs hr (fun v3 hF hr => ?_)
  refine z_callS O [vi x0, vi v1, vi v2] (vi v3) fS_X9_placeOf q2362 (fun l G => mX9_placeOf l G x0 v1 v2 h _ hF) rfl ⟨Nat.le_of_ble_eq_true rfl, Nat.le_of_ble_eq_true rfl⟩ (Nat.le_of_ble_eq_true rfl) dX9_doorPlace_13 ?_
  exact z_iret O dX9_doorPlace_16 (by cases hr; rfl)
theorem fS_X9_least : CSf yX9_least cX9_least 2 (some .int) 2 := ⟨q2410, q137, q2411, ⟨⟨by decide +kernel, by decide +kernel⟩, by decide +kernel⟩⟩
def F_X9_least (x0 : Int32) (x1 : Int32) : Option (Int32) :=
  if x1 ≤ x0 then
    some x1
  else
    some x0
theorem mX9_least (l : Launch) (G : ZG) (x0 : Int32) (x1 : Int32) (h : AH) (r : Int32) (hr : F_X9_least x0 x1 = some r) : MZ l G yX9_least cX9_least 2 (some .int) 1 48 [vi x0, vi x1] h (eI h r) := by
  unfold F_X9_least at hr
  refine MZ.of (by decide) [(0, vi x0), (1, vi x1)] rfl (Nat.le_of_ble_eq_true rfl) (fun K O => ?_)
  have O : ZOk K cX9_least RX9 "least" 2 (some .int) 1 48 := O
  refine z_iload_n O 0 dX9_least_0 rfl rfl ?_
  refine z_iload_n O 1 dX9_least_1 rfl rfl ?_
  refine z_icmp_ge (tgt := 9) O dX9_least_2 (by decide) hr (fun hr => ?_) (fun hr => ?_)
  · refine z_iload_n O 1 dX9_least_9 rfl rfl ?_
    exact z_iret O dX9_least_10 (by cases hr; rfl)
  · refine z_iload_n O 0 dX9_least_5 rfl rfl ?_
    refine z_goto (tgt := 10) O dX9_least_6 (by decide) ?_
    exact z_iret O dX9_least_10 (by cases hr; rfl)
theorem fS_X9_part : CSf yX9_part cX9_part 3 (some .int) 3 := ⟨q2224, q137, q2225, ⟨⟨by decide +kernel, by decide +kernel⟩, by decide +kernel⟩⟩
def F_X9_part (x0 : Int32) (x1 : Int32) (x2 : Int32) : Option (Int32) :=
  some (((12 : Int32) + (((((6 : Int32) * x0) + x1) - (1 : Int32)) * (8 : Int32))) + x2)
theorem mX9_part (l : Launch) (G : ZG) (x0 : Int32) (x1 : Int32) (x2 : Int32) (h : AH) (r : Int32) (hr : F_X9_part x0 x1 x2 = some r) : MZ l G yX9_part cX9_part 3 (some .int) 1 48 [vi x0, vi x1, vi x2] h (eI h r) := by
  unfold F_X9_part at hr
  refine MZ.of (by decide) [(0, vi x0), (1, vi x1), (2, vi x2)] rfl (Nat.le_of_ble_eq_true rfl) (fun K O => ?_)
  have O : ZOk K cX9_part RX9 "part" 3 (some .int) 1 48 := O
  refine z_bipush O dX9_part_0 kbi_12 ?_
  refine z_bipush O dX9_part_2 kbi_6 ?_
  refine z_iload_n O 0 dX9_part_4 rfl rfl ?_
  refine z_imul O dX9_part_5 ?_
  refine z_iload_n O 1 dX9_part_6 rfl rfl ?_
  refine z_iadd O dX9_part_7 ?_
  refine z_iconst O dX9_part_8 kic_1 ?_
  refine z_isub O dX9_part_9 ?_
  refine z_bipush O dX9_part_10 kbi_8 ?_
  refine z_imul O dX9_part_12 ?_
  refine z_iadd O dX9_part_13 ?_
  refine z_iload_n O 2 dX9_part_14 rfl rfl ?_
  refine z_iadd O dX9_part_15 ?_
  exact z_iret O dX9_part_16 (by cases hr; rfl)
