set_option maxRecDepth 100000
set_option maxHeartbeats 4000000
theorem fV_X2_older : CVf RX2 yX2_older cX2_older 3 (none : Option Jvm.ClassFile.FieldType) 0 := ⟨q1177, qs31, q127, q1178, ⟨⟨by decide +kernel, by decide +kernel⟩, by decide +kernel⟩⟩
def bX2_older_18 (N : Nat) (x0 : Option Nat) (s0 : Option Nat) (s1 : Int32) (h : AH) : Option ((Unit ⊕ Nat) × AH) :=
  xb (F_X2_begins N s0 s1 (1 : Int32) h) fun _ h1 =>
  xb (F_X2_wallHere N x0 h1) fun v3 h2 =>
  (F_X2_next N x0 h2).bind fun h4 =>
  xb (F_X2_wallHere N x0 h4) fun v6 h5 =>
  if v3 = v6 then
    b2 (F_X2_fail x0 (3 : Int32) h5) fun v8 h7 =>
    (thr h7 v8).bind fun v9 => some (.inr v9, h7)
  else
    (gR h5 f_Reader_land x0).bind fun v10 =>
    (gI h5 f_Wall_number v3).bind fun v11 =>
    (gI h5 f_Wall_number v6).bind fun v12 =>
    (F_X10_areTold N v10 v11 v12 h5).bind fun v13 =>
    if v13 = 0 then
      (F_X2_next N x0 h5).bind fun h14 =>
      (gR h14 f_Reader_land x0).bind fun v15 =>
      (gR h14 f_Land_older v15).bind fun v16 =>
      (gR h14 f_Reader_land x0).bind fun v17 =>
      (gI h14 f_Land_olderMany v17).bind fun v18 =>
      (gI h14 f_Wall_number v3).bind fun v19 =>
      (sA h14 0 v16 v18 v19).bind fun h20 =>
      (gR h20 f_Reader_land x0).bind fun v21 =>
      (gR h20 f_Land_younger v21).bind fun v22 =>
      (gR h20 f_Reader_land x0).bind fun v23 =>
      (gI h20 f_Land_olderMany v23).bind fun v24 =>
      (gI h20 f_Wall_number v6).bind fun v25 =>
      (sA h20 0 v22 v24 v25).bind fun h26 =>
      (gR h26 f_Reader_land x0).bind fun v27 =>
      (gI h26 f_Land_olderMany v27).bind fun v28 =>
      (pI h26 f_Land_olderMany v27 (v28 + (1 : Int32))).bind fun h29 =>
      some (.inl (), h29)
    else
      b2 (F_X2_fail x0 (3 : Int32) h5) fun v31 h30 =>
      (thr h30 v31).bind fun v32 => some (.inr v32, h30)
theorem wX2_older_18 {K : ZC} (O : ZOk K cX2_older RX2 "older" 3 (none : Option Jvm.ClassFile.FieldType) 8 201) (E : ZEx K) (N : Nat) (x0 : Option Nat) (s0 : Option Nat) (s1 : Int32) (h : AH) (r : (Unit ⊕ Nat) × AH) (hr : bX2_older_18 N x0 s0 s1 h = some r) : Zw K (eUX r) h 18 [(0, vr x0)] [vi s1, vr s0] := by
  unfold bX2_older_18 at hr
  refine z_iconst O dX2_older_18 kic_1 ?_
  refine xbs hr (fun _ h1 hF hr => ?_) (fun ex hx hF hr => ?_)
  · refine z_callVv O [vi s1, vi (1 : Int32)] fV_X2_begins q886 (fun l G => mX2_begins l G N s0 s1 (1 : Int32) h _ hF) (zck hF) rfl rfl ⟨Nat.le_of_ble_eq_true rfl, Nat.le_of_ble_eq_true rfl⟩ (Nat.le_of_ble_eq_true rfl) dX2_older_19 ?_
    refine z_aload_n O 0 dX2_older_22 rfl rfl ?_
    refine xbs hr (fun v3 h2 hF hr => ?_) (fun ex hx hF hr => ?_)
    · refine z_callV O [] (vr v3) fV_X2_wallHere q1179 (fun l G => mX2_wallHere l G N x0 h1 _ hF) (zck hF) rfl rfl ⟨Nat.le_of_ble_eq_true rfl, Nat.le_of_ble_eq_true rfl⟩ (Nat.le_of_ble_eq_true rfl) dX2_older_23 ?_
      refine z_astore_n O [(1, vr v3), (0, vr x0)] dX2_older_26 rfl (by decide) rfl ?_
      refine z_aload_n O 1 dX2_older_27 rfl rfl ?_
      refine bs hr (fun h4 hF hr => ?_)
      refine z_callVv O [] fV_X2_next q668 (fun l G => mX2_next l G N x0 h2 _ hF) (zck hF) rfl rfl ⟨Nat.le_of_ble_eq_true rfl, Nat.le_of_ble_eq_true rfl⟩ (Nat.le_of_ble_eq_true rfl) dX2_older_28 ?_
      refine z_aload_n O 1 dX2_older_31 rfl rfl ?_
      refine xbs hr (fun v6 h5 hF hr => ?_) (fun ex hx hF hr => ?_)
      · refine z_callV O [] (vr v6) fV_X2_wallHere q1179 (fun l G => mX2_wallHere l G N x0 h4 _ hF) (zck hF) rfl rfl ⟨Nat.le_of_ble_eq_true rfl, Nat.le_of_ble_eq_true rfl⟩ (Nat.le_of_ble_eq_true rfl) dX2_older_32 ?_
        refine z_astore_n O [(2, vr v6), (1, vr v3), (0, vr x0)] dX2_older_35 rfl (by decide) rfl ?_
        refine z_aload_n O 1 dX2_older_36 rfl rfl ?_
        refine z_aload_n O 0 dX2_older_37 rfl rfl ?_
        refine z_acmp_eq (tgt := 59) O dX2_older_38 (by decide) hr (fun hr => ?_) (fun hr => ?_)
        · refine z_aload_n O 2 dX2_older_59 rfl rfl ?_
          refine z_iconst O dX2_older_60 kic_3 ?_
          refine b2s hr (fun v8 h7 hF hr => ?_)
          refine z_callV O [vi (3 : Int32)] (vr v8) fV_X2_fail q766 (fun l G => mX2_fail l G x0 (3 : Int32) h5 _ hF) (zck hF) rfl rfl ⟨Nat.le_of_ble_eq_true rfl, Nat.le_of_ble_eq_true rfl⟩ (Nat.le_of_ble_eq_true rfl) dX2_older_61 ?_
          refine bs hr (fun v9 hq hr => ?_)
          exact z_athrow O E dX2_older_64 hq (by cases hr; rfl)
        · refine z_aload_n O 2 dX2_older_41 rfl rfl ?_
          refine z_getR O o_Reader_land q389 dX2_older_42 hr (fun v10 hr => ?_)
          refine z_aload_n O 1 dX2_older_45 rfl rfl ?_
          refine z_getI O o_Wall_number q962 dX2_older_46 hr (fun v11 hr => ?_)
          refine z_aload_n O 0 dX2_older_49 rfl rfl ?_
          refine z_getI O o_Wall_number q962 dX2_older_50 hr (fun v12 hr => ?_)
          refine bs hr (fun v13 hF hr => ?_)
          refine z_callV O [vi v11, vi v12] (vi v13) fV_X10_areTold q1183 (fun l G => mX10_areTold l G N v10 v11 v12 h5 _ hF) (zck hF) rfl rfl ⟨Nat.le_of_ble_eq_true rfl, Nat.le_of_ble_eq_true rfl⟩ (Nat.le_of_ble_eq_true rfl) dX2_older_53 ?_
          refine z_if_eq (tgt := 65) O dX2_older_56 (by decide) hr (fun hr => ?_) (fun hr => ?_)
          · refine z_aload_n O 2 dX2_older_65 rfl rfl ?_
            refine bs hr (fun h14 hF hr => ?_)
            refine z_callVv O [] fV_X2_next q668 (fun l G => mX2_next l G N x0 h5 _ hF) (zck hF) rfl rfl ⟨Nat.le_of_ble_eq_true rfl, Nat.le_of_ble_eq_true rfl⟩ (Nat.le_of_ble_eq_true rfl) dX2_older_66 ?_
            refine z_aload_n O 2 dX2_older_69 rfl rfl ?_
            refine z_getR O o_Reader_land q389 dX2_older_70 hr (fun v15 hr => ?_)
            refine z_getR O o_Land_older q563 dX2_older_73 hr (fun v16 hr => ?_)
            refine z_aload_n O 2 dX2_older_76 rfl rfl ?_
            refine z_getR O o_Reader_land q389 dX2_older_77 hr (fun v17 hr => ?_)
            refine z_getI O o_Land_olderMany q611 dX2_older_80 hr (fun v18 hr => ?_)
            refine z_aload_n O 1 dX2_older_83 rfl rfl ?_
            refine z_getI O o_Wall_number q962 dX2_older_84 hr (fun v19 hr => ?_)
            refine z_iastore O dX2_older_87 hr (fun h20 hr => ?_)
            refine z_aload_n O 2 dX2_older_88 rfl rfl ?_
            refine z_getR O o_Reader_land q389 dX2_older_89 hr (fun v21 hr => ?_)
            refine z_getR O o_Land_younger q566 dX2_older_92 hr (fun v22 hr => ?_)
            refine z_aload_n O 2 dX2_older_95 rfl rfl ?_
            refine z_getR O o_Reader_land q389 dX2_older_96 hr (fun v23 hr => ?_)
            refine z_getI O o_Land_olderMany q611 dX2_older_99 hr (fun v24 hr => ?_)
            refine z_aload_n O 0 dX2_older_102 rfl rfl ?_
            refine z_getI O o_Wall_number q962 dX2_older_103 hr (fun v25 hr => ?_)
            refine z_iastore O dX2_older_106 hr (fun h26 hr => ?_)
            refine z_aload_n O 2 dX2_older_107 rfl rfl ?_
            refine z_getR O o_Reader_land q389 dX2_older_108 hr (fun v27 hr => ?_)
            refine z_dup O dX2_older_111 rfl ?_
            refine z_getI O o_Land_olderMany q611 dX2_older_112 hr (fun v28 hr => ?_)
            refine z_iconst O dX2_older_115 kic_1 ?_
            refine z_iadd O dX2_older_116 ?_
            refine z_putI O o_Land_olderMany (w_Land_olderMany _) q611 dX2_older_117 hr (fun h29 hr => ?_)
            exact z_vret O dX2_older_120 (by cases hr; rfl)
          · refine z_aload_n O 2 dX2_older_59 rfl rfl ?_
            refine z_iconst O dX2_older_60 kic_3 ?_
            refine b2s hr (fun v31 h30 hF hr => ?_)
            refine z_callV O [vi (3 : Int32)] (vr v31) fV_X2_fail q766 (fun l G => mX2_fail l G x0 (3 : Int32) h5 _ hF) (zck hF) rfl rfl ⟨Nat.le_of_ble_eq_true rfl, Nat.le_of_ble_eq_true rfl⟩ (Nat.le_of_ble_eq_true rfl) dX2_older_61 ?_
            refine bs hr (fun v32 hq hr => ?_)
            exact z_athrow O E dX2_older_64 hq (by cases hr; rfl)
      · exact z_callVt O E [] fV_X2_wallHere q1179 (fun l G => mX2_wallHere l G N x0 h4 _ hF) (zck hF) rfl rfl ⟨Nat.le_of_ble_eq_true rfl, Nat.le_of_ble_eq_true rfl⟩ (Nat.le_of_ble_eq_true rfl) dX2_older_32 (by subst hr; rfl)
    · exact z_callVt O E [] fV_X2_wallHere q1179 (fun l G => mX2_wallHere l G N x0 h1 _ hF) (zck hF) rfl rfl ⟨Nat.le_of_ble_eq_true rfl, Nat.le_of_ble_eq_true rfl⟩ (Nat.le_of_ble_eq_true rfl) dX2_older_23 (by subst hr; rfl)
  · exact z_callVt O E [vi s1, vi (1 : Int32)] fV_X2_begins q886 (fun l G => mX2_begins l G N s0 s1 (1 : Int32) h _ hF) (zck hF) rfl rfl ⟨Nat.le_of_ble_eq_true rfl, Nat.le_of_ble_eq_true rfl⟩ (Nat.le_of_ble_eq_true rfl) dX2_older_19 (by subst hr; rfl)
def F_X2_older (N : Nat) (x0 : Option Nat) (h : AH) : Option ((Unit ⊕ Nat) × AH) :=
  (ck h [2] x0).bind fun _ =>
  (gR h f_Reader_land x0).bind fun v1 =>
  (gI h f_Land_olderMany v1).bind fun v2 =>
  if (8 : Int32) ≤ v2 then
    bX2_older_18 N x0 x0 (0 : Int32) h
  else
    bX2_older_18 N x0 x0 (1 : Int32) h
theorem mX2_older (l : Launch) (G : ZG) (N : Nat) (x0 : Option Nat) (h : AH) (r : (Unit ⊕ Nat) × AH) (hr : F_X2_older N x0 h = some r) : MZ l G yX2_older cX2_older 3 (none : Option Jvm.ClassFile.FieldType) 8 201 [vr x0] h (eUX r) := by
  unfold F_X2_older at hr
  refine MZ.ofT (by decide) [(0, vr x0)] rfl (Nat.le_of_ble_eq_true rfl) (fun K O E => ?_)
  have O : ZOk K cX2_older RX2 "older" 3 (none : Option Jvm.ClassFile.FieldType) 8 201 := O
  refine bs hr (fun _ hck hr => ?_)
  refine z_aload_n O 0 dX2_older_0 rfl rfl ?_
  refine z_aload_n O 0 dX2_older_1 rfl rfl ?_
  refine z_getR O o_Reader_land q389 dX2_older_2 hr (fun v1 hr => ?_)
  refine z_getI O o_Land_olderMany q611 dX2_older_5 hr (fun v2 hr => ?_)
  refine z_bipush O dX2_older_8 kbi_8 ?_
  refine z_icmp_ge (tgt := 17) O dX2_older_10 (by decide) hr (fun hr => ?_) (fun hr => ?_)
  · refine z_iconst O dX2_older_17 kic_0 ?_
    exact wX2_older_18 O E N x0 x0 (0 : Int32) h _ hr
  · refine z_iconst O dX2_older_13 kic_1 ?_
    refine z_goto (tgt := 18) O dX2_older_14 (by decide) ?_
    exact wX2_older_18 O E N x0 x0 (1 : Int32) h _ hr
theorem fV_X2_skin : CVf RX2 yX2_skin cX2_skin 6 (none : Option Jvm.ClassFile.FieldType) 0 := ⟨q1080, qs26, q127, q1081, ⟨⟨by decide +kernel, by decide +kernel⟩, by decide +kernel⟩⟩
def bX2_skin_149 (N : Nat) (x0 : Option Nat) (x2 : Option Nat) (x3 : Option Nat) (s0 : Int32) (h : AH) : Option ((Unit ⊕ Nat) × AH) :=
  if s0 = (-1 : Int32) then
    b2 (F_X2_fail x0 (1 : Int32) h) fun v9 h8 =>
    (thr h8 v9).bind fun v10 => some (.inr v10, h8)
  else
    (F_X2_next N x0 h).bind fun h1 =>
    (gI h1 f_House_many x2).bind fun v2 =>
    xb (F_X2_number N x0 (0 : Int32) ((2 : Int32) * v2) h1) fun v4 h3 =>
    xb (F_X2_after N x0 (some (h3.1.2.2.2.1 38)) (0 : Int32) (99 : Int32) h3) fun v6 h5 =>
    (F_X5_build x2 x3 s0 v4 v6 (-2 : Int32) h5).bind fun h7 =>
    some (.inl (), h7)
theorem wX2_skin_149 {K : ZC} (O : ZOk K cX2_skin RX2 "skin" 6 (none : Option Jvm.ClassFile.FieldType) 9 234) (E : ZEx K) (N : Nat) (x0 : Option Nat) (x2 : Option Nat) (x3 : Option Nat) (s0 : Int32) (h : AH) (r : (Unit ⊕ Nat) × AH) (hr : bX2_skin_149 N x0 x2 x3 s0 h = some r) : Zw K (eUX r) h 149 [(0, vr x0), (2, vr x2), (3, vr x3)] [vi s0] := by
  unfold bX2_skin_149 at hr
  refine z_istore O [(4, vi s0), (0, vr x0), (2, vr x2), (3, vr x3)] dX2_skin_149 (by decide) rfl ?_
  refine z_iload O 0 dX2_skin_151 rfl ?_
  refine z_iconst O dX2_skin_153 kic_m1 ?_
  refine z_icmp_ne (tgt := 163) O dX2_skin_154 (by decide) hr (fun hr => ?_) (fun hr => ?_)
  · refine z_aload_n O 1 dX2_skin_157 rfl rfl ?_
    refine z_iconst O dX2_skin_158 kic_1 ?_
    refine b2s hr (fun v9 h8 hF hr => ?_)
    refine z_callV O [vi (1 : Int32)] (vr v9) fV_X2_fail q766 (fun l G => mX2_fail l G x0 (1 : Int32) h _ hF) (zck hF) rfl rfl ⟨Nat.le_of_ble_eq_true rfl, Nat.le_of_ble_eq_true rfl⟩ (Nat.le_of_ble_eq_true rfl) dX2_skin_159 ?_
    refine bs hr (fun v10 hq hr => ?_)
    exact z_athrow O E dX2_skin_162 hq (by cases hr; rfl)
  · refine z_aload_n O 1 dX2_skin_163 rfl rfl ?_
    refine bs hr (fun h1 hF hr => ?_)
    refine z_callVv O [] fV_X2_next q668 (fun l G => mX2_next l G N x0 h _ hF) (zck hF) rfl rfl ⟨Nat.le_of_ble_eq_true rfl, Nat.le_of_ble_eq_true rfl⟩ (Nat.le_of_ble_eq_true rfl) dX2_skin_164 ?_
    refine z_aload_n O 1 dX2_skin_167 rfl rfl ?_
    refine z_iconst O dX2_skin_168 kic_0 ?_
    refine z_iconst O dX2_skin_169 kic_2 ?_
    refine z_aload_n O 2 dX2_skin_170 rfl rfl ?_
    refine z_getI O o_House_many q315 dX2_skin_171 hr (fun v2 hr => ?_)
    refine z_imul O dX2_skin_174 ?_
    refine xbs hr (fun v4 h3 hF hr => ?_) (fun ex hx hF hr => ?_)
    · refine z_callV O [vi (0 : Int32), vi ((2 : Int32) * v2)] (vi v4) fV_X2_number q863 (fun l G => mX2_number l G N x0 (0 : Int32) ((2 : Int32) * v2) h1 _ hF) (zck hF) rfl rfl ⟨Nat.le_of_ble_eq_true rfl, Nat.le_of_ble_eq_true rfl⟩ (Nat.le_of_ble_eq_true rfl) dX2_skin_175 ?_
      refine z_istore O [(5, vi v4), (4, vi s0), (0, vr x0), (2, vr x2), (3, vr x3)] dX2_skin_178 (by decide) rfl ?_
      refine z_aload_n O 3 dX2_skin_180 rfl rfl ?_
      refine z_aload_n O 4 dX2_skin_181 rfl rfl ?_
      refine z_iload O 1 dX2_skin_182 rfl ?_
      refine z_iload O 0 dX2_skin_184 rfl ?_
      refine z_aload_n O 2 dX2_skin_186 rfl rfl ?_
      refine z_ldcSw O zs1122 dX2_skin_187 ?_
      refine z_iconst O dX2_skin_190 kic_0 ?_
      refine z_bipush O dX2_skin_191 kbi_99 ?_
      refine xbs hr (fun v6 h5 hF hr => ?_) (fun ex hx hF hr => ?_)
      · refine z_callV O [vr (some (h3.1.2.2.2.1 38)), vi (0 : Int32), vi (99 : Int32)] (vi v6) fV_X2_after q851 (fun l G => mX2_after l G N x0 (some (h3.1.2.2.2.1 38)) (0 : Int32) (99 : Int32) h3 _ hF) (zck hF) rfl rfl ⟨Nat.le_of_ble_eq_true rfl, Nat.le_of_ble_eq_true rfl⟩ (Nat.le_of_ble_eq_true rfl) dX2_skin_193 ?_
        refine z_bipush O dX2_skin_196 kbi_m2 ?_
        refine bs hr (fun h7 hF hr => ?_)
        refine z_callVv O [vr x3, vi s0, vi v4, vi v6, vi (-2 : Int32)] fV_X5_build q1123 (fun l G => mX5_build l G x2 x3 s0 v4 v6 (-2 : Int32) h5 _ hF) (zck hF) rfl rfl ⟨Nat.le_of_ble_eq_true rfl, Nat.le_of_ble_eq_true rfl⟩ (Nat.le_of_ble_eq_true rfl) dX2_skin_198 ?_
        exact z_vret O dX2_skin_201 (by cases hr; rfl)
      · exact z_callVt O E [vr (some (h3.1.2.2.2.1 38)), vi (0 : Int32), vi (99 : Int32)] fV_X2_after q851 (fun l G => mX2_after l G N x0 (some (h3.1.2.2.2.1 38)) (0 : Int32) (99 : Int32) h3 _ hF) (zck hF) rfl rfl ⟨Nat.le_of_ble_eq_true rfl, Nat.le_of_ble_eq_true rfl⟩ (Nat.le_of_ble_eq_true rfl) dX2_skin_193 (by subst hr; rfl)
    · exact z_callVt O E [vi (0 : Int32), vi ((2 : Int32) * v2)] fV_X2_number q863 (fun l G => mX2_number l G N x0 (0 : Int32) ((2 : Int32) * v2) h1 _ hF) (zck hF) rfl rfl ⟨Nat.le_of_ble_eq_true rfl, Nat.le_of_ble_eq_true rfl⟩ (Nat.le_of_ble_eq_true rfl) dX2_skin_175 (by subst hr; rfl)
def F_X2_skin (N : Nat) (x0 : Option Nat) (h : AH) : Option ((Unit ⊕ Nat) × AH) :=
  (ck h [2] x0).bind fun _ =>
  xb (F_X2_begins N x0 (1 : Int32) (1 : Int32) h) fun _ h1 =>
  xb (F_X2_siteHere N x0 h1) fun v3 h2 =>
  (gR h2 f_Reader_village x0).bind fun v4 =>
  (gI h2 f_Site_number v3).bind fun v5 =>
  (F_X4_house v4 v5 h2).bind fun v6 =>
  (gI h2 f_House_many v6).bind fun v7 =>
  if v7 = (6 : Int32) then
    b2 (F_X2_fail x0 (5 : Int32) h2) fun v27 h26 =>
    (thr h26 v27).bind fun v28 => some (.inr v28, h26)
  else
    (gR h2 f_Reader_village x0).bind fun v8 =>
    (gI h2 f_Site_number v3).bind fun v9 =>
    (F_X4_fits N v8 v9 h2).bind fun v10 =>
    if v10 = 0 then
      b2 (F_X2_fail x0 (7 : Int32) h2) fun v24 h23 =>
      (thr h23 v24).bind fun v25 => some (.inr v25, h23)
    else
      (F_X2_next N x0 h2).bind fun h11 =>
      xb (F_X2_stone N x0 h11) fun v13 h12 =>
      (gI h12 f_Reader_token x0).bind fun v14 =>
      if v14 = (2 : Int32) then
        (gR h12 f_Reader_word x0).bind fun v15 =>
        (F_J3_equals N v15 (some (h12.1.2.2.2.1 34)) h12).bind fun v16 =>
        if v16 = 0 then
          (gR h12 f_Reader_word x0).bind fun v17 =>
          (F_J3_equals N v17 (some (h12.1.2.2.2.1 35)) h12).bind fun v18 =>
          if v18 = 0 then
            (gR h12 f_Reader_word x0).bind fun v19 =>
            (F_J3_equals N v19 (some (h12.1.2.2.2.1 36)) h12).bind fun v20 =>
            if v20 = 0 then
              (gR h12 f_Reader_word x0).bind fun v21 =>
              (F_J3_equals N v21 (some (h12.1.2.2.2.1 37)) h12).bind fun v22 =>
              if v22 = 0 then
                bX2_skin_149 N x0 v6 v13 (-1 : Int32) h12
              else
                bX2_skin_149 N x0 v6 v13 (3 : Int32) h12
            else
              bX2_skin_149 N x0 v6 v13 (2 : Int32) h12
          else
            bX2_skin_149 N x0 v6 v13 (1 : Int32) h12
        else
          bX2_skin_149 N x0 v6 v13 (0 : Int32) h12
      else
        bX2_skin_149 N x0 v6 v13 (-1 : Int32) h12
theorem mX2_skin (l : Launch) (G : ZG) (N : Nat) (x0 : Option Nat) (h : AH) (r : (Unit ⊕ Nat) × AH) (hr : F_X2_skin N x0 h = some r) : MZ l G yX2_skin cX2_skin 6 (none : Option Jvm.ClassFile.FieldType) 9 234 [vr x0] h (eUX r) := by
  unfold F_X2_skin at hr
  refine MZ.ofT (by decide) [(0, vr x0)] rfl (Nat.le_of_ble_eq_true rfl) (fun K O E => ?_)
  have O : ZOk K cX2_skin RX2 "skin" 6 (none : Option Jvm.ClassFile.FieldType) 9 234 := O
  refine bs hr (fun _ hck hr => ?_)
  refine z_aload_n O 0 dX2_skin_0 rfl rfl ?_
  refine z_iconst O dX2_skin_1 kic_1 ?_
  refine z_iconst O dX2_skin_2 kic_1 ?_
  refine xbs hr (fun _ h1 hF hr => ?_) (fun ex hx hF hr => ?_)
  · refine z_callVv O [vi (1 : Int32), vi (1 : Int32)] fV_X2_begins q886 (fun l G => mX2_begins l G N x0 (1 : Int32) (1 : Int32) h _ hF) (zck hF) rfl rfl ⟨Nat.le_of_ble_eq_true rfl, Nat.le_of_ble_eq_true rfl⟩ (Nat.le_of_ble_eq_true rfl) dX2_skin_3 ?_
    refine z_aload_n O 0 dX2_skin_6 rfl rfl ?_
    refine xbs hr (fun v3 h2 hF hr => ?_) (fun ex hx hF hr => ?_)
    · refine z_callV O [] (vr v3) fV_X2_siteHere q1082 (fun l G => mX2_siteHere l G N x0 h1 _ hF) (zck hF) rfl rfl ⟨Nat.le_of_ble_eq_true rfl, Nat.le_of_ble_eq_true rfl⟩ (Nat.le_of_ble_eq_true rfl) dX2_skin_7 ?_
      refine z_astore_n O [(1, vr v3), (0, vr x0)] dX2_skin_10 rfl (by decide) rfl ?_
      refine z_aload_n O 1 dX2_skin_11 rfl rfl ?_
      refine z_getR O o_Reader_village q381 dX2_skin_12 hr (fun v4 hr => ?_)
      refine z_aload_n O 0 dX2_skin_15 rfl rfl ?_
      refine z_getI O o_Site_number q960 dX2_skin_16 hr (fun v5 hr => ?_)
      refine bs hr (fun v6 hF hr => ?_)
      refine z_callV O [vi v5] (vr v6) fV_X4_house q1086 (fun l G => mX4_house l G v4 v5 h2 _ hF) (zck hF) rfl rfl ⟨Nat.le_of_ble_eq_true rfl, Nat.le_of_ble_eq_true rfl⟩ (Nat.le_of_ble_eq_true rfl) dX2_skin_19 ?_
      refine z_astore_n O [(2, vr v6), (1, vr v3), (0, vr x0)] dX2_skin_22 rfl (by decide) rfl ?_
      refine z_aload_n O 0 dX2_skin_23 rfl rfl ?_
      refine z_getI O o_House_many q315 dX2_skin_24 hr (fun v7 hr => ?_)
      refine z_bipush O dX2_skin_27 kbi_6 ?_
      refine z_icmp_ne (tgt := 38) O dX2_skin_29 (by decide) hr (fun hr => ?_) (fun hr => ?_)
      · refine z_aload_n O 2 dX2_skin_32 rfl rfl ?_
        refine z_iconst O dX2_skin_33 kic_5 ?_
        refine b2s hr (fun v27 h26 hF hr => ?_)
        refine z_callV O [vi (5 : Int32)] (vr v27) fV_X2_fail q766 (fun l G => mX2_fail l G x0 (5 : Int32) h2 _ hF) (zck hF) rfl rfl ⟨Nat.le_of_ble_eq_true rfl, Nat.le_of_ble_eq_true rfl⟩ (Nat.le_of_ble_eq_true rfl) dX2_skin_34 ?_
        refine bs hr (fun v28 hq hr => ?_)
        exact z_athrow O E dX2_skin_37 hq (by cases hr; rfl)
      · refine z_aload_n O 2 dX2_skin_38 rfl rfl ?_
        refine z_getR O o_Reader_village q381 dX2_skin_39 hr (fun v8 hr => ?_)
        refine z_aload_n O 1 dX2_skin_42 rfl rfl ?_
        refine z_getI O o_Site_number q960 dX2_skin_43 hr (fun v9 hr => ?_)
        refine bs hr (fun v10 hF hr => ?_)
        refine z_callV O [vi v9] (vi v10) fV_X4_fits q1090 (fun l G => mX4_fits l G N v8 v9 h2 _ hF) (zck hF) rfl rfl ⟨Nat.le_of_ble_eq_true rfl, Nat.le_of_ble_eq_true rfl⟩ (Nat.le_of_ble_eq_true rfl) dX2_skin_46 ?_
        refine z_if_ne (tgt := 59) O dX2_skin_49 (by decide) hr (fun hr => ?_) (fun hr => ?_)
        · refine z_aload_n O 2 dX2_skin_52 rfl rfl ?_
          refine z_bipush O dX2_skin_53 kbi_7 ?_
          refine b2s hr (fun v24 h23 hF hr => ?_)
          refine z_callV O [vi (7 : Int32)] (vr v24) fV_X2_fail q766 (fun l G => mX2_fail l G x0 (7 : Int32) h2 _ hF) (zck hF) rfl rfl ⟨Nat.le_of_ble_eq_true rfl, Nat.le_of_ble_eq_true rfl⟩ (Nat.le_of_ble_eq_true rfl) dX2_skin_55 ?_
          refine bs hr (fun v25 hq hr => ?_)
          exact z_athrow O E dX2_skin_58 hq (by cases hr; rfl)
        · refine z_aload_n O 2 dX2_skin_59 rfl rfl ?_
          refine bs hr (fun h11 hF hr => ?_)
          refine z_callVv O [] fV_X2_next q668 (fun l G => mX2_next l G N x0 h2 _ hF) (zck hF) rfl rfl ⟨Nat.le_of_ble_eq_true rfl, Nat.le_of_ble_eq_true rfl⟩ (Nat.le_of_ble_eq_true rfl) dX2_skin_60 ?_
          refine z_aload_n O 2 dX2_skin_63 rfl rfl ?_
          refine xbs hr (fun v13 h12 hF hr => ?_) (fun ex hx hF hr => ?_)
          · refine z_callV O [] (vr v13) fV_X2_stone q1059 (fun l G => mX2_stone l G N x0 h11 _ hF) (zck hF) rfl rfl ⟨Nat.le_of_ble_eq_true rfl, Nat.le_of_ble_eq_true rfl⟩ (Nat.le_of_ble_eq_true rfl) dX2_skin_64 ?_
            refine z_astore_n O [(3, vr v13), (2, vr v6), (1, vr v3), (0, vr x0)] dX2_skin_67 rfl (by decide) rfl ?_
            refine z_aload_n O 3 dX2_skin_68 rfl rfl ?_
            refine z_getI O o_Reader_token q384 dX2_skin_69 hr (fun v14 hr => ?_)
            refine z_iconst O dX2_skin_72 kic_2 ?_
            refine z_icmp_eq (tgt := 80) O dX2_skin_73 (by decide) hr (fun hr => ?_) (fun hr => ?_)
            · refine z_aload_n O 3 dX2_skin_80 rfl rfl ?_
              refine z_getR O o_Reader_word q388 dX2_skin_81 hr (fun v15 hr => ?_)
              refine z_ldcSw O zs1118 dX2_skin_84 ?_
              refine bs hr (fun v16 hF hr => ?_)
              refine z_callV O [vr (some (h12.1.2.2.2.1 34))] (vi v16) fV_J3_equals q828 (fun l G => mJ3_equals l G N v15 (some (h12.1.2.2.2.1 34)) h12 _ hF) (zck hF) rfl rfl ⟨Nat.le_of_ble_eq_true rfl, Nat.le_of_ble_eq_true rfl⟩ (Nat.le_of_ble_eq_true rfl) dX2_skin_87 ?_
              refine z_if_eq (tgt := 97) O dX2_skin_90 (by decide) hr (fun hr => ?_) (fun hr => ?_)
              · refine z_aload_n O 3 dX2_skin_97 rfl rfl ?_
                refine z_getR O o_Reader_word q388 dX2_skin_98 hr (fun v17 hr => ?_)
                refine z_ldcSw O zs1119 dX2_skin_101 ?_
                refine bs hr (fun v18 hF hr => ?_)
                refine z_callV O [vr (some (h12.1.2.2.2.1 35))] (vi v18) fV_J3_equals q828 (fun l G => mJ3_equals l G N v17 (some (h12.1.2.2.2.1 35)) h12 _ hF) (zck hF) rfl rfl ⟨Nat.le_of_ble_eq_true rfl, Nat.le_of_ble_eq_true rfl⟩ (Nat.le_of_ble_eq_true rfl) dX2_skin_104 ?_
                refine z_if_eq (tgt := 114) O dX2_skin_107 (by decide) hr (fun hr => ?_) (fun hr => ?_)
                · refine z_aload_n O 3 dX2_skin_114 rfl rfl ?_
                  refine z_getR O o_Reader_word q388 dX2_skin_115 hr (fun v19 hr => ?_)
                  refine z_ldcSw O zs1120 dX2_skin_118 ?_
                  refine bs hr (fun v20 hF hr => ?_)
                  refine z_callV O [vr (some (h12.1.2.2.2.1 36))] (vi v20) fV_J3_equals q828 (fun l G => mJ3_equals l G N v19 (some (h12.1.2.2.2.1 36)) h12 _ hF) (zck hF) rfl rfl ⟨Nat.le_of_ble_eq_true rfl, Nat.le_of_ble_eq_true rfl⟩ (Nat.le_of_ble_eq_true rfl) dX2_skin_121 ?_
                  refine z_if_eq (tgt := 131) O dX2_skin_124 (by decide) hr (fun hr => ?_) (fun hr => ?_)
                  · refine z_aload_n O 3 dX2_skin_131 rfl rfl ?_
                    refine z_getR O o_Reader_word q388 dX2_skin_132 hr (fun v21 hr => ?_)
                    refine z_ldcSw O zs1121 dX2_skin_135 ?_
                    refine bs hr (fun v22 hF hr => ?_)
                    refine z_callV O [vr (some (h12.1.2.2.2.1 37))] (vi v22) fV_J3_equals q828 (fun l G => mJ3_equals l G N v21 (some (h12.1.2.2.2.1 37)) h12 _ hF) (zck hF) rfl rfl ⟨Nat.le_of_ble_eq_true rfl, Nat.le_of_ble_eq_true rfl⟩ (Nat.le_of_ble_eq_true rfl) dX2_skin_138 ?_
                    refine z_if_eq (tgt := 148) O dX2_skin_141 (by decide) hr (fun hr => ?_) (fun hr => ?_)
                    · refine z_iconst O dX2_skin_148 kic_m1 ?_
                      refine z_sub [3, 1, 0] rfl ?_
                      exact wX2_skin_149 O E N x0 v6 v13 (-1 : Int32) h12 _ hr
                    · refine z_iconst O dX2_skin_144 kic_3 ?_
                      refine z_goto (tgt := 149) O dX2_skin_145 (by decide) ?_
                      refine z_sub [3, 1, 0] rfl ?_
                      exact wX2_skin_149 O E N x0 v6 v13 (3 : Int32) h12 _ hr
                  · refine z_iconst O dX2_skin_127 kic_2 ?_
                    refine z_goto (tgt := 149) O dX2_skin_128 (by decide) ?_
                    refine z_sub [3, 1, 0] rfl ?_
                    exact wX2_skin_149 O E N x0 v6 v13 (2 : Int32) h12 _ hr
                · refine z_iconst O dX2_skin_110 kic_1 ?_
                  refine z_goto (tgt := 149) O dX2_skin_111 (by decide) ?_
                  refine z_sub [3, 1, 0] rfl ?_
                  exact wX2_skin_149 O E N x0 v6 v13 (1 : Int32) h12 _ hr
              · refine z_iconst O dX2_skin_93 kic_0 ?_
                refine z_goto (tgt := 149) O dX2_skin_94 (by decide) ?_
                refine z_sub [3, 1, 0] rfl ?_
                exact wX2_skin_149 O E N x0 v6 v13 (0 : Int32) h12 _ hr
            · refine z_iconst O dX2_skin_76 kic_m1 ?_
              refine z_goto (tgt := 149) O dX2_skin_77 (by decide) ?_
              refine z_sub [3, 1, 0] rfl ?_
              exact wX2_skin_149 O E N x0 v6 v13 (-1 : Int32) h12 _ hr
          · exact z_callVt O E [] fV_X2_stone q1059 (fun l G => mX2_stone l G N x0 h11 _ hF) (zck hF) rfl rfl ⟨Nat.le_of_ble_eq_true rfl, Nat.le_of_ble_eq_true rfl⟩ (Nat.le_of_ble_eq_true rfl) dX2_skin_64 (by subst hr; rfl)
    · exact z_callVt O E [] fV_X2_siteHere q1082 (fun l G => mX2_siteHere l G N x0 h1 _ hF) (zck hF) rfl rfl ⟨Nat.le_of_ble_eq_true rfl, Nat.le_of_ble_eq_true rfl⟩ (Nat.le_of_ble_eq_true rfl) dX2_skin_7 (by subst hr; rfl)
  · exact z_callVt O E [vi (1 : Int32), vi (1 : Int32)] fV_X2_begins q886 (fun l G => mX2_begins l G N x0 (1 : Int32) (1 : Int32) h _ hF) (zck hF) rfl rfl ⟨Nat.le_of_ble_eq_true rfl, Nat.le_of_ble_eq_true rfl⟩ (Nat.le_of_ble_eq_true rfl) dX2_skin_3 (by subst hr; rfl)
theorem fV_X2_smell : CVf RX2 yX2_smell cX2_smell 2 (none : Option Jvm.ClassFile.FieldType) 0 := ⟨q1193, qs34, q127, q1194, ⟨⟨by decide +kernel, by decide +kernel⟩, by decide +kernel⟩⟩
def F_X2_smell (N : Nat) (x0 : Option Nat) (h : AH) : Option ((Unit ⊕ Nat) × AH) :=
  (ck h [2] x0).bind fun _ =>
  xb (F_X2_begins N x0 (1 : Int32) (1 : Int32) h) fun _ h1 =>
  xb (F_X2_wallHere N x0 h1) fun v3 h2 =>
  (gI h2 f_Wall_smell v3).bind fun v4 =>
  if v4 = (-1 : Int32) then
    (F_X2_next N x0 h2).bind fun h5 =>
    xb (F_X2_number N x0 (0 : Int32) (999 : Int32) h5) fun v7 h6 =>
    (pI h6 f_Wall_smell v3 v7).bind fun h8 =>
    some (.inl (), h8)
  else
    b2 (F_X2_fail x0 (3 : Int32) h2) fun v10 h9 =>
    (thr h9 v10).bind fun v11 => some (.inr v11, h9)
theorem mX2_smell (l : Launch) (G : ZG) (N : Nat) (x0 : Option Nat) (h : AH) (r : (Unit ⊕ Nat) × AH) (hr : F_X2_smell N x0 h = some r) : MZ l G yX2_smell cX2_smell 2 (none : Option Jvm.ClassFile.FieldType) 8 201 [vr x0] h (eUX r) := by
  unfold F_X2_smell at hr
  refine MZ.ofT (by decide) [(0, vr x0)] rfl (Nat.le_of_ble_eq_true rfl) (fun K O E => ?_)
  have O : ZOk K cX2_smell RX2 "smell" 2 (none : Option Jvm.ClassFile.FieldType) 8 201 := O
  refine bs hr (fun _ hck hr => ?_)
  refine z_aload_n O 0 dX2_smell_0 rfl rfl ?_
  refine z_iconst O dX2_smell_1 kic_1 ?_
  refine z_iconst O dX2_smell_2 kic_1 ?_
  refine xbs hr (fun _ h1 hF hr => ?_) (fun ex hx hF hr => ?_)
  · refine z_callVv O [vi (1 : Int32), vi (1 : Int32)] fV_X2_begins q886 (fun l G => mX2_begins l G N x0 (1 : Int32) (1 : Int32) h _ hF) (zck hF) rfl rfl ⟨Nat.le_of_ble_eq_true rfl, Nat.le_of_ble_eq_true rfl⟩ (Nat.le_of_ble_eq_true rfl) dX2_smell_3 ?_
    refine z_aload_n O 0 dX2_smell_6 rfl rfl ?_
    refine xbs hr (fun v3 h2 hF hr => ?_) (fun ex hx hF hr => ?_)
    · refine z_callV O [] (vr v3) fV_X2_wallHere q1179 (fun l G => mX2_wallHere l G N x0 h1 _ hF) (zck hF) rfl rfl ⟨Nat.le_of_ble_eq_true rfl, Nat.le_of_ble_eq_true rfl⟩ (Nat.le_of_ble_eq_true rfl) dX2_smell_7 ?_
      refine z_astore_n O [(1, vr v3), (0, vr x0)] dX2_smell_10 rfl (by decide) rfl ?_
      refine z_aload_n O 0 dX2_smell_11 rfl rfl ?_
      refine z_getI O o_Wall_smell q1167 dX2_smell_12 hr (fun v4 hr => ?_)
      refine z_iconst O dX2_smell_15 kic_m1 ?_
      refine z_icmp_eq (tgt := 25) O dX2_smell_16 (by decide) hr (fun hr => ?_) (fun hr => ?_)
      · refine z_aload_n O 1 dX2_smell_25 rfl rfl ?_
        refine bs hr (fun h5 hF hr => ?_)
        refine z_callVv O [] fV_X2_next q668 (fun l G => mX2_next l G N x0 h2 _ hF) (zck hF) rfl rfl ⟨Nat.le_of_ble_eq_true rfl, Nat.le_of_ble_eq_true rfl⟩ (Nat.le_of_ble_eq_true rfl) dX2_smell_26 ?_
        refine z_aload_n O 0 dX2_smell_29 rfl rfl ?_
        refine z_aload_n O 1 dX2_smell_30 rfl rfl ?_
        refine z_iconst O dX2_smell_31 kic_0 ?_
        refine z_sipush O dX2_smell_32 ksi_999 ?_
        refine xbs hr (fun v7 h6 hF hr => ?_) (fun ex hx hF hr => ?_)
        · refine z_callV O [vi (0 : Int32), vi (999 : Int32)] (vi v7) fV_X2_number q863 (fun l G => mX2_number l G N x0 (0 : Int32) (999 : Int32) h5 _ hF) (zck hF) rfl rfl ⟨Nat.le_of_ble_eq_true rfl, Nat.le_of_ble_eq_true rfl⟩ (Nat.le_of_ble_eq_true rfl) dX2_smell_35 ?_
          refine z_putI O o_Wall_smell (w_Wall_smell _) q1167 dX2_smell_38 hr (fun h8 hr => ?_)
          exact z_vret O dX2_smell_41 (by cases hr; rfl)
        · exact z_callVt O E [vi (0 : Int32), vi (999 : Int32)] fV_X2_number q863 (fun l G => mX2_number l G N x0 (0 : Int32) (999 : Int32) h5 _ hF) (zck hF) rfl rfl ⟨Nat.le_of_ble_eq_true rfl, Nat.le_of_ble_eq_true rfl⟩ (Nat.le_of_ble_eq_true rfl) dX2_smell_35 (by subst hr; rfl)
      · refine z_aload_n O 1 dX2_smell_19 rfl rfl ?_
        refine z_iconst O dX2_smell_20 kic_3 ?_
        refine b2s hr (fun v10 h9 hF hr => ?_)
        refine z_callV O [vi (3 : Int32)] (vr v10) fV_X2_fail q766 (fun l G => mX2_fail l G x0 (3 : Int32) h2 _ hF) (zck hF) rfl rfl ⟨Nat.le_of_ble_eq_true rfl, Nat.le_of_ble_eq_true rfl⟩ (Nat.le_of_ble_eq_true rfl) dX2_smell_21 ?_
        refine bs hr (fun v11 hq hr => ?_)
        exact z_athrow O E dX2_smell_24 hq (by cases hr; rfl)
    · exact z_callVt O E [] fV_X2_wallHere q1179 (fun l G => mX2_wallHere l G N x0 h1 _ hF) (zck hF) rfl rfl ⟨Nat.le_of_ble_eq_true rfl, Nat.le_of_ble_eq_true rfl⟩ (Nat.le_of_ble_eq_true rfl) dX2_smell_7 (by subst hr; rfl)
  · exact z_callVt O E [vi (1 : Int32), vi (1 : Int32)] fV_X2_begins q886 (fun l G => mX2_begins l G N x0 (1 : Int32) (1 : Int32) h _ hF) (zck hF) rfl rfl ⟨Nat.le_of_ble_eq_true rfl, Nat.le_of_ble_eq_true rfl⟩ (Nat.le_of_ble_eq_true rfl) dX2_smell_3 (by subst hr; rfl)
theorem fI_X12_init : CIf yX12_init cX12_init 3 2 := ⟨q936, rfl, q145, q937, ⟨⟨by decide +kernel, by decide +kernel⟩, by decide +kernel⟩⟩
def F_X12_init (x0 : Option Nat) (x1 : Option Nat) (x2 : Int32) (h : AH) : Option (AH) :=
  (ck h [13, 14, 15] x0).bind fun _ =>
  (F_X11_init x0 x1 x2 h).bind fun h1 =>
  some h1
theorem mX12_init (l : Launch) (G : ZG) (x0 : Option Nat) (x1 : Option Nat) (x2 : Int32) (h : AH) (r : AH) (hr : F_X12_init x0 x1 x2 h = some r) : MZ l G yX12_init cX12_init 3 (none : Option Jvm.ClassFile.FieldType) 2 70 [vr x0, vr x1, vi x2] h (eH r) := by
  unfold F_X12_init at hr
  refine MZ.of (by decide) [(0, vr x0), (1, vr x1), (2, vi x2)] rfl (Nat.le_of_ble_eq_true rfl) (fun K O => ?_)
  have O : ZOk K cX12_init RX12 "<init>" 3 (none : Option Jvm.ClassFile.FieldType) 2 70 := O
  refine bs hr (fun _ hck hr2 => ?_)
  clear hr
  obtain ⟨a0, rfl⟩ := ck_some hck
  have hr := hr2
  refine z_aload_n O 0 dX12_init_0 rfl rfl ?_
  refine z_aload_n O 1 dX12_init_1 rfl rfl ?_
  refine z_iload_n O 2 dX12_init_2 rfl rfl ?_
  refine bs hr (fun h1 hF hr => ?_)
  refine z_callI_ O [vr x1, vi x2] fI_X11_init q938 (fun l G => mX11_init l G (some a0) x1 x2 h _ hF) rfl ⟨Nat.le_of_ble_eq_true rfl, Nat.le_of_ble_eq_true rfl⟩ (Nat.le_of_ble_eq_true rfl) dX12_init_3 ?_
  exact z_vret O dX12_init_6 (by cases hr; rfl)
theorem fI_X13_init : CIf yX13_init cX13_init 3 2 := ⟨q933, rfl, q146, q934, ⟨⟨by decide +kernel, by decide +kernel⟩, by decide +kernel⟩⟩
def F_X13_init (x0 : Option Nat) (x1 : Option Nat) (x2 : Int32) (h : AH) : Option (AH) :=
  (ck h [13] x0).bind fun _ =>
  (F_X12_init x0 x1 x2 h).bind fun h1 =>
  some h1
theorem mX13_init (l : Launch) (G : ZG) (x0 : Option Nat) (x1 : Option Nat) (x2 : Int32) (h : AH) (r : AH) (hr : F_X13_init x0 x1 x2 h = some r) : MZ l G yX13_init cX13_init 3 (none : Option Jvm.ClassFile.FieldType) 3 92 [vr x0, vr x1, vi x2] h (eH r) := by
  unfold F_X13_init at hr
  refine MZ.of (by decide) [(0, vr x0), (1, vr x1), (2, vi x2)] rfl (Nat.le_of_ble_eq_true rfl) (fun K O => ?_)
  have O : ZOk K cX13_init RX13 "<init>" 3 (none : Option Jvm.ClassFile.FieldType) 3 92 := O
  refine bs hr (fun _ hck hr2 => ?_)
  clear hr
  obtain ⟨a0, rfl⟩ := ck_some hck
  have hr := hr2
  refine z_aload_n O 0 dX13_init_0 rfl rfl ?_
  refine z_aload_n O 1 dX13_init_1 rfl rfl ?_
  refine z_iload_n O 2 dX13_init_2 rfl rfl ?_
  refine bs hr (fun h1 hF hr => ?_)
  refine z_callI_ O [vr x1, vi x2] fI_X12_init q935 (fun l G => mX12_init l G (some a0) x1 x2 h _ hF) rfl ⟨Nat.le_of_ble_eq_true rfl, Nat.le_of_ble_eq_true rfl⟩ (Nat.le_of_ble_eq_true rfl) dX13_init_3 ?_
  exact z_vret O dX13_init_6 (by cases hr; rfl)
theorem fI_X14_init : CIf yX14_init cX14_init 3 2 := ⟨q981, rfl, q147, q982, ⟨⟨by decide +kernel, by decide +kernel⟩, by decide +kernel⟩⟩
def F_X14_init (x0 : Option Nat) (x1 : Option Nat) (x2 : Int32) (h : AH) : Option (AH) :=
  (ck h [14] x0).bind fun _ =>
  (F_X12_init x0 x1 x2 h).bind fun h1 =>
  some h1
theorem mX14_init (l : Launch) (G : ZG) (x0 : Option Nat) (x1 : Option Nat) (x2 : Int32) (h : AH) (r : AH) (hr : F_X14_init x0 x1 x2 h = some r) : MZ l G yX14_init cX14_init 3 (none : Option Jvm.ClassFile.FieldType) 3 92 [vr x0, vr x1, vi x2] h (eH r) := by
  unfold F_X14_init at hr
  refine MZ.of (by decide) [(0, vr x0), (1, vr x1), (2, vi x2)] rfl (Nat.le_of_ble_eq_true rfl) (fun K O => ?_)
  have O : ZOk K cX14_init RX14 "<init>" 3 (none : Option Jvm.ClassFile.FieldType) 3 92 := O
  refine bs hr (fun _ hck hr2 => ?_)
  clear hr
  obtain ⟨a0, rfl⟩ := ck_some hck
  have hr := hr2
  refine z_aload_n O 0 dX14_init_0 rfl rfl ?_
  refine z_aload_n O 1 dX14_init_1 rfl rfl ?_
  refine z_iload_n O 2 dX14_init_2 rfl rfl ?_
  refine bs hr (fun h1 hF hr => ?_)
  refine z_callI_ O [vr x1, vi x2] fI_X12_init q983 (fun l G => mX12_init l G (some a0) x1 x2 h _ hF) rfl ⟨Nat.le_of_ble_eq_true rfl, Nat.le_of_ble_eq_true rfl⟩ (Nat.le_of_ble_eq_true rfl) dX14_init_3 ?_
  exact z_vret O dX14_init_6 (by cases hr; rfl)
theorem fI_X15_init : CIf yX15_init cX15_init 3 2 := ⟨q995, rfl, q148, q996, ⟨⟨by decide +kernel, by decide +kernel⟩, by decide +kernel⟩⟩
def F_X15_init (x0 : Option Nat) (x1 : Option Nat) (x2 : Int32) (h : AH) : Option (AH) :=
  (ck h [15] x0).bind fun _ =>
  (F_X12_init x0 x1 x2 h).bind fun h1 =>
  some h1
theorem mX15_init (l : Launch) (G : ZG) (x0 : Option Nat) (x1 : Option Nat) (x2 : Int32) (h : AH) (r : AH) (hr : F_X15_init x0 x1 x2 h = some r) : MZ l G yX15_init cX15_init 3 (none : Option Jvm.ClassFile.FieldType) 3 92 [vr x0, vr x1, vi x2] h (eH r) := by
  unfold F_X15_init at hr
  refine MZ.of (by decide) [(0, vr x0), (1, vr x1), (2, vi x2)] rfl (Nat.le_of_ble_eq_true rfl) (fun K O => ?_)
  have O : ZOk K cX15_init RX15 "<init>" 3 (none : Option Jvm.ClassFile.FieldType) 3 92 := O
  refine bs hr (fun _ hck hr2 => ?_)
  clear hr
  obtain ⟨a0, rfl⟩ := ck_some hck
  have hr := hr2
  refine z_aload_n O 0 dX15_init_0 rfl rfl ?_
  refine z_aload_n O 1 dX15_init_1 rfl rfl ?_
  refine z_iload_n O 2 dX15_init_2 rfl rfl ?_
  refine bs hr (fun h1 hF hr => ?_)
  refine z_callI_ O [vr x1, vi x2] fI_X12_init q997 (fun l G => mX12_init l G (some a0) x1 x2 h _ hF) rfl ⟨Nat.le_of_ble_eq_true rfl, Nat.le_of_ble_eq_true rfl⟩ (Nat.le_of_ble_eq_true rfl) dX15_init_3 ?_
  exact z_vret O dX15_init_6 (by cases hr; rfl)
theorem fV_X2_stoneOf : CVf RX2 yX2_stoneOf cX2_stoneOf 3 (some (.object "YearSkins$Stone")) 2 := ⟨q927, qs22, q127, q928, ⟨⟨by decide +kernel, by decide +kernel⟩, by decide +kernel⟩⟩
def F_X2_stoneOf (N : Nat) (x0 : Option Nat) (x1 : Option Nat) (x2 : Int32) (h : AH) : Option (((Option Nat) ⊕ Nat) × AH) :=
  (ck h [2] x0).bind fun _ =>
  b2 (F_X2_takes N x0 (some (h.1.2.2.2.1 23)) h) fun v2 h1 =>
  if v2 = 0 then
    b2 (F_X2_takes N x0 (some (h1.1.2.2.2.1 24)) h1) fun v4 h3 =>
    if v4 = 0 then
      xb (F_X2_must N x0 (some (h3.1.2.2.2.1 25)) h3) fun _ h5 =>
      b2 (nO h5 15 6 [.int 0, .int 0, .int 0, .int 0, .null, .int 0]) fun v6 h7 =>
      (F_X15_init v6 x1 x2 h7).bind fun h8 =>
      some (.inl v6, h8)
    else
      b2 (nO h3 14 6 [.int 0, .int 0, .int 0, .int 0, .null, .int 0]) fun v9 h10 =>
      (F_X14_init v9 x1 x2 h10).bind fun h11 =>
      some (.inl v9, h11)
  else
    b2 (nO h1 13 6 [.int 0, .int 0, .int 0, .int 0, .null, .int 0]) fun v12 h13 =>
    (F_X13_init v12 x1 x2 h13).bind fun h14 =>
    some (.inl v12, h14)
theorem mX2_stoneOf (l : Launch) (G : ZG) (N : Nat) (x0 : Option Nat) (x1 : Option Nat) (x2 : Int32) (h : AH) (r : ((Option Nat) ⊕ Nat) × AH) (hr : F_X2_stoneOf N x0 x1 x2 h = some r) : MZ l G yX2_stoneOf cX2_stoneOf 3 (some (.object "YearSkins$Stone")) 8 211 [vr x0, vr x1, vi x2] h (eRX r) := by
  unfold F_X2_stoneOf at hr
  refine MZ.ofT (by decide) [(0, vr x0), (1, vr x1), (2, vi x2)] rfl (Nat.le_of_ble_eq_true rfl) (fun K O E => ?_)
  have O : ZOk K cX2_stoneOf RX2 "stoneOf" 3 (some (.object "YearSkins$Stone")) 8 211 := O
  refine bs hr (fun _ hck hr => ?_)
  refine z_aload_n O 0 dX2_stoneOf_0 rfl rfl ?_
  refine z_ldcSw O zs929 dX2_stoneOf_1 ?_
  refine b2s hr (fun v2 h1 hF hr => ?_)
  refine z_callV O [vr (some (h.1.2.2.2.1 23))] (vi v2) fV_X2_takes q859 (fun l G => mX2_takes l G N x0 (some (h.1.2.2.2.1 23)) h _ hF) (zck hF) rfl rfl ⟨Nat.le_of_ble_eq_true rfl, Nat.le_of_ble_eq_true rfl⟩ (Nat.le_of_ble_eq_true rfl) dX2_stoneOf_4 ?_
  refine z_if_eq (tgt := 20) O dX2_stoneOf_7 (by decide) hr (fun hr => ?_) (fun hr => ?_)
  · refine z_aload_n O 0 dX2_stoneOf_20 rfl rfl ?_
    refine z_ldcSw O zs977 dX2_stoneOf_21 ?_
    refine b2s hr (fun v4 h3 hF hr => ?_)
    refine z_callV O [vr (some (h1.1.2.2.2.1 24))] (vi v4) fV_X2_takes q859 (fun l G => mX2_takes l G N x0 (some (h1.1.2.2.2.1 24)) h1 _ hF) (zck hF) rfl rfl ⟨Nat.le_of_ble_eq_true rfl, Nat.le_of_ble_eq_true rfl⟩ (Nat.le_of_ble_eq_true rfl) dX2_stoneOf_24 ?_
    refine z_if_eq (tgt := 40) O dX2_stoneOf_27 (by decide) hr (fun hr => ?_) (fun hr => ?_)
    · refine z_aload_n O 0 dX2_stoneOf_40 rfl rfl ?_
      refine z_ldcSw O zs991 dX2_stoneOf_41 ?_
      refine xbs hr (fun _ h5 hF hr => ?_) (fun ex hx hF hr => ?_)
      · refine z_callVv O [vr (some (h3.1.2.2.2.1 25))] fV_X2_must q855 (fun l G => mX2_must l G N x0 (some (h3.1.2.2.2.1 25)) h3 _ hF) (zck hF) rfl rfl ⟨Nat.le_of_ble_eq_true rfl, Nat.le_of_ble_eq_true rfl⟩ (Nat.le_of_ble_eq_true rfl) dX2_stoneOf_44 ?_
        refine z_new O (t := 15) (n := 6) (tyf := tyX15) rfl [.int 0, .int 0, .int 0, .int 0, .null, .int 0] tyX15_ok rfl in_X15 q992 q993 q148 dX2_stoneOf_47 hr (fun v6 h7 hr => ?_)
        refine z_dup O dX2_stoneOf_50 rfl ?_
        refine z_aload_n O 1 dX2_stoneOf_51 rfl rfl ?_
        refine z_iload_n O 2 dX2_stoneOf_52 rfl rfl ?_
        refine bs hr (fun h8 hF hr => ?_)
        refine z_callI_ O [vr x1, vi x2] fI_X15_init q994 (fun l G => mX15_init l G (some v6) x1 x2 h7 _ hF) rfl ⟨Nat.le_of_ble_eq_true rfl, Nat.le_of_ble_eq_true rfl⟩ (Nat.le_of_ble_eq_true rfl) dX2_stoneOf_53 ?_
        exact z_aret O rfl dX2_stoneOf_56 (by cases hr; rfl)
      · exact z_callVt O E [vr (some (h3.1.2.2.2.1 25))] fV_X2_must q855 (fun l G => mX2_must l G N x0 (some (h3.1.2.2.2.1 25)) h3 _ hF) (zck hF) rfl rfl ⟨Nat.le_of_ble_eq_true rfl, Nat.le_of_ble_eq_true rfl⟩ (Nat.le_of_ble_eq_true rfl) dX2_stoneOf_44 (by subst hr; rfl)
    · refine z_new O (t := 14) (n := 6) (tyf := tyX14) rfl [.int 0, .int 0, .int 0, .int 0, .null, .int 0] tyX14_ok rfl in_X14 q978 q979 q147 dX2_stoneOf_30 hr (fun v9 h10 hr => ?_)
      refine z_dup O dX2_stoneOf_33 rfl ?_
      refine z_aload_n O 1 dX2_stoneOf_34 rfl rfl ?_
      refine z_iload_n O 2 dX2_stoneOf_35 rfl rfl ?_
      refine bs hr (fun h11 hF hr => ?_)
      refine z_callI_ O [vr x1, vi x2] fI_X14_init q980 (fun l G => mX14_init l G (some v9) x1 x2 h10 _ hF) rfl ⟨Nat.le_of_ble_eq_true rfl, Nat.le_of_ble_eq_true rfl⟩ (Nat.le_of_ble_eq_true rfl) dX2_stoneOf_36 ?_
      exact z_aret O rfl dX2_stoneOf_39 (by cases hr; rfl)
  · refine z_new O (t := 13) (n := 6) (tyf := tyX13) rfl [.int 0, .int 0, .int 0, .int 0, .null, .int 0] tyX13_ok rfl in_X13 q930 q931 q146 dX2_stoneOf_10 hr (fun v12 h13 hr => ?_)
    refine z_dup O dX2_stoneOf_13 rfl ?_
    refine z_aload_n O 1 dX2_stoneOf_14 rfl rfl ?_
    refine z_iload_n O 2 dX2_stoneOf_15 rfl rfl ?_
    refine bs hr (fun h14 hF hr => ?_)
    refine z_callI_ O [vr x1, vi x2] fI_X13_init q932 (fun l G => mX13_init l G (some v12) x1 x2 h13 _ hF) rfl ⟨Nat.le_of_ble_eq_true rfl, Nat.le_of_ble_eq_true rfl⟩ (Nat.le_of_ble_eq_true rfl) dX2_stoneOf_16 ?_
    exact z_aret O rfl dX2_stoneOf_19 (by cases hr; rfl)
theorem fV_X2_stoneLine : CVf RX2 yX2_stoneLine cX2_stoneLine 2 (none : Option Jvm.ClassFile.FieldType) 0 := ⟨q907, qs19, q127, q908, ⟨⟨by decide +kernel, by decide +kernel⟩, by decide +kernel⟩⟩
def bX2_stoneLine_17 (N : Nat) (x0 : Option Nat) (s0 : Option Nat) (s1 : Int32) (h : AH) : Option ((Unit ⊕ Nat) × AH) :=
  xb (F_X2_begins N s0 s1 (1 : Int32) h) fun _ h1 =>
  xb (F_X2_newName N x0 h1) fun v3 h2 =>
  (gR h2 f_Reader_land x0).bind fun v4 =>
  (gI h2 f_Land_stoneMany v4).bind fun v5 =>
  xb (F_X2_stoneOf N x0 v3 v5 h2) fun v7 h6 =>
  xb (F_X2_after N x0 (some (h6.1.2.2.2.1 26)) (1 : Int32) (9 : Int32) h6) fun v9 h8 =>
  (pI h8 f_Stone_costs v7 v9).bind fun h10 =>
  xb (F_X2_after N x0 (some (h10.1.2.2.2.1 27)) (0 : Int32) (9 : Int32) h10) fun v12 h11 =>
  (pI h11 f_Stone_warm v7 v12).bind fun h13 =>
  xb (F_X2_after N x0 (some (h13.1.2.2.2.1 28)) (0 : Int32) (9 : Int32) h13) fun v15 h14 =>
  (pI h14 f_Stone_rots v7 v15).bind fun h16 =>
  xb (F_X2_after N x0 (some (h16.1.2.2.2.1 29)) (1 : Int32) (99 : Int32) h16) fun v18 h17 =>
  (pI h17 f_Stone_strong v7 v18).bind fun h19 =>
  (gR h19 f_Reader_land x0).bind fun v20 =>
  (gR h19 f_Land_stones v20).bind fun v21 =>
  (gR h19 f_Reader_land x0).bind fun v22 =>
  (gI h19 f_Land_stoneMany v22).bind fun v23 =>
  (sR h19 v21 v23 v7).bind fun h24 =>
  (gR h24 f_Reader_land x0).bind fun v25 =>
  (gI h24 f_Land_stoneMany v25).bind fun v26 =>
  (pI h24 f_Land_stoneMany v25 (v26 + (1 : Int32))).bind fun h27 =>
  some (.inl (), h27)
theorem wX2_stoneLine_17 {K : ZC} (O : ZOk K cX2_stoneLine RX2 "stoneLine" 2 (none : Option Jvm.ClassFile.FieldType) 9 234) (E : ZEx K) (N : Nat) (x0 : Option Nat) (s0 : Option Nat) (s1 : Int32) (h : AH) (r : (Unit ⊕ Nat) × AH) (hr : bX2_stoneLine_17 N x0 s0 s1 h = some r) : Zw K (eUX r) h 17 [(0, vr x0)] [vi s1, vr s0] := by
  unfold bX2_stoneLine_17 at hr
  refine z_iconst O dX2_stoneLine_17 kic_1 ?_
  refine xbs hr (fun _ h1 hF hr => ?_) (fun ex hx hF hr => ?_)
  · refine z_callVv O [vi s1, vi (1 : Int32)] fV_X2_begins q886 (fun l G => mX2_begins l G N s0 s1 (1 : Int32) h _ hF) (zck hF) rfl rfl ⟨Nat.le_of_ble_eq_true rfl, Nat.le_of_ble_eq_true rfl⟩ (Nat.le_of_ble_eq_true rfl) dX2_stoneLine_18 ?_
    refine z_aload_n O 0 dX2_stoneLine_21 rfl rfl ?_
    refine z_aload_n O 0 dX2_stoneLine_22 rfl rfl ?_
    refine xbs hr (fun v3 h2 hF hr => ?_) (fun ex hx hF hr => ?_)
    · refine z_callV O [] (vr v3) fV_X2_newName q909 (fun l G => mX2_newName l G N x0 h1 _ hF) (zck hF) rfl rfl ⟨Nat.le_of_ble_eq_true rfl, Nat.le_of_ble_eq_true rfl⟩ (Nat.le_of_ble_eq_true rfl) dX2_stoneLine_23 ?_
      refine z_aload_n O 0 dX2_stoneLine_26 rfl rfl ?_
      refine z_getR O o_Reader_land q389 dX2_stoneLine_27 hr (fun v4 hr => ?_)
      refine z_getI O o_Land_stoneMany q597 dX2_stoneLine_30 hr (fun v5 hr => ?_)
      refine xbs hr (fun v7 h6 hF hr => ?_) (fun ex hx hF hr => ?_)
      · refine z_callV O [vr v3, vi v5] (vr v7) fV_X2_stoneOf q925 (fun l G => mX2_stoneOf l G N x0 v3 v5 h2 _ hF) (zck hF) rfl rfl ⟨Nat.le_of_ble_eq_true rfl, Nat.le_of_ble_eq_true rfl⟩ (Nat.le_of_ble_eq_true rfl) dX2_stoneLine_33 ?_
        refine z_astore_n O [(1, vr v7), (0, vr x0)] dX2_stoneLine_36 rfl (by decide) rfl ?_
        refine z_aload_n O 0 dX2_stoneLine_37 rfl rfl ?_
        refine z_aload_n O 1 dX2_stoneLine_38 rfl rfl ?_
        refine z_ldcSw O zs1005 dX2_stoneLine_39 ?_
        refine z_iconst O dX2_stoneLine_42 kic_1 ?_
        refine z_bipush O dX2_stoneLine_43 kbi_9 ?_
        refine xbs hr (fun v9 h8 hF hr => ?_) (fun ex hx hF hr => ?_)
        · refine z_callV O [vr (some (h6.1.2.2.2.1 26)), vi (1 : Int32), vi (9 : Int32)] (vi v9) fV_X2_after q851 (fun l G => mX2_after l G N x0 (some (h6.1.2.2.2.1 26)) (1 : Int32) (9 : Int32) h6 _ hF) (zck hF) rfl rfl ⟨Nat.le_of_ble_eq_true rfl, Nat.le_of_ble_eq_true rfl⟩ (Nat.le_of_ble_eq_true rfl) dX2_stoneLine_45 ?_
          refine z_putI O o_Stone_costs (w_Stone_costs _) q943 dX2_stoneLine_48 hr (fun h10 hr => ?_)
          refine z_aload_n O 0 dX2_stoneLine_51 rfl rfl ?_
          refine z_aload_n O 1 dX2_stoneLine_52 rfl rfl ?_
          refine z_ldcSw O zs1006 dX2_stoneLine_53 ?_
          refine z_iconst O dX2_stoneLine_56 kic_0 ?_
          refine z_bipush O dX2_stoneLine_57 kbi_9 ?_
          refine xbs hr (fun v12 h11 hF hr => ?_) (fun ex hx hF hr => ?_)
          · refine z_callV O [vr (some (h10.1.2.2.2.1 27)), vi (0 : Int32), vi (9 : Int32)] (vi v12) fV_X2_after q851 (fun l G => mX2_after l G N x0 (some (h10.1.2.2.2.1 27)) (0 : Int32) (9 : Int32) h10 _ hF) (zck hF) rfl rfl ⟨Nat.le_of_ble_eq_true rfl, Nat.le_of_ble_eq_true rfl⟩ (Nat.le_of_ble_eq_true rfl) dX2_stoneLine_59 ?_
            refine z_putI O o_Stone_warm (w_Stone_warm _) q946 dX2_stoneLine_62 hr (fun h13 hr => ?_)
            refine z_aload_n O 0 dX2_stoneLine_65 rfl rfl ?_
            refine z_aload_n O 1 dX2_stoneLine_66 rfl rfl ?_
            refine z_ldcSw O zs1007 dX2_stoneLine_67 ?_
            refine z_iconst O dX2_stoneLine_70 kic_0 ?_
            refine z_bipush O dX2_stoneLine_71 kbi_9 ?_
            refine xbs hr (fun v15 h14 hF hr => ?_) (fun ex hx hF hr => ?_)
            · refine z_callV O [vr (some (h13.1.2.2.2.1 28)), vi (0 : Int32), vi (9 : Int32)] (vi v15) fV_X2_after q851 (fun l G => mX2_after l G N x0 (some (h13.1.2.2.2.1 28)) (0 : Int32) (9 : Int32) h13 _ hF) (zck hF) rfl rfl ⟨Nat.le_of_ble_eq_true rfl, Nat.le_of_ble_eq_true rfl⟩ (Nat.le_of_ble_eq_true rfl) dX2_stoneLine_73 ?_
              refine z_putI O o_Stone_rots (w_Stone_rots _) q949 dX2_stoneLine_76 hr (fun h16 hr => ?_)
              refine z_aload_n O 0 dX2_stoneLine_79 rfl rfl ?_
              refine z_aload_n O 1 dX2_stoneLine_80 rfl rfl ?_
              refine z_ldcSw O zs1008 dX2_stoneLine_81 ?_
              refine z_iconst O dX2_stoneLine_84 kic_1 ?_
              refine z_bipush O dX2_stoneLine_85 kbi_99 ?_
              refine xbs hr (fun v18 h17 hF hr => ?_) (fun ex hx hF hr => ?_)
              · refine z_callV O [vr (some (h16.1.2.2.2.1 29)), vi (1 : Int32), vi (99 : Int32)] (vi v18) fV_X2_after q851 (fun l G => mX2_after l G N x0 (some (h16.1.2.2.2.1 29)) (1 : Int32) (99 : Int32) h16 _ hF) (zck hF) rfl rfl ⟨Nat.le_of_ble_eq_true rfl, Nat.le_of_ble_eq_true rfl⟩ (Nat.le_of_ble_eq_true rfl) dX2_stoneLine_87 ?_
                refine z_putI O o_Stone_strong (w_Stone_strong _) q953 dX2_stoneLine_90 hr (fun h19 hr => ?_)
                refine z_aload_n O 1 dX2_stoneLine_93 rfl rfl ?_
                refine z_getR O o_Reader_land q389 dX2_stoneLine_94 hr (fun v20 hr => ?_)
                refine z_getR O o_Land_stones q568 dX2_stoneLine_97 hr (fun v21 hr => ?_)
                refine z_aload_n O 1 dX2_stoneLine_100 rfl rfl ?_
                refine z_getR O o_Reader_land q389 dX2_stoneLine_101 hr (fun v22 hr => ?_)
                refine z_getI O o_Land_stoneMany q597 dX2_stoneLine_104 hr (fun v23 hr => ?_)
                refine z_aload_n O 0 dX2_stoneLine_107 rfl rfl ?_
                refine z_aastore O dX2_stoneLine_108 hr (fun h24 hr => ?_)
                refine z_aload_n O 1 dX2_stoneLine_109 rfl rfl ?_
                refine z_getR O o_Reader_land q389 dX2_stoneLine_110 hr (fun v25 hr => ?_)
                refine z_dup O dX2_stoneLine_113 rfl ?_
                refine z_getI O o_Land_stoneMany q597 dX2_stoneLine_114 hr (fun v26 hr => ?_)
                refine z_iconst O dX2_stoneLine_117 kic_1 ?_
                refine z_iadd O dX2_stoneLine_118 ?_
                refine z_putI O o_Land_stoneMany (w_Land_stoneMany _) q597 dX2_stoneLine_119 hr (fun h27 hr => ?_)
                exact z_vret O dX2_stoneLine_122 (by cases hr; rfl)
              · exact z_callVt O E [vr (some (h16.1.2.2.2.1 29)), vi (1 : Int32), vi (99 : Int32)] fV_X2_after q851 (fun l G => mX2_after l G N x0 (some (h16.1.2.2.2.1 29)) (1 : Int32) (99 : Int32) h16 _ hF) (zck hF) rfl rfl ⟨Nat.le_of_ble_eq_true rfl, Nat.le_of_ble_eq_true rfl⟩ (Nat.le_of_ble_eq_true rfl) dX2_stoneLine_87 (by subst hr; rfl)
            · exact z_callVt O E [vr (some (h13.1.2.2.2.1 28)), vi (0 : Int32), vi (9 : Int32)] fV_X2_after q851 (fun l G => mX2_after l G N x0 (some (h13.1.2.2.2.1 28)) (0 : Int32) (9 : Int32) h13 _ hF) (zck hF) rfl rfl ⟨Nat.le_of_ble_eq_true rfl, Nat.le_of_ble_eq_true rfl⟩ (Nat.le_of_ble_eq_true rfl) dX2_stoneLine_73 (by subst hr; rfl)
          · exact z_callVt O E [vr (some (h10.1.2.2.2.1 27)), vi (0 : Int32), vi (9 : Int32)] fV_X2_after q851 (fun l G => mX2_after l G N x0 (some (h10.1.2.2.2.1 27)) (0 : Int32) (9 : Int32) h10 _ hF) (zck hF) rfl rfl ⟨Nat.le_of_ble_eq_true rfl, Nat.le_of_ble_eq_true rfl⟩ (Nat.le_of_ble_eq_true rfl) dX2_stoneLine_59 (by subst hr; rfl)
        · exact z_callVt O E [vr (some (h6.1.2.2.2.1 26)), vi (1 : Int32), vi (9 : Int32)] fV_X2_after q851 (fun l G => mX2_after l G N x0 (some (h6.1.2.2.2.1 26)) (1 : Int32) (9 : Int32) h6 _ hF) (zck hF) rfl rfl ⟨Nat.le_of_ble_eq_true rfl, Nat.le_of_ble_eq_true rfl⟩ (Nat.le_of_ble_eq_true rfl) dX2_stoneLine_45 (by subst hr; rfl)
      · exact z_callVt O E [vr v3, vi v5] fV_X2_stoneOf q925 (fun l G => mX2_stoneOf l G N x0 v3 v5 h2 _ hF) (zck hF) rfl rfl ⟨Nat.le_of_ble_eq_true rfl, Nat.le_of_ble_eq_true rfl⟩ (Nat.le_of_ble_eq_true rfl) dX2_stoneLine_33 (by subst hr; rfl)
    · exact z_callVt O E [] fV_X2_newName q909 (fun l G => mX2_newName l G N x0 h1 _ hF) (zck hF) rfl rfl ⟨Nat.le_of_ble_eq_true rfl, Nat.le_of_ble_eq_true rfl⟩ (Nat.le_of_ble_eq_true rfl) dX2_stoneLine_23 (by subst hr; rfl)
  · exact z_callVt O E [vi s1, vi (1 : Int32)] fV_X2_begins q886 (fun l G => mX2_begins l G N s0 s1 (1 : Int32) h _ hF) (zck hF) rfl rfl ⟨Nat.le_of_ble_eq_true rfl, Nat.le_of_ble_eq_true rfl⟩ (Nat.le_of_ble_eq_true rfl) dX2_stoneLine_18 (by subst hr; rfl)
def F_X2_stoneLine (N : Nat) (x0 : Option Nat) (h : AH) : Option ((Unit ⊕ Nat) × AH) :=
  (ck h [2] x0).bind fun _ =>
  (gR h f_Reader_land x0).bind fun v1 =>
  (gI h f_Land_stoneMany v1).bind fun v2 =>
  if (4 : Int32) ≤ v2 then
    bX2_stoneLine_17 N x0 x0 (0 : Int32) h
  else
    bX2_stoneLine_17 N x0 x0 (1 : Int32) h
theorem mX2_stoneLine (l : Launch) (G : ZG) (N : Nat) (x0 : Option Nat) (h : AH) (r : (Unit ⊕ Nat) × AH) (hr : F_X2_stoneLine N x0 h = some r) : MZ l G yX2_stoneLine cX2_stoneLine 2 (none : Option Jvm.ClassFile.FieldType) 9 234 [vr x0] h (eUX r) := by
  unfold F_X2_stoneLine at hr
  refine MZ.ofT (by decide) [(0, vr x0)] rfl (Nat.le_of_ble_eq_true rfl) (fun K O E => ?_)
  have O : ZOk K cX2_stoneLine RX2 "stoneLine" 2 (none : Option Jvm.ClassFile.FieldType) 9 234 := O
  refine bs hr (fun _ hck hr => ?_)
  refine z_aload_n O 0 dX2_stoneLine_0 rfl rfl ?_
  refine z_aload_n O 0 dX2_stoneLine_1 rfl rfl ?_
  refine z_getR O o_Reader_land q389 dX2_stoneLine_2 hr (fun v1 hr => ?_)
  refine z_getI O o_Land_stoneMany q597 dX2_stoneLine_5 hr (fun v2 hr => ?_)
  refine z_iconst O dX2_stoneLine_8 kic_4 ?_
  refine z_icmp_ge (tgt := 16) O dX2_stoneLine_9 (by decide) hr (fun hr => ?_) (fun hr => ?_)
  · refine z_iconst O dX2_stoneLine_16 kic_0 ?_
    exact wX2_stoneLine_17 O E N x0 x0 (0 : Int32) h _ hr
  · refine z_iconst O dX2_stoneLine_12 kic_1 ?_
    refine z_goto (tgt := 17) O dX2_stoneLine_13 (by decide) ?_
    exact wX2_stoneLine_17 O E N x0 x0 (1 : Int32) h _ hr
theorem fI_X19_init : CIf yX19_init cX19_init 3 2 := ⟨q1159, rfl, q153, q1160, ⟨⟨by decide +kernel, by decide +kernel⟩, by decide +kernel⟩⟩
def F_X19_init (x0 : Option Nat) (x1 : Option Nat) (x2 : Int32) (h : AH) : Option (AH) :=
  (ck h [19] x0).bind fun _ =>
  (F_X11_init x0 x1 x2 h).bind fun h1 =>
  (pI h1 f_Wall_coin x0 (-1 : Int32)).bind fun h2 =>
  (pI h2 f_Wall_smell x0 (-1 : Int32)).bind fun h3 =>
  some h3
theorem mX19_init (l : Launch) (G : ZG) (x0 : Option Nat) (x1 : Option Nat) (x2 : Int32) (h : AH) (r : AH) (hr : F_X19_init x0 x1 x2 h = some r) : MZ l G yX19_init cX19_init 3 (none : Option Jvm.ClassFile.FieldType) 2 70 [vr x0, vr x1, vi x2] h (eH r) := by
  unfold F_X19_init at hr
  refine MZ.of (by decide) [(0, vr x0), (1, vr x1), (2, vi x2)] rfl (Nat.le_of_ble_eq_true rfl) (fun K O => ?_)
  have O : ZOk K cX19_init RX19 "<init>" 3 (none : Option Jvm.ClassFile.FieldType) 2 70 := O
  refine bs hr (fun _ hck hr2 => ?_)
  clear hr
  obtain ⟨a0, rfl⟩ := ck_some hck
  have hr := hr2
  refine z_aload_n O 0 dX19_init_0 rfl rfl ?_
  refine z_aload_n O 1 dX19_init_1 rfl rfl ?_
  refine z_iload_n O 2 dX19_init_2 rfl rfl ?_
  refine bs hr (fun h1 hF hr => ?_)
  refine z_callI_ O [vr x1, vi x2] fI_X11_init q1161 (fun l G => mX11_init l G (some a0) x1 x2 h _ hF) rfl ⟨Nat.le_of_ble_eq_true rfl, Nat.le_of_ble_eq_true rfl⟩ (Nat.le_of_ble_eq_true rfl) dX19_init_3 ?_
  refine z_aload_n O 0 dX19_init_6 rfl rfl ?_
  refine z_iconst O dX19_init_7 kic_m1 ?_
  refine z_putI O o_Wall_coin (w_Wall_coin _) q1162 dX19_init_8 hr (fun h2 hr => ?_)
  refine z_aload_n O 0 dX19_init_11 rfl rfl ?_
  refine z_iconst O dX19_init_12 kic_m1 ?_
  refine z_putI O o_Wall_smell (w_Wall_smell _) q1165 dX19_init_13 hr (fun h3 hr => ?_)
  exact z_vret O dX19_init_16 (by cases hr; rfl)
theorem fV_X2_wall : CVf RX2 yX2_wall cX2_wall 1 (none : Option Jvm.ClassFile.FieldType) 0 := ⟨q1154, qs30, q127, q1155, ⟨⟨by decide +kernel, by decide +kernel⟩, by decide +kernel⟩⟩
def bX2_wall_18 (N : Nat) (x0 : Option Nat) (s0 : Option Nat) (s1 : Int32) (h : AH) : Option ((Unit ⊕ Nat) × AH) :=
  xb (F_X2_begins N s0 s1 (1 : Int32) h) fun _ h1 =>
  (gR h1 f_Reader_land x0).bind fun v2 =>
  (gR h1 f_Land_walls v2).bind fun v3 =>
  (gR h1 f_Reader_land x0).bind fun v4 =>
  (gI h1 f_Land_wallMany v4).bind fun v5 =>
  b2 (nO h1 19 4 [.null, .int 0, .int 0, .int 0]) fun v6 h7 =>
  xb (F_X2_newName N x0 h7) fun v9 h8 =>
  (gR h8 f_Reader_land x0).bind fun v10 =>
  (gI h8 f_Land_wallMany v10).bind fun v11 =>
  (F_X19_init v6 v9 v11 h8).bind fun h12 =>
  (sR h12 v3 v5 v6).bind fun h13 =>
  (gR h13 f_Reader_land x0).bind fun v14 =>
  (gI h13 f_Land_wallMany v14).bind fun v15 =>
  (pI h13 f_Land_wallMany v14 (v15 + (1 : Int32))).bind fun h16 =>
  some (.inl (), h16)
theorem wX2_wall_18 {K : ZC} (O : ZOk K cX2_wall RX2 "wall" 1 (none : Option Jvm.ClassFile.FieldType) 7 191) (E : ZEx K) (N : Nat) (x0 : Option Nat) (s0 : Option Nat) (s1 : Int32) (h : AH) (r : (Unit ⊕ Nat) × AH) (hr : bX2_wall_18 N x0 s0 s1 h = some r) : Zw K (eUX r) h 18 [(0, vr x0)] [vi s1, vr s0] := by
  unfold bX2_wall_18 at hr
  refine z_iconst O dX2_wall_18 kic_1 ?_
  refine xbs hr (fun _ h1 hF hr => ?_) (fun ex hx hF hr => ?_)
  · refine z_callVv O [vi s1, vi (1 : Int32)] fV_X2_begins q886 (fun l G => mX2_begins l G N s0 s1 (1 : Int32) h _ hF) (zck hF) rfl rfl ⟨Nat.le_of_ble_eq_true rfl, Nat.le_of_ble_eq_true rfl⟩ (Nat.le_of_ble_eq_true rfl) dX2_wall_19 ?_
    refine z_aload_n O 0 dX2_wall_22 rfl rfl ?_
    refine z_getR O o_Reader_land q389 dX2_wall_23 hr (fun v2 hr => ?_)
    refine z_getR O o_Land_walls q578 dX2_wall_26 hr (fun v3 hr => ?_)
    refine z_aload_n O 0 dX2_wall_29 rfl rfl ?_
    refine z_getR O o_Reader_land q389 dX2_wall_30 hr (fun v4 hr => ?_)
    refine z_getI O o_Land_wallMany q608 dX2_wall_33 hr (fun v5 hr => ?_)
    refine z_new O (t := 19) (n := 4) (tyf := tyX19) rfl [.null, .int 0, .int 0, .int 0] tyX19_ok rfl in_X19 q1156 q1157 q153 dX2_wall_36 hr (fun v6 h7 hr => ?_)
    refine z_dup O dX2_wall_39 rfl ?_
    refine z_aload_n O 0 dX2_wall_40 rfl rfl ?_
    refine xbs hr (fun v9 h8 hF hr => ?_) (fun ex hx hF hr => ?_)
    · refine z_callV O [] (vr v9) fV_X2_newName q909 (fun l G => mX2_newName l G N x0 h7 _ hF) (zck hF) rfl rfl ⟨Nat.le_of_ble_eq_true rfl, Nat.le_of_ble_eq_true rfl⟩ (Nat.le_of_ble_eq_true rfl) dX2_wall_41 ?_
      refine z_aload_n O 0 dX2_wall_44 rfl rfl ?_
      refine z_getR O o_Reader_land q389 dX2_wall_45 hr (fun v10 hr => ?_)
      refine z_getI O o_Land_wallMany q608 dX2_wall_48 hr (fun v11 hr => ?_)
      refine bs hr (fun h12 hF hr => ?_)
      refine z_callI_ O [vr v9, vi v11] fI_X19_init q1158 (fun l G => mX19_init l G (some v6) v9 v11 h8 _ hF) rfl ⟨Nat.le_of_ble_eq_true rfl, Nat.le_of_ble_eq_true rfl⟩ (Nat.le_of_ble_eq_true rfl) dX2_wall_51 ?_
      refine z_aastore O dX2_wall_54 hr (fun h13 hr => ?_)
      refine z_aload_n O 0 dX2_wall_55 rfl rfl ?_
      refine z_getR O o_Reader_land q389 dX2_wall_56 hr (fun v14 hr => ?_)
      refine z_dup O dX2_wall_59 rfl ?_
      refine z_getI O o_Land_wallMany q608 dX2_wall_60 hr (fun v15 hr => ?_)
      refine z_iconst O dX2_wall_63 kic_1 ?_
      refine z_iadd O dX2_wall_64 ?_
      refine z_putI O o_Land_wallMany (w_Land_wallMany _) q608 dX2_wall_65 hr (fun h16 hr => ?_)
      exact z_vret O dX2_wall_68 (by cases hr; rfl)
    · exact z_callVt O E [] fV_X2_newName q909 (fun l G => mX2_newName l G N x0 h7 _ hF) (zck hF) rfl rfl ⟨Nat.le_of_ble_eq_true rfl, Nat.le_of_ble_eq_true rfl⟩ (Nat.le_of_ble_eq_true rfl) dX2_wall_41 (by subst hr; rfl)
  · exact z_callVt O E [vi s1, vi (1 : Int32)] fV_X2_begins q886 (fun l G => mX2_begins l G N s0 s1 (1 : Int32) h _ hF) (zck hF) rfl rfl ⟨Nat.le_of_ble_eq_true rfl, Nat.le_of_ble_eq_true rfl⟩ (Nat.le_of_ble_eq_true rfl) dX2_wall_19 (by subst hr; rfl)
def F_X2_wall (N : Nat) (x0 : Option Nat) (h : AH) : Option ((Unit ⊕ Nat) × AH) :=
  (ck h [2] x0).bind fun _ =>
  (gR h f_Reader_land x0).bind fun v1 =>
  (gI h f_Land_wallMany v1).bind fun v2 =>
  if (6 : Int32) ≤ v2 then
    bX2_wall_18 N x0 x0 (0 : Int32) h
  else
    bX2_wall_18 N x0 x0 (1 : Int32) h
theorem mX2_wall (l : Launch) (G : ZG) (N : Nat) (x0 : Option Nat) (h : AH) (r : (Unit ⊕ Nat) × AH) (hr : F_X2_wall N x0 h = some r) : MZ l G yX2_wall cX2_wall 1 (none : Option Jvm.ClassFile.FieldType) 7 191 [vr x0] h (eUX r) := by
  unfold F_X2_wall at hr
  refine MZ.ofT (by decide) [(0, vr x0)] rfl (Nat.le_of_ble_eq_true rfl) (fun K O E => ?_)
  have O : ZOk K cX2_wall RX2 "wall" 1 (none : Option Jvm.ClassFile.FieldType) 7 191 := O
  refine bs hr (fun _ hck hr => ?_)
  refine z_aload_n O 0 dX2_wall_0 rfl rfl ?_
  refine z_aload_n O 0 dX2_wall_1 rfl rfl ?_
  refine z_getR O o_Reader_land q389 dX2_wall_2 hr (fun v1 hr => ?_)
  refine z_getI O o_Land_wallMany q608 dX2_wall_5 hr (fun v2 hr => ?_)
  refine z_bipush O dX2_wall_8 kbi_6 ?_
  refine z_icmp_ge (tgt := 17) O dX2_wall_10 (by decide) hr (fun hr => ?_) (fun hr => ?_)
  · refine z_iconst O dX2_wall_17 kic_0 ?_
    exact wX2_wall_18 O E N x0 x0 (0 : Int32) h _ hr
  · refine z_iconst O dX2_wall_13 kic_1 ?_
    refine z_goto (tgt := 18) O dX2_wall_14 (by decide) ?_
    exact wX2_wall_18 O E N x0 x0 (1 : Int32) h _ hr
theorem fV_X2_water : CVf RX2 yX2_water cX2_water 3 (none : Option Jvm.ClassFile.FieldType) 0 := ⟨q895, qs17, q127, q896, ⟨⟨by decide +kernel, by decide +kernel⟩, by decide +kernel⟩⟩
def bX2_water_33 (N : Nat) (x0 : Option Nat) (s0 : Option Nat) (s1 : Int32) (s2 : Int32) (h : AH) : Option ((Unit ⊕ Nat) × AH) :=
  xb (F_X2_begins N s0 s1 s2 h) fun _ h1 =>
  (gR h1 f_Reader_land x0).bind fun v2 =>
  (gI h1 f_Land_wide v2).bind fun v3 =>
  xb (F_X2_number N x0 (0 : Int32) (v3 - (1 : Int32)) h1) fun v5 h4 =>
  xb (F_X2_mustComma N x0 h4) fun _ h6 =>
  (gR h6 f_Reader_land x0).bind fun v7 =>
  (gI h6 f_Land_high v7).bind fun v8 =>
  xb (F_X2_numberHere x0 (0 : Int32) (v8 - (1 : Int32)) h6) fun v10 h9 =>
  (gR h9 f_Reader_land x0).bind fun v11 =>
  (F_X10_isWater N v11 v5 v10 h9).bind fun v12 =>
  if v12 = 0 then
    (F_X2_next N x0 h9).bind fun h13 =>
    (gR h13 f_Reader_land x0).bind fun v14 =>
    (gR h13 f_Land_waterX v14).bind fun v15 =>
    (gR h13 f_Reader_land x0).bind fun v16 =>
    (gI h13 f_Land_waterMany v16).bind fun v17 =>
    (sA h13 0 v15 v17 v5).bind fun h18 =>
    (gR h18 f_Reader_land x0).bind fun v19 =>
    (gR h18 f_Land_waterY v19).bind fun v20 =>
    (gR h18 f_Reader_land x0).bind fun v21 =>
    (gI h18 f_Land_waterMany v21).bind fun v22 =>
    (sA h18 0 v20 v22 v10).bind fun h23 =>
    (gR h23 f_Reader_land x0).bind fun v24 =>
    (gI h23 f_Land_waterMany v24).bind fun v25 =>
    (pI h23 f_Land_waterMany v24 (v25 + (1 : Int32))).bind fun h26 =>
    some (.inl (), h26)
  else
    b2 (F_X2_fail x0 (3 : Int32) h9) fun v28 h27 =>
    (thr h27 v28).bind fun v29 => some (.inr v29, h27)
theorem wX2_water_33 {K : ZC} (O : ZOk K cX2_water RX2 "water" 3 (none : Option Jvm.ClassFile.FieldType) 7 192) (E : ZEx K) (N : Nat) (x0 : Option Nat) (s0 : Option Nat) (s1 : Int32) (s2 : Int32) (h : AH) (r : (Unit ⊕ Nat) × AH) (hr : bX2_water_33 N x0 s0 s1 s2 h = some r) : Zw K (eUX r) h 33 [(0, vr x0)] [vi s2, vi s1, vr s0] := by
  unfold bX2_water_33 at hr
  refine xbs hr (fun _ h1 hF hr => ?_) (fun ex hx hF hr => ?_)
  · refine z_callVv O [vi s1, vi s2] fV_X2_begins q886 (fun l G => mX2_begins l G N s0 s1 s2 h _ hF) (zck hF) rfl rfl ⟨Nat.le_of_ble_eq_true rfl, Nat.le_of_ble_eq_true rfl⟩ (Nat.le_of_ble_eq_true rfl) dX2_water_33 ?_
    refine z_aload_n O 0 dX2_water_36 rfl rfl ?_
    refine z_iconst O dX2_water_37 kic_0 ?_
    refine z_aload_n O 0 dX2_water_38 rfl rfl ?_
    refine z_getR O o_Reader_land q389 dX2_water_39 hr (fun v2 hr => ?_)
    refine z_getI O o_Land_wide q581 dX2_water_42 hr (fun v3 hr => ?_)
    refine z_iconst O dX2_water_45 kic_1 ?_
    refine z_isub O dX2_water_46 ?_
    refine xbs hr (fun v5 h4 hF hr => ?_) (fun ex hx hF hr => ?_)
    · refine z_callV O [vi (0 : Int32), vi (v3 - (1 : Int32))] (vi v5) fV_X2_number q863 (fun l G => mX2_number l G N x0 (0 : Int32) (v3 - (1 : Int32)) h1 _ hF) (zck hF) rfl rfl ⟨Nat.le_of_ble_eq_true rfl, Nat.le_of_ble_eq_true rfl⟩ (Nat.le_of_ble_eq_true rfl) dX2_water_47 ?_
      refine z_istore_n O [(1, vi v5), (0, vr x0)] dX2_water_50 rfl (by decide) rfl ?_
      refine z_aload_n O 1 dX2_water_51 rfl rfl ?_
      refine xbs hr (fun _ h6 hF hr => ?_) (fun ex hx hF hr => ?_)
      · refine z_callVv O [] fV_X2_mustComma q897 (fun l G => mX2_mustComma l G N x0 h4 _ hF) (zck hF) rfl rfl ⟨Nat.le_of_ble_eq_true rfl, Nat.le_of_ble_eq_true rfl⟩ (Nat.le_of_ble_eq_true rfl) dX2_water_52 ?_
        refine z_aload_n O 1 dX2_water_55 rfl rfl ?_
        refine z_iconst O dX2_water_56 kic_0 ?_
        refine z_aload_n O 1 dX2_water_57 rfl rfl ?_
        refine z_getR O o_Reader_land q389 dX2_water_58 hr (fun v7 hr => ?_)
        refine z_getI O o_Land_high q586 dX2_water_61 hr (fun v8 hr => ?_)
        refine z_iconst O dX2_water_64 kic_1 ?_
        refine z_isub O dX2_water_65 ?_
        refine xbs hr (fun v10 h9 hF hr => ?_) (fun ex hx hF hr => ?_)
        · refine z_callV O [vi (0 : Int32), vi (v8 - (1 : Int32))] (vi v10) fV_X2_numberHere q867 (fun l G => mX2_numberHere l G x0 (0 : Int32) (v8 - (1 : Int32)) h6 _ hF) (zck hF) rfl rfl ⟨Nat.le_of_ble_eq_true rfl, Nat.le_of_ble_eq_true rfl⟩ (Nat.le_of_ble_eq_true rfl) dX2_water_66 ?_
          refine z_istore_n O [(2, vi v10), (1, vi v5), (0, vr x0)] dX2_water_69 rfl (by decide) rfl ?_
          refine z_aload_n O 2 dX2_water_70 rfl rfl ?_
          refine z_getR O o_Reader_land q389 dX2_water_71 hr (fun v11 hr => ?_)
          refine z_iload_n O 1 dX2_water_74 rfl rfl ?_
          refine z_iload_n O 0 dX2_water_75 rfl rfl ?_
          refine bs hr (fun v12 hF hr => ?_)
          refine z_callV O [vi v5, vi v10] (vi v12) fV_X10_isWater q901 (fun l G => mX10_isWater l G N v11 v5 v10 h9 _ hF) (zck hF) rfl rfl ⟨Nat.le_of_ble_eq_true rfl, Nat.le_of_ble_eq_true rfl⟩ (Nat.le_of_ble_eq_true rfl) dX2_water_76 ?_
          refine z_if_eq (tgt := 88) O dX2_water_79 (by decide) hr (fun hr => ?_) (fun hr => ?_)
          · refine z_aload_n O 2 dX2_water_88 rfl rfl ?_
            refine bs hr (fun h13 hF hr => ?_)
            refine z_callVv O [] fV_X2_next q668 (fun l G => mX2_next l G N x0 h9 _ hF) (zck hF) rfl rfl ⟨Nat.le_of_ble_eq_true rfl, Nat.le_of_ble_eq_true rfl⟩ (Nat.le_of_ble_eq_true rfl) dX2_water_89 ?_
            refine z_aload_n O 2 dX2_water_92 rfl rfl ?_
            refine z_getR O o_Reader_land q389 dX2_water_93 hr (fun v14 hr => ?_)
            refine z_getR O o_Land_waterX q558 dX2_water_96 hr (fun v15 hr => ?_)
            refine z_aload_n O 2 dX2_water_99 rfl rfl ?_
            refine z_getR O o_Reader_land q389 dX2_water_100 hr (fun v16 hr => ?_)
            refine z_getI O o_Land_waterMany q594 dX2_water_103 hr (fun v17 hr => ?_)
            refine z_iload_n O 1 dX2_water_106 rfl rfl ?_
            refine z_iastore O dX2_water_107 hr (fun h18 hr => ?_)
            refine z_aload_n O 2 dX2_water_108 rfl rfl ?_
            refine z_getR O o_Reader_land q389 dX2_water_109 hr (fun v19 hr => ?_)
            refine z_getR O o_Land_waterY q560 dX2_water_112 hr (fun v20 hr => ?_)
            refine z_aload_n O 2 dX2_water_115 rfl rfl ?_
            refine z_getR O o_Reader_land q389 dX2_water_116 hr (fun v21 hr => ?_)
            refine z_getI O o_Land_waterMany q594 dX2_water_119 hr (fun v22 hr => ?_)
            refine z_iload_n O 0 dX2_water_122 rfl rfl ?_
            refine z_iastore O dX2_water_123 hr (fun h23 hr => ?_)
            refine z_aload_n O 2 dX2_water_124 rfl rfl ?_
            refine z_getR O o_Reader_land q389 dX2_water_125 hr (fun v24 hr => ?_)
            refine z_dup O dX2_water_128 rfl ?_
            refine z_getI O o_Land_waterMany q594 dX2_water_129 hr (fun v25 hr => ?_)
            refine z_iconst O dX2_water_132 kic_1 ?_
            refine z_iadd O dX2_water_133 ?_
            refine z_putI O o_Land_waterMany (w_Land_waterMany _) q594 dX2_water_134 hr (fun h26 hr => ?_)
            exact z_vret O dX2_water_137 (by cases hr; rfl)
          · refine z_aload_n O 2 dX2_water_82 rfl rfl ?_
            refine z_iconst O dX2_water_83 kic_3 ?_
            refine b2s hr (fun v28 h27 hF hr => ?_)
            refine z_callV O [vi (3 : Int32)] (vr v28) fV_X2_fail q766 (fun l G => mX2_fail l G x0 (3 : Int32) h9 _ hF) (zck hF) rfl rfl ⟨Nat.le_of_ble_eq_true rfl, Nat.le_of_ble_eq_true rfl⟩ (Nat.le_of_ble_eq_true rfl) dX2_water_84 ?_
            refine bs hr (fun v29 hq hr => ?_)
            exact z_athrow O E dX2_water_87 hq (by cases hr; rfl)
        · exact z_callVt O E [vi (0 : Int32), vi (v8 - (1 : Int32))] fV_X2_numberHere q867 (fun l G => mX2_numberHere l G x0 (0 : Int32) (v8 - (1 : Int32)) h6 _ hF) (zck hF) rfl rfl ⟨Nat.le_of_ble_eq_true rfl, Nat.le_of_ble_eq_true rfl⟩ (Nat.le_of_ble_eq_true rfl) dX2_water_66 (by subst hr; rfl)
      · exact z_callVt O E [] fV_X2_mustComma q897 (fun l G => mX2_mustComma l G N x0 h4 _ hF) (zck hF) rfl rfl ⟨Nat.le_of_ble_eq_true rfl, Nat.le_of_ble_eq_true rfl⟩ (Nat.le_of_ble_eq_true rfl) dX2_water_52 (by subst hr; rfl)
    · exact z_callVt O E [vi (0 : Int32), vi (v3 - (1 : Int32))] fV_X2_number q863 (fun l G => mX2_number l G N x0 (0 : Int32) (v3 - (1 : Int32)) h1 _ hF) (zck hF) rfl rfl ⟨Nat.le_of_ble_eq_true rfl, Nat.le_of_ble_eq_true rfl⟩ (Nat.le_of_ble_eq_true rfl) dX2_water_47 (by subst hr; rfl)
  · exact z_callVt O E [vi s1, vi s2] fV_X2_begins q886 (fun l G => mX2_begins l G N s0 s1 s2 h _ hF) (zck hF) rfl rfl ⟨Nat.le_of_ble_eq_true rfl, Nat.le_of_ble_eq_true rfl⟩ (Nat.le_of_ble_eq_true rfl) dX2_water_33 (by subst hr; rfl)
def bX2_water_18 (N : Nat) (x0 : Option Nat) (s0 : Option Nat) (s1 : Int32) (h : AH) : Option ((Unit ⊕ Nat) × AH) :=
  (gR h f_Reader_land x0).bind fun v1 =>
  (gI h f_Land_siteMany v1).bind fun v2 =>
  if v2 = 0 then
    bX2_water_33 N x0 s0 s1 (1 : Int32) h
  else
    bX2_water_33 N x0 s0 s1 (0 : Int32) h
theorem wX2_water_18 {K : ZC} (O : ZOk K cX2_water RX2 "water" 3 (none : Option Jvm.ClassFile.FieldType) 7 192) (E : ZEx K) (N : Nat) (x0 : Option Nat) (s0 : Option Nat) (s1 : Int32) (h : AH) (r : (Unit ⊕ Nat) × AH) (hr : bX2_water_18 N x0 s0 s1 h = some r) : Zw K (eUX r) h 18 [(0, vr x0)] [vi s1, vr s0] := by
  unfold bX2_water_18 at hr
  refine z_aload_n O 0 dX2_water_18 rfl rfl ?_
  refine z_getR O o_Reader_land q389 dX2_water_19 hr (fun v1 hr => ?_)
  refine z_getI O o_Land_siteMany q599 dX2_water_22 hr (fun v2 hr => ?_)
  refine z_if_ne (tgt := 32) O dX2_water_25 (by decide) hr (fun hr => ?_) (fun hr => ?_)
  · refine z_iconst O dX2_water_28 kic_1 ?_
    refine z_goto (tgt := 33) O dX2_water_29 (by decide) ?_
    exact wX2_water_33 O E N x0 s0 s1 (1 : Int32) h _ hr
  · refine z_iconst O dX2_water_32 kic_0 ?_
    exact wX2_water_33 O E N x0 s0 s1 (0 : Int32) h _ hr
def F_X2_water (N : Nat) (x0 : Option Nat) (h : AH) : Option ((Unit ⊕ Nat) × AH) :=
  (ck h [2] x0).bind fun _ =>
  (gR h f_Reader_land x0).bind fun v1 =>
  (gI h f_Land_waterMany v1).bind fun v2 =>
  if (10 : Int32) ≤ v2 then
    bX2_water_18 N x0 x0 (0 : Int32) h
  else
    bX2_water_18 N x0 x0 (1 : Int32) h
theorem mX2_water (l : Launch) (G : ZG) (N : Nat) (x0 : Option Nat) (h : AH) (r : (Unit ⊕ Nat) × AH) (hr : F_X2_water N x0 h = some r) : MZ l G yX2_water cX2_water 3 (none : Option Jvm.ClassFile.FieldType) 7 192 [vr x0] h (eUX r) := by
  unfold F_X2_water at hr
  refine MZ.ofT (by decide) [(0, vr x0)] rfl (Nat.le_of_ble_eq_true rfl) (fun K O E => ?_)
  have O : ZOk K cX2_water RX2 "water" 3 (none : Option Jvm.ClassFile.FieldType) 7 192 := O
  refine bs hr (fun _ hck hr => ?_)
  refine z_aload_n O 0 dX2_water_0 rfl rfl ?_
  refine z_aload_n O 0 dX2_water_1 rfl rfl ?_
  refine z_getR O o_Reader_land q389 dX2_water_2 hr (fun v1 hr => ?_)
  refine z_getI O o_Land_waterMany q594 dX2_water_5 hr (fun v2 hr => ?_)
  refine z_bipush O dX2_water_8 kbi_10 ?_
  refine z_icmp_ge (tgt := 17) O dX2_water_10 (by decide) hr (fun hr => ?_) (fun hr => ?_)
  · refine z_iconst O dX2_water_17 kic_0 ?_
    exact wX2_water_18 O E N x0 x0 (0 : Int32) h _ hr
  · refine z_iconst O dX2_water_13 kic_1 ?_
    refine z_goto (tgt := 18) O dX2_water_14 (by decide) ?_
    exact wX2_water_18 O E N x0 x0 (1 : Int32) h _ hr
theorem fV_X2_years : CVf RX2 yX2_years cX2_years 1 (none : Option Jvm.ClassFile.FieldType) 0 := ⟨q884, qs15, q127, q885, ⟨⟨by decide +kernel, by decide +kernel⟩, by decide +kernel⟩⟩
def F_X2_years (N : Nat) (x0 : Option Nat) (h : AH) : Option ((Unit ⊕ Nat) × AH) :=
  (ck h [2] x0).bind fun _ =>
  (gR h f_Reader_land x0).bind fun v1 =>
  (gI h f_Land_hasYears v1).bind fun v2 =>
  if v2 = 0 then
    xb (F_X2_begins N x0 (1 : Int32) (1 : Int32) h) fun _ h3 =>
    xb (F_X2_number N x0 (0 : Int32) (900 : Int32) h3) fun v5 h4 =>
    (pI h4 f_Reader_year x0 v5).bind fun h6 =>
    (gR h6 f_Reader_land x0).bind fun v7 =>
    xb (F_X2_after N x0 (some (h6.1.2.2.2.1 20)) (0 : Int32) (100 : Int32) h6) fun v9 h8 =>
    (pI h8 f_Land_births v7 v9).bind fun h10 =>
    (gR h10 f_Reader_land x0).bind fun v11 =>
    xb (F_X2_after N x0 (some (h10.1.2.2.2.1 21)) (0 : Int32) (100 : Int32) h10) fun v13 h12 =>
    (pI h12 f_Land_fire v11 v13).bind fun h14 =>
    (gR h14 f_Reader_land x0).bind fun v15 =>
    xb (F_X2_after N x0 (some (h14.1.2.2.2.1 22)) (0 : Int32) (9 : Int32) h14) fun v17 h16 =>
    (pI h16 f_Land_earns v15 v17).bind fun h18 =>
    (gR h18 f_Reader_land x0).bind fun v19 =>
    (pZ h18 f_Land_hasYears v19 (1 : Int32)).bind fun h20 =>
    some (.inl (), h20)
  else
    b2 (F_X2_fail x0 (3 : Int32) h) fun v22 h21 =>
    (thr h21 v22).bind fun v23 => some (.inr v23, h21)
theorem mX2_years (l : Launch) (G : ZG) (N : Nat) (x0 : Option Nat) (h : AH) (r : (Unit ⊕ Nat) × AH) (hr : F_X2_years N x0 h = some r) : MZ l G yX2_years cX2_years 1 (none : Option Jvm.ClassFile.FieldType) 9 234 [vr x0] h (eUX r) := by
  unfold F_X2_years at hr
  refine MZ.ofT (by decide) [(0, vr x0)] rfl (Nat.le_of_ble_eq_true rfl) (fun K O E => ?_)
  have O : ZOk K cX2_years RX2 "years" 1 (none : Option Jvm.ClassFile.FieldType) 9 234 := O
  refine bs hr (fun _ hck hr => ?_)
  refine z_aload_n O 0 dX2_years_0 rfl rfl ?_
  refine z_getR O o_Reader_land q389 dX2_years_1 hr (fun v1 hr => ?_)
  refine z_getI O o_Land_hasYears q618 dX2_years_4 hr (fun v2 hr => ?_)
  refine z_if_eq (tgt := 16) O dX2_years_7 (by decide) hr (fun hr => ?_) (fun hr => ?_)
  · refine z_aload_n O 0 dX2_years_16 rfl rfl ?_
    refine z_iconst O dX2_years_17 kic_1 ?_
    refine z_iconst O dX2_years_18 kic_1 ?_
    refine xbs hr (fun _ h3 hF hr => ?_) (fun ex hx hF hr => ?_)
    · refine z_callVv O [vi (1 : Int32), vi (1 : Int32)] fV_X2_begins q886 (fun l G => mX2_begins l G N x0 (1 : Int32) (1 : Int32) h _ hF) (zck hF) rfl rfl ⟨Nat.le_of_ble_eq_true rfl, Nat.le_of_ble_eq_true rfl⟩ (Nat.le_of_ble_eq_true rfl) dX2_years_19 ?_
      refine z_aload_n O 0 dX2_years_22 rfl rfl ?_
      refine z_aload_n O 0 dX2_years_23 rfl rfl ?_
      refine z_iconst O dX2_years_24 kic_0 ?_
      refine z_sipush O dX2_years_25 ksi_900 ?_
      refine xbs hr (fun v5 h4 hF hr => ?_) (fun ex hx hF hr => ?_)
      · refine z_callV O [vi (0 : Int32), vi (900 : Int32)] (vi v5) fV_X2_number q863 (fun l G => mX2_number l G N x0 (0 : Int32) (900 : Int32) h3 _ hF) (zck hF) rfl rfl ⟨Nat.le_of_ble_eq_true rfl, Nat.le_of_ble_eq_true rfl⟩ (Nat.le_of_ble_eq_true rfl) dX2_years_28 ?_
        refine z_putI O o_Reader_year (w_Reader_year _) q387 dX2_years_31 hr (fun h6 hr => ?_)
        refine z_aload_n O 0 dX2_years_34 rfl rfl ?_
        refine z_getR O o_Reader_land q389 dX2_years_35 hr (fun v7 hr => ?_)
        refine z_aload_n O 0 dX2_years_38 rfl rfl ?_
        refine z_ldcS O zs890 dX2_years_39 ?_
        refine z_iconst O dX2_years_41 kic_0 ?_
        refine z_bipush O dX2_years_42 kbi_100 ?_
        refine xbs hr (fun v9 h8 hF hr => ?_) (fun ex hx hF hr => ?_)
        · refine z_callV O [vr (some (h6.1.2.2.2.1 20)), vi (0 : Int32), vi (100 : Int32)] (vi v9) fV_X2_after q851 (fun l G => mX2_after l G N x0 (some (h6.1.2.2.2.1 20)) (0 : Int32) (100 : Int32) h6 _ hF) (zck hF) rfl rfl ⟨Nat.le_of_ble_eq_true rfl, Nat.le_of_ble_eq_true rfl⟩ (Nat.le_of_ble_eq_true rfl) dX2_years_44 ?_
          refine z_putI O o_Land_births (w_Land_births _) q588 dX2_years_47 hr (fun h10 hr => ?_)
          refine z_aload_n O 0 dX2_years_50 rfl rfl ?_
          refine z_getR O o_Reader_land q389 dX2_years_51 hr (fun v11 hr => ?_)
          refine z_aload_n O 0 dX2_years_54 rfl rfl ?_
          refine z_ldcS O zs891 dX2_years_55 ?_
          refine z_iconst O dX2_years_57 kic_0 ?_
          refine z_bipush O dX2_years_58 kbi_100 ?_
          refine xbs hr (fun v13 h12 hF hr => ?_) (fun ex hx hF hr => ?_)
          · refine z_callV O [vr (some (h10.1.2.2.2.1 21)), vi (0 : Int32), vi (100 : Int32)] (vi v13) fV_X2_after q851 (fun l G => mX2_after l G N x0 (some (h10.1.2.2.2.1 21)) (0 : Int32) (100 : Int32) h10 _ hF) (zck hF) rfl rfl ⟨Nat.le_of_ble_eq_true rfl, Nat.le_of_ble_eq_true rfl⟩ (Nat.le_of_ble_eq_true rfl) dX2_years_60 ?_
            refine z_putI O o_Land_fire (w_Land_fire _) q590 dX2_years_63 hr (fun h14 hr => ?_)
            refine z_aload_n O 0 dX2_years_66 rfl rfl ?_
            refine z_getR O o_Reader_land q389 dX2_years_67 hr (fun v15 hr => ?_)
            refine z_aload_n O 0 dX2_years_70 rfl rfl ?_
            refine z_ldcS O zs892 dX2_years_71 ?_
            refine z_iconst O dX2_years_73 kic_0 ?_
            refine z_bipush O dX2_years_74 kbi_9 ?_
            refine xbs hr (fun v17 h16 hF hr => ?_) (fun ex hx hF hr => ?_)
            · refine z_callV O [vr (some (h14.1.2.2.2.1 22)), vi (0 : Int32), vi (9 : Int32)] (vi v17) fV_X2_after q851 (fun l G => mX2_after l G N x0 (some (h14.1.2.2.2.1 22)) (0 : Int32) (9 : Int32) h14 _ hF) (zck hF) rfl rfl ⟨Nat.le_of_ble_eq_true rfl, Nat.le_of_ble_eq_true rfl⟩ (Nat.le_of_ble_eq_true rfl) dX2_years_76 ?_
              refine z_putI O o_Land_earns (w_Land_earns _) q592 dX2_years_79 hr (fun h18 hr => ?_)
              refine z_aload_n O 0 dX2_years_82 rfl rfl ?_
              refine z_getR O o_Reader_land q389 dX2_years_83 hr (fun v19 hr => ?_)
              refine z_iconst O dX2_years_86 kic_1 ?_
              refine z_putZ O o_Land_hasYears (w_Land_hasYears _) q618 dX2_years_87 hr (fun h20 hr => ?_)
              exact z_vret O dX2_years_90 (by cases hr; rfl)
            · exact z_callVt O E [vr (some (h14.1.2.2.2.1 22)), vi (0 : Int32), vi (9 : Int32)] fV_X2_after q851 (fun l G => mX2_after l G N x0 (some (h14.1.2.2.2.1 22)) (0 : Int32) (9 : Int32) h14 _ hF) (zck hF) rfl rfl ⟨Nat.le_of_ble_eq_true rfl, Nat.le_of_ble_eq_true rfl⟩ (Nat.le_of_ble_eq_true rfl) dX2_years_76 (by subst hr; rfl)
          · exact z_callVt O E [vr (some (h10.1.2.2.2.1 21)), vi (0 : Int32), vi (100 : Int32)] fV_X2_after q851 (fun l G => mX2_after l G N x0 (some (h10.1.2.2.2.1 21)) (0 : Int32) (100 : Int32) h10 _ hF) (zck hF) rfl rfl ⟨Nat.le_of_ble_eq_true rfl, Nat.le_of_ble_eq_true rfl⟩ (Nat.le_of_ble_eq_true rfl) dX2_years_60 (by subst hr; rfl)
        · exact z_callVt O E [vr (some (h6.1.2.2.2.1 20)), vi (0 : Int32), vi (100 : Int32)] fV_X2_after q851 (fun l G => mX2_after l G N x0 (some (h6.1.2.2.2.1 20)) (0 : Int32) (100 : Int32) h6 _ hF) (zck hF) rfl rfl ⟨Nat.le_of_ble_eq_true rfl, Nat.le_of_ble_eq_true rfl⟩ (Nat.le_of_ble_eq_true rfl) dX2_years_44 (by subst hr; rfl)
      · exact z_callVt O E [vi (0 : Int32), vi (900 : Int32)] fV_X2_number q863 (fun l G => mX2_number l G N x0 (0 : Int32) (900 : Int32) h3 _ hF) (zck hF) rfl rfl ⟨Nat.le_of_ble_eq_true rfl, Nat.le_of_ble_eq_true rfl⟩ (Nat.le_of_ble_eq_true rfl) dX2_years_28 (by subst hr; rfl)
    · exact z_callVt O E [vi (1 : Int32), vi (1 : Int32)] fV_X2_begins q886 (fun l G => mX2_begins l G N x0 (1 : Int32) (1 : Int32) h _ hF) (zck hF) rfl rfl ⟨Nat.le_of_ble_eq_true rfl, Nat.le_of_ble_eq_true rfl⟩ (Nat.le_of_ble_eq_true rfl) dX2_years_19 (by subst hr; rfl)
  · refine z_aload_n O 0 dX2_years_10 rfl rfl ?_
    refine z_iconst O dX2_years_11 kic_3 ?_
    refine b2s hr (fun v22 h21 hF hr => ?_)
    refine z_callV O [vi (3 : Int32)] (vr v22) fV_X2_fail q766 (fun l G => mX2_fail l G x0 (3 : Int32) h _ hF) (zck hF) rfl rfl ⟨Nat.le_of_ble_eq_true rfl, Nat.le_of_ble_eq_true rfl⟩ (Nat.le_of_ble_eq_true rfl) dX2_years_12 ?_
    refine bs hr (fun v23 hq hr => ?_)
    exact z_athrow O E dX2_years_15 hq (by cases hr; rfl)
theorem fV_X2_line : CVf RX2 yX2_line cX2_line 3 (none : Option Jvm.ClassFile.FieldType) 0 := ⟨q764, qs6, q127, q765, ⟨⟨by decide +kernel, by decide +kernel⟩, by decide +kernel⟩⟩
def bX2_line_280 (N : Nat) (x0 : Option Nat) (x2 : Int32) (h : AH) : Option ((Unit ⊕ Nat) × AH) :=
  if x2 = (0 : Int32) then
    xb (F_X2_landLine N x0 h) fun _ h12 =>
    some (.inl (), h12)
  else if x2 = (1 : Int32) then
    xb (F_X2_years N x0 h) fun _ h13 =>
    some (.inl (), h13)
  else if x2 = (2 : Int32) then
    xb (F_X2_water N x0 h) fun _ h14 =>
    some (.inl (), h14)
  else if x2 = (3 : Int32) then
    xb (F_X2_stoneLine N x0 h) fun _ h15 =>
    some (.inl (), h15)
  else if x2 = (4 : Int32) then
    xb (F_X2_house N x0 h) fun _ h16 =>
    some (.inl (), h16)
  else if x2 = (5 : Int32) then
    xb (F_X2_skin N x0 h) fun _ h17 =>
    some (.inl (), h17)
  else if x2 = (6 : Int32) then
    xb (F_X2_heir N x0 h) fun _ h18 =>
    some (.inl (), h18)
  else if x2 = (7 : Int32) then
    xb (F_X2_wall N x0 h) fun _ h19 =>
    some (.inl (), h19)
  else if x2 = (8 : Int32) then
    xb (F_X2_older N x0 h) fun _ h20 =>
    some (.inl (), h20)
  else if x2 = (9 : Int32) then
    xb (F_X2_coin N x0 h) fun _ h21 =>
    some (.inl (), h21)
  else if x2 = (10 : Int32) then
    xb (F_X2_smell N x0 h) fun _ h22 =>
    some (.inl (), h22)
  else 
    b2 (F_X2_fail x0 (1 : Int32) h) fun v24 h23 =>
    (thr h23 v24).bind fun v25 => some (.inr v25, h23)
theorem wX2_line_280 {K : ZC} (O : ZOk K cX2_line RX2 "line" 3 (none : Option Jvm.ClassFile.FieldType) 10 259) (E : ZEx K) (N : Nat) (x0 : Option Nat) (x2 : Int32) (h : AH) (r : (Unit ⊕ Nat) × AH) (hr : bX2_line_280 N x0 x2 h = some r) : Zw K (eUX r) h 280 [(0, vr x0), (2, vi x2)] [] := by
  unfold bX2_line_280 at hr
  refine z_iload_n O 1 dX2_line_280 rfl rfl ?_
  refine zite hr (fun c1 hr => ?_) (fun c1 hr => ?_)
  · refine z_tabIn (v := (0 : Int32)) (off := 59) (tgt := 340) O dX2_line_281 c1 (by decide) (by decide +kernel) (by decide) ?_
    refine z_aload_n O 0 dX2_line_340 rfl rfl ?_
    refine xbs hr (fun _ h12 hF hr => ?_) (fun ex hx hF hr => ?_)
    · refine z_callVv O [] fV_X2_landLine q846 (fun l G => mX2_landLine l G N x0 h _ hF) (zck hF) rfl rfl ⟨Nat.le_of_ble_eq_true rfl, Nat.le_of_ble_eq_true rfl⟩ (Nat.le_of_ble_eq_true rfl) dX2_line_341 ?_
      refine z_goto (tgt := 423) O dX2_line_344 (by decide) ?_
      exact z_vret O dX2_line_423 (by cases hr; rfl)
    · exact z_callVt O E [] fV_X2_landLine q846 (fun l G => mX2_landLine l G N x0 h _ hF) (zck hF) rfl rfl ⟨Nat.le_of_ble_eq_true rfl, Nat.le_of_ble_eq_true rfl⟩ (Nat.le_of_ble_eq_true rfl) dX2_line_341 (by subst hr; rfl)
  refine zite hr (fun c2 hr => ?_) (fun c2 hr => ?_)
  · refine z_tabIn (v := (1 : Int32)) (off := 66) (tgt := 347) O dX2_line_281 c2 (by decide) (by decide +kernel) (by decide) ?_
    refine z_aload_n O 0 dX2_line_347 rfl rfl ?_
    refine xbs hr (fun _ h13 hF hr => ?_) (fun ex hx hF hr => ?_)
    · refine z_callVv O [] fV_X2_years q882 (fun l G => mX2_years l G N x0 h _ hF) (zck hF) rfl rfl ⟨Nat.le_of_ble_eq_true rfl, Nat.le_of_ble_eq_true rfl⟩ (Nat.le_of_ble_eq_true rfl) dX2_line_348 ?_
      refine z_goto (tgt := 423) O dX2_line_351 (by decide) ?_
      exact z_vret O dX2_line_423 (by cases hr; rfl)
    · exact z_callVt O E [] fV_X2_years q882 (fun l G => mX2_years l G N x0 h _ hF) (zck hF) rfl rfl ⟨Nat.le_of_ble_eq_true rfl, Nat.le_of_ble_eq_true rfl⟩ (Nat.le_of_ble_eq_true rfl) dX2_line_348 (by subst hr; rfl)
  refine zite hr (fun c3 hr => ?_) (fun c3 hr => ?_)
  · refine z_tabIn (v := (2 : Int32)) (off := 73) (tgt := 354) O dX2_line_281 c3 (by decide) (by decide +kernel) (by decide) ?_
    refine z_aload_n O 0 dX2_line_354 rfl rfl ?_
    refine xbs hr (fun _ h14 hF hr => ?_) (fun ex hx hF hr => ?_)
    · refine z_callVv O [] fV_X2_water q893 (fun l G => mX2_water l G N x0 h _ hF) (zck hF) rfl rfl ⟨Nat.le_of_ble_eq_true rfl, Nat.le_of_ble_eq_true rfl⟩ (Nat.le_of_ble_eq_true rfl) dX2_line_355 ?_
      refine z_goto (tgt := 423) O dX2_line_358 (by decide) ?_
      exact z_vret O dX2_line_423 (by cases hr; rfl)
    · exact z_callVt O E [] fV_X2_water q893 (fun l G => mX2_water l G N x0 h _ hF) (zck hF) rfl rfl ⟨Nat.le_of_ble_eq_true rfl, Nat.le_of_ble_eq_true rfl⟩ (Nat.le_of_ble_eq_true rfl) dX2_line_355 (by subst hr; rfl)
  refine zite hr (fun c4 hr => ?_) (fun c4 hr => ?_)
  · refine z_tabIn (v := (3 : Int32)) (off := 80) (tgt := 361) O dX2_line_281 c4 (by decide) (by decide +kernel) (by decide) ?_
    refine z_aload_n O 0 dX2_line_361 rfl rfl ?_
    refine xbs hr (fun _ h15 hF hr => ?_) (fun ex hx hF hr => ?_)
    · refine z_callVv O [] fV_X2_stoneLine q905 (fun l G => mX2_stoneLine l G N x0 h _ hF) (zck hF) rfl rfl ⟨Nat.le_of_ble_eq_true rfl, Nat.le_of_ble_eq_true rfl⟩ (Nat.le_of_ble_eq_true rfl) dX2_line_362 ?_
      refine z_goto (tgt := 423) O dX2_line_365 (by decide) ?_
      exact z_vret O dX2_line_423 (by cases hr; rfl)
    · exact z_callVt O E [] fV_X2_stoneLine q905 (fun l G => mX2_stoneLine l G N x0 h _ hF) (zck hF) rfl rfl ⟨Nat.le_of_ble_eq_true rfl, Nat.le_of_ble_eq_true rfl⟩ (Nat.le_of_ble_eq_true rfl) dX2_line_362 (by subst hr; rfl)
  refine zite hr (fun c5 hr => ?_) (fun c5 hr => ?_)
  · refine z_tabIn (v := (4 : Int32)) (off := 87) (tgt := 368) O dX2_line_281 c5 (by decide) (by decide +kernel) (by decide) ?_
    refine z_aload_n O 0 dX2_line_368 rfl rfl ?_
    refine xbs hr (fun _ h16 hF hr => ?_) (fun ex hx hF hr => ?_)
    · refine z_callVv O [] fV_X2_house q1009 (fun l G => mX2_house l G N x0 h _ hF) (zck hF) rfl rfl ⟨Nat.le_of_ble_eq_true rfl, Nat.le_of_ble_eq_true rfl⟩ (Nat.le_of_ble_eq_true rfl) dX2_line_369 ?_
      refine z_goto (tgt := 423) O dX2_line_372 (by decide) ?_
      exact z_vret O dX2_line_423 (by cases hr; rfl)
    · exact z_callVt O E [] fV_X2_house q1009 (fun l G => mX2_house l G N x0 h _ hF) (zck hF) rfl rfl ⟨Nat.le_of_ble_eq_true rfl, Nat.le_of_ble_eq_true rfl⟩ (Nat.le_of_ble_eq_true rfl) dX2_line_369 (by subst hr; rfl)
  refine zite hr (fun c6 hr => ?_) (fun c6 hr => ?_)
  · refine z_tabIn (v := (5 : Int32)) (off := 94) (tgt := 375) O dX2_line_281 c6 (by decide) (by decide +kernel) (by decide) ?_
    refine z_aload_n O 0 dX2_line_375 rfl rfl ?_
    refine xbs hr (fun _ h17 hF hr => ?_) (fun ex hx hF hr => ?_)
    · refine z_callVv O [] fV_X2_skin q1078 (fun l G => mX2_skin l G N x0 h _ hF) (zck hF) rfl rfl ⟨Nat.le_of_ble_eq_true rfl, Nat.le_of_ble_eq_true rfl⟩ (Nat.le_of_ble_eq_true rfl) dX2_line_376 ?_
      refine z_goto (tgt := 423) O dX2_line_379 (by decide) ?_
      exact z_vret O dX2_line_423 (by cases hr; rfl)
    · exact z_callVt O E [] fV_X2_skin q1078 (fun l G => mX2_skin l G N x0 h _ hF) (zck hF) rfl rfl ⟨Nat.le_of_ble_eq_true rfl, Nat.le_of_ble_eq_true rfl⟩ (Nat.le_of_ble_eq_true rfl) dX2_line_376 (by subst hr; rfl)
  refine zite hr (fun c7 hr => ?_) (fun c7 hr => ?_)
  · refine z_tabIn (v := (6 : Int32)) (off := 101) (tgt := 382) O dX2_line_281 c7 (by decide) (by decide +kernel) (by decide) ?_
    refine z_aload_n O 0 dX2_line_382 rfl rfl ?_
    refine xbs hr (fun _ h18 hF hr => ?_) (fun ex hx hF hr => ?_)
    · refine z_callVv O [] fV_X2_heir q1131 (fun l G => mX2_heir l G N x0 h _ hF) (zck hF) rfl rfl ⟨Nat.le_of_ble_eq_true rfl, Nat.le_of_ble_eq_true rfl⟩ (Nat.le_of_ble_eq_true rfl) dX2_line_383 ?_
      refine z_goto (tgt := 423) O dX2_line_386 (by decide) ?_
      exact z_vret O dX2_line_423 (by cases hr; rfl)
    · exact z_callVt O E [] fV_X2_heir q1131 (fun l G => mX2_heir l G N x0 h _ hF) (zck hF) rfl rfl ⟨Nat.le_of_ble_eq_true rfl, Nat.le_of_ble_eq_true rfl⟩ (Nat.le_of_ble_eq_true rfl) dX2_line_383 (by subst hr; rfl)
  refine zite hr (fun c8 hr => ?_) (fun c8 hr => ?_)
  · refine z_tabIn (v := (7 : Int32)) (off := 108) (tgt := 389) O dX2_line_281 c8 (by decide) (by decide +kernel) (by decide) ?_
    refine z_aload_n O 0 dX2_line_389 rfl rfl ?_
    refine xbs hr (fun _ h19 hF hr => ?_) (fun ex hx hF hr => ?_)
    · refine z_callVv O [] fV_X2_wall q1152 (fun l G => mX2_wall l G N x0 h _ hF) (zck hF) rfl rfl ⟨Nat.le_of_ble_eq_true rfl, Nat.le_of_ble_eq_true rfl⟩ (Nat.le_of_ble_eq_true rfl) dX2_line_390 ?_
      refine z_goto (tgt := 423) O dX2_line_393 (by decide) ?_
      exact z_vret O dX2_line_423 (by cases hr; rfl)
    · exact z_callVt O E [] fV_X2_wall q1152 (fun l G => mX2_wall l G N x0 h _ hF) (zck hF) rfl rfl ⟨Nat.le_of_ble_eq_true rfl, Nat.le_of_ble_eq_true rfl⟩ (Nat.le_of_ble_eq_true rfl) dX2_line_390 (by subst hr; rfl)
  refine zite hr (fun c9 hr => ?_) (fun c9 hr => ?_)
  · refine z_tabIn (v := (8 : Int32)) (off := 115) (tgt := 396) O dX2_line_281 c9 (by decide) (by decide +kernel) (by decide) ?_
    refine z_aload_n O 0 dX2_line_396 rfl rfl ?_
    refine xbs hr (fun _ h20 hF hr => ?_) (fun ex hx hF hr => ?_)
    · refine z_callVv O [] fV_X2_older q1175 (fun l G => mX2_older l G N x0 h _ hF) (zck hF) rfl rfl ⟨Nat.le_of_ble_eq_true rfl, Nat.le_of_ble_eq_true rfl⟩ (Nat.le_of_ble_eq_true rfl) dX2_line_397 ?_
      refine z_goto (tgt := 423) O dX2_line_400 (by decide) ?_
      exact z_vret O dX2_line_423 (by cases hr; rfl)
    · exact z_callVt O E [] fV_X2_older q1175 (fun l G => mX2_older l G N x0 h _ hF) (zck hF) rfl rfl ⟨Nat.le_of_ble_eq_true rfl, Nat.le_of_ble_eq_true rfl⟩ (Nat.le_of_ble_eq_true rfl) dX2_line_397 (by subst hr; rfl)
  refine zite hr (fun c10 hr => ?_) (fun c10 hr => ?_)
  · refine z_tabIn (v := (9 : Int32)) (off := 122) (tgt := 403) O dX2_line_281 c10 (by decide) (by decide +kernel) (by decide) ?_
    refine z_aload_n O 0 dX2_line_403 rfl rfl ?_
    refine xbs hr (fun _ h21 hF hr => ?_) (fun ex hx hF hr => ?_)
    · refine z_callVv O [] fV_X2_coin q1187 (fun l G => mX2_coin l G N x0 h _ hF) (zck hF) rfl rfl ⟨Nat.le_of_ble_eq_true rfl, Nat.le_of_ble_eq_true rfl⟩ (Nat.le_of_ble_eq_true rfl) dX2_line_404 ?_
      refine z_goto (tgt := 423) O dX2_line_407 (by decide) ?_
      exact z_vret O dX2_line_423 (by cases hr; rfl)
    · exact z_callVt O E [] fV_X2_coin q1187 (fun l G => mX2_coin l G N x0 h _ hF) (zck hF) rfl rfl ⟨Nat.le_of_ble_eq_true rfl, Nat.le_of_ble_eq_true rfl⟩ (Nat.le_of_ble_eq_true rfl) dX2_line_404 (by subst hr; rfl)
  refine zite hr (fun c11 hr => ?_) (fun c11 hr => ?_)
  · refine z_tabIn (v := (10 : Int32)) (off := 129) (tgt := 410) O dX2_line_281 c11 (by decide) (by decide +kernel) (by decide) ?_
    refine z_aload_n O 0 dX2_line_410 rfl rfl ?_
    refine xbs hr (fun _ h22 hF hr => ?_) (fun ex hx hF hr => ?_)
    · refine z_callVv O [] fV_X2_smell q1191 (fun l G => mX2_smell l G N x0 h _ hF) (zck hF) rfl rfl ⟨Nat.le_of_ble_eq_true rfl, Nat.le_of_ble_eq_true rfl⟩ (Nat.le_of_ble_eq_true rfl) dX2_line_411 ?_
      refine z_goto (tgt := 423) O dX2_line_414 (by decide) ?_
      exact z_vret O dX2_line_423 (by cases hr; rfl)
    · exact z_callVt O E [] fV_X2_smell q1191 (fun l G => mX2_smell l G N x0 h _ hF) (zck hF) rfl rfl ⟨Nat.le_of_ble_eq_true rfl, Nat.le_of_ble_eq_true rfl⟩ (Nat.le_of_ble_eq_true rfl) dX2_line_411 (by subst hr; rfl)
  refine z_tabOut (tgt := 417) O dX2_line_281 (zt_out 11 (by decide) (lt_s (p := fun j : Nat => ¬ x2.toInt = (0 : Int) + (j : Int)) (lt_s (p := fun j : Nat => ¬ x2.toInt = (0 : Int) + (j : Int)) (lt_s (p := fun j : Nat => ¬ x2.toInt = (0 : Int) + (j : Int)) (lt_s (p := fun j : Nat => ¬ x2.toInt = (0 : Int) + (j : Int)) (lt_s (p := fun j : Nat => ¬ x2.toInt = (0 : Int) + (j : Int)) (lt_s (p := fun j : Nat => ¬ x2.toInt = (0 : Int) + (j : Int)) (lt_s (p := fun j : Nat => ¬ x2.toInt = (0 : Int) + (j : Int)) (lt_s (p := fun j : Nat => ¬ x2.toInt = (0 : Int) + (j : Int)) (lt_s (p := fun j : Nat => ¬ x2.toInt = (0 : Int) + (j : Int)) (lt_s (p := fun j : Nat => ¬ x2.toInt = (0 : Int) + (j : Int)) (lt_s (p := fun j : Nat => ¬ x2.toInt = (0 : Int) + (j : Int)) lt_0 (lv_neT c1 (by decide))) (lv_neT c2 (by decide))) (lv_neT c3 (by decide))) (lv_neT c4 (by decide))) (lv_neT c5 (by decide))) (lv_neT c6 (by decide))) (lv_neT c7 (by decide))) (lv_neT c8 (by decide))) (lv_neT c9 (by decide))) (lv_neT c10 (by decide))) (lv_neT c11 (by decide)))) (by decide) ?_
  refine z_aload_n O 0 dX2_line_417 rfl rfl ?_
  refine z_iconst O dX2_line_418 kic_1 ?_
  refine b2s hr (fun v24 h23 hF hr => ?_)
  refine z_callV O [vi (1 : Int32)] (vr v24) fV_X2_fail q766 (fun l G => mX2_fail l G x0 (1 : Int32) h _ hF) (zck hF) rfl rfl ⟨Nat.le_of_ble_eq_true rfl, Nat.le_of_ble_eq_true rfl⟩ (Nat.le_of_ble_eq_true rfl) dX2_line_419 ?_
  refine bs hr (fun v25 hq hr => ?_)
  exact z_athrow O E dX2_line_422 hq (by cases hr; rfl)
def F_X2_line (N : Nat) (x0 : Option Nat) (h : AH) : Option ((Unit ⊕ Nat) × AH) :=
  (ck h [2] x0).bind fun _ =>
  (gI h f_Reader_token x0).bind fun v1 =>
  if v1 = (2 : Int32) then
    (gR h f_Reader_word x0).bind fun v2 =>
    b2 (F_J3_hashCode N v2 h) fun v4 h3 =>
    if v4 = (3059345 : Int32) then
      (F_J3_equals N v2 (some (h3.1.2.2.2.1 10)) h3).bind fun v16 =>
      if v16 = 0 then
        bX2_line_280 N x0 (-1 : Int32) h3
      else
        bX2_line_280 N x0 (9 : Int32) h3
    else if v4 = (3198694 : Int32) then
      (F_J3_equals N v2 (some (h3.1.2.2.2.1 7)) h3).bind fun v17 =>
      if v17 = 0 then
        bX2_line_280 N x0 (-1 : Int32) h3
      else
        bX2_line_280 N x0 (6 : Int32) h3
    else if v4 = (3314155 : Int32) then
      (F_J3_equals N v2 (some (h3.1.2.2.2.1 1)) h3).bind fun v18 =>
      if v18 = 0 then
        bX2_line_280 N x0 (-1 : Int32) h3
      else
        bX2_line_280 N x0 (0 : Int32) h3
    else if v4 = (3532157 : Int32) then
      (F_J3_equals N v2 (some (h3.1.2.2.2.1 6)) h3).bind fun v19 =>
      if v19 = 0 then
        bX2_line_280 N x0 (-1 : Int32) h3
      else
        bX2_line_280 N x0 (5 : Int32) h3
    else if v4 = (3641802 : Int32) then
      (F_J3_equals N v2 (some (h3.1.2.2.2.1 8)) h3).bind fun v20 =>
      if v20 = 0 then
        bX2_line_280 N x0 (-1 : Int32) h3
      else
        bX2_line_280 N x0 (7 : Int32) h3
    else if v4 = (99469088 : Int32) then
      (F_J3_equals N v2 (some (h3.1.2.2.2.1 5)) h3).bind fun v21 =>
      if v21 = 0 then
        bX2_line_280 N x0 (-1 : Int32) h3
      else
        bX2_line_280 N x0 (4 : Int32) h3
    else if v4 = (105827604 : Int32) then
      (F_J3_equals N v2 (some (h3.1.2.2.2.1 9)) h3).bind fun v22 =>
      if v22 = 0 then
        bX2_line_280 N x0 (-1 : Int32) h3
      else
        bX2_line_280 N x0 (8 : Int32) h3
    else if v4 = (109552651 : Int32) then
      (F_J3_equals N v2 (some (h3.1.2.2.2.1 11)) h3).bind fun v23 =>
      if v23 = 0 then
        bX2_line_280 N x0 (-1 : Int32) h3
      else
        bX2_line_280 N x0 (10 : Int32) h3
    else if v4 = (109770853 : Int32) then
      (F_J3_equals N v2 (some (h3.1.2.2.2.1 4)) h3).bind fun v24 =>
      if v24 = 0 then
        bX2_line_280 N x0 (-1 : Int32) h3
      else
        bX2_line_280 N x0 (3 : Int32) h3
    else if v4 = (112903447 : Int32) then
      (F_J3_equals N v2 (some (h3.1.2.2.2.1 3)) h3).bind fun v25 =>
      if v25 = 0 then
        bX2_line_280 N x0 (-1 : Int32) h3
      else
        bX2_line_280 N x0 (2 : Int32) h3
    else if v4 = (114851798 : Int32) then
      (F_J3_equals N v2 (some (h3.1.2.2.2.1 2)) h3).bind fun v26 =>
      if v26 = 0 then
        bX2_line_280 N x0 (-1 : Int32) h3
      else
        bX2_line_280 N x0 (1 : Int32) h3
    else 
      bX2_line_280 N x0 (-1 : Int32) h3
  else
    b2 (F_X2_fail x0 (1 : Int32) h) fun v28 h27 =>
    (thr h27 v28).bind fun v29 => some (.inr v29, h27)
theorem mX2_line (l : Launch) (G : ZG) (N : Nat) (x0 : Option Nat) (h : AH) (r : (Unit ⊕ Nat) × AH) (hr : F_X2_line N x0 h = some r) : MZ l G yX2_line cX2_line 3 (none : Option Jvm.ClassFile.FieldType) 10 259 [vr x0] h (eUX r) := by
  unfold F_X2_line at hr
  refine MZ.ofT (by decide) [(0, vr x0)] rfl (Nat.le_of_ble_eq_true rfl) (fun K O E => ?_)
  have O : ZOk K cX2_line RX2 "line" 3 (none : Option Jvm.ClassFile.FieldType) 10 259 := O
  refine bs hr (fun _ hck hr => ?_)
  refine z_aload_n O 0 dX2_line_0 rfl rfl ?_
  refine z_getI O o_Reader_token q384 dX2_line_1 hr (fun v1 hr => ?_)
  refine z_iconst O dX2_line_4 kic_2 ?_
  refine z_icmp_eq (tgt := 14) O dX2_line_5 (by decide) hr (fun hr => ?_) (fun hr => ?_)
  · refine z_aload_n O 0 dX2_line_14 rfl rfl ?_
    refine z_getR O o_Reader_word q388 dX2_line_15 hr (fun v2 hr => ?_)
    refine z_astore_n O [(1, vr v2), (0, vr x0)] dX2_line_18 rfl (by decide) rfl ?_
    refine z_iconst O dX2_line_19 kic_m1 ?_
    refine z_istore_n O [(2, vi (-1 : Int32)), (1, vr v2), (0, vr x0)] dX2_line_20 rfl (by decide) rfl ?_
    refine z_aload_n O 1 dX2_line_21 rfl rfl ?_
    refine b2s hr (fun v4 h3 hF hr => ?_)
    refine z_callV O [] (vi v4) fV_J3_hashCode q774 (fun l G => mJ3_hashCode l G N v2 h _ hF) (zck hF) rfl rfl ⟨Nat.le_of_ble_eq_true rfl, Nat.le_of_ble_eq_true rfl⟩ (Nat.le_of_ble_eq_true rfl) dX2_line_22 ?_
    refine zite hr (fun c5 hr => ?_) (fun c5 hr => ?_)
    · subst c5
      refine z_look (off := 228) (tgt := 253) O dX2_line_25 (by decide +kernel) (by decide +kernel) (by decide) ?_
      refine z_aload_n O 1 dX2_line_253 rfl rfl ?_
      refine z_ldcS O zs844 dX2_line_254 ?_
      refine bs hr (fun v16 hF hr => ?_)
      refine z_callV O [vr (some (h3.1.2.2.2.1 10))] (vi v16) fV_J3_equals q828 (fun l G => mJ3_equals l G N v2 (some (h3.1.2.2.2.1 10)) h3 _ hF) (zck hF) rfl rfl ⟨Nat.le_of_ble_eq_true rfl, Nat.le_of_ble_eq_true rfl⟩ (Nat.le_of_ble_eq_true rfl) dX2_line_256 ?_
      refine z_if_eq (tgt := 280) O dX2_line_259 (by decide) hr (fun hr => ?_) (fun hr => ?_)
      · refine z_sub [2, 0] rfl ?_
        exact wX2_line_280 O E N x0 (-1 : Int32) h3 _ hr
      · refine z_bipush O dX2_line_262 kbi_9 ?_
        refine z_istore_n O [(2, vi (9 : Int32)), (1, vr v2), (0, vr x0)] dX2_line_264 rfl (by decide) rfl ?_
        refine z_goto (tgt := 280) O dX2_line_265 (by decide) ?_
        refine z_sub [2, 0] rfl ?_
        exact wX2_line_280 O E N x0 (9 : Int32) h3 _ hr
    refine zite hr (fun c6 hr => ?_) (fun c6 hr => ?_)
    · subst c6
      refine z_look (off := 183) (tgt := 208) O dX2_line_25 (by decide +kernel) (by decide +kernel) (by decide) ?_
      refine z_aload_n O 1 dX2_line_208 rfl rfl ?_
      refine z_ldcS O zs841 dX2_line_209 ?_
      refine bs hr (fun v17 hF hr => ?_)
      refine z_callV O [vr (some (h3.1.2.2.2.1 7))] (vi v17) fV_J3_equals q828 (fun l G => mJ3_equals l G N v2 (some (h3.1.2.2.2.1 7)) h3 _ hF) (zck hF) rfl rfl ⟨Nat.le_of_ble_eq_true rfl, Nat.le_of_ble_eq_true rfl⟩ (Nat.le_of_ble_eq_true rfl) dX2_line_211 ?_
      refine z_if_eq (tgt := 280) O dX2_line_214 (by decide) hr (fun hr => ?_) (fun hr => ?_)
      · refine z_sub [2, 0] rfl ?_
        exact wX2_line_280 O E N x0 (-1 : Int32) h3 _ hr
      · refine z_bipush O dX2_line_217 kbi_6 ?_
        refine z_istore_n O [(2, vi (6 : Int32)), (1, vr v2), (0, vr x0)] dX2_line_219 rfl (by decide) rfl ?_
        refine z_goto (tgt := 280) O dX2_line_220 (by decide) ?_
        refine z_sub [2, 0] rfl ?_
        exact wX2_line_280 O E N x0 (6 : Int32) h3 _ hr
    refine zite hr (fun c7 hr => ?_) (fun c7 hr => ?_)
    · subst c7
      refine z_look (off := 99) (tgt := 124) O dX2_line_25 (by decide +kernel) (by decide +kernel) (by decide) ?_
      refine z_aload_n O 1 dX2_line_124 rfl rfl ?_
      refine z_ldcS O zs827 dX2_line_125 ?_
      refine bs hr (fun v18 hF hr => ?_)
      refine z_callV O [vr (some (h3.1.2.2.2.1 1))] (vi v18) fV_J3_equals q828 (fun l G => mJ3_equals l G N v2 (some (h3.1.2.2.2.1 1)) h3 _ hF) (zck hF) rfl rfl ⟨Nat.le_of_ble_eq_true rfl, Nat.le_of_ble_eq_true rfl⟩ (Nat.le_of_ble_eq_true rfl) dX2_line_127 ?_
      refine z_if_eq (tgt := 280) O dX2_line_130 (by decide) hr (fun hr => ?_) (fun hr => ?_)
      · refine z_sub [2, 0] rfl ?_
        exact wX2_line_280 O E N x0 (-1 : Int32) h3 _ hr
      · refine z_iconst O dX2_line_133 kic_0 ?_
        refine z_istore_n O [(2, vi (0 : Int32)), (1, vr v2), (0, vr x0)] dX2_line_134 rfl (by decide) rfl ?_
        refine z_goto (tgt := 280) O dX2_line_135 (by decide) ?_
        refine z_sub [2, 0] rfl ?_
        exact wX2_line_280 O E N x0 (0 : Int32) h3 _ hr
    refine zite hr (fun c8 hr => ?_) (fun c8 hr => ?_)
    · subst c8
      refine z_look (off := 169) (tgt := 194) O dX2_line_25 (by decide +kernel) (by decide +kernel) (by decide) ?_
      refine z_aload_n O 1 dX2_line_194 rfl rfl ?_
      refine z_ldcS O zs840 dX2_line_195 ?_
      refine bs hr (fun v19 hF hr => ?_)
      refine z_callV O [vr (some (h3.1.2.2.2.1 6))] (vi v19) fV_J3_equals q828 (fun l G => mJ3_equals l G N v2 (some (h3.1.2.2.2.1 6)) h3 _ hF) (zck hF) rfl rfl ⟨Nat.le_of_ble_eq_true rfl, Nat.le_of_ble_eq_true rfl⟩ (Nat.le_of_ble_eq_true rfl) dX2_line_197 ?_
      refine z_if_eq (tgt := 280) O dX2_line_200 (by decide) hr (fun hr => ?_) (fun hr => ?_)
      · refine z_sub [2, 0] rfl ?_
        exact wX2_line_280 O E N x0 (-1 : Int32) h3 _ hr
      · refine z_iconst O dX2_line_203 kic_5 ?_
        refine z_istore_n O [(2, vi (5 : Int32)), (1, vr v2), (0, vr x0)] dX2_line_204 rfl (by decide) rfl ?_
        refine z_goto (tgt := 280) O dX2_line_205 (by decide) ?_
        refine z_sub [2, 0] rfl ?_
        exact wX2_line_280 O E N x0 (5 : Int32) h3 _ hr
    refine zite hr (fun c9 hr => ?_) (fun c9 hr => ?_)
    · subst c9
      refine z_look (off := 198) (tgt := 223) O dX2_line_25 (by decide +kernel) (by decide +kernel) (by decide) ?_
      refine z_aload_n O 1 dX2_line_223 rfl rfl ?_
      refine z_ldcS O zs842 dX2_line_224 ?_
      refine bs hr (fun v20 hF hr => ?_)
      refine z_callV O [vr (some (h3.1.2.2.2.1 8))] (vi v20) fV_J3_equals q828 (fun l G => mJ3_equals l G N v2 (some (h3.1.2.2.2.1 8)) h3 _ hF) (zck hF) rfl rfl ⟨Nat.le_of_ble_eq_true rfl, Nat.le_of_ble_eq_true rfl⟩ (Nat.le_of_ble_eq_true rfl) dX2_line_226 ?_
      refine z_if_eq (tgt := 280) O dX2_line_229 (by decide) hr (fun hr => ?_) (fun hr => ?_)
      · refine z_sub [2, 0] rfl ?_
        exact wX2_line_280 O E N x0 (-1 : Int32) h3 _ hr
      · refine z_bipush O dX2_line_232 kbi_7 ?_
        refine z_istore_n O [(2, vi (7 : Int32)), (1, vr v2), (0, vr x0)] dX2_line_234 rfl (by decide) rfl ?_
        refine z_goto (tgt := 280) O dX2_line_235 (by decide) ?_
        refine z_sub [2, 0] rfl ?_
        exact wX2_line_280 O E N x0 (7 : Int32) h3 _ hr
    refine zite hr (fun c10 hr => ?_) (fun c10 hr => ?_)
    · subst c10
      refine z_look (off := 155) (tgt := 180) O dX2_line_25 (by decide +kernel) (by decide +kernel) (by decide) ?_
      refine z_aload_n O 1 dX2_line_180 rfl rfl ?_
      refine z_ldcS O zs839 dX2_line_181 ?_
      refine bs hr (fun v21 hF hr => ?_)
      refine z_callV O [vr (some (h3.1.2.2.2.1 5))] (vi v21) fV_J3_equals q828 (fun l G => mJ3_equals l G N v2 (some (h3.1.2.2.2.1 5)) h3 _ hF) (zck hF) rfl rfl ⟨Nat.le_of_ble_eq_true rfl, Nat.le_of_ble_eq_true rfl⟩ (Nat.le_of_ble_eq_true rfl) dX2_line_183 ?_
      refine z_if_eq (tgt := 280) O dX2_line_186 (by decide) hr (fun hr => ?_) (fun hr => ?_)
      · refine z_sub [2, 0] rfl ?_
        exact wX2_line_280 O E N x0 (-1 : Int32) h3 _ hr
      · refine z_iconst O dX2_line_189 kic_4 ?_
        refine z_istore_n O [(2, vi (4 : Int32)), (1, vr v2), (0, vr x0)] dX2_line_190 rfl (by decide) rfl ?_
        refine z_goto (tgt := 280) O dX2_line_191 (by decide) ?_
        refine z_sub [2, 0] rfl ?_
        exact wX2_line_280 O E N x0 (4 : Int32) h3 _ hr
    refine zite hr (fun c11 hr => ?_) (fun c11 hr => ?_)
    · subst c11
      refine z_look (off := 213) (tgt := 238) O dX2_line_25 (by decide +kernel) (by decide +kernel) (by decide) ?_
      refine z_aload_n O 1 dX2_line_238 rfl rfl ?_
      refine z_ldcS O zs843 dX2_line_239 ?_
      refine bs hr (fun v22 hF hr => ?_)
      refine z_callV O [vr (some (h3.1.2.2.2.1 9))] (vi v22) fV_J3_equals q828 (fun l G => mJ3_equals l G N v2 (some (h3.1.2.2.2.1 9)) h3 _ hF) (zck hF) rfl rfl ⟨Nat.le_of_ble_eq_true rfl, Nat.le_of_ble_eq_true rfl⟩ (Nat.le_of_ble_eq_true rfl) dX2_line_241 ?_
      refine z_if_eq (tgt := 280) O dX2_line_244 (by decide) hr (fun hr => ?_) (fun hr => ?_)
      · refine z_sub [2, 0] rfl ?_
        exact wX2_line_280 O E N x0 (-1 : Int32) h3 _ hr
      · refine z_bipush O dX2_line_247 kbi_8 ?_
        refine z_istore_n O [(2, vi (8 : Int32)), (1, vr v2), (0, vr x0)] dX2_line_249 rfl (by decide) rfl ?_
        refine z_goto (tgt := 280) O dX2_line_250 (by decide) ?_
        refine z_sub [2, 0] rfl ?_
        exact wX2_line_280 O E N x0 (8 : Int32) h3 _ hr
    refine zite hr (fun c12 hr => ?_) (fun c12 hr => ?_)
    · subst c12
      refine z_look (off := 243) (tgt := 268) O dX2_line_25 (by decide +kernel) (by decide +kernel) (by decide) ?_
      refine z_aload_n O 1 dX2_line_268 rfl rfl ?_
      refine z_ldcS O zs845 dX2_line_269 ?_
      refine bs hr (fun v23 hF hr => ?_)
      refine z_callV O [vr (some (h3.1.2.2.2.1 11))] (vi v23) fV_J3_equals q828 (fun l G => mJ3_equals l G N v2 (some (h3.1.2.2.2.1 11)) h3 _ hF) (zck hF) rfl rfl ⟨Nat.le_of_ble_eq_true rfl, Nat.le_of_ble_eq_true rfl⟩ (Nat.le_of_ble_eq_true rfl) dX2_line_271 ?_
      refine z_if_eq (tgt := 280) O dX2_line_274 (by decide) hr (fun hr => ?_) (fun hr => ?_)
      · refine z_sub [2, 0] rfl ?_
        exact wX2_line_280 O E N x0 (-1 : Int32) h3 _ hr
      · refine z_bipush O dX2_line_277 kbi_10 ?_
        refine z_istore_n O [(2, vi (10 : Int32)), (1, vr v2), (0, vr x0)] dX2_line_279 rfl (by decide) rfl ?_
        refine z_sub [2, 0] rfl ?_
        exact wX2_line_280 O E N x0 (10 : Int32) h3 _ hr
    refine zite hr (fun c13 hr => ?_) (fun c13 hr => ?_)
    · subst c13
      refine z_look (off := 141) (tgt := 166) O dX2_line_25 (by decide +kernel) (by decide +kernel) (by decide) ?_
      refine z_aload_n O 1 dX2_line_166 rfl rfl ?_
      refine z_ldcS O zs838 dX2_line_167 ?_
      refine bs hr (fun v24 hF hr => ?_)
      refine z_callV O [vr (some (h3.1.2.2.2.1 4))] (vi v24) fV_J3_equals q828 (fun l G => mJ3_equals l G N v2 (some (h3.1.2.2.2.1 4)) h3 _ hF) (zck hF) rfl rfl ⟨Nat.le_of_ble_eq_true rfl, Nat.le_of_ble_eq_true rfl⟩ (Nat.le_of_ble_eq_true rfl) dX2_line_169 ?_
      refine z_if_eq (tgt := 280) O dX2_line_172 (by decide) hr (fun hr => ?_) (fun hr => ?_)
      · refine z_sub [2, 0] rfl ?_
        exact wX2_line_280 O E N x0 (-1 : Int32) h3 _ hr
      · refine z_iconst O dX2_line_175 kic_3 ?_
        refine z_istore_n O [(2, vi (3 : Int32)), (1, vr v2), (0, vr x0)] dX2_line_176 rfl (by decide) rfl ?_
        refine z_goto (tgt := 280) O dX2_line_177 (by decide) ?_
        refine z_sub [2, 0] rfl ?_
        exact wX2_line_280 O E N x0 (3 : Int32) h3 _ hr
    refine zite hr (fun c14 hr => ?_) (fun c14 hr => ?_)
    · subst c14
      refine z_look (off := 127) (tgt := 152) O dX2_line_25 (by decide +kernel) (by decide +kernel) (by decide) ?_
      refine z_aload_n O 1 dX2_line_152 rfl rfl ?_
      refine z_ldcS O zs837 dX2_line_153 ?_
      refine bs hr (fun v25 hF hr => ?_)
      refine z_callV O [vr (some (h3.1.2.2.2.1 3))] (vi v25) fV_J3_equals q828 (fun l G => mJ3_equals l G N v2 (some (h3.1.2.2.2.1 3)) h3 _ hF) (zck hF) rfl rfl ⟨Nat.le_of_ble_eq_true rfl, Nat.le_of_ble_eq_true rfl⟩ (Nat.le_of_ble_eq_true rfl) dX2_line_155 ?_
      refine z_if_eq (tgt := 280) O dX2_line_158 (by decide) hr (fun hr => ?_) (fun hr => ?_)
      · refine z_sub [2, 0] rfl ?_
        exact wX2_line_280 O E N x0 (-1 : Int32) h3 _ hr
      · refine z_iconst O dX2_line_161 kic_2 ?_
        refine z_istore_n O [(2, vi (2 : Int32)), (1, vr v2), (0, vr x0)] dX2_line_162 rfl (by decide) rfl ?_
        refine z_goto (tgt := 280) O dX2_line_163 (by decide) ?_
        refine z_sub [2, 0] rfl ?_
        exact wX2_line_280 O E N x0 (2 : Int32) h3 _ hr
    refine zite hr (fun c15 hr => ?_) (fun c15 hr => ?_)
    · subst c15
      refine z_look (off := 113) (tgt := 138) O dX2_line_25 (by decide +kernel) (by decide +kernel) (by decide) ?_
      refine z_aload_n O 1 dX2_line_138 rfl rfl ?_
      refine z_ldcS O zs836 dX2_line_139 ?_
      refine bs hr (fun v26 hF hr => ?_)
      refine z_callV O [vr (some (h3.1.2.2.2.1 2))] (vi v26) fV_J3_equals q828 (fun l G => mJ3_equals l G N v2 (some (h3.1.2.2.2.1 2)) h3 _ hF) (zck hF) rfl rfl ⟨Nat.le_of_ble_eq_true rfl, Nat.le_of_ble_eq_true rfl⟩ (Nat.le_of_ble_eq_true rfl) dX2_line_141 ?_
      refine z_if_eq (tgt := 280) O dX2_line_144 (by decide) hr (fun hr => ?_) (fun hr => ?_)
      · refine z_sub [2, 0] rfl ?_
        exact wX2_line_280 O E N x0 (-1 : Int32) h3 _ hr
      · refine z_iconst O dX2_line_147 kic_1 ?_
        refine z_istore_n O [(2, vi (1 : Int32)), (1, vr v2), (0, vr x0)] dX2_line_148 rfl (by decide) rfl ?_
        refine z_goto (tgt := 280) O dX2_line_149 (by decide) ?_
        refine z_sub [2, 0] rfl ?_
        exact wX2_line_280 O E N x0 (1 : Int32) h3 _ hr
    refine z_look (off := 255) (tgt := 280) O dX2_line_25 (by decide +kernel) ((lv_osw c5 (by decide)).trans ((lv_osw c6 (by decide)).trans ((lv_osw c7 (by decide)).trans ((lv_osw c8 (by decide)).trans ((lv_osw c9 (by decide)).trans ((lv_osw c10 (by decide)).trans ((lv_osw c11 (by decide)).trans ((lv_osw c12 (by decide)).trans ((lv_osw c13 (by decide)).trans ((lv_osw c14 (by decide)).trans ((lv_osw c15 (by decide)).trans rfl))))))))))) (by decide) ?_
    refine z_sub [2, 0] rfl ?_
    exact wX2_line_280 O E N x0 (-1 : Int32) h3 _ hr
  · refine z_aload_n O 0 dX2_line_8 rfl rfl ?_
    refine z_iconst O dX2_line_9 kic_1 ?_
    refine b2s hr (fun v28 h27 hF hr => ?_)
    refine z_callV O [vi (1 : Int32)] (vr v28) fV_X2_fail q766 (fun l G => mX2_fail l G x0 (1 : Int32) h _ hF) (zck hF) rfl rfl ⟨Nat.le_of_ble_eq_true rfl, Nat.le_of_ble_eq_true rfl⟩ (Nat.le_of_ble_eq_true rfl) dX2_line_10 ?_
    refine bs hr (fun v29 hq hr => ?_)
    exact z_athrow O E dX2_line_13 hq (by cases hr; rfl)
theorem fV_X4_begin : CVf RX4 yX4_begin cX4_begin 3 (none : Option Jvm.ClassFile.FieldType) 2 := ⟨q665, q666, q132, q667, ⟨⟨by decide +kernel, by decide +kernel⟩, by decide +kernel⟩⟩
def F_X4_begin (x0 : Option Nat) (x1 : Option Nat) (x2 : Int32) (h : AH) : Option (AH) :=
  (ck h [4] x0).bind fun _ =>
  (pR h f_Village_land x0 x1).bind fun h1 =>
  (pI h1 f_Village_many x0 (0 : Int32)).bind fun h2 =>
  (pI h2 f_Village_year x0 x2).bind fun h3 =>
  (pI h3 f_Village_seed x0 (0 : Int32)).bind fun h4 =>
  some h4
theorem mX4_begin (l : Launch) (G : ZG) (x0 : Option Nat) (x1 : Option Nat) (x2 : Int32) (h : AH) (r : AH) (hr : F_X4_begin x0 x1 x2 h = some r) : MZ l G yX4_begin cX4_begin 3 (none : Option Jvm.ClassFile.FieldType) 1 48 [vr x0, vr x1, vi x2] h (eH r) := by
  unfold F_X4_begin at hr
  refine MZ.of (by decide) [(0, vr x0), (1, vr x1), (2, vi x2)] rfl (Nat.le_of_ble_eq_true rfl) (fun K O => ?_)
  have O : ZOk K cX4_begin RX4 "begin" 3 (none : Option Jvm.ClassFile.FieldType) 1 48 := O
  refine bs hr (fun _ hck hr => ?_)
  refine z_aload_n O 0 dX4_begin_0 rfl rfl ?_
  refine z_aload_n O 1 dX4_begin_1 rfl rfl ?_
  refine z_putR O rfl o_Village_land (w_Village_land _) q344 dX4_begin_2 hr (fun h1 hr => ?_)
  refine z_aload_n O 0 dX4_begin_5 rfl rfl ?_
  refine z_iconst O dX4_begin_6 kic_0 ?_
  refine z_putI O o_Village_many (w_Village_many _) q345 dX4_begin_7 hr (fun h2 hr => ?_)
  refine z_aload_n O 0 dX4_begin_10 rfl rfl ?_
  refine z_iload_n O 2 dX4_begin_11 rfl rfl ?_
  refine z_putI O o_Village_year (w_Village_year _) q347 dX4_begin_12 hr (fun h3 hr => ?_)
  refine z_aload_n O 0 dX4_begin_15 rfl rfl ?_
  refine z_iconst O dX4_begin_16 kic_0 ?_
  refine z_putI O o_Village_seed (w_Village_seed _) q350 dX4_begin_17 hr (fun h4 hr => ?_)
  exact z_vret O dX4_begin_20 (by cases hr; rfl)
theorem fV_X2_read : CVf RX2 yX2_read cX2_read 2 (some (.object "YearSkins$Land")) 1 := ⟨q540, q541, q127, q542, ⟨⟨by decide +kernel, by decide +kernel⟩, by decide +kernel⟩⟩
def BX2_read_41 (N : Nat) (x0 : Option Nat) (rec41 : AH → Option (((Option Nat) ⊕ Nat) × AH)) : AH → Option (((Option Nat) ⊕ Nat) × AH) := fun h =>
  (gI h f_Reader_token x0).bind fun v1 =>
  if v1 = (59 : Int32) then
    (F_X2_next N x0 h).bind fun h25 =>
    xb (F_X2_line N x0 h25) fun _ h26 =>
    rec41  h26
  else
    (gI h f_Reader_token x0).bind fun v2 =>
    if v2 = 0 then
      (gR h f_Reader_land x0).bind fun v3 =>
      (gI h f_Land_hasYears v3).bind fun v4 =>
      if v4 = 0 then
        b2 (F_X2_fail x0 (6 : Int32) h) fun v6 h5 =>
        (thr h5 v6).bind fun v7 => some (.inr v7, h5)
      else
        (gR h f_Reader_land x0).bind fun v8 =>
        (gI h f_Land_stoneMany v8).bind fun v9 =>
        if v9 = 0 then
          b2 (F_X2_fail x0 (6 : Int32) h) fun v11 h10 =>
          (thr h10 v11).bind fun v12 => some (.inr v12, h10)
        else
          (gR h f_Reader_land x0).bind fun v13 =>
          (gI h f_Land_siteMany v13).bind fun v14 =>
          if v14 = 0 then
            b2 (F_X2_fail x0 (6 : Int32) h) fun v20 h19 =>
            (thr h19 v20).bind fun v21 => some (.inr v21, h19)
          else
            (gR h f_Reader_village x0).bind fun v15 =>
            (gI h f_Reader_year x0).bind fun v16 =>
            (pI h f_Village_year v15 v16).bind fun h17 =>
            (gR h17 f_Reader_land x0).bind fun v18 =>
            some (.inl v18, h17)
    else
      b2 (F_X2_fail x0 (1 : Int32) h) fun v23 h22 =>
      (thr h22 v23).bind fun v24 => some (.inr v24, h22)
def LX2_read_41 (N : Nat) (x0 : Option Nat) : AH → Option (((Option Nat) ⊕ Nat) × AH) := lf (fun _ => none) (BX2_read_41 N x0) N
theorem wX2_read_41B {K : ZC} (O : ZOk K cX2_read RX2 "read" 2 (some (.object "YearSkins$Land")) 11 281) (E : ZEx K) (N : Nat) (x0 : Option Nat) (rec41 : AH → Option (((Option Nat) ⊕ Nat) × AH)) (hrec41 : ∀  (hy : AH) (ry : ((Option Nat) ⊕ Nat) × AH), rec41  hy = some ry → Zw K (eRX ry) hy 41 [(0, vr x0)] []) (h : AH) (r : ((Option Nat) ⊕ Nat) × AH) (hr : BX2_read_41 N x0 rec41 h = some r) : Zw K (eRX r) h 41 [(0, vr x0)] [] := by
  unfold BX2_read_41 at hr
  refine z_aload_n O 0 dX2_read_41 rfl rfl ?_
  refine z_getI O o_Reader_token q384 dX2_read_42 hr (fun v1 hr => ?_)
  refine z_bipush O dX2_read_45 kbi_59 ?_
  refine z_icmp_ne (tgt := 61) O dX2_read_47 (by decide) hr (fun hr => ?_) (fun hr => ?_)
  · refine z_aload_n O 0 dX2_read_50 rfl rfl ?_
    refine bs hr (fun h25 hF hr => ?_)
    refine z_callVv O [] fV_X2_next q668 (fun l G => mX2_next l G N x0 h _ hF) (zck hF) rfl rfl ⟨Nat.le_of_ble_eq_true rfl, Nat.le_of_ble_eq_true rfl⟩ (Nat.le_of_ble_eq_true rfl) dX2_read_51 ?_
    refine z_aload_n O 0 dX2_read_54 rfl rfl ?_
    refine xbs hr (fun _ h26 hF hr => ?_) (fun ex hx hF hr => ?_)
    · refine z_callVv O [] fV_X2_line q762 (fun l G => mX2_line l G N x0 h25 _ hF) (zck hF) rfl rfl ⟨Nat.le_of_ble_eq_true rfl, Nat.le_of_ble_eq_true rfl⟩ (Nat.le_of_ble_eq_true rfl) dX2_read_55 ?_
      refine z_goto (tgt := 41) O dX2_read_58 (by decide) ?_
      exact hrec41  h26 _ hr
    · exact z_callVt O E [] fV_X2_line q762 (fun l G => mX2_line l G N x0 h25 _ hF) (zck hF) rfl rfl ⟨Nat.le_of_ble_eq_true rfl, Nat.le_of_ble_eq_true rfl⟩ (Nat.le_of_ble_eq_true rfl) dX2_read_55 (by subst hr; rfl)
  · refine z_aload_n O 0 dX2_read_61 rfl rfl ?_
    refine z_getI O o_Reader_token q384 dX2_read_62 hr (fun v2 hr => ?_)
    refine z_if_eq (tgt := 74) O dX2_read_65 (by decide) hr (fun hr => ?_) (fun hr => ?_)
    · refine z_aload_n O 0 dX2_read_74 rfl rfl ?_
      refine z_getR O o_Reader_land q389 dX2_read_75 hr (fun v3 hr => ?_)
      refine z_getI O o_Land_hasYears q618 dX2_read_78 hr (fun v4 hr => ?_)
      refine z_if_eq (tgt := 104) O dX2_read_81 (by decide) hr (fun hr => ?_) (fun hr => ?_)
      · refine z_aload_n O 0 dX2_read_104 rfl rfl ?_
        refine z_bipush O dX2_read_105 kbi_6 ?_
        refine b2s hr (fun v6 h5 hF hr => ?_)
        refine z_callV O [vi (6 : Int32)] (vr v6) fV_X2_fail q766 (fun l G => mX2_fail l G x0 (6 : Int32) h _ hF) (zck hF) rfl rfl ⟨Nat.le_of_ble_eq_true rfl, Nat.le_of_ble_eq_true rfl⟩ (Nat.le_of_ble_eq_true rfl) dX2_read_107 ?_
        refine bs hr (fun v7 hq hr => ?_)
        exact z_athrow O E dX2_read_110 hq (by cases hr; rfl)
      · refine z_aload_n O 0 dX2_read_84 rfl rfl ?_
        refine z_getR O o_Reader_land q389 dX2_read_85 hr (fun v8 hr => ?_)
        refine z_getI O o_Land_stoneMany q597 dX2_read_88 hr (fun v9 hr => ?_)
        refine z_if_eq (tgt := 104) O dX2_read_91 (by decide) hr (fun hr => ?_) (fun hr => ?_)
        · refine z_aload_n O 0 dX2_read_104 rfl rfl ?_
          refine z_bipush O dX2_read_105 kbi_6 ?_
          refine b2s hr (fun v11 h10 hF hr => ?_)
          refine z_callV O [vi (6 : Int32)] (vr v11) fV_X2_fail q766 (fun l G => mX2_fail l G x0 (6 : Int32) h _ hF) (zck hF) rfl rfl ⟨Nat.le_of_ble_eq_true rfl, Nat.le_of_ble_eq_true rfl⟩ (Nat.le_of_ble_eq_true rfl) dX2_read_107 ?_
          refine bs hr (fun v12 hq hr => ?_)
          exact z_athrow O E dX2_read_110 hq (by cases hr; rfl)
        · refine z_aload_n O 0 dX2_read_94 rfl rfl ?_
          refine z_getR O o_Reader_land q389 dX2_read_95 hr (fun v13 hr => ?_)
          refine z_getI O o_Land_siteMany q599 dX2_read_98 hr (fun v14 hr => ?_)
          refine z_if_ne (tgt := 111) O dX2_read_101 (by decide) hr (fun hr => ?_) (fun hr => ?_)
          · refine z_aload_n O 0 dX2_read_104 rfl rfl ?_
            refine z_bipush O dX2_read_105 kbi_6 ?_
            refine b2s hr (fun v20 h19 hF hr => ?_)
            refine z_callV O [vi (6 : Int32)] (vr v20) fV_X2_fail q766 (fun l G => mX2_fail l G x0 (6 : Int32) h _ hF) (zck hF) rfl rfl ⟨Nat.le_of_ble_eq_true rfl, Nat.le_of_ble_eq_true rfl⟩ (Nat.le_of_ble_eq_true rfl) dX2_read_107 ?_
            refine bs hr (fun v21 hq hr => ?_)
            exact z_athrow O E dX2_read_110 hq (by cases hr; rfl)
          · refine z_aload_n O 0 dX2_read_111 rfl rfl ?_
            refine z_getR O o_Reader_village q381 dX2_read_112 hr (fun v15 hr => ?_)
            refine z_aload_n O 0 dX2_read_115 rfl rfl ?_
            refine z_getI O o_Reader_year q387 dX2_read_116 hr (fun v16 hr => ?_)
            refine z_putI O o_Village_year (w_Village_year _) q348 dX2_read_119 hr (fun h17 hr => ?_)
            refine z_aload_n O 0 dX2_read_122 rfl rfl ?_
            refine z_getR O o_Reader_land q389 dX2_read_123 hr (fun v18 hr => ?_)
            exact z_aret O rfl dX2_read_126 (by cases hr; rfl)
    · refine z_aload_n O 0 dX2_read_68 rfl rfl ?_
      refine z_iconst O dX2_read_69 kic_1 ?_
      refine b2s hr (fun v23 h22 hF hr => ?_)
      refine z_callV O [vi (1 : Int32)] (vr v23) fV_X2_fail q766 (fun l G => mX2_fail l G x0 (1 : Int32) h _ hF) (zck hF) rfl rfl ⟨Nat.le_of_ble_eq_true rfl, Nat.le_of_ble_eq_true rfl⟩ (Nat.le_of_ble_eq_true rfl) dX2_read_70 ?_
      refine bs hr (fun v24 hq hr => ?_)
      exact z_athrow O E dX2_read_73 hq (by cases hr; rfl)
theorem wX2_read_41 {K : ZC} (O : ZOk K cX2_read RX2 "read" 2 (some (.object "YearSkins$Land")) 11 281) (E : ZEx K) (N : Nat) (x0 : Option Nat) : ∀ (n : Nat) (h : AH) (r : ((Option Nat) ⊕ Nat) × AH), lf (fun _ => none) (BX2_read_41 N x0) n h = some r → Zw K (eRX r) h 41 [(0, vr x0)] [] := by
  intro n
  induction n with
  | zero => intro h r hr; cases hr
  | succ n ih => intro h r hr; exact wX2_read_41B O E N x0 (lf (fun _ => none) (BX2_read_41 N x0) n)  ih h r hr
def F_X2_read (N : Nat) (x0 : Option Nat) (x1 : Int32) (h : AH) : Option (((Option Nat) ⊕ Nat) × AH) :=
  (ck h [2] x0).bind fun _ =>
  (pI h f_Reader_size x0 x1).bind fun h1 =>
  (pI h1 f_Reader_end x0 (0 : Int32)).bind fun h2 =>
  b2 (nO h2 10 22 [.null, .null, .null, .null, .null, .null, .null, .null, .int 0, .int 0, .int 0, .int 0, .int 0, .int 0, .int 0, .int 0, .int 0, .int 0, .int 0, .int 0, .int 0, .int 0]) fun v3 h4 =>
  (F_X10_init v3 h4).bind fun h5 =>
  (pR h5 f_Reader_land x0 v3).bind fun h6 =>
  (gR h6 f_Reader_village x0).bind fun v7 =>
  (gR h6 f_Reader_land x0).bind fun v8 =>
  (F_X4_begin v7 v8 (0 : Int32) h6).bind fun h9 =>
  (F_X2_next N x0 h9).bind fun h10 =>
  xb (F_X2_line N x0 h10) fun _ h11 =>
  LX2_read_41 N x0 h11
theorem mX2_read (l : Launch) (G : ZG) (N : Nat) (x0 : Option Nat) (x1 : Int32) (h : AH) (r : ((Option Nat) ⊕ Nat) × AH) (hr : F_X2_read N x0 x1 h = some r) : MZ l G yX2_read cX2_read 2 (some (.object "YearSkins$Land")) 11 281 [vr x0, vi x1] h (eRX r) := by
  unfold F_X2_read at hr
  refine MZ.ofT (by decide) [(0, vr x0), (1, vi x1)] rfl (Nat.le_of_ble_eq_true rfl) (fun K O E => ?_)
  have O : ZOk K cX2_read RX2 "read" 2 (some (.object "YearSkins$Land")) 11 281 := O
  refine bs hr (fun _ hck hr => ?_)
  refine z_aload_n O 0 dX2_read_0 rfl rfl ?_
  refine z_iload_n O 1 dX2_read_1 rfl rfl ?_
  refine z_putI O o_Reader_size (w_Reader_size _) q382 dX2_read_2 hr (fun h1 hr => ?_)
  refine z_aload_n O 0 dX2_read_5 rfl rfl ?_
  refine z_iconst O dX2_read_6 kic_0 ?_
  refine z_putI O o_Reader_end (w_Reader_end _) q383 dX2_read_7 hr (fun h2 hr => ?_)
  refine z_aload_n O 0 dX2_read_10 rfl rfl ?_
  refine z_new O (t := 10) (n := 22) (tyf := tyX10) rfl [.null, .null, .null, .null, .null, .null, .null, .null, .int 0, .int 0, .int 0, .int 0, .int 0, .int 0, .int 0, .int 0, .int 0, .int 0, .int 0, .int 0, .int 0, .int 0] tyX10_ok rfl in_X10 q543 q544 q138 dX2_read_11 hr (fun v3 h4 hr => ?_)
  refine z_dup O dX2_read_14 rfl ?_
  refine bs hr (fun h5 hF hr => ?_)
  refine z_callIN_ O [] fI_X10_init zn545 (fun l G => mX10_init l G (some v3) h4 _ hF) rfl ⟨Nat.le_of_ble_eq_true rfl, Nat.le_of_ble_eq_true rfl⟩ (Nat.le_of_ble_eq_true rfl) dX2_read_15 ?_
  refine z_putR O rfl o_Reader_land (w_Reader_land _) q389 dX2_read_18 hr (fun h6 hr => ?_)
  refine z_aload_n O 0 dX2_read_21 rfl rfl ?_
  refine z_getR O o_Reader_village q381 dX2_read_22 hr (fun v7 hr => ?_)
  refine z_aload_n O 0 dX2_read_25 rfl rfl ?_
  refine z_getR O o_Reader_land q389 dX2_read_26 hr (fun v8 hr => ?_)
  refine z_iconst O dX2_read_29 kic_0 ?_
  refine bs hr (fun h9 hF hr => ?_)
  refine z_callVv O [vr v8, vi (0 : Int32)] fV_X4_begin q664 (fun l G => mX4_begin l G v7 v8 (0 : Int32) h6 _ hF) (zck hF) rfl rfl ⟨Nat.le_of_ble_eq_true rfl, Nat.le_of_ble_eq_true rfl⟩ (Nat.le_of_ble_eq_true rfl) dX2_read_30 ?_
  refine z_aload_n O 0 dX2_read_33 rfl rfl ?_
  refine bs hr (fun h10 hF hr => ?_)
  refine z_callVv O [] fV_X2_next q668 (fun l G => mX2_next l G N x0 h9 _ hF) (zck hF) rfl rfl ⟨Nat.le_of_ble_eq_true rfl, Nat.le_of_ble_eq_true rfl⟩ (Nat.le_of_ble_eq_true rfl) dX2_read_34 ?_
  refine z_aload_n O 0 dX2_read_37 rfl rfl ?_
  refine xbs hr (fun _ h11 hF hr => ?_) (fun ex hx hF hr => ?_)
  · refine z_callVv O [] fV_X2_line q762 (fun l G => mX2_line l G N x0 h10 _ hF) (zck hF) rfl rfl ⟨Nat.le_of_ble_eq_true rfl, Nat.le_of_ble_eq_true rfl⟩ (Nat.le_of_ble_eq_true rfl) dX2_read_38 ?_
    refine z_sub [0] rfl ?_
    exact wX2_read_41 O E N x0 _ h11 _ hr
  · exact z_callVt O E [] fV_X2_line q762 (fun l G => mX2_line l G N x0 h10 _ hF) (zck hF) rfl rfl ⟨Nat.le_of_ble_eq_true rfl, Nat.le_of_ble_eq_true rfl⟩ (Nat.le_of_ble_eq_true rfl) dX2_read_38 (by subst hr; rfl)
theorem fV_X2_village : CVf RX2 yX2_village cX2_village 1 (some (.object "YearSkins$Village")) 0 := ⟨q1196, q1197, q127, q1198, ⟨⟨by decide +kernel, by decide +kernel⟩, by decide +kernel⟩⟩
def F_X2_village (x0 : Option Nat) (h : AH) : Option (Option Nat) :=
  (ck h [2] x0).bind fun _ =>
  (gR h f_Reader_village x0).bind fun v1 =>
  some v1
theorem mX2_village (l : Launch) (G : ZG) (x0 : Option Nat) (h : AH) (r : Option Nat) (hr : F_X2_village x0 h = some r) : MZ l G yX2_village cX2_village 1 (some (.object "YearSkins$Village")) 1 48 [vr x0] h (eR h r) := by
  unfold F_X2_village at hr
  refine MZ.of (by decide) [(0, vr x0)] rfl (Nat.le_of_ble_eq_true rfl) (fun K O => ?_)
  have O : ZOk K cX2_village RX2 "village" 1 (some (.object "YearSkins$Village")) 1 48 := O
  refine bs hr (fun _ hck hr => ?_)
  refine z_aload_n O 0 dX2_village_0 rfl rfl ?_
  refine z_getR O o_Reader_village q381 dX2_village_1 hr (fun v1 hr => ?_)
  exact z_aret O rfl dX2_village_4 (by cases hr; rfl)
theorem fV_X1_land : CVHf RX1 yX1_land cX1_land 3 (some .int) [(32, 44, 47, 96)] 1 := ⟨q524, q525, q126, q526, ⟨⟨by decide +kernel, by decide +kernel⟩, by decide +kernel⟩⟩
def F_X1_land (N : Nat) (x0 : Option Nat) (x1 : Int32) (h : AH) : Option (Int32 × AH) :=
  (ck h [1] x0).bind fun _ =>
  (F_X1_anew x0 h).bind fun h1 =>
  (gI h1 f_Year_taped x0).bind fun v2 =>
  (F_X1_within x1 (0 : Int32) v2).bind fun v3 =>
  if v3 = 0 then
    b2 (F_X1_no x0 (2 : Int32) h1) fun v25 h24 =>
    some (v25, h24)
  else
    (pI h1 f_Year_taped x0 (0 : Int32)).bind fun h4 =>
    (pI h4 f_Year_fault x0 (0 : Int32)).bind fun h5 =>
    (gR h5 f_Year_reader x0).bind fun v6 =>
    xc (F_X2_read N v6 x1 h5) (fun v8 h7 =>
      (pR h7 f_Year_land x0 v8).bind fun h15 =>
      (gR h15 f_Year_village x0).bind fun v16 =>
      (gR h15 f_Year_reader x0).bind fun v17 =>
      (F_X2_village v17 h15).bind fun v18 =>
      (F_X4_become N v16 v18 h15).bind fun h19 =>
      (pI h19 f_Year_undoMany x0 (0 : Int32)).bind fun h20 =>
      (pI h20 f_Year_markMany x0 (0 : Int32)).bind fun h21 =>
      (gR h21 f_Year_village x0).bind fun v22 =>
      (gI h21 f_Village_many v22).bind fun v23 =>
      some (v23, h21))
    fun ex38 hx38 => (cth hx38 3 ex38).bind fun _ =>
      (gI hx38 f_Refused_fault (some ex38)).bind fun v9 =>
      (pI hx38 f_Year_fault x0 v9).bind fun h10 =>
      (gI h10 f_Refused_place (some ex38)).bind fun v11 =>
      (pI h10 f_Year_where x0 v11).bind fun h12 =>
      b2 (F_X1_no x0 (4 : Int32) h12) fun v14 h13 =>
      some (v14, h13)
theorem mX1_land (l : Launch) (G : ZG) (N : Nat) (x0 : Option Nat) (x1 : Int32) (h : AH) (r : Int32 × AH) (hr : F_X1_land N x0 x1 h = some r) : MZH l G yX1_land cX1_land 3 (some .int) [(32, 44, 47, 96)] 12 302 [vr x0, vi x1] h (eIH r) := by
  unfold F_X1_land at hr
  refine MZH.of (by decide) [(0, vr x0), (1, vi x1)] rfl (Nat.le_of_ble_eq_true rfl) (fun K O E => ?_)
  have O : ZOk K cX1_land RX1 "land" 3 (some .int) 12 302 := O
  refine bs hr (fun _ hck hr => ?_)
  refine z_aload_n O 0 dX1_land_0 rfl rfl ?_
  refine bs hr (fun h1 hF hr => ?_)
  refine z_callVv O [] fV_X1_anew q528 (fun l G => mX1_anew l G x0 h _ hF) (zck hF) rfl rfl ⟨Nat.le_of_ble_eq_true rfl, Nat.le_of_ble_eq_true rfl⟩ (Nat.le_of_ble_eq_true rfl) dX1_land_1 ?_
  refine z_iload_n O 1 dX1_land_4 rfl rfl ?_
  refine z_iconst O dX1_land_5 kic_0 ?_
  refine z_aload_n O 0 dX1_land_6 rfl rfl ?_
  refine z_getI O o_Year_taped q461 dX1_land_7 hr (fun v2 hr => ?_)
  refine bs hr (fun v3 hF hr => ?_)
  refine z_callS O [vi x1, vi (0 : Int32), vi v2] (vi v3) fS_X1_within q532 (fun l G => mX1_within l G x1 (0 : Int32) v2 h1 _ hF) rfl ⟨Nat.le_of_ble_eq_true rfl, Nat.le_of_ble_eq_true rfl⟩ (Nat.le_of_ble_eq_true rfl) dX1_land_10 ?_
  refine z_if_ne (tgt := 22) O dX1_land_13 (by decide) hr (fun hr => ?_) (fun hr => ?_)
  · refine z_aload_n O 0 dX1_land_16 rfl rfl ?_
    refine z_iconst O dX1_land_17 kic_2 ?_
    refine b2s hr (fun v25 h24 hF hr => ?_)
    refine z_callV O [vi (2 : Int32)] (vi v25) fV_X1_no q535 (fun l G => mX1_no l G x0 (2 : Int32) h1 _ hF) (zck hF) rfl rfl ⟨Nat.le_of_ble_eq_true rfl, Nat.le_of_ble_eq_true rfl⟩ (Nat.le_of_ble_eq_true rfl) dX1_land_18 ?_
    exact z_iret O dX1_land_21 (by cases hr; rfl)
  · refine z_aload_n O 0 dX1_land_22 rfl rfl ?_
    refine z_iconst O dX1_land_23 kic_0 ?_
    refine z_putI O o_Year_taped (w_Year_taped _) q461 dX1_land_24 hr (fun h4 hr => ?_)
    refine z_aload_n O 0 dX1_land_27 rfl rfl ?_
    refine z_iconst O dX1_land_28 kic_0 ?_
    refine z_putI O o_Year_fault (w_Year_fault _) q465 dX1_land_29 hr (fun h5 hr => ?_)
    refine z_aload_n O 0 dX1_land_32 rfl rfl ?_
    refine z_aload_n O 0 dX1_land_33 rfl rfl ?_
    refine z_getR O o_Year_reader q462 dX1_land_34 hr (fun v6 hr => ?_)
    refine z_iload_n O 1 dX1_land_37 rfl rfl ?_
    refine xcs hr (fun v8 h7 hF hr => ?_) (fun ex38 hx38 hF hr => ?_)
    · refine z_callV O [vi x1] (vr v8) fV_X2_read q539 (fun l G => mX2_read l G N v6 x1 h5 _ hF) (zck hF) rfl rfl ⟨Nat.le_of_ble_eq_true rfl, Nat.le_of_ble_eq_true rfl⟩ (Nat.le_of_ble_eq_true rfl) dX1_land_38 ?_
      refine z_putR O rfl o_Year_land (w_Year_land _) q463 dX1_land_41 hr (fun h15 hr => ?_)
      refine z_goto (tgt := 70) O dX1_land_44 (by decide) ?_
      refine z_aload_n O 0 dX1_land_70 rfl rfl ?_
      refine z_getR O o_Year_village q469 dX1_land_71 hr (fun v16 hr => ?_)
      refine z_aload_n O 0 dX1_land_74 rfl rfl ?_
      refine z_getR O o_Year_reader q462 dX1_land_75 hr (fun v17 hr => ?_)
      refine bs hr (fun v18 hF hr => ?_)
      refine z_callV O [] (vr v18) fV_X2_village q1195 (fun l G => mX2_village l G v17 h15 _ hF) (zck hF) rfl rfl ⟨Nat.le_of_ble_eq_true rfl, Nat.le_of_ble_eq_true rfl⟩ (Nat.le_of_ble_eq_true rfl) dX1_land_78 ?_
      refine bs hr (fun h19 hF hr => ?_)
      refine z_callVv O [vr v18] fV_X4_become q1199 (fun l G => mX4_become l G N v16 v18 h15 _ hF) (zck hF) rfl rfl ⟨Nat.le_of_ble_eq_true rfl, Nat.le_of_ble_eq_true rfl⟩ (Nat.le_of_ble_eq_true rfl) dX1_land_81 ?_
      refine z_aload_n O 0 dX1_land_84 rfl rfl ?_
      refine z_iconst O dX1_land_85 kic_0 ?_
      refine z_putI O o_Year_undoMany (w_Year_undoMany _) q468 dX1_land_86 hr (fun h20 hr => ?_)
      refine z_aload_n O 0 dX1_land_89 rfl rfl ?_
      refine z_iconst O dX1_land_90 kic_0 ?_
      refine z_putI O o_Year_markMany (w_Year_markMany _) q467 dX1_land_91 hr (fun h21 hr => ?_)
      refine z_aload_n O 0 dX1_land_94 rfl rfl ?_
      refine z_getR O o_Year_village q469 dX1_land_95 hr (fun v22 hr => ?_)
      refine z_getI O o_Village_many q346 dX1_land_98 hr (fun v23 hr => ?_)
      exact z_iret O dX1_land_101 (by cases hr; rfl)
    · refine bs hr (fun _ hcth hr => ?_)
      refine z_callVc O E [vi x1] fV_X2_read q539 (fun l G => mX2_read l G N v6 x1 h5 _ hF) (zck hF) rfl rfl ⟨Nat.le_of_ble_eq_true rfl, Nat.le_of_ble_eq_true rfl⟩ (Nat.le_of_ble_eq_true rfl) dX1_land_38 (by decide) (by decide) q527 zn173 (tq := 3) rfl (cth_spec hcth).2 (cth_spec hcth).1 ?_
      refine z_astore_n O [(2, vr (some ex38)), (0, vr x0), (1, vi x1)] dX1_land_47 rfl (by decide) rfl ?_
      refine z_aload_n O 1 dX1_land_48 rfl rfl ?_
      refine z_aload_n O 0 dX1_land_49 rfl rfl ?_
      refine z_getI O o_Refused_fault q224 dX1_land_50 hr (fun v9 hr => ?_)
      refine z_putI O o_Year_fault (w_Year_fault _) q465 dX1_land_53 hr (fun h10 hr => ?_)
      refine z_aload_n O 1 dX1_land_56 rfl rfl ?_
      refine z_aload_n O 0 dX1_land_57 rfl rfl ?_
      refine z_getI O o_Refused_place q226 dX1_land_58 hr (fun v11 hr => ?_)
      refine z_putI O o_Year_where (w_Year_where _) q466 dX1_land_61 hr (fun h12 hr => ?_)
      refine z_aload_n O 1 dX1_land_64 rfl rfl ?_
      refine z_iconst O dX1_land_65 kic_4 ?_
      refine b2s hr (fun v14 h13 hF hr => ?_)
      refine z_callV O [vi (4 : Int32)] (vi v14) fV_X1_no q535 (fun l G => mX1_no l G x0 (4 : Int32) h12 _ hF) (zck hF) rfl rfl ⟨Nat.le_of_ble_eq_true rfl, Nat.le_of_ble_eq_true rfl⟩ (Nat.le_of_ble_eq_true rfl) dX1_land_66 ?_
      exact z_iret O dX1_land_69 (by cases hr; rfl)
theorem fV_X1_isWall : CVf RX1 yX1_isWall cX1_isWall 2 (some .boolean) 1 := ⟨q1609, qs57, q126, q1610, ⟨⟨by decide +kernel, by decide +kernel⟩, by decide +kernel⟩⟩
def F_X1_isWall (x0 : Option Nat) (x1 : Int32) (h : AH) : Option (Int32) :=
  (ck h [1] x0).bind fun _ =>
  (gR h f_Year_land x0).bind fun v1 =>
  if v1 = none then
    zb (0 : Int32)
  else
    (gR h f_Year_land x0).bind fun v2 =>
    (gI h f_Land_wallMany v2).bind fun v3 =>
    (F_X1_within x1 (0 : Int32) (v3 - (1 : Int32))).bind fun v4 =>
    if v4 = 0 then
      zb (0 : Int32)
    else
      zb (1 : Int32)
theorem mX1_isWall (l : Launch) (G : ZG) (x0 : Option Nat) (x1 : Int32) (h : AH) (r : Int32) (hr : F_X1_isWall x0 x1 h = some r) : MZ l G yX1_isWall cX1_isWall 2 (some .boolean) 2 70 [vr x0, vi x1] h (eI h r) := by
  unfold F_X1_isWall at hr
  refine MZ.of (by decide) [(0, vr x0), (1, vi x1)] rfl (Nat.le_of_ble_eq_true rfl) (fun K O => ?_)
  have O : ZOk K cX1_isWall RX1 "isWall" 2 (some .boolean) 2 70 := O
  refine bs hr (fun _ hck hr => ?_)
  refine z_aload_n O 0 dX1_isWall_0 rfl rfl ?_
  refine z_getR O o_Year_land q463 dX1_isWall_1 hr (fun v1 hr => ?_)
  refine z_ifnull (tgt := 28) O dX1_isWall_4 (by decide) hr (fun hr => ?_) (fun hr => ?_)
  · refine z_iconst O dX1_isWall_28 kic_0 ?_
    obtain ⟨e1, e2, -⟩ := zb_spec hr
    exact z_zret O e2 dX1_isWall_29 (by cases e1; rfl)
  · refine z_iload_n O 1 dX1_isWall_7 rfl rfl ?_
    refine z_iconst O dX1_isWall_8 kic_0 ?_
    refine z_aload_n O 0 dX1_isWall_9 rfl rfl ?_
    refine z_getR O o_Year_land q463 dX1_isWall_10 hr (fun v2 hr => ?_)
    refine z_getI O o_Land_wallMany q607 dX1_isWall_13 hr (fun v3 hr => ?_)
    refine z_iconst O dX1_isWall_16 kic_1 ?_
    refine z_isub O dX1_isWall_17 ?_
    refine bs hr (fun v4 hF hr => ?_)
    refine z_callS O [vi x1, vi (0 : Int32), vi (v3 - (1 : Int32))] (vi v4) fS_X1_within q532 (fun l G => mX1_within l G x1 (0 : Int32) (v3 - (1 : Int32)) h _ hF) rfl ⟨Nat.le_of_ble_eq_true rfl, Nat.le_of_ble_eq_true rfl⟩ (Nat.le_of_ble_eq_true rfl) dX1_isWall_18 ?_
    refine z_if_eq (tgt := 28) O dX1_isWall_21 (by decide) hr (fun hr => ?_) (fun hr => ?_)
    · refine z_iconst O dX1_isWall_28 kic_0 ?_
      obtain ⟨e1, e2, -⟩ := zb_spec hr
      exact z_zret O e2 dX1_isWall_29 (by cases e1; rfl)
    · refine z_iconst O dX1_isWall_24 kic_1 ?_
      refine z_goto (tgt := 29) O dX1_isWall_25 (by decide) ?_
      obtain ⟨e1, e2, -⟩ := zb_spec hr
      exact z_zret O e2 dX1_isWall_29 (by cases e1; rfl)
