set_option maxRecDepth 100000
set_option maxHeartbeats 4000000
theorem fV_X4_lives : CVf RX4 yX4_lives cX4_lives 3 (none : Option Jvm.ClassFile.FieldType) 1 := ⟨q1449, qs47, q132, q1450, ⟨⟨by decide +kernel, by decide +kernel⟩, by decide +kernel⟩⟩
def bX4_lives_74 (N : Nat) (x0 : Option Nat) (x1 : Int32) (x2 : Option Nat) (h : AH) : Option (AH) :=
  (F_X5_rots N x2 h).bind fun h1 =>
  b2 (F_X4_draw x0 h1) fun v3 h2 =>
  (rm v3 (100 : Int32)).bind fun v4 =>
  (gR h2 f_Village_land x0).bind fun v5 =>
  (gI h2 f_Land_fire v5).bind fun v6 =>
  if v6 ≤ v4 then
    (F_X4_grows N x0 x1 h2).bind fun h7 =>
    some h7
  else
    (F_X5_burns N x2 h2).bind fun h8 =>
    (F_X4_grows N x0 x1 h8).bind fun h9 =>
    some h9
theorem wX4_lives_74 {K : ZC} (O : ZOk K cX4_lives RX4 "lives" 3 (none : Option Jvm.ClassFile.FieldType) 8 214) (N : Nat) (x0 : Option Nat) (x1 : Int32) (x2 : Option Nat) (h : AH) (r : AH) (hr : bX4_lives_74 N x0 x1 x2 h = some r) : Zw K (eH r) h 74 [(0, vr x0), (1, vi x1), (2, vr x2)] [] := by
  unfold bX4_lives_74 at hr
  refine z_aload_n O 2 dX4_lives_74 rfl rfl ?_
  refine bs hr (fun h1 hF hr => ?_)
  refine z_callVv O [] fV_X5_rots q1457 (fun l G => mX5_rots l G N x2 h _ hF) (zck hF) rfl rfl ⟨Nat.le_of_ble_eq_true rfl, Nat.le_of_ble_eq_true rfl⟩ (Nat.le_of_ble_eq_true rfl) dX4_lives_75 ?_
  refine z_aload_n O 0 dX4_lives_78 rfl rfl ?_
  refine b2s hr (fun v3 h2 hF hr => ?_)
  refine z_callV O [] (vi v3) fV_X4_draw q1452 (fun l G => mX4_draw l G x0 h1 _ hF) (zck hF) rfl rfl ⟨Nat.le_of_ble_eq_true rfl, Nat.le_of_ble_eq_true rfl⟩ (Nat.le_of_ble_eq_true rfl) dX4_lives_79 ?_
  refine z_bipush O dX4_lives_82 kbi_100 ?_
  refine z_irem O dX4_lives_84 hr (fun v4 hr => ?_)
  refine z_aload_n O 0 dX4_lives_85 rfl rfl ?_
  refine z_getR O o_Village_land q344 dX4_lives_86 hr (fun v5 hr => ?_)
  refine z_getI O o_Land_fire q589 dX4_lives_89 hr (fun v6 hr => ?_)
  refine z_icmp_ge (tgt := 99) O dX4_lives_92 (by decide) hr (fun hr => ?_) (fun hr => ?_)
  · refine z_aload_n O 0 dX4_lives_99 rfl rfl ?_
    refine z_iload_n O 1 dX4_lives_100 rfl rfl ?_
    refine bs hr (fun h7 hF hr => ?_)
    refine z_callVv O [vi x1] fV_X4_grows q1483 (fun l G => mX4_grows l G N x0 x1 h2 _ hF) (zck hF) rfl rfl ⟨Nat.le_of_ble_eq_true rfl, Nat.le_of_ble_eq_true rfl⟩ (Nat.le_of_ble_eq_true rfl) dX4_lives_101 ?_
    exact z_vret O dX4_lives_104 (by cases hr; rfl)
  · refine z_aload_n O 2 dX4_lives_95 rfl rfl ?_
    refine bs hr (fun h8 hF hr => ?_)
    refine z_callVv O [] fV_X5_burns q1470 (fun l G => mX5_burns l G N x2 h2 _ hF) (zck hF) rfl rfl ⟨Nat.le_of_ble_eq_true rfl, Nat.le_of_ble_eq_true rfl⟩ (Nat.le_of_ble_eq_true rfl) dX4_lives_96 ?_
    refine z_aload_n O 0 dX4_lives_99 rfl rfl ?_
    refine z_iload_n O 1 dX4_lives_100 rfl rfl ?_
    refine bs hr (fun h9 hF hr => ?_)
    refine z_callVv O [vi x1] fV_X4_grows q1483 (fun l G => mX4_grows l G N x0 x1 h8 _ hF) (zck hF) rfl rfl ⟨Nat.le_of_ble_eq_true rfl, Nat.le_of_ble_eq_true rfl⟩ (Nat.le_of_ble_eq_true rfl) dX4_lives_101 ?_
    exact z_vret O dX4_lives_104 (by cases hr; rfl)
def F_X4_lives (N : Nat) (x0 : Option Nat) (x1 : Int32) (h : AH) : Option (AH) :=
  (ck h [4] x0).bind fun _ =>
  (gR h f_Village_houses x0).bind fun v1 =>
  (aR h v1 x1).bind fun v2 =>
  (gI h f_House_family v2).bind fun v3 =>
  if v3 = 0 then
    some h
  else
    (gI h f_House_gold v2).bind fun v4 =>
    (gI h f_House_family v2).bind fun v5 =>
    (gR h f_Village_land x0).bind fun v6 =>
    (gI h f_Land_earns v6).bind fun v7 =>
    (pI h f_House_gold v2 (jmin (999 : Int32) (v4 + (v5 * v7)))).bind fun h8 =>
    b2 (F_X4_draw x0 h8) fun v10 h9 =>
    (rm v10 (100 : Int32)).bind fun v11 =>
    (gR h9 f_Village_land x0).bind fun v12 =>
    (gI h9 f_Land_births v12).bind fun v13 =>
    if v13 ≤ v11 then
      bX4_lives_74 N x0 x1 v2 h9
    else
      (gI h9 f_House_family v2).bind fun v14 =>
      (pI h9 f_House_family v2 (jmin (99 : Int32) (v14 + (1 : Int32)))).bind fun h15 =>
      bX4_lives_74 N x0 x1 v2 h15
theorem mX4_lives (l : Launch) (G : ZG) (N : Nat) (x0 : Option Nat) (x1 : Int32) (h : AH) (r : AH) (hr : F_X4_lives N x0 x1 h = some r) : MZ l G yX4_lives cX4_lives 3 (none : Option Jvm.ClassFile.FieldType) 8 214 [vr x0, vi x1] h (eH r) := by
  unfold F_X4_lives at hr
  refine MZ.of (by decide) [(0, vr x0), (1, vi x1)] rfl (Nat.le_of_ble_eq_true rfl) (fun K O => ?_)
  have O : ZOk K cX4_lives RX4 "lives" 3 (none : Option Jvm.ClassFile.FieldType) 8 214 := O
  refine bs hr (fun _ hck hr => ?_)
  refine z_aload_n O 0 dX4_lives_0 rfl rfl ?_
  refine z_getR O o_Village_houses q337 dX4_lives_1 hr (fun v1 hr => ?_)
  refine z_iload_n O 1 dX4_lives_4 rfl rfl ?_
  refine z_aaload O dX4_lives_5 hr (fun v2 hr => ?_)
  refine z_astore_n O [(2, vr v2), (0, vr x0), (1, vi x1)] dX4_lives_6 rfl (by decide) rfl ?_
  refine z_aload_n O 0 dX4_lives_7 rfl rfl ?_
  refine z_getI O o_House_family q317 dX4_lives_8 hr (fun v3 hr => ?_)
  refine z_if_ne (tgt := 15) O dX4_lives_11 (by decide) hr (fun hr => ?_) (fun hr => ?_)
  · exact z_vret O dX4_lives_14 (by cases hr; rfl)
  · refine z_aload_n O 0 dX4_lives_15 rfl rfl ?_
    refine z_sipush O dX4_lives_16 ksi_999 ?_
    refine z_aload_n O 0 dX4_lives_19 rfl rfl ?_
    refine z_getI O o_House_gold q320 dX4_lives_20 hr (fun v4 hr => ?_)
    refine z_aload_n O 0 dX4_lives_23 rfl rfl ?_
    refine z_getI O o_House_family q317 dX4_lives_24 hr (fun v5 hr => ?_)
    refine z_aload_n O 1 dX4_lives_27 rfl rfl ?_
    refine z_getR O o_Village_land q344 dX4_lives_28 hr (fun v6 hr => ?_)
    refine z_getI O o_Land_earns q591 dX4_lives_31 hr (fun v7 hr => ?_)
    refine z_imul O dX4_lives_34 ?_
    refine z_iadd O dX4_lives_35 ?_
    refine z_mmin O q1451 ⟨Nat.le_of_ble_eq_true rfl, Nat.le_of_ble_eq_true rfl⟩ (Nat.le_of_ble_eq_true rfl) dX4_lives_36 ?_
    refine z_putI O o_House_gold (w_House_gold _) q320 dX4_lives_39 hr (fun h8 hr => ?_)
    refine z_aload_n O 1 dX4_lives_42 rfl rfl ?_
    refine b2s hr (fun v10 h9 hF hr => ?_)
    refine z_callV O [] (vi v10) fV_X4_draw q1452 (fun l G => mX4_draw l G x0 h8 _ hF) (zck hF) rfl rfl ⟨Nat.le_of_ble_eq_true rfl, Nat.le_of_ble_eq_true rfl⟩ (Nat.le_of_ble_eq_true rfl) dX4_lives_43 ?_
    refine z_bipush O dX4_lives_46 kbi_100 ?_
    refine z_irem O dX4_lives_48 hr (fun v11 hr => ?_)
    refine z_aload_n O 1 dX4_lives_49 rfl rfl ?_
    refine z_getR O o_Village_land q344 dX4_lives_50 hr (fun v12 hr => ?_)
    refine z_getI O o_Land_births q587 dX4_lives_53 hr (fun v13 hr => ?_)
    refine z_icmp_ge (tgt := 74) O dX4_lives_56 (by decide) hr (fun hr => ?_) (fun hr => ?_)
    · refine z_sub [1, 2, 0] rfl ?_
      exact wX4_lives_74 O N x0 x1 v2 h9 _ hr
    · refine z_aload_n O 0 dX4_lives_59 rfl rfl ?_
      refine z_bipush O dX4_lives_60 kbi_99 ?_
      refine z_aload_n O 0 dX4_lives_62 rfl rfl ?_
      refine z_getI O o_House_family q317 dX4_lives_63 hr (fun v14 hr => ?_)
      refine z_iconst O dX4_lives_66 kic_1 ?_
      refine z_iadd O dX4_lives_67 ?_
      refine z_mmin O q1451 ⟨Nat.le_of_ble_eq_true rfl, Nat.le_of_ble_eq_true rfl⟩ (Nat.le_of_ble_eq_true rfl) dX4_lives_68 ?_
      refine z_putI O o_House_family (w_House_family _) q317 dX4_lives_71 hr (fun h15 hr => ?_)
      refine z_sub [1, 2, 0] rfl ?_
      exact wX4_lives_74 O N x0 x1 v2 h15 _ hr
theorem fV_X4_goesOn : CVf RX4 yX4_goesOn cX4_goesOn 2 (none : Option Jvm.ClassFile.FieldType) 0 := ⟨q1444, q1445, q132, q1446, ⟨⟨by decide +kernel, by decide +kernel⟩, by decide +kernel⟩⟩
def BX4_goesOn_2 (N : Nat) (x0 : Option Nat) (rec2 : Int32 → AH → Option (AH)) : Int32 → AH → Option (AH) := fun x1 h =>
  (gI h f_Village_many x0).bind fun v1 =>
  if v1 ≤ x1 then
    (gI h f_Village_year x0).bind fun v2 =>
    (pI h f_Village_year x0 (v2 + (1 : Int32))).bind fun h3 =>
    some h3
  else
    (gR h f_Village_order x0).bind fun v4 =>
    (aI h 0 v4 x1).bind fun v5 =>
    (F_X4_lives N x0 v5 h).bind fun h6 =>
    jlet (x1 + (1 : Int32)) fun v7 =>
    rec2 v7 h6
def LX4_goesOn_2 (N : Nat) (x0 : Option Nat) : Int32 → AH → Option (AH) := lf (fun _ _ => none) (BX4_goesOn_2 N x0) N
theorem wX4_goesOn_2B {K : ZC} (O : ZOk K cX4_goesOn RX4 "goesOn" 2 (none : Option Jvm.ClassFile.FieldType) 9 236) (N : Nat) (x0 : Option Nat) (rec2 : Int32 → AH → Option (AH)) (hrec2 : ∀ (y1 : Int32) (hy : AH) (ry : AH), rec2 y1 hy = some ry → Zw K (eH ry) hy 2 [(0, vr x0), (1, vi y1)] []) (x1 : Int32) (h : AH) (r : AH) (hr : BX4_goesOn_2 N x0 rec2 x1 h = some r) : Zw K (eH r) h 2 [(0, vr x0), (1, vi x1)] [] := by
  unfold BX4_goesOn_2 at hr
  refine z_iload_n O 1 dX4_goesOn_2 rfl rfl ?_
  refine z_aload_n O 0 dX4_goesOn_3 rfl rfl ?_
  refine z_getI O o_Village_many q345 dX4_goesOn_4 hr (fun v1 hr => ?_)
  refine z_icmp_ge (tgt := 26) O dX4_goesOn_7 (by decide) hr (fun hr => ?_) (fun hr => ?_)
  · refine z_aload_n O 0 dX4_goesOn_26 rfl rfl ?_
    refine z_dup O dX4_goesOn_27 rfl ?_
    refine z_getI O o_Village_year q347 dX4_goesOn_28 hr (fun v2 hr => ?_)
    refine z_iconst O dX4_goesOn_31 kic_1 ?_
    refine z_iadd O dX4_goesOn_32 ?_
    refine z_putI O o_Village_year (w_Village_year _) q347 dX4_goesOn_33 hr (fun h3 hr => ?_)
    exact z_vret O dX4_goesOn_36 (by cases hr; rfl)
  · refine z_aload_n O 0 dX4_goesOn_10 rfl rfl ?_
    refine z_aload_n O 0 dX4_goesOn_11 rfl rfl ?_
    refine z_getR O o_Village_order q342 dX4_goesOn_12 hr (fun v4 hr => ?_)
    refine z_iload_n O 1 dX4_goesOn_15 rfl rfl ?_
    refine z_iaload O dX4_goesOn_16 hr (fun v5 hr => ?_)
    refine bs hr (fun h6 hF hr => ?_)
    refine z_callVv O [vi v5] fV_X4_lives q1447 (fun l G => mX4_lives l G N x0 v5 h _ hF) (zck hF) rfl rfl ⟨Nat.le_of_ble_eq_true rfl, Nat.le_of_ble_eq_true rfl⟩ (Nat.le_of_ble_eq_true rfl) dX4_goesOn_17 ?_
    refine z_iincL O 1 (fun v7 => [(1, vi v7), (0, vr x0)]) dX4_goesOn_20 rfl rfl (by decide) (fun _ => rfl) hr (fun v7 hr => ?_)
    refine z_goto (tgt := 2) O dX4_goesOn_23 (by decide) ?_
    refine z_sub [1, 0] rfl ?_
    exact hrec2 v7 h6 _ hr
theorem wX4_goesOn_2 {K : ZC} (O : ZOk K cX4_goesOn RX4 "goesOn" 2 (none : Option Jvm.ClassFile.FieldType) 9 236) (N : Nat) (x0 : Option Nat) : ∀ (n : Nat) (x1 : Int32) (h : AH) (r : AH), lf (fun _ _ => none) (BX4_goesOn_2 N x0) n x1 h = some r → Zw K (eH r) h 2 [(0, vr x0), (1, vi x1)] [] := by
  intro n
  induction n with
  | zero => intro x1 h r hr; cases hr
  | succ n ih => intro x1 h r hr; exact wX4_goesOn_2B O N x0 (lf (fun _ _ => none) (BX4_goesOn_2 N x0) n)  ih x1 h r hr
def F_X4_goesOn (N : Nat) (x0 : Option Nat) (h : AH) : Option (AH) :=
  (ck h [4] x0).bind fun _ =>
  LX4_goesOn_2 N x0 (0 : Int32) h
theorem mX4_goesOn (l : Launch) (G : ZG) (N : Nat) (x0 : Option Nat) (h : AH) (r : AH) (hr : F_X4_goesOn N x0 h = some r) : MZ l G yX4_goesOn cX4_goesOn 2 (none : Option Jvm.ClassFile.FieldType) 9 236 [vr x0] h (eH r) := by
  unfold F_X4_goesOn at hr
  refine MZ.of (by decide) [(0, vr x0)] rfl (Nat.le_of_ble_eq_true rfl) (fun K O => ?_)
  have O : ZOk K cX4_goesOn RX4 "goesOn" 2 (none : Option Jvm.ClassFile.FieldType) 9 236 := O
  refine bs hr (fun _ hck hr => ?_)
  refine z_iconst O dX4_goesOn_0 kic_0 ?_
  refine z_istore_n O [(1, vi (0 : Int32)), (0, vr x0)] dX4_goesOn_1 rfl (by decide) rfl ?_
  refine z_sub [1, 0] rfl ?_
  exact wX4_goesOn_2 O N x0 _ (0 : Int32) h _ hr
theorem fV_X1_falls : CVf RX1 yX1_falls cX1_falls 5 (some .int) 3 := ⟨q1511, q1512, q126, q1513, ⟨⟨by decide +kernel, by decide +kernel⟩, by decide +kernel⟩⟩
def BX1_falls_49 (N : Nat) (x0 : Option Nat) (x1 : Int32) (x2 : Int32) (x3 : Int32) (rec49 : Int32 → AH → Option (Int32 × AH)) : Int32 → AH → Option (Int32 × AH) := fun x4 h =>
  if x3 < x4 then
    some ((-2 : Int32), h)
  else
    (gR h f_Year_trial x0).bind fun v1 =>
    (F_X4_house v1 x1 h).bind fun v2 =>
    (F_X5_skin v2 x2 h).bind fun v3 =>
    (gI h f_Skin_collapsed v3).bind fun v4 =>
    if v4 = 0 then
      (gR h f_Year_trial x0).bind fun v5 =>
      (F_X4_goesOn N v5 h).bind fun h6 =>
      jlet (x4 + (1 : Int32)) fun v7 =>
      rec49 v7 h6
    else
      some (x4, h)
def LX1_falls_49 (N : Nat) (x0 : Option Nat) (x1 : Int32) (x2 : Int32) (x3 : Int32) : Int32 → AH → Option (Int32 × AH) := lf (fun _ _ => none) (BX1_falls_49 N x0 x1 x2 x3) N
theorem wX1_falls_49B {K : ZC} (O : ZOk K cX1_falls RX1 "falls" 5 (some .int) 10 257) (N : Nat) (x0 : Option Nat) (x1 : Int32) (x2 : Int32) (x3 : Int32) (rec49 : Int32 → AH → Option (Int32 × AH)) (hrec49 : ∀ (y4 : Int32) (hy : AH) (ry : Int32 × AH), rec49 y4 hy = some ry → Zw K (eIH ry) hy 49 [(0, vr x0), (1, vi x1), (2, vi x2), (3, vi x3), (4, vi y4)] []) (x4 : Int32) (h : AH) (r : Int32 × AH) (hr : BX1_falls_49 N x0 x1 x2 x3 rec49 x4 h = some r) : Zw K (eIH r) h 49 [(0, vr x0), (1, vi x1), (2, vi x2), (3, vi x3), (4, vi x4)] [] := by
  unfold BX1_falls_49 at hr
  refine z_iload O 4 dX1_falls_49 rfl ?_
  refine z_iload_n O 3 dX1_falls_51 rfl rfl ?_
  refine z_icmp_gt (tgt := 89) O dX1_falls_52 (by decide) hr (fun hr => ?_) (fun hr => ?_)
  · refine z_bipush O dX1_falls_89 kbi_m2 ?_
    exact z_iret O dX1_falls_91 (by cases hr; rfl)
  · refine z_aload_n O 0 dX1_falls_55 rfl rfl ?_
    refine z_getR O o_Year_trial q471 dX1_falls_56 hr (fun v1 hr => ?_)
    refine z_iload_n O 1 dX1_falls_59 rfl rfl ?_
    refine bs hr (fun v2 hF hr => ?_)
    refine z_callV O [vi x1] (vr v2) fV_X4_house q1249 (fun l G => mX4_house l G v1 x1 h _ hF) (zck hF) rfl rfl ⟨Nat.le_of_ble_eq_true rfl, Nat.le_of_ble_eq_true rfl⟩ (Nat.le_of_ble_eq_true rfl) dX1_falls_60 ?_
    refine z_iload_n O 2 dX1_falls_63 rfl rfl ?_
    refine bs hr (fun v3 hF hr => ?_)
    refine z_callV O [vi x2] (vr v3) fV_X5_skin q1286 (fun l G => mX5_skin l G v2 x2 h _ hF) (zck hF) rfl rfl ⟨Nat.le_of_ble_eq_true rfl, Nat.le_of_ble_eq_true rfl⟩ (Nat.le_of_ble_eq_true rfl) dX1_falls_64 ?_
    refine z_getI O o_Skin_collapsed q285 dX1_falls_67 hr (fun v4 hr => ?_)
    refine z_if_eq (tgt := 76) O dX1_falls_70 (by decide) hr (fun hr => ?_) (fun hr => ?_)
    · refine z_aload_n O 0 dX1_falls_76 rfl rfl ?_
      refine z_getR O o_Year_trial q471 dX1_falls_77 hr (fun v5 hr => ?_)
      refine bs hr (fun h6 hF hr => ?_)
      refine z_callVv O [] fV_X4_goesOn q1509 (fun l G => mX4_goesOn l G N v5 h _ hF) (zck hF) rfl rfl ⟨Nat.le_of_ble_eq_true rfl, Nat.le_of_ble_eq_true rfl⟩ (Nat.le_of_ble_eq_true rfl) dX1_falls_80 ?_
      refine z_iincL O 4 (fun v7 => [(4, vi v7), (0, vr x0), (1, vi x1), (2, vi x2), (3, vi x3)]) dX1_falls_83 rfl rfl (by decide) (fun _ => rfl) hr (fun v7 hr => ?_)
      refine z_goto (tgt := 49) O dX1_falls_86 (by decide) ?_
      refine z_sub [1, 2, 3, 4, 0] rfl ?_
      exact hrec49 v7 h6 _ hr
    · refine z_iload O 4 dX1_falls_73 rfl ?_
      exact z_iret O dX1_falls_75 (by cases hr; rfl)
theorem wX1_falls_49 {K : ZC} (O : ZOk K cX1_falls RX1 "falls" 5 (some .int) 10 257) (N : Nat) (x0 : Option Nat) (x1 : Int32) (x2 : Int32) (x3 : Int32) : ∀ (n : Nat) (x4 : Int32) (h : AH) (r : Int32 × AH), lf (fun _ _ => none) (BX1_falls_49 N x0 x1 x2 x3) n x4 h = some r → Zw K (eIH r) h 49 [(0, vr x0), (1, vi x1), (2, vi x2), (3, vi x3), (4, vi x4)] [] := by
  intro n
  induction n with
  | zero => intro x4 h r hr; cases hr
  | succ n ih => intro x4 h r hr; exact wX1_falls_49B O N x0 x1 x2 x3 (lf (fun _ _ => none) (BX1_falls_49 N x0 x1 x2 x3) n)  ih x4 h r hr
def F_X1_falls (N : Nat) (x0 : Option Nat) (x1 : Int32) (x2 : Int32) (x3 : Int32) (h : AH) : Option (Int32 × AH) :=
  (ck h [1] x0).bind fun _ =>
  (F_X1_anew x0 h).bind fun h1 =>
  (F_X1_isSkin x0 x1 x2 h1).bind fun v2 =>
  if v2 = 0 then
    b2 (F_X1_no x0 (1 : Int32) h1) fun v10 h9 =>
    some (v10, h9)
  else
    (F_X1_within x3 (0 : Int32) (60 : Int32)).bind fun v3 =>
    if v3 = 0 then
      b2 (F_X1_no x0 (2 : Int32) h1) fun v8 h7 =>
      some (v8, h7)
    else
      (gR h1 f_Year_trial x0).bind fun v4 =>
      (gR h1 f_Year_village x0).bind fun v5 =>
      (F_X4_become N v4 v5 h1).bind fun h6 =>
      LX1_falls_49 N x0 x1 x2 x3 (0 : Int32) h6
theorem mX1_falls (l : Launch) (G : ZG) (N : Nat) (x0 : Option Nat) (x1 : Int32) (x2 : Int32) (x3 : Int32) (h : AH) (r : Int32 × AH) (hr : F_X1_falls N x0 x1 x2 x3 h = some r) : MZ l G yX1_falls cX1_falls 5 (some .int) 10 257 [vr x0, vi x1, vi x2, vi x3] h (eIH r) := by
  unfold F_X1_falls at hr
  refine MZ.of (by decide) [(0, vr x0), (1, vi x1), (2, vi x2), (3, vi x3)] rfl (Nat.le_of_ble_eq_true rfl) (fun K O => ?_)
  have O : ZOk K cX1_falls RX1 "falls" 5 (some .int) 10 257 := O
  refine bs hr (fun _ hck hr => ?_)
  refine z_aload_n O 0 dX1_falls_0 rfl rfl ?_
  refine bs hr (fun h1 hF hr => ?_)
  refine z_callVv O [] fV_X1_anew q528 (fun l G => mX1_anew l G x0 h _ hF) (zck hF) rfl rfl ⟨Nat.le_of_ble_eq_true rfl, Nat.le_of_ble_eq_true rfl⟩ (Nat.le_of_ble_eq_true rfl) dX1_falls_1 ?_
  refine z_aload_n O 0 dX1_falls_4 rfl rfl ?_
  refine z_iload_n O 1 dX1_falls_5 rfl rfl ?_
  refine z_iload_n O 2 dX1_falls_6 rfl rfl ?_
  refine bs hr (fun v2 hF hr => ?_)
  refine z_callV O [vi x1, vi x2] (vi v2) fV_X1_isSkin q1278 (fun l G => mX1_isSkin l G x0 x1 x2 h1 _ hF) (zck hF) rfl rfl ⟨Nat.le_of_ble_eq_true rfl, Nat.le_of_ble_eq_true rfl⟩ (Nat.le_of_ble_eq_true rfl) dX1_falls_7 ?_
  refine z_if_ne (tgt := 19) O dX1_falls_10 (by decide) hr (fun hr => ?_) (fun hr => ?_)
  · refine z_aload_n O 0 dX1_falls_13 rfl rfl ?_
    refine z_iconst O dX1_falls_14 kic_1 ?_
    refine b2s hr (fun v10 h9 hF hr => ?_)
    refine z_callV O [vi (1 : Int32)] (vi v10) fV_X1_no q535 (fun l G => mX1_no l G x0 (1 : Int32) h1 _ hF) (zck hF) rfl rfl ⟨Nat.le_of_ble_eq_true rfl, Nat.le_of_ble_eq_true rfl⟩ (Nat.le_of_ble_eq_true rfl) dX1_falls_15 ?_
    exact z_iret O dX1_falls_18 (by cases hr; rfl)
  · refine z_iload_n O 3 dX1_falls_19 rfl rfl ?_
    refine z_iconst O dX1_falls_20 kic_0 ?_
    refine z_bipush O dX1_falls_21 kbi_60 ?_
    refine bs hr (fun v3 hF hr => ?_)
    refine z_callS O [vi x3, vi (0 : Int32), vi (60 : Int32)] (vi v3) fS_X1_within q532 (fun l G => mX1_within l G x3 (0 : Int32) (60 : Int32) h1 _ hF) rfl ⟨Nat.le_of_ble_eq_true rfl, Nat.le_of_ble_eq_true rfl⟩ (Nat.le_of_ble_eq_true rfl) dX1_falls_23 ?_
    refine z_if_ne (tgt := 35) O dX1_falls_26 (by decide) hr (fun hr => ?_) (fun hr => ?_)
    · refine z_aload_n O 0 dX1_falls_29 rfl rfl ?_
      refine z_iconst O dX1_falls_30 kic_2 ?_
      refine b2s hr (fun v8 h7 hF hr => ?_)
      refine z_callV O [vi (2 : Int32)] (vi v8) fV_X1_no q535 (fun l G => mX1_no l G x0 (2 : Int32) h1 _ hF) (zck hF) rfl rfl ⟨Nat.le_of_ble_eq_true rfl, Nat.le_of_ble_eq_true rfl⟩ (Nat.le_of_ble_eq_true rfl) dX1_falls_31 ?_
      exact z_iret O dX1_falls_34 (by cases hr; rfl)
    · refine z_aload_n O 0 dX1_falls_35 rfl rfl ?_
      refine z_getR O o_Year_trial q471 dX1_falls_36 hr (fun v4 hr => ?_)
      refine z_aload_n O 0 dX1_falls_39 rfl rfl ?_
      refine z_getR O o_Year_village q469 dX1_falls_40 hr (fun v5 hr => ?_)
      refine bs hr (fun h6 hF hr => ?_)
      refine z_callVv O [vr v5] fV_X4_become q1199 (fun l G => mX4_become l G N v4 v5 h1 _ hF) (zck hF) rfl rfl ⟨Nat.le_of_ble_eq_true rfl, Nat.le_of_ble_eq_true rfl⟩ (Nat.le_of_ble_eq_true rfl) dX1_falls_43 ?_
      refine z_iconst O dX1_falls_46 kic_0 ?_
      refine z_istore O [(4, vi (0 : Int32)), (0, vr x0), (1, vi x1), (2, vi x2), (3, vi x3)] dX1_falls_47 (by decide) rfl ?_
      refine z_sub [1, 2, 3, 4, 0] rfl ?_
      exact wX1_falls_49 O N x0 x1 x2 x3 _ (0 : Int32) h6 _ hr
theorem fV_X1_fault : CVf RX1 yX1_fault cX1_fault 1 (some .int) 0 := ⟨q1215, q1216, q126, q1217, ⟨⟨by decide +kernel, by decide +kernel⟩, by decide +kernel⟩⟩
def F_X1_fault (x0 : Option Nat) (h : AH) : Option (Int32) :=
  (ck h [1] x0).bind fun _ =>
  (gI h f_Year_fault x0).bind fun v1 =>
  some v1
theorem mX1_fault (l : Launch) (G : ZG) (x0 : Option Nat) (h : AH) (r : Int32) (hr : F_X1_fault x0 h = some r) : MZ l G yX1_fault cX1_fault 1 (some .int) 1 48 [vr x0] h (eI h r) := by
  unfold F_X1_fault at hr
  refine MZ.of (by decide) [(0, vr x0)] rfl (Nat.le_of_ble_eq_true rfl) (fun K O => ?_)
  have O : ZOk K cX1_fault RX1 "fault" 1 (some .int) 1 48 := O
  refine bs hr (fun _ hck hr => ?_)
  refine z_aload_n O 0 dX1_fault_0 rfl rfl ?_
  refine z_getI O o_Year_fault q465 dX1_fault_1 hr (fun v1 hr => ?_)
  exact z_iret O dX1_fault_4 (by cases hr; rfl)
theorem fV_X1_bytes : CVf RX1 yX1_bytes cX1_bytes 3 (none : Option Jvm.ClassFile.FieldType) 1 := ⟨q521, qs1, q126, q522, ⟨⟨by decide +kernel, by decide +kernel⟩, by decide +kernel⟩⟩
def BX1_bytes_3 (N : Nat) (x0 : Option Nat) (x1 : Int32) (rec3 : Int32 → AH → Option (AH)) : Int32 → AH → Option (AH) := fun x2 h =>
  if x2 < 0 then
    some h
  else
    (gR h f_Year_tape x0).bind fun v1 =>
    (gI h f_Year_taped x0).bind fun v2 =>
    (sA h 1 v1 v2 ((x1 >>> (x2 &&& 31)).toInt8.toInt32).toInt8.toInt32).bind fun h3 =>
    (gI h3 f_Year_taped x0).bind fun v4 =>
    (pI h3 f_Year_taped x0 (v4 + (1 : Int32))).bind fun h5 =>
    jlet (x2 + (-8 : Int32)) fun v6 =>
    rec3 v6 h5
def LX1_bytes_3 (N : Nat) (x0 : Option Nat) (x1 : Int32) : Int32 → AH → Option (AH) := lf (fun _ _ => none) (BX1_bytes_3 N x0 x1) N
theorem wX1_bytes_3B {K : ZC} (O : ZOk K cX1_bytes RX1 "bytes" 3 (none : Option Jvm.ClassFile.FieldType) 1 48) (N : Nat) (x0 : Option Nat) (x1 : Int32) (rec3 : Int32 → AH → Option (AH)) (hrec3 : ∀ (y2 : Int32) (hy : AH) (ry : AH), rec3 y2 hy = some ry → Zw K (eH ry) hy 3 [(0, vr x0), (1, vi x1), (2, vi y2)] []) (x2 : Int32) (h : AH) (r : AH) (hr : BX1_bytes_3 N x0 x1 rec3 x2 h = some r) : Zw K (eH r) h 3 [(0, vr x0), (1, vi x1), (2, vi x2)] [] := by
  unfold BX1_bytes_3 at hr
  refine z_iload_n O 2 dX1_bytes_3 rfl rfl ?_
  refine z_if_lt (tgt := 36) O dX1_bytes_4 (by decide) hr (fun hr => ?_) (fun hr => ?_)
  · exact z_vret O dX1_bytes_36 (by cases hr; rfl)
  · refine z_aload_n O 0 dX1_bytes_7 rfl rfl ?_
    refine z_getR O o_Year_tape q460 dX1_bytes_8 hr (fun v1 hr => ?_)
    refine z_aload_n O 0 dX1_bytes_11 rfl rfl ?_
    refine z_getI O o_Year_taped q461 dX1_bytes_12 hr (fun v2 hr => ?_)
    refine z_iload_n O 1 dX1_bytes_15 rfl rfl ?_
    refine z_iload_n O 2 dX1_bytes_16 rfl rfl ?_
    refine z_ishr O dX1_bytes_17 ?_
    refine z_i2b O dX1_bytes_18 ?_
    refine z_bastore O dX1_bytes_19 hr (fun h3 hr => ?_)
    refine z_aload_n O 0 dX1_bytes_20 rfl rfl ?_
    refine z_dup O dX1_bytes_21 rfl ?_
    refine z_getI O o_Year_taped q461 dX1_bytes_22 hr (fun v4 hr => ?_)
    refine z_iconst O dX1_bytes_25 kic_1 ?_
    refine z_iadd O dX1_bytes_26 ?_
    refine z_putI O o_Year_taped (w_Year_taped _) q461 dX1_bytes_27 hr (fun h5 hr => ?_)
    refine z_iincL O 2 (fun v6 => [(2, vi v6), (0, vr x0), (1, vi x1)]) dX1_bytes_30 rfl rfl (by decide) (fun _ => rfl) hr (fun v6 hr => ?_)
    refine z_goto (tgt := 3) O dX1_bytes_33 (by decide) ?_
    refine z_sub [1, 2, 0] rfl ?_
    exact hrec3 v6 h5 _ hr
theorem wX1_bytes_3 {K : ZC} (O : ZOk K cX1_bytes RX1 "bytes" 3 (none : Option Jvm.ClassFile.FieldType) 1 48) (N : Nat) (x0 : Option Nat) (x1 : Int32) : ∀ (n : Nat) (x2 : Int32) (h : AH) (r : AH), lf (fun _ _ => none) (BX1_bytes_3 N x0 x1) n x2 h = some r → Zw K (eH r) h 3 [(0, vr x0), (1, vi x1), (2, vi x2)] [] := by
  intro n
  induction n with
  | zero => intro x2 h r hr; cases hr
  | succ n ih => intro x2 h r hr; exact wX1_bytes_3B O N x0 x1 (lf (fun _ _ => none) (BX1_bytes_3 N x0 x1) n)  ih x2 h r hr
def F_X1_bytes (N : Nat) (x0 : Option Nat) (x1 : Int32) (h : AH) : Option (AH) :=
  (ck h [1] x0).bind fun _ =>
  LX1_bytes_3 N x0 x1 (24 : Int32) h
theorem mX1_bytes (l : Launch) (G : ZG) (N : Nat) (x0 : Option Nat) (x1 : Int32) (h : AH) (r : AH) (hr : F_X1_bytes N x0 x1 h = some r) : MZ l G yX1_bytes cX1_bytes 3 (none : Option Jvm.ClassFile.FieldType) 1 48 [vr x0, vi x1] h (eH r) := by
  unfold F_X1_bytes at hr
  refine MZ.of (by decide) [(0, vr x0), (1, vi x1)] rfl (Nat.le_of_ble_eq_true rfl) (fun K O => ?_)
  have O : ZOk K cX1_bytes RX1 "bytes" 3 (none : Option Jvm.ClassFile.FieldType) 1 48 := O
  refine bs hr (fun _ hck hr => ?_)
  refine z_bipush O dX1_bytes_0 kbi_24 ?_
  refine z_istore_n O [(2, vi (24 : Int32)), (0, vr x0), (1, vi x1)] dX1_bytes_2 rfl (by decide) rfl ?_
  refine z_sub [1, 2, 0] rfl ?_
  exact wX1_bytes_3 O N x0 x1 _ (24 : Int32) h _ hr
theorem fV_X1_feed : CVf RX1 yX1_feed cX1_feed 6 (some .int) 5 := ⟨q516, q517, q126, q518, ⟨⟨by decide +kernel, by decide +kernel⟩, by decide +kernel⟩⟩
def F_X1_feed (N : Nat) (x0 : Option Nat) (x1 : Int32) (x2 : Int32) (x3 : Int32) (x4 : Int32) (x5 : Int32) (h : AH) : Option (Int32 × AH) :=
  (ck h [1] x0).bind fun _ =>
  (gI h f_Year_taped x0).bind fun v1 =>
  if (v1 + (20 : Int32)) ≤ (1000 : Int32) then
    (F_X1_bytes N x0 x1 h).bind fun h2 =>
    (F_X1_bytes N x0 x2 h2).bind fun h3 =>
    (F_X1_bytes N x0 x3 h3).bind fun h4 =>
    (F_X1_bytes N x0 x4 h4).bind fun h5 =>
    (F_X1_bytes N x0 x5 h5).bind fun h6 =>
    (gI h6 f_Year_taped x0).bind fun v7 =>
    some (v7, h6)
  else
    some ((-1 : Int32), h)
theorem mX1_feed (l : Launch) (G : ZG) (N : Nat) (x0 : Option Nat) (x1 : Int32) (x2 : Int32) (x3 : Int32) (x4 : Int32) (x5 : Int32) (h : AH) (r : Int32 × AH) (hr : F_X1_feed N x0 x1 x2 x3 x4 x5 h = some r) : MZ l G yX1_feed cX1_feed 6 (some .int) 2 70 [vr x0, vi x1, vi x2, vi x3, vi x4, vi x5] h (eIH r) := by
  unfold F_X1_feed at hr
  refine MZ.of (by decide) [(0, vr x0), (1, vi x1), (2, vi x2), (3, vi x3), (4, vi x4), (5, vi x5)] rfl (Nat.le_of_ble_eq_true rfl) (fun K O => ?_)
  have O : ZOk K cX1_feed RX1 "feed" 6 (some .int) 2 70 := O
  refine bs hr (fun _ hck hr => ?_)
  refine z_aload_n O 0 dX1_feed_0 rfl rfl ?_
  refine z_getI O o_Year_taped q461 dX1_feed_1 hr (fun v1 hr => ?_)
  refine z_bipush O dX1_feed_4 kbi_20 ?_
  refine z_iadd O dX1_feed_6 ?_
  refine z_sipush O dX1_feed_7 ksi_1000 ?_
  refine z_icmp_le (tgt := 15) O dX1_feed_10 (by decide) hr (fun hr => ?_) (fun hr => ?_)
  · refine z_aload_n O 0 dX1_feed_15 rfl rfl ?_
    refine z_iload_n O 1 dX1_feed_16 rfl rfl ?_
    refine bs hr (fun h2 hF hr => ?_)
    refine z_callVv O [vi x1] fV_X1_bytes q519 (fun l G => mX1_bytes l G N x0 x1 h _ hF) (zck hF) rfl rfl ⟨Nat.le_of_ble_eq_true rfl, Nat.le_of_ble_eq_true rfl⟩ (Nat.le_of_ble_eq_true rfl) dX1_feed_17 ?_
    refine z_aload_n O 0 dX1_feed_20 rfl rfl ?_
    refine z_iload_n O 2 dX1_feed_21 rfl rfl ?_
    refine bs hr (fun h3 hF hr => ?_)
    refine z_callVv O [vi x2] fV_X1_bytes q519 (fun l G => mX1_bytes l G N x0 x2 h2 _ hF) (zck hF) rfl rfl ⟨Nat.le_of_ble_eq_true rfl, Nat.le_of_ble_eq_true rfl⟩ (Nat.le_of_ble_eq_true rfl) dX1_feed_22 ?_
    refine z_aload_n O 0 dX1_feed_25 rfl rfl ?_
    refine z_iload_n O 3 dX1_feed_26 rfl rfl ?_
    refine bs hr (fun h4 hF hr => ?_)
    refine z_callVv O [vi x3] fV_X1_bytes q519 (fun l G => mX1_bytes l G N x0 x3 h3 _ hF) (zck hF) rfl rfl ⟨Nat.le_of_ble_eq_true rfl, Nat.le_of_ble_eq_true rfl⟩ (Nat.le_of_ble_eq_true rfl) dX1_feed_27 ?_
    refine z_aload_n O 0 dX1_feed_30 rfl rfl ?_
    refine z_iload O 4 dX1_feed_31 rfl ?_
    refine bs hr (fun h5 hF hr => ?_)
    refine z_callVv O [vi x4] fV_X1_bytes q519 (fun l G => mX1_bytes l G N x0 x4 h4 _ hF) (zck hF) rfl rfl ⟨Nat.le_of_ble_eq_true rfl, Nat.le_of_ble_eq_true rfl⟩ (Nat.le_of_ble_eq_true rfl) dX1_feed_33 ?_
    refine z_aload_n O 0 dX1_feed_36 rfl rfl ?_
    refine z_iload O 5 dX1_feed_37 rfl ?_
    refine bs hr (fun h6 hF hr => ?_)
    refine z_callVv O [vi x5] fV_X1_bytes q519 (fun l G => mX1_bytes l G N x0 x5 h5 _ hF) (zck hF) rfl rfl ⟨Nat.le_of_ble_eq_true rfl, Nat.le_of_ble_eq_true rfl⟩ (Nat.le_of_ble_eq_true rfl) dX1_feed_39 ?_
    refine z_aload_n O 0 dX1_feed_42 rfl rfl ?_
    refine z_getI O o_Year_taped q461 dX1_feed_43 hr (fun v7 hr => ?_)
    exact z_iret O dX1_feed_46 (by cases hr; rfl)
  · refine z_iconst O dX1_feed_13 kic_m1 ?_
    exact z_iret O dX1_feed_14 (by cases hr; rfl)
theorem fV_X4_isLivedIn : CVf RX4 yX4_isLivedIn cX4_isLivedIn 5 (some .boolean) 2 := ⟨q1562, q1563, q132, q1564, ⟨⟨by decide +kernel, by decide +kernel⟩, by decide +kernel⟩⟩
def BX4_isLivedIn_5 (N : Nat) (x0 : Option Nat) (x1 : Int32) (x2 : Int32) (h : AH) (rec5 : Int32 → Int32 → Option (Int32)) : Int32 → Int32 → Option (Int32) := fun x3 x4 =>
  (gR h f_Village_land x0).bind fun v1 =>
  (gI h f_Land_heirMany v1).bind fun v2 =>
  if v2 ≤ x4 then
    zb x3
  else
    if x3 = 0 then
      (gR h f_Village_land x0).bind fun v4 =>
      (gR h f_Land_heirs v4).bind fun v5 =>
      (aR h v5 x4).bind fun v6 =>
      (gI h f_Heir_house v6).bind fun v7 =>
      if v7 = x1 then
        (gR h f_Village_depth x0).bind fun v9 =>
        (aI h 0 v9 x4).bind fun v10 =>
        if v10 = x2 then
          jlet (x4 + (1 : Int32)) fun v12 =>
          rec5 (1 : Int32) v12
        else
          jlet (x4 + (1 : Int32)) fun v11 =>
          rec5 (0 : Int32) v11
      else
        jlet (x4 + (1 : Int32)) fun v8 =>
        rec5 (0 : Int32) v8
    else
      jlet (x4 + (1 : Int32)) fun v3 =>
      rec5 (1 : Int32) v3
def LX4_isLivedIn_5 (N : Nat) (x0 : Option Nat) (x1 : Int32) (x2 : Int32) (h : AH) : Int32 → Int32 → Option (Int32) := lf (fun _ _ => none) (BX4_isLivedIn_5 N x0 x1 x2 h) N
theorem wX4_isLivedIn_5B {K : ZC} (O : ZOk K cX4_isLivedIn RX4 "isLivedIn" 5 (some .boolean) 1 48) (N : Nat) (x0 : Option Nat) (x1 : Int32) (x2 : Int32) (h : AH) (rec5 : Int32 → Int32 → Option (Int32)) (hrec5 : ∀ (y3 : Int32) (y4 : Int32) (ry : Int32), rec5 y3 y4 = some ry → Zw K (eI h ry) h 5 [(0, vr x0), (1, vi x1), (2, vi x2), (3, vi y3), (4, vi y4)] []) (x3 : Int32) (x4 : Int32) (r : Int32) (hr : BX4_isLivedIn_5 N x0 x1 x2 h rec5 x3 x4 = some r) : Zw K (eI h r) h 5 [(0, vr x0), (1, vi x1), (2, vi x2), (3, vi x3), (4, vi x4)] [] := by
  unfold BX4_isLivedIn_5 at hr
  refine z_iload O 4 dX4_isLivedIn_5 rfl ?_
  refine z_aload_n O 0 dX4_isLivedIn_7 rfl rfl ?_
  refine z_getR O o_Village_land q344 dX4_isLivedIn_8 hr (fun v1 hr => ?_)
  refine z_getI O o_Land_heirMany q603 dX4_isLivedIn_11 hr (fun v2 hr => ?_)
  refine z_icmp_ge (tgt := 61) O dX4_isLivedIn_14 (by decide) hr (fun hr => ?_) (fun hr => ?_)
  · refine z_iload_n O 3 dX4_isLivedIn_61 rfl rfl ?_
    obtain ⟨e1, e2, -⟩ := zb_spec hr
    exact z_zret O e2 dX4_isLivedIn_62 (by cases e1; rfl)
  · refine z_iload_n O 3 dX4_isLivedIn_17 rfl rfl ?_
    refine z_if_ne (tgt := 49) O dX4_isLivedIn_18 (by decide) hr (fun hr => ?_) (fun hr => ?_)
    · refine z_aload_n O 0 dX4_isLivedIn_21 rfl rfl ?_
      refine z_getR O o_Village_land q344 dX4_isLivedIn_22 hr (fun v4 hr => ?_)
      refine z_getR O o_Land_heirs q573 dX4_isLivedIn_25 hr (fun v5 hr => ?_)
      refine z_iload O 4 dX4_isLivedIn_28 rfl ?_
      refine z_aaload O dX4_isLivedIn_30 hr (fun v6 hr => ?_)
      refine z_getI O o_Heir_house q1142 dX4_isLivedIn_31 hr (fun v7 hr => ?_)
      refine z_iload_n O 1 dX4_isLivedIn_34 rfl rfl ?_
      refine z_icmp_ne (tgt := 53) O dX4_isLivedIn_35 (by decide) hr (fun hr => ?_) (fun hr => ?_)
      · refine z_aload_n O 0 dX4_isLivedIn_38 rfl rfl ?_
        refine z_getR O o_Village_depth q339 dX4_isLivedIn_39 hr (fun v9 hr => ?_)
        refine z_iload O 4 dX4_isLivedIn_42 rfl ?_
        refine z_iaload O dX4_isLivedIn_44 hr (fun v10 hr => ?_)
        refine z_iload_n O 2 dX4_isLivedIn_45 rfl rfl ?_
        refine z_icmp_ne (tgt := 53) O dX4_isLivedIn_46 (by decide) hr (fun hr => ?_) (fun hr => ?_)
        · refine z_iconst O dX4_isLivedIn_49 kic_1 ?_
          refine z_goto (tgt := 54) O dX4_isLivedIn_50 (by decide) ?_
          refine z_istore_n O [(3, vi (1 : Int32)), (0, vr x0), (1, vi x1), (2, vi x2), (4, vi x4)] dX4_isLivedIn_54 rfl (by decide) rfl ?_
          refine z_iincL O 4 (fun v12 => [(4, vi v12), (3, vi (1 : Int32)), (0, vr x0), (1, vi x1), (2, vi x2)]) dX4_isLivedIn_55 rfl rfl (by decide) (fun _ => rfl) hr (fun v12 hr => ?_)
          refine z_goto (tgt := 5) O dX4_isLivedIn_58 (by decide) ?_
          refine z_sub [2, 3, 4, 1, 0] rfl ?_
          exact hrec5 (1 : Int32) v12 _ hr
        · refine z_iconst O dX4_isLivedIn_53 kic_0 ?_
          refine z_istore_n O [(3, vi (0 : Int32)), (0, vr x0), (1, vi x1), (2, vi x2), (4, vi x4)] dX4_isLivedIn_54 rfl (by decide) rfl ?_
          refine z_iincL O 4 (fun v11 => [(4, vi v11), (3, vi (0 : Int32)), (0, vr x0), (1, vi x1), (2, vi x2)]) dX4_isLivedIn_55 rfl rfl (by decide) (fun _ => rfl) hr (fun v11 hr => ?_)
          refine z_goto (tgt := 5) O dX4_isLivedIn_58 (by decide) ?_
          refine z_sub [2, 3, 4, 1, 0] rfl ?_
          exact hrec5 (0 : Int32) v11 _ hr
      · refine z_iconst O dX4_isLivedIn_53 kic_0 ?_
        refine z_istore_n O [(3, vi (0 : Int32)), (0, vr x0), (1, vi x1), (2, vi x2), (4, vi x4)] dX4_isLivedIn_54 rfl (by decide) rfl ?_
        refine z_iincL O 4 (fun v8 => [(4, vi v8), (3, vi (0 : Int32)), (0, vr x0), (1, vi x1), (2, vi x2)]) dX4_isLivedIn_55 rfl rfl (by decide) (fun _ => rfl) hr (fun v8 hr => ?_)
        refine z_goto (tgt := 5) O dX4_isLivedIn_58 (by decide) ?_
        refine z_sub [2, 3, 4, 1, 0] rfl ?_
        exact hrec5 (0 : Int32) v8 _ hr
    · refine z_iconst O dX4_isLivedIn_49 kic_1 ?_
      refine z_goto (tgt := 54) O dX4_isLivedIn_50 (by decide) ?_
      refine z_istore_n O [(3, vi (1 : Int32)), (0, vr x0), (1, vi x1), (2, vi x2), (4, vi x4)] dX4_isLivedIn_54 rfl (by decide) rfl ?_
      refine z_iincL O 4 (fun v3 => [(4, vi v3), (3, vi (1 : Int32)), (0, vr x0), (1, vi x1), (2, vi x2)]) dX4_isLivedIn_55 rfl rfl (by decide) (fun _ => rfl) hr (fun v3 hr => ?_)
      refine z_goto (tgt := 5) O dX4_isLivedIn_58 (by decide) ?_
      refine z_sub [2, 3, 4, 1, 0] rfl ?_
      exact hrec5 (1 : Int32) v3 _ hr
theorem wX4_isLivedIn_5 {K : ZC} (O : ZOk K cX4_isLivedIn RX4 "isLivedIn" 5 (some .boolean) 1 48) (N : Nat) (x0 : Option Nat) (x1 : Int32) (x2 : Int32) (h : AH) : ∀ (n : Nat) (x3 : Int32) (x4 : Int32) (r : Int32), lf (fun _ _ => none) (BX4_isLivedIn_5 N x0 x1 x2 h) n x3 x4 = some r → Zw K (eI h r) h 5 [(0, vr x0), (1, vi x1), (2, vi x2), (3, vi x3), (4, vi x4)] [] := by
  intro n
  induction n with
  | zero => intro x3 x4 r hr; cases hr
  | succ n ih => intro x3 x4 r hr; exact wX4_isLivedIn_5B O N x0 x1 x2 h (lf (fun _ _ => none) (BX4_isLivedIn_5 N x0 x1 x2 h) n)  ih x3 x4 r hr
def F_X4_isLivedIn (N : Nat) (x0 : Option Nat) (x1 : Int32) (x2 : Int32) (h : AH) : Option (Int32) :=
  (ck h [4] x0).bind fun _ =>
  LX4_isLivedIn_5 N x0 x1 x2 h (0 : Int32) (0 : Int32)
theorem mX4_isLivedIn (l : Launch) (G : ZG) (N : Nat) (x0 : Option Nat) (x1 : Int32) (x2 : Int32) (h : AH) (r : Int32) (hr : F_X4_isLivedIn N x0 x1 x2 h = some r) : MZ l G yX4_isLivedIn cX4_isLivedIn 5 (some .boolean) 1 48 [vr x0, vi x1, vi x2] h (eI h r) := by
  unfold F_X4_isLivedIn at hr
  refine MZ.of (by decide) [(0, vr x0), (1, vi x1), (2, vi x2)] rfl (Nat.le_of_ble_eq_true rfl) (fun K O => ?_)
  have O : ZOk K cX4_isLivedIn RX4 "isLivedIn" 5 (some .boolean) 1 48 := O
  refine bs hr (fun _ hck hr => ?_)
  refine z_iconst O dX4_isLivedIn_0 kic_0 ?_
  refine z_istore_n O [(3, vi (0 : Int32)), (0, vr x0), (1, vi x1), (2, vi x2)] dX4_isLivedIn_1 rfl (by decide) rfl ?_
  refine z_iconst O dX4_isLivedIn_2 kic_0 ?_
  refine z_istore O [(4, vi (0 : Int32)), (3, vi (0 : Int32)), (0, vr x0), (1, vi x1), (2, vi x2)] dX4_isLivedIn_3 (by decide) rfl ?_
  refine z_sub [2, 3, 4, 1, 0] rfl ?_
  exact wX4_isLivedIn_5 O N x0 x1 x2 h _ (0 : Int32) (0 : Int32) _ hr
theorem fV_X1_fill : CVf RX1 yX1_fill cX1_fill 3 (some .boolean) 2 := ⟨q1662, q1663, q126, q1664, ⟨⟨by decide +kernel, by decide +kernel⟩, by decide +kernel⟩⟩
def bX1_fill_49 (N : Nat) (x0 : Option Nat) (x1 : Int32) (x2 : Int32) (s0 : Option Nat) (s1 : Int32) (h : AH) : Option (Int32 × AH) :=
  b2 (F_X1_yes s0 s1 h) fun v2 h1 =>
  if v2 = 0 then
    (zb (0 : Int32)).bind fun v11 => some (v11, h1)
  else
    (F_X1_note N x0 h1).bind fun h3 =>
    (gR h3 f_Year_village x0).bind fun v4 =>
    (F_X4_house v4 x1 h3).bind fun v5 =>
    (F_X5_skin v5 x2 h3).bind fun v6 =>
    (pZ h3 f_Skin_filled v6 (1 : Int32)).bind fun h7 =>
    b2 (F_X1_done N x0 h7) fun v9 h8 =>
    (zb v9).bind fun v10 => some (v10, h8)
theorem wX1_fill_49 {K : ZC} (O : ZOk K cX1_fill RX1 "fill" 3 (some .boolean) 5 135) (N : Nat) (x0 : Option Nat) (x1 : Int32) (x2 : Int32) (s0 : Option Nat) (s1 : Int32) (h : AH) (r : Int32 × AH) (hr : bX1_fill_49 N x0 x1 x2 s0 s1 h = some r) : Zw K (eIH r) h 49 [(0, vr x0), (1, vi x1), (2, vi x2)] [vi s1, vr s0] := by
  unfold bX1_fill_49 at hr
  refine b2s hr (fun v2 h1 hF hr => ?_)
  refine z_callV O [vi s1] (vi v2) fV_X1_yes q1666 (fun l G => mX1_yes l G s0 s1 h _ hF) (zck hF) rfl rfl ⟨Nat.le_of_ble_eq_true rfl, Nat.le_of_ble_eq_true rfl⟩ (Nat.le_of_ble_eq_true rfl) dX1_fill_49 ?_
  refine z_if_ne (tgt := 57) O dX1_fill_52 (by decide) hr (fun hr => ?_) (fun hr => ?_)
  · refine z_iconst O dX1_fill_55 kic_0 ?_
    refine bs hr (fun v11 e0 hr => ?_)
    obtain ⟨e1, e2, -⟩ := zb_spec e0
    exact z_zret O e2 dX1_fill_56 (by cases hr; cases e1; rfl)
  · refine z_aload_n O 0 dX1_fill_57 rfl rfl ?_
    refine bs hr (fun h3 hF hr => ?_)
    refine z_callVv O [] fV_X1_note q1648 (fun l G => mX1_note l G N x0 h1 _ hF) (zck hF) rfl rfl ⟨Nat.le_of_ble_eq_true rfl, Nat.le_of_ble_eq_true rfl⟩ (Nat.le_of_ble_eq_true rfl) dX1_fill_58 ?_
    refine z_aload_n O 0 dX1_fill_61 rfl rfl ?_
    refine z_getR O o_Year_village q469 dX1_fill_62 hr (fun v4 hr => ?_)
    refine z_iload_n O 1 dX1_fill_65 rfl rfl ?_
    refine bs hr (fun v5 hF hr => ?_)
    refine z_callV O [vi x1] (vr v5) fV_X4_house q1249 (fun l G => mX4_house l G v4 x1 h3 _ hF) (zck hF) rfl rfl ⟨Nat.le_of_ble_eq_true rfl, Nat.le_of_ble_eq_true rfl⟩ (Nat.le_of_ble_eq_true rfl) dX1_fill_66 ?_
    refine z_iload_n O 2 dX1_fill_69 rfl rfl ?_
    refine bs hr (fun v6 hF hr => ?_)
    refine z_callV O [vi x2] (vr v6) fV_X5_skin q1286 (fun l G => mX5_skin l G v5 x2 h3 _ hF) (zck hF) rfl rfl ⟨Nat.le_of_ble_eq_true rfl, Nat.le_of_ble_eq_true rfl⟩ (Nat.le_of_ble_eq_true rfl) dX1_fill_70 ?_
    refine z_iconst O dX1_fill_73 kic_1 ?_
    refine z_putZ O o_Skin_filled (w_Skin_filled _) q288 dX1_fill_74 hr (fun h7 hr => ?_)
    refine z_aload_n O 0 dX1_fill_77 rfl rfl ?_
    refine b2s hr (fun v9 h8 hF hr => ?_)
    refine z_callV O [] (vi v9) fV_X1_done q1652 (fun l G => mX1_done l G N x0 h7 _ hF) (zck hF) rfl rfl ⟨Nat.le_of_ble_eq_true rfl, Nat.le_of_ble_eq_true rfl⟩ (Nat.le_of_ble_eq_true rfl) dX1_fill_78 ?_
    refine bs hr (fun v10 e0 hr => ?_)
    obtain ⟨e1, e2, -⟩ := zb_spec e0
    exact z_zret O e2 dX1_fill_81 (by cases hr; cases e1; rfl)
def F_X1_fill (N : Nat) (x0 : Option Nat) (x1 : Int32) (x2 : Int32) (h : AH) : Option (Int32 × AH) :=
  (ck h [1] x0).bind fun _ =>
  (F_X1_isSkin x0 x1 x2 h).bind fun v1 =>
  if v1 = 0 then
    bX1_fill_49 N x0 x1 x2 x0 (1 : Int32) h
  else
    (gR h f_Year_village x0).bind fun v2 =>
    (F_X4_house v2 x1 h).bind fun v3 =>
    (F_X5_skin v3 x2 h).bind fun v4 =>
    (F_X6_isOpen v4 h).bind fun v5 =>
    if v5 = 0 then
      bX1_fill_49 N x0 x1 x2 x0 (5 : Int32) h
    else
      (gR h f_Year_village x0).bind fun v6 =>
      (F_X4_isLivedIn N v6 x1 x2 h).bind fun v7 =>
      if v7 = 0 then
        bX1_fill_49 N x0 x1 x2 x0 (0 : Int32) h
      else
        bX1_fill_49 N x0 x1 x2 x0 (5 : Int32) h
theorem mX1_fill (l : Launch) (G : ZG) (N : Nat) (x0 : Option Nat) (x1 : Int32) (x2 : Int32) (h : AH) (r : Int32 × AH) (hr : F_X1_fill N x0 x1 x2 h = some r) : MZ l G yX1_fill cX1_fill 3 (some .boolean) 5 135 [vr x0, vi x1, vi x2] h (eIH r) := by
  unfold F_X1_fill at hr
  refine MZ.of (by decide) [(0, vr x0), (1, vi x1), (2, vi x2)] rfl (Nat.le_of_ble_eq_true rfl) (fun K O => ?_)
  have O : ZOk K cX1_fill RX1 "fill" 3 (some .boolean) 5 135 := O
  refine bs hr (fun _ hck hr => ?_)
  refine z_aload_n O 0 dX1_fill_0 rfl rfl ?_
  refine z_aload_n O 0 dX1_fill_1 rfl rfl ?_
  refine z_iload_n O 1 dX1_fill_2 rfl rfl ?_
  refine z_iload_n O 2 dX1_fill_3 rfl rfl ?_
  refine bs hr (fun v1 hF hr => ?_)
  refine z_callV O [vi x1, vi x2] (vi v1) fV_X1_isSkin q1278 (fun l G => mX1_isSkin l G x0 x1 x2 h _ hF) (zck hF) rfl rfl ⟨Nat.le_of_ble_eq_true rfl, Nat.le_of_ble_eq_true rfl⟩ (Nat.le_of_ble_eq_true rfl) dX1_fill_4 ?_
  refine z_if_ne (tgt := 14) O dX1_fill_7 (by decide) hr (fun hr => ?_) (fun hr => ?_)
  · refine z_iconst O dX1_fill_10 kic_1 ?_
    refine z_goto (tgt := 49) O dX1_fill_11 (by decide) ?_
    exact wX1_fill_49 O N x0 x1 x2 x0 (1 : Int32) h _ hr
  · refine z_aload_n O 0 dX1_fill_14 rfl rfl ?_
    refine z_getR O o_Year_village q469 dX1_fill_15 hr (fun v2 hr => ?_)
    refine z_iload_n O 1 dX1_fill_18 rfl rfl ?_
    refine bs hr (fun v3 hF hr => ?_)
    refine z_callV O [vi x1] (vr v3) fV_X4_house q1249 (fun l G => mX4_house l G v2 x1 h _ hF) (zck hF) rfl rfl ⟨Nat.le_of_ble_eq_true rfl, Nat.le_of_ble_eq_true rfl⟩ (Nat.le_of_ble_eq_true rfl) dX1_fill_19 ?_
    refine z_iload_n O 2 dX1_fill_22 rfl rfl ?_
    refine bs hr (fun v4 hF hr => ?_)
    refine z_callV O [vi x2] (vr v4) fV_X5_skin q1286 (fun l G => mX5_skin l G v3 x2 h _ hF) (zck hF) rfl rfl ⟨Nat.le_of_ble_eq_true rfl, Nat.le_of_ble_eq_true rfl⟩ (Nat.le_of_ble_eq_true rfl) dX1_fill_23 ?_
    refine bs hr (fun v5 hF hr => ?_)
    refine z_callV O [] (vi v5) fV_X6_isOpen q1665 (fun l G => mX6_isOpen l G v4 h _ hF) (zck hF) rfl rfl ⟨Nat.le_of_ble_eq_true rfl, Nat.le_of_ble_eq_true rfl⟩ (Nat.le_of_ble_eq_true rfl) dX1_fill_26 ?_
    refine z_if_eq (tgt := 44) O dX1_fill_29 (by decide) hr (fun hr => ?_) (fun hr => ?_)
    · refine z_iconst O dX1_fill_44 kic_5 ?_
      refine z_goto (tgt := 49) O dX1_fill_45 (by decide) ?_
      exact wX1_fill_49 O N x0 x1 x2 x0 (5 : Int32) h _ hr
    · refine z_aload_n O 0 dX1_fill_32 rfl rfl ?_
      refine z_getR O o_Year_village q469 dX1_fill_33 hr (fun v6 hr => ?_)
      refine z_iload_n O 1 dX1_fill_36 rfl rfl ?_
      refine z_iload_n O 2 dX1_fill_37 rfl rfl ?_
      refine bs hr (fun v7 hF hr => ?_)
      refine z_callV O [vi x1, vi x2] (vi v7) fV_X4_isLivedIn q1561 (fun l G => mX4_isLivedIn l G N v6 x1 x2 h _ hF) (zck hF) rfl rfl ⟨Nat.le_of_ble_eq_true rfl, Nat.le_of_ble_eq_true rfl⟩ (Nat.le_of_ble_eq_true rfl) dX1_fill_38 ?_
      refine z_if_eq (tgt := 48) O dX1_fill_41 (by decide) hr (fun hr => ?_) (fun hr => ?_)
      · refine z_iconst O dX1_fill_48 kic_0 ?_
        exact wX1_fill_49 O N x0 x1 x2 x0 (0 : Int32) h _ hr
      · refine z_iconst O dX1_fill_44 kic_5 ?_
        refine z_goto (tgt := 49) O dX1_fill_45 (by decide) ?_
        exact wX1_fill_49 O N x0 x1 x2 x0 (5 : Int32) h _ hr
theorem fV_X1_tries : CVf RX1 yX1_tries cX1_tries 6 (some .boolean) 2 := ⟨q1529, qs50, q126, q1530, ⟨⟨by decide +kernel, by decide +kernel⟩, by decide +kernel⟩⟩
def BX1_tries_10 (N : Nat) (x0 : Option Nat) (x2 : Int32) (rec10 : Int32 → Int32 → Int32 → AH → Option (Int32 × AH)) : Int32 → Int32 → Int32 → AH → Option (Int32 × AH) := fun x3 x4 x5 h =>
  if x5 < 0 then
    (gR h f_Year_trial x0).bind fun v1 =>
    (gR h f_Year_village x0).bind fun v2 =>
    (F_X4_become N v1 v2 h).bind fun h3 =>
    if x4 = (((1 : Int32) <<< (x2 &&& 31)) - (1 : Int32)) then
      (zb (1 : Int32)).bind fun v5 => some (v5, h3)
    else
      (zb (0 : Int32)).bind fun v4 => some (v4, h3)
  else
    (gR h f_Year_trial x0).bind fun v6 =>
    (gR h f_Village_order v6).bind fun v7 =>
    (rm x3 x2).bind fun v8 =>
    (sA h 0 v7 x5 v8).bind fun h9 =>
    (rm x3 x2).bind fun v10 =>
    jlet (x4 ||| ((1 : Int32) <<< (v10 &&& 31))) fun v11 =>
    (dv x3 x2).bind fun v12 =>
    jlet (x5 + (-1 : Int32)) fun v13 =>
    rec10 v12 v11 v13 h9
def LX1_tries_10 (N : Nat) (x0 : Option Nat) (x2 : Int32) : Int32 → Int32 → Int32 → AH → Option (Int32 × AH) := lf (fun _ _ _ _ => none) (BX1_tries_10 N x0 x2) N
theorem wX1_tries_10B {K : ZC} (O : ZOk K cX1_tries RX1 "tries" 6 (some .boolean) 4 113) (N : Nat) (x0 : Option Nat) (x2 : Int32) (rec10 : Int32 → Int32 → Int32 → AH → Option (Int32 × AH)) (hrec10 : ∀ (y3 : Int32) (y4 : Int32) (y5 : Int32) (hy : AH) (ry : Int32 × AH), rec10 y3 y4 y5 hy = some ry → Zw K (eIH ry) hy 10 [(0, vr x0), (2, vi x2), (3, vi y3), (4, vi y4), (5, vi y5)] []) (x3 : Int32) (x4 : Int32) (x5 : Int32) (h : AH) (r : Int32 × AH) (hr : BX1_tries_10 N x0 x2 rec10 x3 x4 x5 h = some r) : Zw K (eIH r) h 10 [(0, vr x0), (2, vi x2), (3, vi x3), (4, vi x4), (5, vi x5)] [] := by
  unfold BX1_tries_10 at hr
  refine z_iload O 4 dX1_tries_10 rfl ?_
  refine z_if_lt (tgt := 48) O dX1_tries_12 (by decide) hr (fun hr => ?_) (fun hr => ?_)
  · refine z_aload_n O 0 dX1_tries_48 rfl rfl ?_
    refine z_getR O o_Year_trial q471 dX1_tries_49 hr (fun v1 hr => ?_)
    refine z_aload_n O 0 dX1_tries_52 rfl rfl ?_
    refine z_getR O o_Year_village q469 dX1_tries_53 hr (fun v2 hr => ?_)
    refine bs hr (fun h3 hF hr => ?_)
    refine z_callVv O [vr v2] fV_X4_become q1199 (fun l G => mX4_become l G N v1 v2 h _ hF) (zck hF) rfl rfl ⟨Nat.le_of_ble_eq_true rfl, Nat.le_of_ble_eq_true rfl⟩ (Nat.le_of_ble_eq_true rfl) dX1_tries_56 ?_
    refine z_iload O 3 dX1_tries_59 rfl ?_
    refine z_iconst O dX1_tries_61 kic_1 ?_
    refine z_iload_n O 1 dX1_tries_62 rfl rfl ?_
    refine z_ishl O dX1_tries_63 ?_
    refine z_iconst O dX1_tries_64 kic_1 ?_
    refine z_isub O dX1_tries_65 ?_
    refine z_icmp_ne (tgt := 73) O dX1_tries_66 (by decide) hr (fun hr => ?_) (fun hr => ?_)
    · refine z_iconst O dX1_tries_69 kic_1 ?_
      refine z_goto (tgt := 74) O dX1_tries_70 (by decide) ?_
      refine bs hr (fun v5 e0 hr => ?_)
      obtain ⟨e1, e2, -⟩ := zb_spec e0
      exact z_zret O e2 dX1_tries_74 (by cases hr; cases e1; rfl)
    · refine z_iconst O dX1_tries_73 kic_0 ?_
      refine bs hr (fun v4 e0 hr => ?_)
      obtain ⟨e1, e2, -⟩ := zb_spec e0
      exact z_zret O e2 dX1_tries_74 (by cases hr; cases e1; rfl)
  · refine z_aload_n O 0 dX1_tries_15 rfl rfl ?_
    refine z_getR O o_Year_trial q471 dX1_tries_16 hr (fun v6 hr => ?_)
    refine z_getR O o_Village_order q343 dX1_tries_19 hr (fun v7 hr => ?_)
    refine z_iload O 4 dX1_tries_22 rfl ?_
    refine z_iload_n O 2 dX1_tries_24 rfl rfl ?_
    refine z_iload_n O 1 dX1_tries_25 rfl rfl ?_
    refine z_irem O dX1_tries_26 hr (fun v8 hr => ?_)
    refine z_iastore O dX1_tries_27 hr (fun h9 hr => ?_)
    refine z_iload O 3 dX1_tries_28 rfl ?_
    refine z_iconst O dX1_tries_30 kic_1 ?_
    refine z_iload_n O 2 dX1_tries_31 rfl rfl ?_
    refine z_iload_n O 1 dX1_tries_32 rfl rfl ?_
    refine z_irem O dX1_tries_33 hr (fun v10 hr => ?_)
    refine z_ishl O dX1_tries_34 ?_
    refine z_ior O dX1_tries_35 ?_
    refine z_letI hr (fun v11 hr => ?_)
    refine z_istore O [(4, vi v11), (0, vr x0), (2, vi x2), (3, vi x3), (5, vi x5)] dX1_tries_36 (by decide) rfl ?_
    refine z_iload_n O 3 dX1_tries_38 rfl rfl ?_
    refine z_iload_n O 2 dX1_tries_39 rfl rfl ?_
    refine z_idiv O dX1_tries_40 hr (fun v12 hr => ?_)
    refine z_istore_n O [(3, vi v12), (4, vi v11), (0, vr x0), (2, vi x2), (5, vi x5)] dX1_tries_41 rfl (by decide) rfl ?_
    refine z_iincL O 4 (fun v13 => [(5, vi v13), (3, vi v12), (4, vi v11), (0, vr x0), (2, vi x2)]) dX1_tries_42 rfl rfl (by decide) (fun _ => rfl) hr (fun v13 hr => ?_)
    refine z_goto (tgt := 10) O dX1_tries_45 (by decide) ?_
    refine z_sub [3, 4, 1, 2, 0] rfl ?_
    exact hrec10 v12 v11 v13 h9 _ hr
theorem wX1_tries_10 {K : ZC} (O : ZOk K cX1_tries RX1 "tries" 6 (some .boolean) 4 113) (N : Nat) (x0 : Option Nat) (x2 : Int32) : ∀ (n : Nat) (x3 : Int32) (x4 : Int32) (x5 : Int32) (h : AH) (r : Int32 × AH), lf (fun _ _ _ _ => none) (BX1_tries_10 N x0 x2) n x3 x4 x5 h = some r → Zw K (eIH r) h 10 [(0, vr x0), (2, vi x2), (3, vi x3), (4, vi x4), (5, vi x5)] [] := by
  intro n
  induction n with
  | zero => intro x3 x4 x5 h r hr; cases hr
  | succ n ih => intro x3 x4 x5 h r hr; exact wX1_tries_10B O N x0 x2 (lf (fun _ _ _ _ => none) (BX1_tries_10 N x0 x2) n)  ih x3 x4 x5 h r hr
def F_X1_tries (N : Nat) (x0 : Option Nat) (x1 : Int32) (x2 : Int32) (h : AH) : Option (Int32 × AH) :=
  (ck h [1] x0).bind fun _ =>
  jlet (x2 - (1 : Int32)) fun v1 =>
  LX1_tries_10 N x0 x2 x1 (0 : Int32) v1 h
theorem mX1_tries (l : Launch) (G : ZG) (N : Nat) (x0 : Option Nat) (x1 : Int32) (x2 : Int32) (h : AH) (r : Int32 × AH) (hr : F_X1_tries N x0 x1 x2 h = some r) : MZ l G yX1_tries cX1_tries 6 (some .boolean) 4 113 [vr x0, vi x1, vi x2] h (eIH r) := by
  unfold F_X1_tries at hr
  refine MZ.of (by decide) [(0, vr x0), (1, vi x1), (2, vi x2)] rfl (Nat.le_of_ble_eq_true rfl) (fun K O => ?_)
  have O : ZOk K cX1_tries RX1 "tries" 6 (some .boolean) 4 113 := O
  refine bs hr (fun _ hck hr => ?_)
  refine z_iload_n O 1 dX1_tries_0 rfl rfl ?_
  refine z_istore_n O [(3, vi x1), (0, vr x0), (1, vi x1), (2, vi x2)] dX1_tries_1 rfl (by decide) rfl ?_
  refine z_iconst O dX1_tries_2 kic_0 ?_
  refine z_istore O [(4, vi (0 : Int32)), (3, vi x1), (0, vr x0), (1, vi x1), (2, vi x2)] dX1_tries_3 (by decide) rfl ?_
  refine z_iload_n O 4 dX1_tries_5 rfl rfl ?_
  refine z_iconst O dX1_tries_6 kic_1 ?_
  refine z_isub O dX1_tries_7 ?_
  refine z_letI hr (fun v1 hr => ?_)
  refine z_istore O [(5, vi v1), (4, vi (0 : Int32)), (3, vi x1), (0, vr x0), (1, vi x1), (2, vi x2)] dX1_tries_8 (by decide) rfl ?_
  refine z_sub [3, 5, 2, 1, 0] rfl ?_
  exact wX1_tries_10 O N x0 x2 _ x1 (0 : Int32) v1 h _ hr
theorem fV_X4_goesOnFor : CVf RX4 yX4_goesOnFor cX4_goesOnFor 3 (none : Option Jvm.ClassFile.FieldType) 1 := ⟨q1440, q1441, q132, q1442, ⟨⟨by decide +kernel, by decide +kernel⟩, by decide +kernel⟩⟩
def BX4_goesOnFor_2 (N : Nat) (x0 : Option Nat) (x1 : Int32) (rec2 : Int32 → AH → Option (AH)) : Int32 → AH → Option (AH) := fun x2 h =>
  if x1 ≤ x2 then
    some h
  else
    (F_X4_goesOn N x0 h).bind fun h1 =>
    jlet (x2 + (1 : Int32)) fun v2 =>
    rec2 v2 h1
def LX4_goesOnFor_2 (N : Nat) (x0 : Option Nat) (x1 : Int32) : Int32 → AH → Option (AH) := lf (fun _ _ => none) (BX4_goesOnFor_2 N x0 x1) N
theorem wX4_goesOnFor_2B {K : ZC} (O : ZOk K cX4_goesOnFor RX4 "goesOnFor" 3 (none : Option Jvm.ClassFile.FieldType) 10 257) (N : Nat) (x0 : Option Nat) (x1 : Int32) (rec2 : Int32 → AH → Option (AH)) (hrec2 : ∀ (y2 : Int32) (hy : AH) (ry : AH), rec2 y2 hy = some ry → Zw K (eH ry) hy 2 [(0, vr x0), (1, vi x1), (2, vi y2)] []) (x2 : Int32) (h : AH) (r : AH) (hr : BX4_goesOnFor_2 N x0 x1 rec2 x2 h = some r) : Zw K (eH r) h 2 [(0, vr x0), (1, vi x1), (2, vi x2)] [] := by
  unfold BX4_goesOnFor_2 at hr
  refine z_iload_n O 2 dX4_goesOnFor_2 rfl rfl ?_
  refine z_iload_n O 1 dX4_goesOnFor_3 rfl rfl ?_
  refine z_icmp_ge (tgt := 17) O dX4_goesOnFor_4 (by decide) hr (fun hr => ?_) (fun hr => ?_)
  · exact z_vret O dX4_goesOnFor_17 (by cases hr; rfl)
  · refine z_aload_n O 0 dX4_goesOnFor_7 rfl rfl ?_
    refine bs hr (fun h1 hF hr => ?_)
    refine z_callVv O [] fV_X4_goesOn q1443 (fun l G => mX4_goesOn l G N x0 h _ hF) (zck hF) rfl rfl ⟨Nat.le_of_ble_eq_true rfl, Nat.le_of_ble_eq_true rfl⟩ (Nat.le_of_ble_eq_true rfl) dX4_goesOnFor_8 ?_
    refine z_iincL O 2 (fun v2 => [(2, vi v2), (0, vr x0), (1, vi x1)]) dX4_goesOnFor_11 rfl rfl (by decide) (fun _ => rfl) hr (fun v2 hr => ?_)
    refine z_goto (tgt := 2) O dX4_goesOnFor_14 (by decide) ?_
    refine z_sub [1, 2, 0] rfl ?_
    exact hrec2 v2 h1 _ hr
theorem wX4_goesOnFor_2 {K : ZC} (O : ZOk K cX4_goesOnFor RX4 "goesOnFor" 3 (none : Option Jvm.ClassFile.FieldType) 10 257) (N : Nat) (x0 : Option Nat) (x1 : Int32) : ∀ (n : Nat) (x2 : Int32) (h : AH) (r : AH), lf (fun _ _ => none) (BX4_goesOnFor_2 N x0 x1) n x2 h = some r → Zw K (eH r) h 2 [(0, vr x0), (1, vi x1), (2, vi x2)] [] := by
  intro n
  induction n with
  | zero => intro x2 h r hr; cases hr
  | succ n ih => intro x2 h r hr; exact wX4_goesOnFor_2B O N x0 x1 (lf (fun _ _ => none) (BX4_goesOnFor_2 N x0 x1) n)  ih x2 h r hr
def F_X4_goesOnFor (N : Nat) (x0 : Option Nat) (x1 : Int32) (h : AH) : Option (AH) :=
  (ck h [4] x0).bind fun _ =>
  LX4_goesOnFor_2 N x0 x1 (0 : Int32) h
theorem mX4_goesOnFor (l : Launch) (G : ZG) (N : Nat) (x0 : Option Nat) (x1 : Int32) (h : AH) (r : AH) (hr : F_X4_goesOnFor N x0 x1 h = some r) : MZ l G yX4_goesOnFor cX4_goesOnFor 3 (none : Option Jvm.ClassFile.FieldType) 10 257 [vr x0, vi x1] h (eH r) := by
  unfold F_X4_goesOnFor at hr
  refine MZ.of (by decide) [(0, vr x0), (1, vi x1)] rfl (Nat.le_of_ble_eq_true rfl) (fun K O => ?_)
  have O : ZOk K cX4_goesOnFor RX4 "goesOnFor" 3 (none : Option Jvm.ClassFile.FieldType) 10 257 := O
  refine bs hr (fun _ hck hr => ?_)
  refine z_iconst O dX4_goesOnFor_0 kic_0 ?_
  refine z_istore_n O [(2, vi (0 : Int32)), (0, vr x0), (1, vi x1)] dX4_goesOnFor_1 rfl (by decide) rfl ?_
  refine z_sub [1, 2, 0] rfl ?_
  exact wX4_goesOnFor_2 O N x0 x1 _ (0 : Int32) h _ hr
theorem fV_X4_skins : CVf RX4 yX4_skins cX4_skins 3 (some .int) 0 := ⟨q1498, q1499, q132, q1500, ⟨⟨by decide +kernel, by decide +kernel⟩, by decide +kernel⟩⟩
def BX4_skins_4 (N : Nat) (x0 : Option Nat) (h : AH) (rec4 : Int32 → Int32 → Option (Int32)) : Int32 → Int32 → Option (Int32) := fun x1 x2 =>
  (gI h f_Village_many x0).bind fun v1 =>
  if v1 ≤ x2 then
    some x1
  else
    (gR h f_Village_houses x0).bind fun v2 =>
    (aR h v2 x2).bind fun v3 =>
    (gI h f_House_many v3).bind fun v4 =>
    jlet (x1 + v4) fun v5 =>
    jlet (x2 + (1 : Int32)) fun v6 =>
    rec4 v5 v6
def LX4_skins_4 (N : Nat) (x0 : Option Nat) (h : AH) : Int32 → Int32 → Option (Int32) := lf (fun _ _ => none) (BX4_skins_4 N x0 h) N
theorem wX4_skins_4B {K : ZC} (O : ZOk K cX4_skins RX4 "skins" 3 (some .int) 1 48) (N : Nat) (x0 : Option Nat) (h : AH) (rec4 : Int32 → Int32 → Option (Int32)) (hrec4 : ∀ (y1 : Int32) (y2 : Int32) (ry : Int32), rec4 y1 y2 = some ry → Zw K (eI h ry) h 4 [(0, vr x0), (1, vi y1), (2, vi y2)] []) (x1 : Int32) (x2 : Int32) (r : Int32) (hr : BX4_skins_4 N x0 h rec4 x1 x2 = some r) : Zw K (eI h r) h 4 [(0, vr x0), (1, vi x1), (2, vi x2)] [] := by
  unfold BX4_skins_4 at hr
  refine z_iload_n O 2 dX4_skins_4 rfl rfl ?_
  refine z_aload_n O 0 dX4_skins_5 rfl rfl ?_
  refine z_getI O o_Village_many q345 dX4_skins_6 hr (fun v1 hr => ?_)
  refine z_icmp_ge (tgt := 30) O dX4_skins_9 (by decide) hr (fun hr => ?_) (fun hr => ?_)
  · refine z_iload_n O 1 dX4_skins_30 rfl rfl ?_
    exact z_iret O dX4_skins_31 (by cases hr; rfl)
  · refine z_iload_n O 1 dX4_skins_12 rfl rfl ?_
    refine z_aload_n O 0 dX4_skins_13 rfl rfl ?_
    refine z_getR O o_Village_houses q337 dX4_skins_14 hr (fun v2 hr => ?_)
    refine z_iload_n O 2 dX4_skins_17 rfl rfl ?_
    refine z_aaload O dX4_skins_18 hr (fun v3 hr => ?_)
    refine z_getI O o_House_many q313 dX4_skins_19 hr (fun v4 hr => ?_)
    refine z_iadd O dX4_skins_22 ?_
    refine z_letI hr (fun v5 hr => ?_)
    refine z_istore_n O [(1, vi v5), (0, vr x0), (2, vi x2)] dX4_skins_23 rfl (by decide) rfl ?_
    refine z_iincL O 2 (fun v6 => [(2, vi v6), (1, vi v5), (0, vr x0)]) dX4_skins_24 rfl rfl (by decide) (fun _ => rfl) hr (fun v6 hr => ?_)
    refine z_goto (tgt := 4) O dX4_skins_27 (by decide) ?_
    refine z_sub [2, 1, 0] rfl ?_
    exact hrec4 v5 v6 _ hr
theorem wX4_skins_4 {K : ZC} (O : ZOk K cX4_skins RX4 "skins" 3 (some .int) 1 48) (N : Nat) (x0 : Option Nat) (h : AH) : ∀ (n : Nat) (x1 : Int32) (x2 : Int32) (r : Int32), lf (fun _ _ => none) (BX4_skins_4 N x0 h) n x1 x2 = some r → Zw K (eI h r) h 4 [(0, vr x0), (1, vi x1), (2, vi x2)] [] := by
  intro n
  induction n with
  | zero => intro x1 x2 r hr; cases hr
  | succ n ih => intro x1 x2 r hr; exact wX4_skins_4B O N x0 h (lf (fun _ _ => none) (BX4_skins_4 N x0 h) n)  ih x1 x2 r hr
def F_X4_skins (N : Nat) (x0 : Option Nat) (h : AH) : Option (Int32) :=
  (ck h [4] x0).bind fun _ =>
  LX4_skins_4 N x0 h (0 : Int32) (0 : Int32)
theorem mX4_skins (l : Launch) (G : ZG) (N : Nat) (x0 : Option Nat) (h : AH) (r : Int32) (hr : F_X4_skins N x0 h = some r) : MZ l G yX4_skins cX4_skins 3 (some .int) 1 48 [vr x0] h (eI h r) := by
  unfold F_X4_skins at hr
  refine MZ.of (by decide) [(0, vr x0)] rfl (Nat.le_of_ble_eq_true rfl) (fun K O => ?_)
  have O : ZOk K cX4_skins RX4 "skins" 3 (some .int) 1 48 := O
  refine bs hr (fun _ hck hr => ?_)
  refine z_iconst O dX4_skins_0 kic_0 ?_
  refine z_istore_n O [(1, vi (0 : Int32)), (0, vr x0)] dX4_skins_1 rfl (by decide) rfl ?_
  refine z_iconst O dX4_skins_2 kic_0 ?_
  refine z_istore_n O [(2, vi (0 : Int32)), (1, vi (0 : Int32)), (0, vr x0)] dX4_skins_3 rfl (by decide) rfl ?_
  refine z_sub [2, 1, 0] rfl ?_
  exact wX4_skins_4 O N x0 h _ (0 : Int32) (0 : Int32) _ hr
theorem fV_X4_straight : CVf RX4 yX4_straight cX4_straight 2 (none : Option Jvm.ClassFile.FieldType) 0 := ⟨q334, q335, q132, q336, ⟨⟨by decide +kernel, by decide +kernel⟩, by decide +kernel⟩⟩
def BX4_straight_2 (N : Nat) (x0 : Option Nat) (rec2 : Int32 → AH → Option (AH)) : Int32 → AH → Option (AH) := fun x1 h =>
  if (4 : Int32) ≤ x1 then
    some h
  else
    (gR h f_Village_order x0).bind fun v1 =>
    (sA h 0 v1 x1 x1).bind fun h2 =>
    jlet (x1 + (1 : Int32)) fun v3 =>
    rec2 v3 h2
def LX4_straight_2 (N : Nat) (x0 : Option Nat) : Int32 → AH → Option (AH) := lf (fun _ _ => none) (BX4_straight_2 N x0) N
theorem wX4_straight_2B {K : ZC} (O : ZOk K cX4_straight RX4 "straight" 2 (none : Option Jvm.ClassFile.FieldType) 1 48) (N : Nat) (x0 : Option Nat) (rec2 : Int32 → AH → Option (AH)) (hrec2 : ∀ (y1 : Int32) (hy : AH) (ry : AH), rec2 y1 hy = some ry → Zw K (eH ry) hy 2 [(0, vr x0), (1, vi y1)] []) (x1 : Int32) (h : AH) (r : AH) (hr : BX4_straight_2 N x0 rec2 x1 h = some r) : Zw K (eH r) h 2 [(0, vr x0), (1, vi x1)] [] := by
  unfold BX4_straight_2 at hr
  refine z_iload_n O 1 dX4_straight_2 rfl rfl ?_
  refine z_iconst O dX4_straight_3 kic_4 ?_
  refine z_icmp_ge (tgt := 20) O dX4_straight_4 (by decide) hr (fun hr => ?_) (fun hr => ?_)
  · exact z_vret O dX4_straight_20 (by cases hr; rfl)
  · refine z_aload_n O 0 dX4_straight_7 rfl rfl ?_
    refine z_getR O o_Village_order q342 dX4_straight_8 hr (fun v1 hr => ?_)
    refine z_iload_n O 1 dX4_straight_11 rfl rfl ?_
    refine z_iload_n O 1 dX4_straight_12 rfl rfl ?_
    refine z_iastore O dX4_straight_13 hr (fun h2 hr => ?_)
    refine z_iincL O 1 (fun v3 => [(1, vi v3), (0, vr x0)]) dX4_straight_14 rfl rfl (by decide) (fun _ => rfl) hr (fun v3 hr => ?_)
    refine z_goto (tgt := 2) O dX4_straight_17 (by decide) ?_
    refine z_sub [1, 0] rfl ?_
    exact hrec2 v3 h2 _ hr
theorem wX4_straight_2 {K : ZC} (O : ZOk K cX4_straight RX4 "straight" 2 (none : Option Jvm.ClassFile.FieldType) 1 48) (N : Nat) (x0 : Option Nat) : ∀ (n : Nat) (x1 : Int32) (h : AH) (r : AH), lf (fun _ _ => none) (BX4_straight_2 N x0) n x1 h = some r → Zw K (eH r) h 2 [(0, vr x0), (1, vi x1)] [] := by
  intro n
  induction n with
  | zero => intro x1 h r hr; cases hr
  | succ n ih => intro x1 h r hr; exact wX4_straight_2B O N x0 (lf (fun _ _ => none) (BX4_straight_2 N x0) n)  ih x1 h r hr
def F_X4_straight (N : Nat) (x0 : Option Nat) (h : AH) : Option (AH) :=
  (ck h [4] x0).bind fun _ =>
  LX4_straight_2 N x0 (0 : Int32) h
theorem mX4_straight (l : Launch) (G : ZG) (N : Nat) (x0 : Option Nat) (h : AH) (r : AH) (hr : F_X4_straight N x0 h = some r) : MZ l G yX4_straight cX4_straight 2 (none : Option Jvm.ClassFile.FieldType) 1 48 [vr x0] h (eH r) := by
  unfold F_X4_straight at hr
  refine MZ.of (by decide) [(0, vr x0)] rfl (Nat.le_of_ble_eq_true rfl) (fun K O => ?_)
  have O : ZOk K cX4_straight RX4 "straight" 2 (none : Option Jvm.ClassFile.FieldType) 1 48 := O
  refine bs hr (fun _ hck hr => ?_)
  refine z_iconst O dX4_straight_0 kic_0 ?_
  refine z_istore_n O [(1, vi (0 : Int32)), (0, vr x0)] dX4_straight_1 rfl (by decide) rfl ?_
  refine z_sub [1, 0] rfl ?_
  exact wX4_straight_2 O N x0 _ (0 : Int32) h _ hr
theorem fV_X1_firstWhy : CVf RX1 yX1_firstWhy cX1_firstWhy 5 (some .int) 1 := ⟨q1525, qs49, q126, q1526, ⟨⟨by decide +kernel, by decide +kernel⟩, by decide +kernel⟩⟩
def BX1_firstWhy_58 (N : Nat) (x0 : Option Nat) (x1 : Int32) (x2 : Int32) (x3 : Int32) (rec58 : Int32 → AH → Option (Int32 × AH)) : Int32 → AH → Option (Int32 × AH) := fun x4 h =>
  if x3 ≤ x4 then
    (gR h f_Year_trial x0).bind fun v1 =>
    (F_X4_straight N v1 h).bind fun h2 =>
    some ((0 : Int32), h2)
  else
    b2 (F_X1_tries N x0 x4 x2 h) fun v4 h3 =>
    if v4 = 0 then
      jlet (x4 + (1 : Int32)) fun v19 =>
      rec58 v19 h3
    else
      (gR h3 f_Year_trial x0).bind fun v5 =>
      (F_X4_goesOnFor N v5 x1 h3).bind fun h6 =>
      (gR h6 f_Year_trial x0).bind fun v7 =>
      (F_X4_skins N v7 h6).bind fun v8 =>
      (gI h6 f_Year_firstMost x0).bind fun v9 =>
      if v9 < v8 then
        (gR h6 f_Year_trial x0).bind fun v10 =>
        (F_X4_skins N v10 h6).bind fun v11 =>
        (pI h6 f_Year_firstMost x0 v11).bind fun h12 =>
        (gR h12 f_Year_trial x0).bind fun v13 =>
        (gR h12 f_Village_order v13).bind fun v14 =>
        (gR h12 f_Year_firstOrder x0).bind fun v15 =>
        (aC h12 v14 (0 : Int32) v15 (0 : Int32) x2).bind fun h16 =>
        jlet (x4 + (1 : Int32)) fun v17 =>
        rec58 v17 h16
      else
        jlet (x4 + (1 : Int32)) fun v18 =>
        rec58 v18 h6
def LX1_firstWhy_58 (N : Nat) (x0 : Option Nat) (x1 : Int32) (x2 : Int32) (x3 : Int32) : Int32 → AH → Option (Int32 × AH) := lf (fun _ _ => none) (BX1_firstWhy_58 N x0 x1 x2 x3) N
theorem wX1_firstWhy_58B {K : ZC} (O : ZOk K cX1_firstWhy RX1 "firstWhy" 5 (some .int) 11 279) (N : Nat) (x0 : Option Nat) (x1 : Int32) (x2 : Int32) (x3 : Int32) (rec58 : Int32 → AH → Option (Int32 × AH)) (hrec58 : ∀ (y4 : Int32) (hy : AH) (ry : Int32 × AH), rec58 y4 hy = some ry → Zw K (eIH ry) hy 58 [(0, vr x0), (1, vi x1), (2, vi x2), (3, vi x3), (4, vi y4)] []) (x4 : Int32) (h : AH) (r : Int32 × AH) (hr : BX1_firstWhy_58 N x0 x1 x2 x3 rec58 x4 h = some r) : Zw K (eIH r) h 58 [(0, vr x0), (1, vi x1), (2, vi x2), (3, vi x3), (4, vi x4)] [] := by
  unfold BX1_firstWhy_58 at hr
  refine z_iload O 4 dX1_firstWhy_58 rfl ?_
  refine z_iload_n O 3 dX1_firstWhy_60 rfl rfl ?_
  refine z_icmp_ge (tgt := 136) O dX1_firstWhy_61 (by decide) hr (fun hr => ?_) (fun hr => ?_)
  · refine z_aload_n O 0 dX1_firstWhy_136 rfl rfl ?_
    refine z_getR O o_Year_trial q471 dX1_firstWhy_137 hr (fun v1 hr => ?_)
    refine bs hr (fun h2 hF hr => ?_)
    refine z_callVv O [] fV_X4_straight q1532 (fun l G => mX4_straight l G N v1 h _ hF) (zck hF) rfl rfl ⟨Nat.le_of_ble_eq_true rfl, Nat.le_of_ble_eq_true rfl⟩ (Nat.le_of_ble_eq_true rfl) dX1_firstWhy_140 ?_
    refine z_iconst O dX1_firstWhy_143 kic_0 ?_
    exact z_iret O dX1_firstWhy_144 (by cases hr; rfl)
  · refine z_aload_n O 0 dX1_firstWhy_64 rfl rfl ?_
    refine z_iload O 4 dX1_firstWhy_65 rfl ?_
    refine z_iload_n O 2 dX1_firstWhy_67 rfl rfl ?_
    refine b2s hr (fun v4 h3 hF hr => ?_)
    refine z_callV O [vi x4, vi x2] (vi v4) fV_X1_tries q1527 (fun l G => mX1_tries l G N x0 x4 x2 h _ hF) (zck hF) rfl rfl ⟨Nat.le_of_ble_eq_true rfl, Nat.le_of_ble_eq_true rfl⟩ (Nat.le_of_ble_eq_true rfl) dX1_firstWhy_68 ?_
    refine z_if_ne (tgt := 77) O dX1_firstWhy_71 (by decide) hr (fun hr => ?_) (fun hr => ?_)
    · refine z_goto (tgt := 130) O dX1_firstWhy_74 (by decide) ?_
      refine z_iincL O 4 (fun v19 => [(4, vi v19), (0, vr x0), (1, vi x1), (2, vi x2), (3, vi x3)]) dX1_firstWhy_130 rfl rfl (by decide) (fun _ => rfl) hr (fun v19 hr => ?_)
      refine z_goto (tgt := 58) O dX1_firstWhy_133 (by decide) ?_
      refine z_sub [1, 2, 3, 4, 0] rfl ?_
      exact hrec58 v19 h3 _ hr
    · refine z_aload_n O 0 dX1_firstWhy_77 rfl rfl ?_
      refine z_getR O o_Year_trial q471 dX1_firstWhy_78 hr (fun v5 hr => ?_)
      refine z_iload_n O 1 dX1_firstWhy_81 rfl rfl ?_
      refine bs hr (fun h6 hF hr => ?_)
      refine z_callVv O [vi x1] fV_X4_goesOnFor q1439 (fun l G => mX4_goesOnFor l G N v5 x1 h3 _ hF) (zck hF) rfl rfl ⟨Nat.le_of_ble_eq_true rfl, Nat.le_of_ble_eq_true rfl⟩ (Nat.le_of_ble_eq_true rfl) dX1_firstWhy_82 ?_
      refine z_aload_n O 0 dX1_firstWhy_85 rfl rfl ?_
      refine z_getR O o_Year_trial q471 dX1_firstWhy_86 hr (fun v7 hr => ?_)
      refine bs hr (fun v8 hF hr => ?_)
      refine z_callV O [] (vi v8) fV_X4_skins q1497 (fun l G => mX4_skins l G N v7 h6 _ hF) (zck hF) rfl rfl ⟨Nat.le_of_ble_eq_true rfl, Nat.le_of_ble_eq_true rfl⟩ (Nat.le_of_ble_eq_true rfl) dX1_firstWhy_89 ?_
      refine z_aload_n O 0 dX1_firstWhy_92 rfl rfl ?_
      refine z_getI O o_Year_firstMost q476 dX1_firstWhy_93 hr (fun v9 hr => ?_)
      refine z_icmp_gt (tgt := 102) O dX1_firstWhy_96 (by decide) hr (fun hr => ?_) (fun hr => ?_)
      · refine z_aload_n O 0 dX1_firstWhy_102 rfl rfl ?_
        refine z_aload_n O 0 dX1_firstWhy_103 rfl rfl ?_
        refine z_getR O o_Year_trial q471 dX1_firstWhy_104 hr (fun v10 hr => ?_)
        refine bs hr (fun v11 hF hr => ?_)
        refine z_callV O [] (vi v11) fV_X4_skins q1497 (fun l G => mX4_skins l G N v10 h6 _ hF) (zck hF) rfl rfl ⟨Nat.le_of_ble_eq_true rfl, Nat.le_of_ble_eq_true rfl⟩ (Nat.le_of_ble_eq_true rfl) dX1_firstWhy_107 ?_
        refine z_putI O o_Year_firstMost (w_Year_firstMost _) q476 dX1_firstWhy_110 hr (fun h12 hr => ?_)
        refine z_aload_n O 0 dX1_firstWhy_113 rfl rfl ?_
        refine z_getR O o_Year_trial q471 dX1_firstWhy_114 hr (fun v13 hr => ?_)
        refine z_getR O o_Village_order q343 dX1_firstWhy_117 hr (fun v14 hr => ?_)
        refine z_iconst O dX1_firstWhy_120 kic_0 ?_
        refine z_aload_n O 0 dX1_firstWhy_121 rfl rfl ?_
        refine z_getR O o_Year_firstOrder q477 dX1_firstWhy_122 hr (fun v15 hr => ?_)
        refine z_iconst O dX1_firstWhy_125 kic_0 ?_
        refine z_iload_n O 2 dX1_firstWhy_126 rfl rfl ?_
        refine z_acopy O q1531 dX1_firstWhy_127 ⟨Nat.le_of_ble_eq_true rfl, Nat.le_of_ble_eq_true rfl⟩ (Nat.le_of_ble_eq_true rfl) hr (fun h16 hr => ?_)
        refine z_iincL O 4 (fun v17 => [(4, vi v17), (0, vr x0), (1, vi x1), (2, vi x2), (3, vi x3)]) dX1_firstWhy_130 rfl rfl (by decide) (fun _ => rfl) hr (fun v17 hr => ?_)
        refine z_goto (tgt := 58) O dX1_firstWhy_133 (by decide) ?_
        refine z_sub [1, 2, 3, 4, 0] rfl ?_
        exact hrec58 v17 h16 _ hr
      · refine z_goto (tgt := 130) O dX1_firstWhy_99 (by decide) ?_
        refine z_iincL O 4 (fun v18 => [(4, vi v18), (0, vr x0), (1, vi x1), (2, vi x2), (3, vi x3)]) dX1_firstWhy_130 rfl rfl (by decide) (fun _ => rfl) hr (fun v18 hr => ?_)
        refine z_goto (tgt := 58) O dX1_firstWhy_133 (by decide) ?_
        refine z_sub [1, 2, 3, 4, 0] rfl ?_
        exact hrec58 v18 h6 _ hr
theorem wX1_firstWhy_58 {K : ZC} (O : ZOk K cX1_firstWhy RX1 "firstWhy" 5 (some .int) 11 279) (N : Nat) (x0 : Option Nat) (x1 : Int32) (x2 : Int32) (x3 : Int32) : ∀ (n : Nat) (x4 : Int32) (h : AH) (r : Int32 × AH), lf (fun _ _ => none) (BX1_firstWhy_58 N x0 x1 x2 x3) n x4 h = some r → Zw K (eIH r) h 58 [(0, vr x0), (1, vi x1), (2, vi x2), (3, vi x3), (4, vi x4)] [] := by
  intro n
  induction n with
  | zero => intro x4 h r hr; cases hr
  | succ n ih => intro x4 h r hr; exact wX1_firstWhy_58B O N x0 x1 x2 x3 (lf (fun _ _ => none) (BX1_firstWhy_58 N x0 x1 x2 x3) n)  ih x4 h r hr
def BX1_firstWhy_39 (N : Nat) (x0 : Option Nat) (x1 : Int32) (x2 : Int32) (rec39 : Int32 → Int32 → AH → Option (Int32 × AH)) : Int32 → Int32 → AH → Option (Int32 × AH) := fun x3 x4 h =>
  if x2 ≤ x4 then
    LX1_firstWhy_58 N x0 x1 x2 x3 (0 : Int32) h
  else
    jlet (x3 * x2) fun v1 =>
    jlet (x4 + (1 : Int32)) fun v2 =>
    rec39 v1 v2 h
def LX1_firstWhy_39 (N : Nat) (x0 : Option Nat) (x1 : Int32) (x2 : Int32) : Int32 → Int32 → AH → Option (Int32 × AH) := lf (fun _ _ _ => none) (BX1_firstWhy_39 N x0 x1 x2) N
theorem wX1_firstWhy_39B {K : ZC} (O : ZOk K cX1_firstWhy RX1 "firstWhy" 5 (some .int) 11 279) (N : Nat) (x0 : Option Nat) (x1 : Int32) (x2 : Int32) (rec39 : Int32 → Int32 → AH → Option (Int32 × AH)) (hrec39 : ∀ (y3 : Int32) (y4 : Int32) (hy : AH) (ry : Int32 × AH), rec39 y3 y4 hy = some ry → Zw K (eIH ry) hy 39 [(0, vr x0), (1, vi x1), (2, vi x2), (3, vi y3), (4, vi y4)] []) (x3 : Int32) (x4 : Int32) (h : AH) (r : Int32 × AH) (hr : BX1_firstWhy_39 N x0 x1 x2 rec39 x3 x4 h = some r) : Zw K (eIH r) h 39 [(0, vr x0), (1, vi x1), (2, vi x2), (3, vi x3), (4, vi x4)] [] := by
  unfold BX1_firstWhy_39 at hr
  refine z_iload O 4 dX1_firstWhy_39 rfl ?_
  refine z_iload_n O 2 dX1_firstWhy_41 rfl rfl ?_
  refine z_icmp_ge (tgt := 55) O dX1_firstWhy_42 (by decide) hr (fun hr => ?_) (fun hr => ?_)
  · refine z_iconst O dX1_firstWhy_55 kic_0 ?_
    refine z_istore O [(4, vi (0 : Int32)), (0, vr x0), (1, vi x1), (2, vi x2), (3, vi x3)] dX1_firstWhy_56 (by decide) rfl ?_
    refine z_sub [1, 2, 3, 4, 0] rfl ?_
    exact wX1_firstWhy_58 O N x0 x1 x2 x3 _ (0 : Int32) h _ hr
  · refine z_iload_n O 3 dX1_firstWhy_45 rfl rfl ?_
    refine z_iload_n O 2 dX1_firstWhy_46 rfl rfl ?_
    refine z_imul O dX1_firstWhy_47 ?_
    refine z_letI hr (fun v1 hr => ?_)
    refine z_istore_n O [(3, vi v1), (0, vr x0), (1, vi x1), (2, vi x2), (4, vi x4)] dX1_firstWhy_48 rfl (by decide) rfl ?_
    refine z_iincL O 4 (fun v2 => [(4, vi v2), (3, vi v1), (0, vr x0), (1, vi x1), (2, vi x2)]) dX1_firstWhy_49 rfl rfl (by decide) (fun _ => rfl) hr (fun v2 hr => ?_)
    refine z_goto (tgt := 39) O dX1_firstWhy_52 (by decide) ?_
    refine z_sub [2, 3, 4, 1, 0] rfl ?_
    exact hrec39 v1 v2 h _ hr
theorem wX1_firstWhy_39 {K : ZC} (O : ZOk K cX1_firstWhy RX1 "firstWhy" 5 (some .int) 11 279) (N : Nat) (x0 : Option Nat) (x1 : Int32) (x2 : Int32) : ∀ (n : Nat) (x3 : Int32) (x4 : Int32) (h : AH) (r : Int32 × AH), lf (fun _ _ _ => none) (BX1_firstWhy_39 N x0 x1 x2) n x3 x4 h = some r → Zw K (eIH r) h 39 [(0, vr x0), (1, vi x1), (2, vi x2), (3, vi x3), (4, vi x4)] [] := by
  intro n
  induction n with
  | zero => intro x3 x4 h r hr; cases hr
  | succ n ih => intro x3 x4 h r hr; exact wX1_firstWhy_39B O N x0 x1 x2 (lf (fun _ _ _ => none) (BX1_firstWhy_39 N x0 x1 x2) n)  ih x3 x4 h r hr
def F_X1_firstWhy (N : Nat) (x0 : Option Nat) (x1 : Int32) (h : AH) : Option (Int32 × AH) :=
  (ck h [1] x0).bind fun _ =>
  (gR h f_Year_land x0).bind fun v1 =>
  if v1 = none then
    some ((1 : Int32), h)
  else
    (F_X1_within x1 (0 : Int32) (30 : Int32)).bind fun v2 =>
    if v2 = 0 then
      some ((2 : Int32), h)
    else
      (pI h f_Year_firstMost x0 (-1 : Int32)).bind fun h3 =>
      (gR h3 f_Year_village x0).bind fun v4 =>
      (gI h3 f_Village_many v4).bind fun v5 =>
      LX1_firstWhy_39 N x0 x1 v5 (1 : Int32) (0 : Int32) h3
theorem mX1_firstWhy (l : Launch) (G : ZG) (N : Nat) (x0 : Option Nat) (x1 : Int32) (h : AH) (r : Int32 × AH) (hr : F_X1_firstWhy N x0 x1 h = some r) : MZ l G yX1_firstWhy cX1_firstWhy 5 (some .int) 11 279 [vr x0, vi x1] h (eIH r) := by
  unfold F_X1_firstWhy at hr
  refine MZ.of (by decide) [(0, vr x0), (1, vi x1)] rfl (Nat.le_of_ble_eq_true rfl) (fun K O => ?_)
  have O : ZOk K cX1_firstWhy RX1 "firstWhy" 5 (some .int) 11 279 := O
  refine bs hr (fun _ hck hr => ?_)
  refine z_aload_n O 0 dX1_firstWhy_0 rfl rfl ?_
  refine z_getR O o_Year_land q463 dX1_firstWhy_1 hr (fun v1 hr => ?_)
  refine z_ifnonnull (tgt := 9) O dX1_firstWhy_4 (by decide) hr (fun hr => ?_) (fun hr => ?_)
  · refine z_iconst O dX1_firstWhy_7 kic_1 ?_
    exact z_iret O dX1_firstWhy_8 (by cases hr; rfl)
  · refine z_iload_n O 1 dX1_firstWhy_9 rfl rfl ?_
    refine z_iconst O dX1_firstWhy_10 kic_0 ?_
    refine z_bipush O dX1_firstWhy_11 kbi_30 ?_
    refine bs hr (fun v2 hF hr => ?_)
    refine z_callS O [vi x1, vi (0 : Int32), vi (30 : Int32)] (vi v2) fS_X1_within q532 (fun l G => mX1_within l G x1 (0 : Int32) (30 : Int32) h _ hF) rfl ⟨Nat.le_of_ble_eq_true rfl, Nat.le_of_ble_eq_true rfl⟩ (Nat.le_of_ble_eq_true rfl) dX1_firstWhy_13 ?_
    refine z_if_ne (tgt := 21) O dX1_firstWhy_16 (by decide) hr (fun hr => ?_) (fun hr => ?_)
    · refine z_iconst O dX1_firstWhy_19 kic_2 ?_
      exact z_iret O dX1_firstWhy_20 (by cases hr; rfl)
    · refine z_aload_n O 0 dX1_firstWhy_21 rfl rfl ?_
      refine z_iconst O dX1_firstWhy_22 kic_m1 ?_
      refine z_putI O o_Year_firstMost (w_Year_firstMost _) q476 dX1_firstWhy_23 hr (fun h3 hr => ?_)
      refine z_aload_n O 0 dX1_firstWhy_26 rfl rfl ?_
      refine z_getR O o_Year_village q469 dX1_firstWhy_27 hr (fun v4 hr => ?_)
      refine z_getI O o_Village_many q346 dX1_firstWhy_30 hr (fun v5 hr => ?_)
      refine z_istore_n O [(2, vi v5), (0, vr x0), (1, vi x1)] dX1_firstWhy_33 rfl (by decide) rfl ?_
      refine z_iconst O dX1_firstWhy_34 kic_1 ?_
      refine z_istore_n O [(3, vi (1 : Int32)), (2, vi v5), (0, vr x0), (1, vi x1)] dX1_firstWhy_35 rfl (by decide) rfl ?_
      refine z_iconst O dX1_firstWhy_36 kic_0 ?_
      refine z_istore O [(4, vi (0 : Int32)), (3, vi (1 : Int32)), (2, vi v5), (0, vr x0), (1, vi x1)] dX1_firstWhy_37 (by decide) rfl ?_
      refine z_sub [3, 4, 2, 1, 0] rfl ?_
      exact wX1_firstWhy_39 O N x0 x1 v5 _ (1 : Int32) (0 : Int32) h3 _ hr
theorem fV_X1_first : CVf RX1 yX1_first cX1_first 3 (some .int) 1 := ⟨q1520, q1521, q126, q1522, ⟨⟨by decide +kernel, by decide +kernel⟩, by decide +kernel⟩⟩
def F_X1_first (N : Nat) (x0 : Option Nat) (x1 : Int32) (h : AH) : Option (Int32 × AH) :=
  (ck h [1] x0).bind fun _ =>
  (F_X1_anew x0 h).bind fun h1 =>
  b2 (F_X1_firstWhy N x0 x1 h1) fun v3 h2 =>
  if v3 = 0 then
    (gI h2 f_Year_firstMost x0).bind fun v4 =>
    some (v4, h2)
  else
    b2 (F_X1_no x0 v3 h2) fun v6 h5 =>
    some (v6, h5)
theorem mX1_first (l : Launch) (G : ZG) (N : Nat) (x0 : Option Nat) (x1 : Int32) (h : AH) (r : Int32 × AH) (hr : F_X1_first N x0 x1 h = some r) : MZ l G yX1_first cX1_first 3 (some .int) 12 303 [vr x0, vi x1] h (eIH r) := by
  unfold F_X1_first at hr
  refine MZ.of (by decide) [(0, vr x0), (1, vi x1)] rfl (Nat.le_of_ble_eq_true rfl) (fun K O => ?_)
  have O : ZOk K cX1_first RX1 "first" 3 (some .int) 12 303 := O
  refine bs hr (fun _ hck hr => ?_)
  refine z_aload_n O 0 dX1_first_0 rfl rfl ?_
  refine bs hr (fun h1 hF hr => ?_)
  refine z_callVv O [] fV_X1_anew q528 (fun l G => mX1_anew l G x0 h _ hF) (zck hF) rfl rfl ⟨Nat.le_of_ble_eq_true rfl, Nat.le_of_ble_eq_true rfl⟩ (Nat.le_of_ble_eq_true rfl) dX1_first_1 ?_
  refine z_aload_n O 0 dX1_first_4 rfl rfl ?_
  refine z_iload_n O 1 dX1_first_5 rfl rfl ?_
  refine b2s hr (fun v3 h2 hF hr => ?_)
  refine z_callV O [vi x1] (vi v3) fV_X1_firstWhy q1523 (fun l G => mX1_firstWhy l G N x0 x1 h1 _ hF) (zck hF) rfl rfl ⟨Nat.le_of_ble_eq_true rfl, Nat.le_of_ble_eq_true rfl⟩ (Nat.le_of_ble_eq_true rfl) dX1_first_6 ?_
  refine z_istore_n O [(2, vi v3), (0, vr x0), (1, vi x1)] dX1_first_9 rfl (by decide) rfl ?_
  refine z_iload_n O 0 dX1_first_10 rfl rfl ?_
  refine z_if_eq (tgt := 22) O dX1_first_11 (by decide) hr (fun hr => ?_) (fun hr => ?_)
  · refine z_aload_n O 1 dX1_first_22 rfl rfl ?_
    refine z_getI O o_Year_firstMost q476 dX1_first_23 hr (fun v4 hr => ?_)
    exact z_iret O dX1_first_26 (by cases hr; rfl)
  · refine z_aload_n O 1 dX1_first_14 rfl rfl ?_
    refine z_iload_n O 0 dX1_first_15 rfl rfl ?_
    refine b2s hr (fun v6 h5 hF hr => ?_)
    refine z_callV O [vi v3] (vi v6) fV_X1_no q535 (fun l G => mX1_no l G x0 v3 h2 _ hF) (zck hF) rfl rfl ⟨Nat.le_of_ble_eq_true rfl, Nat.le_of_ble_eq_true rfl⟩ (Nat.le_of_ble_eq_true rfl) dX1_first_16 ?_
    refine z_goto (tgt := 26) O dX1_first_19 (by decide) ?_
    exact z_iret O dX1_first_26 (by cases hr; rfl)
theorem fV_X1_firstAt : CVf RX1 yX1_firstAt cX1_firstAt 4 (some .int) 2 := ⟨q1534, q1535, q126, q1536, ⟨⟨by decide +kernel, by decide +kernel⟩, by decide +kernel⟩⟩
def F_X1_firstAt (N : Nat) (x0 : Option Nat) (x1 : Int32) (x2 : Int32) (h : AH) : Option (Int32 × AH) :=
  (ck h [1] x0).bind fun _ =>
  (F_X1_anew x0 h).bind fun h1 =>
  (F_X1_isHouse x0 x2 h1).bind fun v2 =>
  if v2 = 0 then
    b2 (F_X1_no x0 (1 : Int32) h1) fun v10 h9 =>
    some (v10, h9)
  else
    b2 (F_X1_firstWhy N x0 x1 h1) fun v4 h3 =>
    if v4 = 0 then
      (gR h3 f_Year_firstOrder x0).bind fun v5 =>
      (aI h3 0 v5 x2).bind fun v6 =>
      some (v6, h3)
    else
      b2 (F_X1_no x0 v4 h3) fun v8 h7 =>
      some (v8, h7)
theorem mX1_firstAt (l : Launch) (G : ZG) (N : Nat) (x0 : Option Nat) (x1 : Int32) (x2 : Int32) (h : AH) (r : Int32 × AH) (hr : F_X1_firstAt N x0 x1 x2 h = some r) : MZ l G yX1_firstAt cX1_firstAt 4 (some .int) 12 303 [vr x0, vi x1, vi x2] h (eIH r) := by
  unfold F_X1_firstAt at hr
  refine MZ.of (by decide) [(0, vr x0), (1, vi x1), (2, vi x2)] rfl (Nat.le_of_ble_eq_true rfl) (fun K O => ?_)
  have O : ZOk K cX1_firstAt RX1 "firstAt" 4 (some .int) 12 303 := O
  refine bs hr (fun _ hck hr => ?_)
  refine z_aload_n O 0 dX1_firstAt_0 rfl rfl ?_
  refine bs hr (fun h1 hF hr => ?_)
  refine z_callVv O [] fV_X1_anew q528 (fun l G => mX1_anew l G x0 h _ hF) (zck hF) rfl rfl ⟨Nat.le_of_ble_eq_true rfl, Nat.le_of_ble_eq_true rfl⟩ (Nat.le_of_ble_eq_true rfl) dX1_firstAt_1 ?_
  refine z_aload_n O 0 dX1_firstAt_4 rfl rfl ?_
  refine z_iload_n O 2 dX1_firstAt_5 rfl rfl ?_
  refine bs hr (fun v2 hF hr => ?_)
  refine z_callV O [vi x2] (vi v2) fV_X1_isHouse q1245 (fun l G => mX1_isHouse l G x0 x2 h1 _ hF) (zck hF) rfl rfl ⟨Nat.le_of_ble_eq_true rfl, Nat.le_of_ble_eq_true rfl⟩ (Nat.le_of_ble_eq_true rfl) dX1_firstAt_6 ?_
  refine z_if_ne (tgt := 18) O dX1_firstAt_9 (by decide) hr (fun hr => ?_) (fun hr => ?_)
  · refine z_aload_n O 0 dX1_firstAt_12 rfl rfl ?_
    refine z_iconst O dX1_firstAt_13 kic_1 ?_
    refine b2s hr (fun v10 h9 hF hr => ?_)
    refine z_callV O [vi (1 : Int32)] (vi v10) fV_X1_no q535 (fun l G => mX1_no l G x0 (1 : Int32) h1 _ hF) (zck hF) rfl rfl ⟨Nat.le_of_ble_eq_true rfl, Nat.le_of_ble_eq_true rfl⟩ (Nat.le_of_ble_eq_true rfl) dX1_firstAt_14 ?_
    exact z_iret O dX1_firstAt_17 (by cases hr; rfl)
  · refine z_aload_n O 0 dX1_firstAt_18 rfl rfl ?_
    refine z_iload_n O 1 dX1_firstAt_19 rfl rfl ?_
    refine b2s hr (fun v4 h3 hF hr => ?_)
    refine z_callV O [vi x1] (vi v4) fV_X1_firstWhy q1523 (fun l G => mX1_firstWhy l G N x0 x1 h1 _ hF) (zck hF) rfl rfl ⟨Nat.le_of_ble_eq_true rfl, Nat.le_of_ble_eq_true rfl⟩ (Nat.le_of_ble_eq_true rfl) dX1_firstAt_20 ?_
    refine z_istore_n O [(3, vi v4), (0, vr x0), (1, vi x1), (2, vi x2)] dX1_firstAt_23 rfl (by decide) rfl ?_
    refine z_iload_n O 0 dX1_firstAt_24 rfl rfl ?_
    refine z_if_eq (tgt := 36) O dX1_firstAt_25 (by decide) hr (fun hr => ?_) (fun hr => ?_)
    · refine z_aload_n O 1 dX1_firstAt_36 rfl rfl ?_
      refine z_getR O o_Year_firstOrder q477 dX1_firstAt_37 hr (fun v5 hr => ?_)
      refine z_iload_n O 3 dX1_firstAt_40 rfl rfl ?_
      refine z_iaload O dX1_firstAt_41 hr (fun v6 hr => ?_)
      exact z_iret O dX1_firstAt_42 (by cases hr; rfl)
    · refine z_aload_n O 1 dX1_firstAt_28 rfl rfl ?_
      refine z_iload_n O 0 dX1_firstAt_29 rfl rfl ?_
      refine b2s hr (fun v8 h7 hF hr => ?_)
      refine z_callV O [vi v4] (vi v8) fV_X1_no q535 (fun l G => mX1_no l G x0 v4 h3 _ hF) (zck hF) rfl rfl ⟨Nat.le_of_ble_eq_true rfl, Nat.le_of_ble_eq_true rfl⟩ (Nat.le_of_ble_eq_true rfl) dX1_firstAt_30 ?_
      refine z_goto (tgt := 42) O dX1_firstAt_33 (by decide) ?_
      exact z_iret O dX1_firstAt_42 (by cases hr; rfl)
theorem fV_X1_fits : CVf RX1 yX1_fits cX1_fits 2 (some .int) 1 := ⟨q1309, q1310, q126, q1311, ⟨⟨by decide +kernel, by decide +kernel⟩, by decide +kernel⟩⟩
def F_X1_fits (N : Nat) (x0 : Option Nat) (x1 : Int32) (h : AH) : Option (Int32 × AH) :=
  (ck h [1] x0).bind fun _ =>
  (F_X1_anew x0 h).bind fun h1 =>
  (F_X1_isHouse x0 x1 h1).bind fun v2 =>
  if v2 = 0 then
    b2 (F_X1_no x0 (1 : Int32) h1) fun v4 h3 =>
    some (v4, h3)
  else
    (gR h1 f_Year_village x0).bind fun v5 =>
    (F_X4_fits N v5 x1 h1).bind fun v6 =>
    if v6 = 0 then
      some ((0 : Int32), h1)
    else
      some ((1 : Int32), h1)
theorem mX1_fits (l : Launch) (G : ZG) (N : Nat) (x0 : Option Nat) (x1 : Int32) (h : AH) (r : Int32 × AH) (hr : F_X1_fits N x0 x1 h = some r) : MZ l G yX1_fits cX1_fits 2 (some .int) 6 163 [vr x0, vi x1] h (eIH r) := by
  unfold F_X1_fits at hr
  refine MZ.of (by decide) [(0, vr x0), (1, vi x1)] rfl (Nat.le_of_ble_eq_true rfl) (fun K O => ?_)
  have O : ZOk K cX1_fits RX1 "fits" 2 (some .int) 6 163 := O
  refine bs hr (fun _ hck hr => ?_)
  refine z_aload_n O 0 dX1_fits_0 rfl rfl ?_
  refine bs hr (fun h1 hF hr => ?_)
  refine z_callVv O [] fV_X1_anew q528 (fun l G => mX1_anew l G x0 h _ hF) (zck hF) rfl rfl ⟨Nat.le_of_ble_eq_true rfl, Nat.le_of_ble_eq_true rfl⟩ (Nat.le_of_ble_eq_true rfl) dX1_fits_1 ?_
  refine z_aload_n O 0 dX1_fits_4 rfl rfl ?_
  refine z_iload_n O 1 dX1_fits_5 rfl rfl ?_
  refine bs hr (fun v2 hF hr => ?_)
  refine z_callV O [vi x1] (vi v2) fV_X1_isHouse q1245 (fun l G => mX1_isHouse l G x0 x1 h1 _ hF) (zck hF) rfl rfl ⟨Nat.le_of_ble_eq_true rfl, Nat.le_of_ble_eq_true rfl⟩ (Nat.le_of_ble_eq_true rfl) dX1_fits_6 ?_
  refine z_if_eq (tgt := 31) O dX1_fits_9 (by decide) hr (fun hr => ?_) (fun hr => ?_)
  · refine z_aload_n O 0 dX1_fits_31 rfl rfl ?_
    refine z_iconst O dX1_fits_32 kic_1 ?_
    refine b2s hr (fun v4 h3 hF hr => ?_)
    refine z_callV O [vi (1 : Int32)] (vi v4) fV_X1_no q535 (fun l G => mX1_no l G x0 (1 : Int32) h1 _ hF) (zck hF) rfl rfl ⟨Nat.le_of_ble_eq_true rfl, Nat.le_of_ble_eq_true rfl⟩ (Nat.le_of_ble_eq_true rfl) dX1_fits_33 ?_
    exact z_iret O dX1_fits_36 (by cases hr; rfl)
  · refine z_aload_n O 0 dX1_fits_12 rfl rfl ?_
    refine z_getR O o_Year_village q469 dX1_fits_13 hr (fun v5 hr => ?_)
    refine z_iload_n O 1 dX1_fits_16 rfl rfl ?_
    refine bs hr (fun v6 hF hr => ?_)
    refine z_callV O [vi x1] (vi v6) fV_X4_fits q1312 (fun l G => mX4_fits l G N v5 x1 h1 _ hF) (zck hF) rfl rfl ⟨Nat.le_of_ble_eq_true rfl, Nat.le_of_ble_eq_true rfl⟩ (Nat.le_of_ble_eq_true rfl) dX1_fits_17 ?_
    refine z_if_eq (tgt := 27) O dX1_fits_20 (by decide) hr (fun hr => ?_) (fun hr => ?_)
    · refine z_iconst O dX1_fits_27 kic_0 ?_
      refine z_goto (tgt := 36) O dX1_fits_28 (by decide) ?_
      exact z_iret O dX1_fits_36 (by cases hr; rfl)
    · refine z_iconst O dX1_fits_23 kic_1 ?_
      refine z_goto (tgt := 36) O dX1_fits_24 (by decide) ?_
      exact z_iret O dX1_fits_36 (by cases hr; rfl)
theorem fV_X1_cellsOf : CVf RX1 yX1_cellsOf cX1_cellsOf 6 (some .int) 1 := ⟨q1234, qs35, q126, q1235, ⟨⟨by decide +kernel, by decide +kernel⟩, by decide +kernel⟩⟩
def BX1_cellsOf_18 (N : Nat) (rec4 : Int32 → Int32 → Option (Int32)) (x0 : Option Nat) (x1 : Int32) (x3 : Int32) (h : AH) (rec18 : Int32 → Int32 → Option (Int32)) : Int32 → Int32 → Option (Int32) := fun x2 x4 =>
  (gR h f_Year_land x0).bind fun v1 =>
  (gI h f_Land_wide v1).bind fun v2 =>
  if v2 ≤ x4 then
    jlet (x3 + (1 : Int32)) fun v3 =>
    rec4 x2 v3
  else
    (gR h f_Year_village x0).bind fun v4 =>
    (F_X4_whose N v4 x4 x3 h).bind fun v5 =>
    if x1 = 0 then
      if v5 = 0 then
        (gR h f_Year_land x0).bind fun v12 =>
        (F_X10_isWater N v12 x4 x3 h).bind fun v13 =>
        if v13 = 0 then
          jlet (x2 + (1 : Int32)) fun v16 =>
          jlet (x4 + (1 : Int32)) fun v17 =>
          rec18 v16 v17
        else
          jlet (x2 + (0 : Int32)) fun v14 =>
          jlet (x4 + (1 : Int32)) fun v15 =>
          rec18 v14 v15
      else
        jlet (x2 + (0 : Int32)) fun v10 =>
        jlet (x4 + (1 : Int32)) fun v11 =>
        rec18 v10 v11
    else
      if (v5 &&& (v5 - (1 : Int32))) = 0 then
        jlet (x2 + (0 : Int32)) fun v6 =>
        jlet (x4 + (1 : Int32)) fun v7 =>
        rec18 v6 v7
      else
        jlet (x2 + (1 : Int32)) fun v8 =>
        jlet (x4 + (1 : Int32)) fun v9 =>
        rec18 v8 v9
def LX1_cellsOf_18 (N : Nat) (rec4 : Int32 → Int32 → Option (Int32)) (x0 : Option Nat) (x1 : Int32) (x3 : Int32) (h : AH) : Int32 → Int32 → Option (Int32) := lf (fun _ _ => none) (BX1_cellsOf_18 N rec4 x0 x1 x3 h) N
theorem wX1_cellsOf_18B {K : ZC} (O : ZOk K cX1_cellsOf RX1 "cellsOf" 6 (some .int) 4 116) (N : Nat) (rec4 : Int32 → Int32 → Option (Int32)) (x0 : Option Nat) (x1 : Int32) (x3 : Int32) (h : AH) (rec18 : Int32 → Int32 → Option (Int32)) (hrec4 : ∀ (y2 : Int32) (y3 : Int32) (ry : Int32), rec4 y2 y3 = some ry → Zw K (eI h ry) h 4 [(0, vr x0), (1, vi x1), (2, vi y2), (3, vi y3)] []) (hrec18 : ∀ (y2 : Int32) (y4 : Int32) (ry : Int32), rec18 y2 y4 = some ry → Zw K (eI h ry) h 18 [(0, vr x0), (1, vi x1), (2, vi y2), (3, vi x3), (4, vi y4)] []) (x2 : Int32) (x4 : Int32) (r : Int32) (hr : BX1_cellsOf_18 N rec4 x0 x1 x3 h rec18 x2 x4 = some r) : Zw K (eI h r) h 18 [(0, vr x0), (1, vi x1), (2, vi x2), (3, vi x3), (4, vi x4)] [] := by
  unfold BX1_cellsOf_18 at hr
  refine z_iload O 4 dX1_cellsOf_18 rfl ?_
  refine z_aload_n O 0 dX1_cellsOf_20 rfl rfl ?_
  refine z_getR O o_Year_land q463 dX1_cellsOf_21 hr (fun v1 hr => ?_)
  refine z_getI O o_Land_wide q580 dX1_cellsOf_24 hr (fun v2 hr => ?_)
  refine z_icmp_ge (tgt := 96) O dX1_cellsOf_27 (by decide) hr (fun hr => ?_) (fun hr => ?_)
  · refine z_iincL O 3 (fun v3 => [(3, vi v3), (0, vr x0), (1, vi x1), (2, vi x2), (4, vi x4)]) dX1_cellsOf_96 rfl rfl (by decide) (fun _ => rfl) hr (fun v3 hr => ?_)
    refine z_goto (tgt := 4) O dX1_cellsOf_99 (by decide) ?_
    refine z_sub [1, 2, 3, 0] rfl ?_
    exact hrec4 x2 v3 _ hr
  · refine z_aload_n O 0 dX1_cellsOf_30 rfl rfl ?_
    refine z_getR O o_Year_village q469 dX1_cellsOf_31 hr (fun v4 hr => ?_)
    refine z_iload O 4 dX1_cellsOf_34 rfl ?_
    refine z_iload_n O 3 dX1_cellsOf_36 rfl rfl ?_
    refine bs hr (fun v5 hF hr => ?_)
    refine z_callV O [vi x4, vi x3] (vi v5) fV_X4_whose q1227 (fun l G => mX4_whose l G N v4 x4 x3 h _ hF) (zck hF) rfl rfl ⟨Nat.le_of_ble_eq_true rfl, Nat.le_of_ble_eq_true rfl⟩ (Nat.le_of_ble_eq_true rfl) dX1_cellsOf_37 ?_
    refine z_istore O [(5, vi v5), (0, vr x0), (1, vi x1), (2, vi x2), (3, vi x3), (4, vi x4)] dX1_cellsOf_40 (by decide) rfl ?_
    refine z_iload_n O 3 dX1_cellsOf_42 rfl rfl ?_
    refine z_iload_n O 2 dX1_cellsOf_43 rfl rfl ?_
    refine z_if_ne (tgt := 73) O dX1_cellsOf_44 (by decide) hr (fun hr => ?_) (fun hr => ?_)
    · refine z_iload O 0 dX1_cellsOf_47 rfl ?_
      refine z_if_ne (tgt := 69) O dX1_cellsOf_49 (by decide) hr (fun hr => ?_) (fun hr => ?_)
      · refine z_aload_n O 1 dX1_cellsOf_52 rfl rfl ?_
        refine z_getR O o_Year_land q463 dX1_cellsOf_53 hr (fun v12 hr => ?_)
        refine z_iload O 5 dX1_cellsOf_56 rfl ?_
        refine z_iload_n O 4 dX1_cellsOf_58 rfl rfl ?_
        refine bs hr (fun v13 hF hr => ?_)
        refine z_callV O [vi x4, vi x3] (vi v13) fV_X10_isWater q1236 (fun l G => mX10_isWater l G N v12 x4 x3 h _ hF) (zck hF) rfl rfl ⟨Nat.le_of_ble_eq_true rfl, Nat.le_of_ble_eq_true rfl⟩ (Nat.le_of_ble_eq_true rfl) dX1_cellsOf_59 ?_
        refine z_if_ne (tgt := 69) O dX1_cellsOf_62 (by decide) hr (fun hr => ?_) (fun hr => ?_)
        · refine z_iconst O dX1_cellsOf_65 kic_1 ?_
          refine z_goto (tgt := 88) O dX1_cellsOf_66 (by decide) ?_
          refine z_iadd O dX1_cellsOf_88 ?_
          refine z_letI hr (fun v16 hr => ?_)
          refine z_istore_n O [(2, vi v16), (5, vi v5), (0, vr x0), (1, vi x1), (3, vi x3), (4, vi x4)] dX1_cellsOf_89 rfl (by decide) rfl ?_
          refine z_iincL O 5 (fun v17 => [(4, vi v17), (2, vi v16), (5, vi v5), (0, vr x0), (1, vi x1), (3, vi x3)]) dX1_cellsOf_90 rfl rfl (by decide) (fun _ => rfl) hr (fun v17 hr => ?_)
          refine z_goto (tgt := 18) O dX1_cellsOf_93 (by decide) ?_
          refine z_sub [3, 4, 1, 5, 0] rfl ?_
          exact hrec18 v16 v17 _ hr
        · refine z_iconst O dX1_cellsOf_69 kic_0 ?_
          refine z_goto (tgt := 88) O dX1_cellsOf_70 (by decide) ?_
          refine z_iadd O dX1_cellsOf_88 ?_
          refine z_letI hr (fun v14 hr => ?_)
          refine z_istore_n O [(2, vi v14), (5, vi v5), (0, vr x0), (1, vi x1), (3, vi x3), (4, vi x4)] dX1_cellsOf_89 rfl (by decide) rfl ?_
          refine z_iincL O 5 (fun v15 => [(4, vi v15), (2, vi v14), (5, vi v5), (0, vr x0), (1, vi x1), (3, vi x3)]) dX1_cellsOf_90 rfl rfl (by decide) (fun _ => rfl) hr (fun v15 hr => ?_)
          refine z_goto (tgt := 18) O dX1_cellsOf_93 (by decide) ?_
          refine z_sub [3, 4, 1, 5, 0] rfl ?_
          exact hrec18 v14 v15 _ hr
      · refine z_iconst O dX1_cellsOf_69 kic_0 ?_
        refine z_goto (tgt := 88) O dX1_cellsOf_70 (by decide) ?_
        refine z_iadd O dX1_cellsOf_88 ?_
        refine z_letI hr (fun v10 hr => ?_)
        refine z_istore_n O [(2, vi v10), (5, vi v5), (0, vr x0), (1, vi x1), (3, vi x3), (4, vi x4)] dX1_cellsOf_89 rfl (by decide) rfl ?_
        refine z_iincL O 5 (fun v11 => [(4, vi v11), (2, vi v10), (5, vi v5), (0, vr x0), (1, vi x1), (3, vi x3)]) dX1_cellsOf_90 rfl rfl (by decide) (fun _ => rfl) hr (fun v11 hr => ?_)
        refine z_goto (tgt := 18) O dX1_cellsOf_93 (by decide) ?_
        refine z_sub [3, 4, 1, 5, 0] rfl ?_
        exact hrec18 v10 v11 _ hr
    · refine z_iload O 0 dX1_cellsOf_73 rfl ?_
      refine z_iload O 0 dX1_cellsOf_75 rfl ?_
      refine z_iconst O dX1_cellsOf_77 kic_1 ?_
      refine z_isub O dX1_cellsOf_78 ?_
      refine z_iand O dX1_cellsOf_79 ?_
      refine z_if_eq (tgt := 87) O dX1_cellsOf_80 (by decide) hr (fun hr => ?_) (fun hr => ?_)
      · refine z_iconst O dX1_cellsOf_87 kic_0 ?_
        refine z_iadd O dX1_cellsOf_88 ?_
        refine z_letI hr (fun v6 hr => ?_)
        refine z_istore_n O [(2, vi v6), (5, vi v5), (0, vr x0), (1, vi x1), (3, vi x3), (4, vi x4)] dX1_cellsOf_89 rfl (by decide) rfl ?_
        refine z_iincL O 5 (fun v7 => [(4, vi v7), (2, vi v6), (5, vi v5), (0, vr x0), (1, vi x1), (3, vi x3)]) dX1_cellsOf_90 rfl rfl (by decide) (fun _ => rfl) hr (fun v7 hr => ?_)
        refine z_goto (tgt := 18) O dX1_cellsOf_93 (by decide) ?_
        refine z_sub [3, 4, 1, 5, 0] rfl ?_
        exact hrec18 v6 v7 _ hr
      · refine z_iconst O dX1_cellsOf_83 kic_1 ?_
        refine z_goto (tgt := 88) O dX1_cellsOf_84 (by decide) ?_
        refine z_iadd O dX1_cellsOf_88 ?_
        refine z_letI hr (fun v8 hr => ?_)
        refine z_istore_n O [(2, vi v8), (5, vi v5), (0, vr x0), (1, vi x1), (3, vi x3), (4, vi x4)] dX1_cellsOf_89 rfl (by decide) rfl ?_
        refine z_iincL O 5 (fun v9 => [(4, vi v9), (2, vi v8), (5, vi v5), (0, vr x0), (1, vi x1), (3, vi x3)]) dX1_cellsOf_90 rfl rfl (by decide) (fun _ => rfl) hr (fun v9 hr => ?_)
        refine z_goto (tgt := 18) O dX1_cellsOf_93 (by decide) ?_
        refine z_sub [3, 4, 1, 5, 0] rfl ?_
        exact hrec18 v8 v9 _ hr
theorem wX1_cellsOf_18 {K : ZC} (O : ZOk K cX1_cellsOf RX1 "cellsOf" 6 (some .int) 4 116) (N : Nat) (rec4 : Int32 → Int32 → Option (Int32)) (x0 : Option Nat) (x1 : Int32) (x3 : Int32) (h : AH) (hrec4 : ∀ (y2 : Int32) (y3 : Int32) (ry : Int32), rec4 y2 y3 = some ry → Zw K (eI h ry) h 4 [(0, vr x0), (1, vi x1), (2, vi y2), (3, vi y3)] []) : ∀ (n : Nat) (x2 : Int32) (x4 : Int32) (r : Int32), lf (fun _ _ => none) (BX1_cellsOf_18 N rec4 x0 x1 x3 h) n x2 x4 = some r → Zw K (eI h r) h 18 [(0, vr x0), (1, vi x1), (2, vi x2), (3, vi x3), (4, vi x4)] [] := by
  intro n
  induction n with
  | zero => intro x2 x4 r hr; cases hr
  | succ n ih => intro x2 x4 r hr; exact wX1_cellsOf_18B O N rec4 x0 x1 x3 h (lf (fun _ _ => none) (BX1_cellsOf_18 N rec4 x0 x1 x3 h) n) hrec4 ih x2 x4 r hr
def BX1_cellsOf_4 (N : Nat) (x0 : Option Nat) (x1 : Int32) (h : AH) (rec4 : Int32 → Int32 → Option (Int32)) : Int32 → Int32 → Option (Int32) := fun x2 x3 =>
  (gR h f_Year_land x0).bind fun v1 =>
  (gI h f_Land_high v1).bind fun v2 =>
  if v2 ≤ x3 then
    some x2
  else
    LX1_cellsOf_18 N rec4 x0 x1 x3 h x2 (0 : Int32)
def LX1_cellsOf_4 (N : Nat) (x0 : Option Nat) (x1 : Int32) (h : AH) : Int32 → Int32 → Option (Int32) := lf (fun _ _ => none) (BX1_cellsOf_4 N x0 x1 h) N
theorem wX1_cellsOf_4B {K : ZC} (O : ZOk K cX1_cellsOf RX1 "cellsOf" 6 (some .int) 4 116) (N : Nat) (x0 : Option Nat) (x1 : Int32) (h : AH) (rec4 : Int32 → Int32 → Option (Int32)) (hrec4 : ∀ (y2 : Int32) (y3 : Int32) (ry : Int32), rec4 y2 y3 = some ry → Zw K (eI h ry) h 4 [(0, vr x0), (1, vi x1), (2, vi y2), (3, vi y3)] []) (x2 : Int32) (x3 : Int32) (r : Int32) (hr : BX1_cellsOf_4 N x0 x1 h rec4 x2 x3 = some r) : Zw K (eI h r) h 4 [(0, vr x0), (1, vi x1), (2, vi x2), (3, vi x3)] [] := by
  unfold BX1_cellsOf_4 at hr
  refine z_iload_n O 3 dX1_cellsOf_4 rfl rfl ?_
  refine z_aload_n O 0 dX1_cellsOf_5 rfl rfl ?_
  refine z_getR O o_Year_land q463 dX1_cellsOf_6 hr (fun v1 hr => ?_)
  refine z_getI O o_Land_high q584 dX1_cellsOf_9 hr (fun v2 hr => ?_)
  refine z_icmp_ge (tgt := 102) O dX1_cellsOf_12 (by decide) hr (fun hr => ?_) (fun hr => ?_)
  · refine z_iload_n O 2 dX1_cellsOf_102 rfl rfl ?_
    exact z_iret O dX1_cellsOf_103 (by cases hr; rfl)
  · refine z_iconst O dX1_cellsOf_15 kic_0 ?_
    refine z_istore O [(4, vi (0 : Int32)), (0, vr x0), (1, vi x1), (2, vi x2), (3, vi x3)] dX1_cellsOf_16 (by decide) rfl ?_
    refine z_sub [1, 2, 3, 4, 0] rfl ?_
    exact wX1_cellsOf_18 O N rec4 x0 x1 x3 h hrec4 _ x2 (0 : Int32) _ hr
theorem wX1_cellsOf_4 {K : ZC} (O : ZOk K cX1_cellsOf RX1 "cellsOf" 6 (some .int) 4 116) (N : Nat) (x0 : Option Nat) (x1 : Int32) (h : AH) : ∀ (n : Nat) (x2 : Int32) (x3 : Int32) (r : Int32), lf (fun _ _ => none) (BX1_cellsOf_4 N x0 x1 h) n x2 x3 = some r → Zw K (eI h r) h 4 [(0, vr x0), (1, vi x1), (2, vi x2), (3, vi x3)] [] := by
  intro n
  induction n with
  | zero => intro x2 x3 r hr; cases hr
  | succ n ih => intro x2 x3 r hr; exact wX1_cellsOf_4B O N x0 x1 h (lf (fun _ _ => none) (BX1_cellsOf_4 N x0 x1 h) n)  ih x2 x3 r hr
def F_X1_cellsOf (N : Nat) (x0 : Option Nat) (x1 : Int32) (h : AH) : Option (Int32) :=
  (ck h [1] x0).bind fun _ =>
  LX1_cellsOf_4 N x0 x1 h (0 : Int32) (0 : Int32)
theorem mX1_cellsOf (l : Launch) (G : ZG) (N : Nat) (x0 : Option Nat) (x1 : Int32) (h : AH) (r : Int32) (hr : F_X1_cellsOf N x0 x1 h = some r) : MZ l G yX1_cellsOf cX1_cellsOf 6 (some .int) 4 116 [vr x0, vi x1] h (eI h r) := by
  unfold F_X1_cellsOf at hr
  refine MZ.of (by decide) [(0, vr x0), (1, vi x1)] rfl (Nat.le_of_ble_eq_true rfl) (fun K O => ?_)
  have O : ZOk K cX1_cellsOf RX1 "cellsOf" 6 (some .int) 4 116 := O
  refine bs hr (fun _ hck hr => ?_)
  refine z_iconst O dX1_cellsOf_0 kic_0 ?_
  refine z_istore_n O [(2, vi (0 : Int32)), (0, vr x0), (1, vi x1)] dX1_cellsOf_1 rfl (by decide) rfl ?_
  refine z_iconst O dX1_cellsOf_2 kic_0 ?_
  refine z_istore_n O [(3, vi (0 : Int32)), (2, vi (0 : Int32)), (0, vr x0), (1, vi x1)] dX1_cellsOf_3 rfl (by decide) rfl ?_
  refine z_sub [2, 3, 1, 0] rfl ?_
  exact wX1_cellsOf_4 O N x0 x1 h _ (0 : Int32) (0 : Int32) _ hr
theorem fV_X1_free : CVf RX1 yX1_free cX1_free 1 (some .int) 0 := ⟨q1238, q1239, q126, q1240, ⟨⟨by decide +kernel, by decide +kernel⟩, by decide +kernel⟩⟩
def F_X1_free (N : Nat) (x0 : Option Nat) (h : AH) : Option (Int32 × AH) :=
  (ck h [1] x0).bind fun _ =>
  (F_X1_anew x0 h).bind fun h1 =>
  (gR h1 f_Year_land x0).bind fun v2 =>
  if v2 = none then
    b2 (F_X1_no x0 (1 : Int32) h1) fun v5 h4 =>
    some (v5, h4)
  else
    (F_X1_cellsOf N x0 (0 : Int32) h1).bind fun v3 =>
    some (v3, h1)
theorem mX1_free (l : Launch) (G : ZG) (N : Nat) (x0 : Option Nat) (h : AH) (r : Int32 × AH) (hr : F_X1_free N x0 h = some r) : MZ l G yX1_free cX1_free 1 (some .int) 5 141 [vr x0] h (eIH r) := by
  unfold F_X1_free at hr
  refine MZ.of (by decide) [(0, vr x0)] rfl (Nat.le_of_ble_eq_true rfl) (fun K O => ?_)
  have O : ZOk K cX1_free RX1 "free" 1 (some .int) 5 141 := O
  refine bs hr (fun _ hck hr => ?_)
  refine z_aload_n O 0 dX1_free_0 rfl rfl ?_
  refine bs hr (fun h1 hF hr => ?_)
  refine z_callVv O [] fV_X1_anew q528 (fun l G => mX1_anew l G x0 h _ hF) (zck hF) rfl rfl ⟨Nat.le_of_ble_eq_true rfl, Nat.le_of_ble_eq_true rfl⟩ (Nat.le_of_ble_eq_true rfl) dX1_free_1 ?_
  refine z_aload_n O 0 dX1_free_4 rfl rfl ?_
  refine z_getR O o_Year_land q463 dX1_free_5 hr (fun v2 hr => ?_)
  refine z_ifnonnull (tgt := 19) O dX1_free_8 (by decide) hr (fun hr => ?_) (fun hr => ?_)
  · refine z_aload_n O 0 dX1_free_11 rfl rfl ?_
    refine z_iconst O dX1_free_12 kic_1 ?_
    refine b2s hr (fun v5 h4 hF hr => ?_)
    refine z_callV O [vi (1 : Int32)] (vi v5) fV_X1_no q535 (fun l G => mX1_no l G x0 (1 : Int32) h1 _ hF) (zck hF) rfl rfl ⟨Nat.le_of_ble_eq_true rfl, Nat.le_of_ble_eq_true rfl⟩ (Nat.le_of_ble_eq_true rfl) dX1_free_13 ?_
    refine z_goto (tgt := 24) O dX1_free_16 (by decide) ?_
    exact z_iret O dX1_free_24 (by cases hr; rfl)
  · refine z_aload_n O 0 dX1_free_19 rfl rfl ?_
    refine z_iconst O dX1_free_20 kic_0 ?_
    refine bs hr (fun v3 hF hr => ?_)
    refine z_callV O [vi (0 : Int32)] (vi v3) fV_X1_cellsOf q1232 (fun l G => mX1_cellsOf l G N x0 (0 : Int32) h1 _ hF) (zck hF) rfl rfl ⟨Nat.le_of_ble_eq_true rfl, Nat.le_of_ble_eq_true rfl⟩ (Nat.le_of_ble_eq_true rfl) dX1_free_21 ?_
    exact z_iret O dX1_free_24 (by cases hr; rfl)
theorem fV_X1_give : CVf RX1 yX1_give cX1_give 5 (some .boolean) 3 := ⟨q1684, q1685, q126, q1686, ⟨⟨by decide +kernel, by decide +kernel⟩, by decide +kernel⟩⟩
def bX1_give_67 (N : Nat) (x0 : Option Nat) (x1 : Int32) (x2 : Int32) (x3 : Int32) (s0 : Int32) (h : AH) : Option (Int32 × AH) :=
  b2 (F_X1_yes x0 s0 h) fun v2 h1 =>
  if v2 = 0 then
    (zb (0 : Int32)).bind fun v15 => some (v15, h1)
  else
    (F_X1_note N x0 h1).bind fun h3 =>
    (gR h3 f_Year_village x0).bind fun v4 =>
    (F_X4_house v4 x1 h3).bind fun v5 =>
    (gI h3 f_House_gold v5).bind fun v6 =>
    (pI h3 f_House_gold v5 (v6 - x3)).bind fun h7 =>
    (gR h7 f_Year_village x0).bind fun v8 =>
    (F_X4_house v8 x2 h7).bind fun v9 =>
    (gI h7 f_House_gold v9).bind fun v10 =>
    (pI h7 f_House_gold v9 (v10 + x3)).bind fun h11 =>
    b2 (F_X1_done N x0 h11) fun v13 h12 =>
    (zb v13).bind fun v14 => some (v14, h12)
theorem wX1_give_67 {K : ZC} (O : ZOk K cX1_give RX1 "give" 5 (some .boolean) 5 135) (N : Nat) (x0 : Option Nat) (x1 : Int32) (x2 : Int32) (x3 : Int32) (s0 : Int32) (h : AH) (r : Int32 × AH) (hr : bX1_give_67 N x0 x1 x2 x3 s0 h = some r) : Zw K (eIH r) h 67 [(0, vr x0), (1, vi x1), (2, vi x2), (3, vi x3)] [vi s0] := by
  unfold bX1_give_67 at hr
  refine z_istore O [(4, vi s0), (0, vr x0), (1, vi x1), (2, vi x2), (3, vi x3)] dX1_give_67 (by decide) rfl ?_
  refine z_aload_n O 1 dX1_give_69 rfl rfl ?_
  refine z_iload O 0 dX1_give_70 rfl ?_
  refine b2s hr (fun v2 h1 hF hr => ?_)
  refine z_callV O [vi s0] (vi v2) fV_X1_yes q1666 (fun l G => mX1_yes l G x0 s0 h _ hF) (zck hF) rfl rfl ⟨Nat.le_of_ble_eq_true rfl, Nat.le_of_ble_eq_true rfl⟩ (Nat.le_of_ble_eq_true rfl) dX1_give_72 ?_
  refine z_if_ne (tgt := 80) O dX1_give_75 (by decide) hr (fun hr => ?_) (fun hr => ?_)
  · refine z_iconst O dX1_give_78 kic_0 ?_
    refine bs hr (fun v15 e0 hr => ?_)
    obtain ⟨e1, e2, -⟩ := zb_spec e0
    exact z_zret O e2 dX1_give_79 (by cases hr; cases e1; rfl)
  · refine z_aload_n O 1 dX1_give_80 rfl rfl ?_
    refine bs hr (fun h3 hF hr => ?_)
    refine z_callVv O [] fV_X1_note q1648 (fun l G => mX1_note l G N x0 h1 _ hF) (zck hF) rfl rfl ⟨Nat.le_of_ble_eq_true rfl, Nat.le_of_ble_eq_true rfl⟩ (Nat.le_of_ble_eq_true rfl) dX1_give_81 ?_
    refine z_aload_n O 1 dX1_give_84 rfl rfl ?_
    refine z_getR O o_Year_village q469 dX1_give_85 hr (fun v4 hr => ?_)
    refine z_iload_n O 2 dX1_give_88 rfl rfl ?_
    refine bs hr (fun v5 hF hr => ?_)
    refine z_callV O [vi x1] (vr v5) fV_X4_house q1249 (fun l G => mX4_house l G v4 x1 h3 _ hF) (zck hF) rfl rfl ⟨Nat.le_of_ble_eq_true rfl, Nat.le_of_ble_eq_true rfl⟩ (Nat.le_of_ble_eq_true rfl) dX1_give_89 ?_
    refine z_dup O dX1_give_92 rfl ?_
    refine z_getI O o_House_gold q321 dX1_give_93 hr (fun v6 hr => ?_)
    refine z_iload_n O 4 dX1_give_96 rfl rfl ?_
    refine z_isub O dX1_give_97 ?_
    refine z_putI O o_House_gold (w_House_gold _) q321 dX1_give_98 hr (fun h7 hr => ?_)
    refine z_aload_n O 1 dX1_give_101 rfl rfl ?_
    refine z_getR O o_Year_village q469 dX1_give_102 hr (fun v8 hr => ?_)
    refine z_iload_n O 3 dX1_give_105 rfl rfl ?_
    refine bs hr (fun v9 hF hr => ?_)
    refine z_callV O [vi x2] (vr v9) fV_X4_house q1249 (fun l G => mX4_house l G v8 x2 h7 _ hF) (zck hF) rfl rfl ⟨Nat.le_of_ble_eq_true rfl, Nat.le_of_ble_eq_true rfl⟩ (Nat.le_of_ble_eq_true rfl) dX1_give_106 ?_
    refine z_dup O dX1_give_109 rfl ?_
    refine z_getI O o_House_gold q321 dX1_give_110 hr (fun v10 hr => ?_)
    refine z_iload_n O 4 dX1_give_113 rfl rfl ?_
    refine z_iadd O dX1_give_114 ?_
    refine z_putI O o_House_gold (w_House_gold _) q321 dX1_give_115 hr (fun h11 hr => ?_)
    refine z_aload_n O 1 dX1_give_118 rfl rfl ?_
    refine b2s hr (fun v13 h12 hF hr => ?_)
    refine z_callV O [] (vi v13) fV_X1_done q1652 (fun l G => mX1_done l G N x0 h11 _ hF) (zck hF) rfl rfl ⟨Nat.le_of_ble_eq_true rfl, Nat.le_of_ble_eq_true rfl⟩ (Nat.le_of_ble_eq_true rfl) dX1_give_119 ?_
    refine bs hr (fun v14 e0 hr => ?_)
    obtain ⟨e1, e2, -⟩ := zb_spec e0
    exact z_zret O e2 dX1_give_122 (by cases hr; cases e1; rfl)
def F_X1_give (N : Nat) (x0 : Option Nat) (x1 : Int32) (x2 : Int32) (x3 : Int32) (h : AH) : Option (Int32 × AH) :=
  (ck h [1] x0).bind fun _ =>
  (F_X1_isHouse x0 x1 h).bind fun v1 =>
  if v1 = 0 then
    bX1_give_67 N x0 x1 x2 x3 (1 : Int32) h
  else
    (F_X1_isHouse x0 x2 h).bind fun v2 =>
    if v2 = 0 then
      bX1_give_67 N x0 x1 x2 x3 (1 : Int32) h
    else
      if x1 = x2 then
        bX1_give_67 N x0 x1 x2 x3 (1 : Int32) h
      else
        (gR h f_Year_village x0).bind fun v3 =>
        (F_X4_house v3 x1 h).bind fun v4 =>
        (gI h f_House_gold v4).bind fun v5 =>
        (gR h f_Year_village x0).bind fun v6 =>
        (F_X4_house v6 x2 h).bind fun v7 =>
        (gI h f_House_gold v7).bind fun v8 =>
        (F_X1_within x3 (1 : Int32) (jmin v5 ((999 : Int32) - v8))).bind fun v9 =>
        if v9 = 0 then
          bX1_give_67 N x0 x1 x2 x3 (2 : Int32) h
        else
          bX1_give_67 N x0 x1 x2 x3 (0 : Int32) h
theorem mX1_give (l : Launch) (G : ZG) (N : Nat) (x0 : Option Nat) (x1 : Int32) (x2 : Int32) (x3 : Int32) (h : AH) (r : Int32 × AH) (hr : F_X1_give N x0 x1 x2 x3 h = some r) : MZ l G yX1_give cX1_give 5 (some .boolean) 5 135 [vr x0, vi x1, vi x2, vi x3] h (eIH r) := by
  unfold F_X1_give at hr
  refine MZ.of (by decide) [(0, vr x0), (1, vi x1), (2, vi x2), (3, vi x3)] rfl (Nat.le_of_ble_eq_true rfl) (fun K O => ?_)
  have O : ZOk K cX1_give RX1 "give" 5 (some .boolean) 5 135 := O
  refine bs hr (fun _ hck hr => ?_)
  refine z_aload_n O 0 dX1_give_0 rfl rfl ?_
  refine z_iload_n O 1 dX1_give_1 rfl rfl ?_
  refine bs hr (fun v1 hF hr => ?_)
  refine z_callV O [vi x1] (vi v1) fV_X1_isHouse q1245 (fun l G => mX1_isHouse l G x0 x1 h _ hF) (zck hF) rfl rfl ⟨Nat.le_of_ble_eq_true rfl, Nat.le_of_ble_eq_true rfl⟩ (Nat.le_of_ble_eq_true rfl) dX1_give_2 ?_
  refine z_if_eq (tgt := 21) O dX1_give_5 (by decide) hr (fun hr => ?_) (fun hr => ?_)
  · refine z_iconst O dX1_give_21 kic_1 ?_
    refine z_goto (tgt := 67) O dX1_give_22 (by decide) ?_
    exact wX1_give_67 O N x0 x1 x2 x3 (1 : Int32) h _ hr
  · refine z_aload_n O 0 dX1_give_8 rfl rfl ?_
    refine z_iload_n O 2 dX1_give_9 rfl rfl ?_
    refine bs hr (fun v2 hF hr => ?_)
    refine z_callV O [vi x2] (vi v2) fV_X1_isHouse q1245 (fun l G => mX1_isHouse l G x0 x2 h _ hF) (zck hF) rfl rfl ⟨Nat.le_of_ble_eq_true rfl, Nat.le_of_ble_eq_true rfl⟩ (Nat.le_of_ble_eq_true rfl) dX1_give_10 ?_
    refine z_if_eq (tgt := 21) O dX1_give_13 (by decide) hr (fun hr => ?_) (fun hr => ?_)
    · refine z_iconst O dX1_give_21 kic_1 ?_
      refine z_goto (tgt := 67) O dX1_give_22 (by decide) ?_
      exact wX1_give_67 O N x0 x1 x2 x3 (1 : Int32) h _ hr
    · refine z_iload_n O 1 dX1_give_16 rfl rfl ?_
      refine z_iload_n O 2 dX1_give_17 rfl rfl ?_
      refine z_icmp_ne (tgt := 25) O dX1_give_18 (by decide) hr (fun hr => ?_) (fun hr => ?_)
      · refine z_iconst O dX1_give_21 kic_1 ?_
        refine z_goto (tgt := 67) O dX1_give_22 (by decide) ?_
        exact wX1_give_67 O N x0 x1 x2 x3 (1 : Int32) h _ hr
      · refine z_iload_n O 3 dX1_give_25 rfl rfl ?_
        refine z_iconst O dX1_give_26 kic_1 ?_
        refine z_aload_n O 0 dX1_give_27 rfl rfl ?_
        refine z_getR O o_Year_village q469 dX1_give_28 hr (fun v3 hr => ?_)
        refine z_iload_n O 1 dX1_give_31 rfl rfl ?_
        refine bs hr (fun v4 hF hr => ?_)
        refine z_callV O [vi x1] (vr v4) fV_X4_house q1249 (fun l G => mX4_house l G v3 x1 h _ hF) (zck hF) rfl rfl ⟨Nat.le_of_ble_eq_true rfl, Nat.le_of_ble_eq_true rfl⟩ (Nat.le_of_ble_eq_true rfl) dX1_give_32 ?_
        refine z_getI O o_House_gold q321 dX1_give_35 hr (fun v5 hr => ?_)
        refine z_sipush O dX1_give_38 ksi_999 ?_
        refine z_aload_n O 0 dX1_give_41 rfl rfl ?_
        refine z_getR O o_Year_village q469 dX1_give_42 hr (fun v6 hr => ?_)
        refine z_iload_n O 2 dX1_give_45 rfl rfl ?_
        refine bs hr (fun v7 hF hr => ?_)
        refine z_callV O [vi x2] (vr v7) fV_X4_house q1249 (fun l G => mX4_house l G v6 x2 h _ hF) (zck hF) rfl rfl ⟨Nat.le_of_ble_eq_true rfl, Nat.le_of_ble_eq_true rfl⟩ (Nat.le_of_ble_eq_true rfl) dX1_give_46 ?_
        refine z_getI O o_House_gold q321 dX1_give_49 hr (fun v8 hr => ?_)
        refine z_isub O dX1_give_52 ?_
        refine z_mmin O q1674 ⟨Nat.le_of_ble_eq_true rfl, Nat.le_of_ble_eq_true rfl⟩ (Nat.le_of_ble_eq_true rfl) dX1_give_53 ?_
        refine bs hr (fun v9 hF hr => ?_)
        refine z_callS O [vi x3, vi (1 : Int32), vi (jmin v5 ((999 : Int32) - v8))] (vi v9) fS_X1_within q532 (fun l G => mX1_within l G x3 (1 : Int32) (jmin v5 ((999 : Int32) - v8)) h _ hF) rfl ⟨Nat.le_of_ble_eq_true rfl, Nat.le_of_ble_eq_true rfl⟩ (Nat.le_of_ble_eq_true rfl) dX1_give_56 ?_
        refine z_if_ne (tgt := 66) O dX1_give_59 (by decide) hr (fun hr => ?_) (fun hr => ?_)
        · refine z_iconst O dX1_give_62 kic_2 ?_
          refine z_goto (tgt := 67) O dX1_give_63 (by decide) ?_
          exact wX1_give_67 O N x0 x1 x2 x3 (2 : Int32) h _ hr
        · refine z_iconst O dX1_give_66 kic_0 ?_
          exact wX1_give_67 O N x0 x1 x2 x3 (0 : Int32) h _ hr
theorem fV_X4_heads : CVf RX4 yX4_heads cX4_heads 3 (some .int) 0 := ⟨q1543, q1544, q132, q1545, ⟨⟨by decide +kernel, by decide +kernel⟩, by decide +kernel⟩⟩
def BX4_heads_4 (N : Nat) (x0 : Option Nat) (h : AH) (rec4 : Int32 → Int32 → Option (Int32)) : Int32 → Int32 → Option (Int32) := fun x1 x2 =>
  (gI h f_Village_many x0).bind fun v1 =>
  if v1 ≤ x2 then
    some x1
  else
    (gR h f_Village_houses x0).bind fun v2 =>
    (aR h v2 x2).bind fun v3 =>
    (gI h f_House_family v3).bind fun v4 =>
    jlet (x1 + v4) fun v5 =>
    jlet (x2 + (1 : Int32)) fun v6 =>
    rec4 v5 v6
def LX4_heads_4 (N : Nat) (x0 : Option Nat) (h : AH) : Int32 → Int32 → Option (Int32) := lf (fun _ _ => none) (BX4_heads_4 N x0 h) N
theorem wX4_heads_4B {K : ZC} (O : ZOk K cX4_heads RX4 "heads" 3 (some .int) 1 48) (N : Nat) (x0 : Option Nat) (h : AH) (rec4 : Int32 → Int32 → Option (Int32)) (hrec4 : ∀ (y1 : Int32) (y2 : Int32) (ry : Int32), rec4 y1 y2 = some ry → Zw K (eI h ry) h 4 [(0, vr x0), (1, vi y1), (2, vi y2)] []) (x1 : Int32) (x2 : Int32) (r : Int32) (hr : BX4_heads_4 N x0 h rec4 x1 x2 = some r) : Zw K (eI h r) h 4 [(0, vr x0), (1, vi x1), (2, vi x2)] [] := by
  unfold BX4_heads_4 at hr
  refine z_iload_n O 2 dX4_heads_4 rfl rfl ?_
  refine z_aload_n O 0 dX4_heads_5 rfl rfl ?_
  refine z_getI O o_Village_many q345 dX4_heads_6 hr (fun v1 hr => ?_)
  refine z_icmp_ge (tgt := 30) O dX4_heads_9 (by decide) hr (fun hr => ?_) (fun hr => ?_)
  · refine z_iload_n O 1 dX4_heads_30 rfl rfl ?_
    exact z_iret O dX4_heads_31 (by cases hr; rfl)
  · refine z_iload_n O 1 dX4_heads_12 rfl rfl ?_
    refine z_aload_n O 0 dX4_heads_13 rfl rfl ?_
    refine z_getR O o_Village_houses q337 dX4_heads_14 hr (fun v2 hr => ?_)
    refine z_iload_n O 2 dX4_heads_17 rfl rfl ?_
    refine z_aaload O dX4_heads_18 hr (fun v3 hr => ?_)
    refine z_getI O o_House_family q317 dX4_heads_19 hr (fun v4 hr => ?_)
    refine z_iadd O dX4_heads_22 ?_
    refine z_letI hr (fun v5 hr => ?_)
    refine z_istore_n O [(1, vi v5), (0, vr x0), (2, vi x2)] dX4_heads_23 rfl (by decide) rfl ?_
    refine z_iincL O 2 (fun v6 => [(2, vi v6), (1, vi v5), (0, vr x0)]) dX4_heads_24 rfl rfl (by decide) (fun _ => rfl) hr (fun v6 hr => ?_)
    refine z_goto (tgt := 4) O dX4_heads_27 (by decide) ?_
    refine z_sub [2, 1, 0] rfl ?_
    exact hrec4 v5 v6 _ hr
theorem wX4_heads_4 {K : ZC} (O : ZOk K cX4_heads RX4 "heads" 3 (some .int) 1 48) (N : Nat) (x0 : Option Nat) (h : AH) : ∀ (n : Nat) (x1 : Int32) (x2 : Int32) (r : Int32), lf (fun _ _ => none) (BX4_heads_4 N x0 h) n x1 x2 = some r → Zw K (eI h r) h 4 [(0, vr x0), (1, vi x1), (2, vi x2)] [] := by
  intro n
  induction n with
  | zero => intro x1 x2 r hr; cases hr
  | succ n ih => intro x1 x2 r hr; exact wX4_heads_4B O N x0 h (lf (fun _ _ => none) (BX4_heads_4 N x0 h) n)  ih x1 x2 r hr
def F_X4_heads (N : Nat) (x0 : Option Nat) (h : AH) : Option (Int32) :=
  (ck h [4] x0).bind fun _ =>
  LX4_heads_4 N x0 h (0 : Int32) (0 : Int32)
theorem mX4_heads (l : Launch) (G : ZG) (N : Nat) (x0 : Option Nat) (h : AH) (r : Int32) (hr : F_X4_heads N x0 h = some r) : MZ l G yX4_heads cX4_heads 3 (some .int) 1 48 [vr x0] h (eI h r) := by
  unfold F_X4_heads at hr
  refine MZ.of (by decide) [(0, vr x0)] rfl (Nat.le_of_ble_eq_true rfl) (fun K O => ?_)
  have O : ZOk K cX4_heads RX4 "heads" 3 (some .int) 1 48 := O
  refine bs hr (fun _ hck hr => ?_)
  refine z_iconst O dX4_heads_0 kic_0 ?_
  refine z_istore_n O [(1, vi (0 : Int32)), (0, vr x0)] dX4_heads_1 rfl (by decide) rfl ?_
  refine z_iconst O dX4_heads_2 kic_0 ?_
  refine z_istore_n O [(2, vi (0 : Int32)), (1, vi (0 : Int32)), (0, vr x0)] dX4_heads_3 rfl (by decide) rfl ?_
  refine z_sub [2, 1, 0] rfl ?_
  exact wX4_heads_4 O N x0 h _ (0 : Int32) (0 : Int32) _ hr
theorem fV_X1_heads : CVf RX1 yX1_heads cX1_heads 3 (some .int) 2 := ⟨q1538, q1539, q126, q1540, ⟨⟨by decide +kernel, by decide +kernel⟩, by decide +kernel⟩⟩
def F_X1_heads (N : Nat) (x0 : Option Nat) (x1 : Int32) (x2 : Int32) (h : AH) : Option (Int32 × AH) :=
  (ck h [1] x0).bind fun _ =>
  (F_X1_anew x0 h).bind fun h1 =>
  (gR h1 f_Year_land x0).bind fun v2 =>
  if v2 = none then
    b2 (F_X1_no x0 (1 : Int32) h1) fun v19 h18 =>
    some (v19, h18)
  else
    (F_X1_within x1 (0 : Int32) (65536 : Int32)).bind fun v3 =>
    if v3 = 0 then
      b2 (F_X1_no x0 (2 : Int32) h1) fun v5 h4 =>
      some (v5, h4)
    else
      (F_X1_within x2 (0 : Int32) (60 : Int32)).bind fun v6 =>
      if v6 = 0 then
        b2 (F_X1_no x0 (2 : Int32) h1) fun v17 h16 =>
        some (v17, h16)
      else
        (gR h1 f_Year_trial x0).bind fun v7 =>
        (gR h1 f_Year_village x0).bind fun v8 =>
        (F_X4_become N v7 v8 h1).bind fun h9 =>
        (gR h9 f_Year_trial x0).bind fun v10 =>
        (pI h9 f_Village_seed v10 x1).bind fun h11 =>
        (gR h11 f_Year_trial x0).bind fun v12 =>
        (F_X4_goesOnFor N v12 x2 h11).bind fun h13 =>
        (gR h13 f_Year_trial x0).bind fun v14 =>
        (F_X4_heads N v14 h13).bind fun v15 =>
        some (v15, h13)
theorem mX1_heads (l : Launch) (G : ZG) (N : Nat) (x0 : Option Nat) (x1 : Int32) (x2 : Int32) (h : AH) (r : Int32 × AH) (hr : F_X1_heads N x0 x1 x2 h = some r) : MZ l G yX1_heads cX1_heads 3 (some .int) 11 279 [vr x0, vi x1, vi x2] h (eIH r) := by
  unfold F_X1_heads at hr
  refine MZ.of (by decide) [(0, vr x0), (1, vi x1), (2, vi x2)] rfl (Nat.le_of_ble_eq_true rfl) (fun K O => ?_)
  have O : ZOk K cX1_heads RX1 "heads" 3 (some .int) 11 279 := O
  refine bs hr (fun _ hck hr => ?_)
  refine z_aload_n O 0 dX1_heads_0 rfl rfl ?_
  refine bs hr (fun h1 hF hr => ?_)
  refine z_callVv O [] fV_X1_anew q528 (fun l G => mX1_anew l G x0 h _ hF) (zck hF) rfl rfl ⟨Nat.le_of_ble_eq_true rfl, Nat.le_of_ble_eq_true rfl⟩ (Nat.le_of_ble_eq_true rfl) dX1_heads_1 ?_
  refine z_aload_n O 0 dX1_heads_4 rfl rfl ?_
  refine z_getR O o_Year_land q463 dX1_heads_5 hr (fun v2 hr => ?_)
  refine z_ifnonnull (tgt := 17) O dX1_heads_8 (by decide) hr (fun hr => ?_) (fun hr => ?_)
  · refine z_aload_n O 0 dX1_heads_11 rfl rfl ?_
    refine z_iconst O dX1_heads_12 kic_1 ?_
    refine b2s hr (fun v19 h18 hF hr => ?_)
    refine z_callV O [vi (1 : Int32)] (vi v19) fV_X1_no q535 (fun l G => mX1_no l G x0 (1 : Int32) h1 _ hF) (zck hF) rfl rfl ⟨Nat.le_of_ble_eq_true rfl, Nat.le_of_ble_eq_true rfl⟩ (Nat.le_of_ble_eq_true rfl) dX1_heads_13 ?_
    exact z_iret O dX1_heads_16 (by cases hr; rfl)
  · refine z_iload_n O 1 dX1_heads_17 rfl rfl ?_
    refine z_iconst O dX1_heads_18 kic_0 ?_
    refine z_ldcw O q1541 dX1_heads_19 ?_
    refine bs hr (fun v3 hF hr => ?_)
    refine z_callS O [vi x1, vi (0 : Int32), vi (65536 : Int32)] (vi v3) fS_X1_within q532 (fun l G => mX1_within l G x1 (0 : Int32) (65536 : Int32) h1 _ hF) rfl ⟨Nat.le_of_ble_eq_true rfl, Nat.le_of_ble_eq_true rfl⟩ (Nat.le_of_ble_eq_true rfl) dX1_heads_22 ?_
    refine z_if_eq (tgt := 38) O dX1_heads_25 (by decide) hr (fun hr => ?_) (fun hr => ?_)
    · refine z_aload_n O 0 dX1_heads_38 rfl rfl ?_
      refine z_iconst O dX1_heads_39 kic_2 ?_
      refine b2s hr (fun v5 h4 hF hr => ?_)
      refine z_callV O [vi (2 : Int32)] (vi v5) fV_X1_no q535 (fun l G => mX1_no l G x0 (2 : Int32) h1 _ hF) (zck hF) rfl rfl ⟨Nat.le_of_ble_eq_true rfl, Nat.le_of_ble_eq_true rfl⟩ (Nat.le_of_ble_eq_true rfl) dX1_heads_40 ?_
      exact z_iret O dX1_heads_43 (by cases hr; rfl)
    · refine z_iload_n O 2 dX1_heads_28 rfl rfl ?_
      refine z_iconst O dX1_heads_29 kic_0 ?_
      refine z_bipush O dX1_heads_30 kbi_60 ?_
      refine bs hr (fun v6 hF hr => ?_)
      refine z_callS O [vi x2, vi (0 : Int32), vi (60 : Int32)] (vi v6) fS_X1_within q532 (fun l G => mX1_within l G x2 (0 : Int32) (60 : Int32) h1 _ hF) rfl ⟨Nat.le_of_ble_eq_true rfl, Nat.le_of_ble_eq_true rfl⟩ (Nat.le_of_ble_eq_true rfl) dX1_heads_32 ?_
      refine z_if_ne (tgt := 44) O dX1_heads_35 (by decide) hr (fun hr => ?_) (fun hr => ?_)
      · refine z_aload_n O 0 dX1_heads_38 rfl rfl ?_
        refine z_iconst O dX1_heads_39 kic_2 ?_
        refine b2s hr (fun v17 h16 hF hr => ?_)
        refine z_callV O [vi (2 : Int32)] (vi v17) fV_X1_no q535 (fun l G => mX1_no l G x0 (2 : Int32) h1 _ hF) (zck hF) rfl rfl ⟨Nat.le_of_ble_eq_true rfl, Nat.le_of_ble_eq_true rfl⟩ (Nat.le_of_ble_eq_true rfl) dX1_heads_40 ?_
        exact z_iret O dX1_heads_43 (by cases hr; rfl)
      · refine z_aload_n O 0 dX1_heads_44 rfl rfl ?_
        refine z_getR O o_Year_trial q471 dX1_heads_45 hr (fun v7 hr => ?_)
        refine z_aload_n O 0 dX1_heads_48 rfl rfl ?_
        refine z_getR O o_Year_village q469 dX1_heads_49 hr (fun v8 hr => ?_)
        refine bs hr (fun h9 hF hr => ?_)
        refine z_callVv O [vr v8] fV_X4_become q1199 (fun l G => mX4_become l G N v7 v8 h1 _ hF) (zck hF) rfl rfl ⟨Nat.le_of_ble_eq_true rfl, Nat.le_of_ble_eq_true rfl⟩ (Nat.le_of_ble_eq_true rfl) dX1_heads_52 ?_
        refine z_aload_n O 0 dX1_heads_55 rfl rfl ?_
        refine z_getR O o_Year_trial q471 dX1_heads_56 hr (fun v10 hr => ?_)
        refine z_iload_n O 1 dX1_heads_59 rfl rfl ?_
        refine z_putI O o_Village_seed (w_Village_seed _) q351 dX1_heads_60 hr (fun h11 hr => ?_)
        refine z_aload_n O 0 dX1_heads_63 rfl rfl ?_
        refine z_getR O o_Year_trial q471 dX1_heads_64 hr (fun v12 hr => ?_)
        refine z_iload_n O 2 dX1_heads_67 rfl rfl ?_
        refine bs hr (fun h13 hF hr => ?_)
        refine z_callVv O [vi x2] fV_X4_goesOnFor q1439 (fun l G => mX4_goesOnFor l G N v12 x2 h11 _ hF) (zck hF) rfl rfl ⟨Nat.le_of_ble_eq_true rfl, Nat.le_of_ble_eq_true rfl⟩ (Nat.le_of_ble_eq_true rfl) dX1_heads_68 ?_
        refine z_aload_n O 0 dX1_heads_71 rfl rfl ?_
        refine z_getR O o_Year_trial q471 dX1_heads_72 hr (fun v14 hr => ?_)
        refine bs hr (fun v15 hF hr => ?_)
        refine z_callV O [] (vi v15) fV_X4_heads q1542 (fun l G => mX4_heads l G N v14 h13 _ hF) (zck hF) rfl rfl ⟨Nat.le_of_ble_eq_true rfl, Nat.le_of_ble_eq_true rfl⟩ (Nat.le_of_ble_eq_true rfl) dX1_heads_75 ?_
        exact z_iret O dX1_heads_78 (by cases hr; rfl)
theorem fV_X1_isHeir : CVf RX1 yX1_isHeir cX1_isHeir 2 (some .boolean) 1 := ⟨q1306, qs39, q126, q1307, ⟨⟨by decide +kernel, by decide +kernel⟩, by decide +kernel⟩⟩
def F_X1_isHeir (x0 : Option Nat) (x1 : Int32) (h : AH) : Option (Int32) :=
  (ck h [1] x0).bind fun _ =>
  (gR h f_Year_land x0).bind fun v1 =>
  if v1 = none then
    zb (0 : Int32)
  else
    (gR h f_Year_land x0).bind fun v2 =>
    (gI h f_Land_heirMany v2).bind fun v3 =>
    (F_X1_within x1 (0 : Int32) (v3 - (1 : Int32))).bind fun v4 =>
    if v4 = 0 then
      zb (0 : Int32)
    else
      zb (1 : Int32)
theorem mX1_isHeir (l : Launch) (G : ZG) (x0 : Option Nat) (x1 : Int32) (h : AH) (r : Int32) (hr : F_X1_isHeir x0 x1 h = some r) : MZ l G yX1_isHeir cX1_isHeir 2 (some .boolean) 2 70 [vr x0, vi x1] h (eI h r) := by
  unfold F_X1_isHeir at hr
  refine MZ.of (by decide) [(0, vr x0), (1, vi x1)] rfl (Nat.le_of_ble_eq_true rfl) (fun K O => ?_)
  have O : ZOk K cX1_isHeir RX1 "isHeir" 2 (some .boolean) 2 70 := O
  refine bs hr (fun _ hck hr => ?_)
  refine z_aload_n O 0 dX1_isHeir_0 rfl rfl ?_
  refine z_getR O o_Year_land q463 dX1_isHeir_1 hr (fun v1 hr => ?_)
  refine z_ifnull (tgt := 28) O dX1_isHeir_4 (by decide) hr (fun hr => ?_) (fun hr => ?_)
  · refine z_iconst O dX1_isHeir_28 kic_0 ?_
    obtain ⟨e1, e2, -⟩ := zb_spec hr
    exact z_zret O e2 dX1_isHeir_29 (by cases e1; rfl)
  · refine z_iload_n O 1 dX1_isHeir_7 rfl rfl ?_
    refine z_iconst O dX1_isHeir_8 kic_0 ?_
    refine z_aload_n O 0 dX1_isHeir_9 rfl rfl ?_
    refine z_getR O o_Year_land q463 dX1_isHeir_10 hr (fun v2 hr => ?_)
    refine z_getI O o_Land_heirMany q602 dX1_isHeir_13 hr (fun v3 hr => ?_)
    refine z_iconst O dX1_isHeir_16 kic_1 ?_
    refine z_isub O dX1_isHeir_17 ?_
    refine bs hr (fun v4 hF hr => ?_)
    refine z_callS O [vi x1, vi (0 : Int32), vi (v3 - (1 : Int32))] (vi v4) fS_X1_within q532 (fun l G => mX1_within l G x1 (0 : Int32) (v3 - (1 : Int32)) h _ hF) rfl ⟨Nat.le_of_ble_eq_true rfl, Nat.le_of_ble_eq_true rfl⟩ (Nat.le_of_ble_eq_true rfl) dX1_isHeir_18 ?_
    refine z_if_eq (tgt := 28) O dX1_isHeir_21 (by decide) hr (fun hr => ?_) (fun hr => ?_)
    · refine z_iconst O dX1_isHeir_28 kic_0 ?_
      obtain ⟨e1, e2, -⟩ := zb_spec hr
      exact z_zret O e2 dX1_isHeir_29 (by cases e1; rfl)
    · refine z_iconst O dX1_isHeir_24 kic_1 ?_
      refine z_goto (tgt := 29) O dX1_isHeir_25 (by decide) ?_
      obtain ⟨e1, e2, -⟩ := zb_spec hr
      exact z_zret O e2 dX1_isHeir_29 (by cases e1; rfl)
theorem fV_X5_warm : CVf RX5 yX5_warm cX5_warm 4 (some .int) 1 := ⟨q1292, q1293, q133, q1294, ⟨⟨by decide +kernel, by decide +kernel⟩, by decide +kernel⟩⟩
def BX5_warm_8 (N : Nat) (x0 : Option Nat) (h : AH) (rec8 : Int32 → Int32 → Option (Int32)) : Int32 → Int32 → Option (Int32) := fun x2 x3 =>
  (gI h f_House_many x0).bind fun v1 =>
  if v1 < x3 then
    some x2
  else
    (F_X5_skin x0 x3 h).bind fun v2 =>
    (gI h f_Skin_collapsed v2).bind fun v3 =>
    if v3 = 0 then
      (F_X5_skin x0 x3 h).bind fun v4 =>
      (gR h f_Skin_stone v4).bind fun v5 =>
      (gI h f_Stone_warm v5).bind fun v6 =>
      jlet (x2 + v6) fun v7 =>
      jlet (x3 + (1 : Int32)) fun v8 =>
      rec8 v7 v8
    else
      jlet (x2 + (0 : Int32)) fun v9 =>
      jlet (x3 + (1 : Int32)) fun v10 =>
      rec8 v9 v10
def LX5_warm_8 (N : Nat) (x0 : Option Nat) (h : AH) : Int32 → Int32 → Option (Int32) := lf (fun _ _ => none) (BX5_warm_8 N x0 h) N
theorem wX5_warm_8B {K : ZC} (O : ZOk K cX5_warm RX5 "warm" 4 (some .int) 2 69) (N : Nat) (x0 : Option Nat) (h : AH) (rec8 : Int32 → Int32 → Option (Int32)) (hrec8 : ∀ (y2 : Int32) (y3 : Int32) (ry : Int32), rec8 y2 y3 = some ry → Zw K (eI h ry) h 8 [(0, vr x0), (2, vi y2), (3, vi y3)] []) (x2 : Int32) (x3 : Int32) (r : Int32) (hr : BX5_warm_8 N x0 h rec8 x2 x3 = some r) : Zw K (eI h r) h 8 [(0, vr x0), (2, vi x2), (3, vi x3)] [] := by
  unfold BX5_warm_8 at hr
  refine z_iload_n O 2 dX5_warm_8 rfl rfl ?_
  refine z_aload_n O 0 dX5_warm_9 rfl rfl ?_
  refine z_getI O o_House_many q311 dX5_warm_10 hr (fun v1 hr => ?_)
  refine z_icmp_gt (tgt := 51) O dX5_warm_13 (by decide) hr (fun hr => ?_) (fun hr => ?_)
  · refine z_iload_n O 1 dX5_warm_51 rfl rfl ?_
    exact z_iret O dX5_warm_52 (by cases hr; rfl)
  · refine z_iload_n O 1 dX5_warm_16 rfl rfl ?_
    refine z_aload_n O 0 dX5_warm_17 rfl rfl ?_
    refine z_iload_n O 2 dX5_warm_18 rfl rfl ?_
    refine bs hr (fun v2 hF hr => ?_)
    refine z_callV O [vi x3] (vr v2) fV_X5_skin q1127 (fun l G => mX5_skin l G x0 x3 h _ hF) (zck hF) rfl rfl ⟨Nat.le_of_ble_eq_true rfl, Nat.le_of_ble_eq_true rfl⟩ (Nat.le_of_ble_eq_true rfl) dX5_warm_19 ?_
    refine z_getI O o_Skin_collapsed q284 dX5_warm_22 hr (fun v3 hr => ?_)
    refine z_if_eq (tgt := 32) O dX5_warm_25 (by decide) hr (fun hr => ?_) (fun hr => ?_)
    · refine z_aload_n O 0 dX5_warm_32 rfl rfl ?_
      refine z_iload_n O 2 dX5_warm_33 rfl rfl ?_
      refine bs hr (fun v4 hF hr => ?_)
      refine z_callV O [vi x3] (vr v4) fV_X5_skin q1127 (fun l G => mX5_skin l G x0 x3 h _ hF) (zck hF) rfl rfl ⟨Nat.le_of_ble_eq_true rfl, Nat.le_of_ble_eq_true rfl⟩ (Nat.le_of_ble_eq_true rfl) dX5_warm_34 ?_
      refine z_getR O o_Skin_stone q266 dX5_warm_37 hr (fun v5 hr => ?_)
      refine z_getI O o_Stone_warm q945 dX5_warm_40 hr (fun v6 hr => ?_)
      refine z_iadd O dX5_warm_43 ?_
      refine z_letI hr (fun v7 hr => ?_)
      refine z_istore_n O [(2, vi v7), (0, vr x0), (3, vi x3)] dX5_warm_44 rfl (by decide) rfl ?_
      refine z_iincL O 2 (fun v8 => [(3, vi v8), (2, vi v7), (0, vr x0)]) dX5_warm_45 rfl rfl (by decide) (fun _ => rfl) hr (fun v8 hr => ?_)
      refine z_goto (tgt := 8) O dX5_warm_48 (by decide) ?_
      refine z_sub [2, 1, 0] rfl ?_
      exact hrec8 v7 v8 _ hr
    · refine z_iconst O dX5_warm_28 kic_0 ?_
      refine z_goto (tgt := 43) O dX5_warm_29 (by decide) ?_
      refine z_iadd O dX5_warm_43 ?_
      refine z_letI hr (fun v9 hr => ?_)
      refine z_istore_n O [(2, vi v9), (0, vr x0), (3, vi x3)] dX5_warm_44 rfl (by decide) rfl ?_
      refine z_iincL O 2 (fun v10 => [(3, vi v10), (2, vi v9), (0, vr x0)]) dX5_warm_45 rfl rfl (by decide) (fun _ => rfl) hr (fun v10 hr => ?_)
      refine z_goto (tgt := 8) O dX5_warm_48 (by decide) ?_
      refine z_sub [2, 1, 0] rfl ?_
      exact hrec8 v9 v10 _ hr
theorem wX5_warm_8 {K : ZC} (O : ZOk K cX5_warm RX5 "warm" 4 (some .int) 2 69) (N : Nat) (x0 : Option Nat) (h : AH) : ∀ (n : Nat) (x2 : Int32) (x3 : Int32) (r : Int32), lf (fun _ _ => none) (BX5_warm_8 N x0 h) n x2 x3 = some r → Zw K (eI h r) h 8 [(0, vr x0), (2, vi x2), (3, vi x3)] [] := by
  intro n
  induction n with
  | zero => intro x2 x3 r hr; cases hr
  | succ n ih => intro x2 x3 r hr; exact wX5_warm_8B O N x0 h (lf (fun _ _ => none) (BX5_warm_8 N x0 h) n)  ih x2 x3 r hr
def F_X5_warm (N : Nat) (x0 : Option Nat) (x1 : Int32) (h : AH) : Option (Int32) :=
  (ck h [5] x0).bind fun _ =>
  jlet (jmax (1 : Int32) x1) fun v1 =>
  LX5_warm_8 N x0 h (0 : Int32) v1
theorem mX5_warm (l : Launch) (G : ZG) (N : Nat) (x0 : Option Nat) (x1 : Int32) (h : AH) (r : Int32) (hr : F_X5_warm N x0 x1 h = some r) : MZ l G yX5_warm cX5_warm 4 (some .int) 2 69 [vr x0, vi x1] h (eI h r) := by
  unfold F_X5_warm at hr
  refine MZ.of (by decide) [(0, vr x0), (1, vi x1)] rfl (Nat.le_of_ble_eq_true rfl) (fun K O => ?_)
  have O : ZOk K cX5_warm RX5 "warm" 4 (some .int) 2 69 := O
  refine bs hr (fun _ hck hr => ?_)
  refine z_iconst O dX5_warm_0 kic_0 ?_
  refine z_istore_n O [(2, vi (0 : Int32)), (0, vr x0), (1, vi x1)] dX5_warm_1 rfl (by decide) rfl ?_
  refine z_iconst O dX5_warm_2 kic_1 ?_
  refine z_iload_n O 2 dX5_warm_3 rfl rfl ?_
  refine z_mmax O q1055 ⟨Nat.le_of_ble_eq_true rfl, Nat.le_of_ble_eq_true rfl⟩ (Nat.le_of_ble_eq_true rfl) dX5_warm_4 ?_
  refine z_letI hr (fun v1 hr => ?_)
  refine z_istore_n O [(3, vi v1), (2, vi (0 : Int32)), (0, vr x0), (1, vi x1)] dX5_warm_7 rfl (by decide) rfl ?_
  refine z_sub [2, 1, 0] rfl ?_
  exact wX5_warm_8 O N x0 h _ (0 : Int32) v1 _ hr
theorem fV_X1_heir : CVf RX1 yX1_heir cX1_heir 4 (some .int) 2 := ⟨q1301, q1302, q126, q1303, ⟨⟨by decide +kernel, by decide +kernel⟩, by decide +kernel⟩⟩
def F_X1_heir (N : Nat) (x0 : Option Nat) (x1 : Int32) (x2 : Int32) (h : AH) : Option (Int32 × AH) :=
  (ck h [1] x0).bind fun _ =>
  (F_X1_anew x0 h).bind fun h1 =>
  (F_X1_isHeir x0 x1 h1).bind fun v2 =>
  if v2 = 0 then
    b2 (F_X1_no x0 (1 : Int32) h1) fun v4 h3 =>
    some (v4, h3)
  else
    (F_X1_within x2 (0 : Int32) (2 : Int32)).bind fun v5 =>
    if v5 = 0 then
      b2 (F_X1_no x0 (1 : Int32) h1) fun v20 h19 =>
      some (v20, h19)
    else
      (gR h1 f_Year_land x0).bind fun v6 =>
      (gR h1 f_Land_heirs v6).bind fun v7 =>
      (aR h1 v7 x1).bind fun v8 =>
      (gI h1 f_Heir_house v8).bind fun v9 =>
      if x2 = 0 then
        some (v9, h1)
      else
        if x2 = (1 : Int32) then
          (gR h1 f_Year_village x0).bind fun v16 =>
          (gR h1 f_Village_depth v16).bind fun v17 =>
          (aI h1 0 v17 x1).bind fun v18 =>
          some (v18, h1)
        else
          (gR h1 f_Year_village x0).bind fun v10 =>
          (F_X4_house v10 v9 h1).bind fun v11 =>
          (gR h1 f_Year_village x0).bind fun v12 =>
          (gR h1 f_Village_depth v12).bind fun v13 =>
          (aI h1 0 v13 x1).bind fun v14 =>
          (F_X5_warm N v11 v14 h1).bind fun v15 =>
          some (v15, h1)
theorem mX1_heir (l : Launch) (G : ZG) (N : Nat) (x0 : Option Nat) (x1 : Int32) (x2 : Int32) (h : AH) (r : Int32 × AH) (hr : F_X1_heir N x0 x1 x2 h = some r) : MZ l G yX1_heir cX1_heir 4 (some .int) 3 92 [vr x0, vi x1, vi x2] h (eIH r) := by
  unfold F_X1_heir at hr
  refine MZ.of (by decide) [(0, vr x0), (1, vi x1), (2, vi x2)] rfl (Nat.le_of_ble_eq_true rfl) (fun K O => ?_)
  have O : ZOk K cX1_heir RX1 "heir" 4 (some .int) 3 92 := O
  refine bs hr (fun _ hck hr => ?_)
  refine z_aload_n O 0 dX1_heir_0 rfl rfl ?_
  refine bs hr (fun h1 hF hr => ?_)
  refine z_callVv O [] fV_X1_anew q528 (fun l G => mX1_anew l G x0 h _ hF) (zck hF) rfl rfl ⟨Nat.le_of_ble_eq_true rfl, Nat.le_of_ble_eq_true rfl⟩ (Nat.le_of_ble_eq_true rfl) dX1_heir_1 ?_
  refine z_aload_n O 0 dX1_heir_4 rfl rfl ?_
  refine z_iload_n O 1 dX1_heir_5 rfl rfl ?_
  refine bs hr (fun v2 hF hr => ?_)
  refine z_callV O [vi x1] (vi v2) fV_X1_isHeir q1304 (fun l G => mX1_isHeir l G x0 x1 h1 _ hF) (zck hF) rfl rfl ⟨Nat.le_of_ble_eq_true rfl, Nat.le_of_ble_eq_true rfl⟩ (Nat.le_of_ble_eq_true rfl) dX1_heir_6 ?_
  refine z_if_eq (tgt := 21) O dX1_heir_9 (by decide) hr (fun hr => ?_) (fun hr => ?_)
  · refine z_aload_n O 0 dX1_heir_21 rfl rfl ?_
    refine z_iconst O dX1_heir_22 kic_1 ?_
    refine b2s hr (fun v4 h3 hF hr => ?_)
    refine z_callV O [vi (1 : Int32)] (vi v4) fV_X1_no q535 (fun l G => mX1_no l G x0 (1 : Int32) h1 _ hF) (zck hF) rfl rfl ⟨Nat.le_of_ble_eq_true rfl, Nat.le_of_ble_eq_true rfl⟩ (Nat.le_of_ble_eq_true rfl) dX1_heir_23 ?_
    exact z_iret O dX1_heir_26 (by cases hr; rfl)
  · refine z_iload_n O 2 dX1_heir_12 rfl rfl ?_
    refine z_iconst O dX1_heir_13 kic_0 ?_
    refine z_iconst O dX1_heir_14 kic_2 ?_
    refine bs hr (fun v5 hF hr => ?_)
    refine z_callS O [vi x2, vi (0 : Int32), vi (2 : Int32)] (vi v5) fS_X1_within q532 (fun l G => mX1_within l G x2 (0 : Int32) (2 : Int32) h1 _ hF) rfl ⟨Nat.le_of_ble_eq_true rfl, Nat.le_of_ble_eq_true rfl⟩ (Nat.le_of_ble_eq_true rfl) dX1_heir_15 ?_
    refine z_if_ne (tgt := 27) O dX1_heir_18 (by decide) hr (fun hr => ?_) (fun hr => ?_)
    · refine z_aload_n O 0 dX1_heir_21 rfl rfl ?_
      refine z_iconst O dX1_heir_22 kic_1 ?_
      refine b2s hr (fun v20 h19 hF hr => ?_)
      refine z_callV O [vi (1 : Int32)] (vi v20) fV_X1_no q535 (fun l G => mX1_no l G x0 (1 : Int32) h1 _ hF) (zck hF) rfl rfl ⟨Nat.le_of_ble_eq_true rfl, Nat.le_of_ble_eq_true rfl⟩ (Nat.le_of_ble_eq_true rfl) dX1_heir_23 ?_
      exact z_iret O dX1_heir_26 (by cases hr; rfl)
    · refine z_aload_n O 0 dX1_heir_27 rfl rfl ?_
      refine z_getR O o_Year_land q463 dX1_heir_28 hr (fun v6 hr => ?_)
      refine z_getR O o_Land_heirs q574 dX1_heir_31 hr (fun v7 hr => ?_)
      refine z_iload_n O 1 dX1_heir_34 rfl rfl ?_
      refine z_aaload O dX1_heir_35 hr (fun v8 hr => ?_)
      refine z_getI O o_Heir_house q1143 dX1_heir_36 hr (fun v9 hr => ?_)
      refine z_istore_n O [(3, vi v9), (0, vr x0), (1, vi x1), (2, vi x2)] dX1_heir_39 rfl (by decide) rfl ?_
      refine z_iload_n O 3 dX1_heir_40 rfl rfl ?_
      refine z_if_ne (tgt := 48) O dX1_heir_41 (by decide) hr (fun hr => ?_) (fun hr => ?_)
      · refine z_iload_n O 0 dX1_heir_44 rfl rfl ?_
        refine z_goto (tgt := 85) O dX1_heir_45 (by decide) ?_
        exact z_iret O dX1_heir_85 (by cases hr; rfl)
      · refine z_iload_n O 3 dX1_heir_48 rfl rfl ?_
        refine z_iconst O dX1_heir_49 kic_1 ?_
        refine z_icmp_ne (tgt := 65) O dX1_heir_50 (by decide) hr (fun hr => ?_) (fun hr => ?_)
        · refine z_aload_n O 1 dX1_heir_53 rfl rfl ?_
          refine z_getR O o_Year_village q469 dX1_heir_54 hr (fun v16 hr => ?_)
          refine z_getR O o_Village_depth q340 dX1_heir_57 hr (fun v17 hr => ?_)
          refine z_iload_n O 2 dX1_heir_60 rfl rfl ?_
          refine z_iaload O dX1_heir_61 hr (fun v18 hr => ?_)
          refine z_goto (tgt := 85) O dX1_heir_62 (by decide) ?_
          exact z_iret O dX1_heir_85 (by cases hr; rfl)
        · refine z_aload_n O 1 dX1_heir_65 rfl rfl ?_
          refine z_getR O o_Year_village q469 dX1_heir_66 hr (fun v10 hr => ?_)
          refine z_iload_n O 0 dX1_heir_69 rfl rfl ?_
          refine bs hr (fun v11 hF hr => ?_)
          refine z_callV O [vi v9] (vr v11) fV_X4_house q1249 (fun l G => mX4_house l G v10 v9 h1 _ hF) (zck hF) rfl rfl ⟨Nat.le_of_ble_eq_true rfl, Nat.le_of_ble_eq_true rfl⟩ (Nat.le_of_ble_eq_true rfl) dX1_heir_70 ?_
          refine z_aload_n O 1 dX1_heir_73 rfl rfl ?_
          refine z_getR O o_Year_village q469 dX1_heir_74 hr (fun v12 hr => ?_)
          refine z_getR O o_Village_depth q340 dX1_heir_77 hr (fun v13 hr => ?_)
          refine z_iload_n O 2 dX1_heir_80 rfl rfl ?_
          refine z_iaload O dX1_heir_81 hr (fun v14 hr => ?_)
          refine bs hr (fun v15 hF hr => ?_)
          refine z_callV O [vi v14] (vi v15) fV_X5_warm q1291 (fun l G => mX5_warm l G N v11 v14 h1 _ hF) (zck hF) rfl rfl ⟨Nat.le_of_ble_eq_true rfl, Nat.le_of_ble_eq_true rfl⟩ (Nat.le_of_ble_eq_true rfl) dX1_heir_82 ?_
          exact z_iret O dX1_heir_85 (by cases hr; rfl)
theorem fV_X5_isCrowded : CVf RX5 yX5_isCrowded cX5_isCrowded 1 (some .boolean) 0 := ⟨q1271, q1272, q133, q1273, ⟨⟨by decide +kernel, by decide +kernel⟩, by decide +kernel⟩⟩
def F_X5_isCrowded (x0 : Option Nat) (h : AH) : Option (Int32) :=
  (ck h [5] x0).bind fun _ =>
  (gI h f_House_family x0).bind fun v1 =>
  (gI h f_House_many x0).bind fun v2 =>
  if v2 = 0 then
    if v1 ≤ (1 : Int32) then
      zb (0 : Int32)
    else
      zb (1 : Int32)
  else
    (gI h f_House_many x0).bind fun v3 =>
    if v1 ≤ ((8 : Int32) * v3) then
      zb (0 : Int32)
    else
      zb (1 : Int32)
theorem mX5_isCrowded (l : Launch) (G : ZG) (x0 : Option Nat) (h : AH) (r : Int32) (hr : F_X5_isCrowded x0 h = some r) : MZ l G yX5_isCrowded cX5_isCrowded 1 (some .boolean) 1 48 [vr x0] h (eI h r) := by
  unfold F_X5_isCrowded at hr
  refine MZ.of (by decide) [(0, vr x0)] rfl (Nat.le_of_ble_eq_true rfl) (fun K O => ?_)
  have O : ZOk K cX5_isCrowded RX5 "isCrowded" 1 (some .boolean) 1 48 := O
  refine bs hr (fun _ hck hr => ?_)
  refine z_aload_n O 0 dX5_isCrowded_0 rfl rfl ?_
  refine z_getI O o_House_family q316 dX5_isCrowded_1 hr (fun v1 hr => ?_)
  refine z_aload_n O 0 dX5_isCrowded_4 rfl rfl ?_
  refine z_getI O o_House_many q311 dX5_isCrowded_5 hr (fun v2 hr => ?_)
  refine z_if_ne (tgt := 15) O dX5_isCrowded_8 (by decide) hr (fun hr => ?_) (fun hr => ?_)
  · refine z_iconst O dX5_isCrowded_11 kic_1 ?_
    refine z_goto (tgt := 22) O dX5_isCrowded_12 (by decide) ?_
    refine z_icmp_le (tgt := 29) O dX5_isCrowded_22 (by decide) hr (fun hr => ?_) (fun hr => ?_)
    · refine z_iconst O dX5_isCrowded_29 kic_0 ?_
      obtain ⟨e1, e2, -⟩ := zb_spec hr
      exact z_zret O e2 dX5_isCrowded_30 (by cases e1; rfl)
    · refine z_iconst O dX5_isCrowded_25 kic_1 ?_
      refine z_goto (tgt := 30) O dX5_isCrowded_26 (by decide) ?_
      obtain ⟨e1, e2, -⟩ := zb_spec hr
      exact z_zret O e2 dX5_isCrowded_30 (by cases e1; rfl)
  · refine z_bipush O dX5_isCrowded_15 kbi_8 ?_
    refine z_aload_n O 0 dX5_isCrowded_17 rfl rfl ?_
    refine z_getI O o_House_many q311 dX5_isCrowded_18 hr (fun v3 hr => ?_)
    refine z_imul O dX5_isCrowded_21 ?_
    refine z_icmp_le (tgt := 29) O dX5_isCrowded_22 (by decide) hr (fun hr => ?_) (fun hr => ?_)
    · refine z_iconst O dX5_isCrowded_29 kic_0 ?_
      obtain ⟨e1, e2, -⟩ := zb_spec hr
      exact z_zret O e2 dX5_isCrowded_30 (by cases e1; rfl)
    · refine z_iconst O dX5_isCrowded_25 kic_1 ?_
      refine z_goto (tgt := 30) O dX5_isCrowded_26 (by decide) ?_
      obtain ⟨e1, e2, -⟩ := zb_spec hr
      exact z_zret O e2 dX5_isCrowded_30 (by cases e1; rfl)
