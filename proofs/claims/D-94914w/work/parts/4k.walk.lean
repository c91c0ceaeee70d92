set_option maxRecDepth 100000
set_option maxHeartbeats 4000000
theorem fV_X9_findsFirst : CVf RX9 yX9_findsFirst cX9_findsFirst 4 (none : Option Jvm.ClassFile.FieldType) 1 := ⟨q2490, qs114, q137, q2491, ⟨⟨by decide +kernel, by decide +kernel⟩, by decide +kernel⟩⟩
def bX9_findsFirst_90 (N : Nat) (rec11 : Int32 → AH → Option (AH)) (x0 : Option Nat) (x1 : Int32) (h : AH) : Option (AH) :=
  (gR h f_Model_order x0).bind fun v1 =>
  (gR h f_Model_land x0).bind fun v2 =>
  (gI h f_MLand_houses v2).bind fun v3 =>
  b2 (F_X9_turns N v1 v3 h) fun v5 h4 =>
  rec11 v5 h4
theorem wX9_findsFirst_90 {K : ZC} (O : ZOk K cX9_findsFirst RX9 "findsFirst" 4 (none : Option Jvm.ClassFile.FieldType) 8 218) (N : Nat) (rec11 : Int32 → AH → Option (AH)) (x0 : Option Nat) (x1 : Int32) (h : AH) (hrec11 : ∀ (y2 : Int32) (hy : AH) (ry : AH), rec11 y2 hy = some ry → Zw K (eH ry) hy 11 [(0, vr x0), (1, vi x1), (2, vi y2)] []) (r : AH) (hr : bX9_findsFirst_90 N rec11 x0 x1 h = some r) : Zw K (eH r) h 90 [(0, vr x0), (1, vi x1)] [] := by
  unfold bX9_findsFirst_90 at hr
  refine z_aload_n O 0 dX9_findsFirst_90 rfl rfl ?_
  refine z_getR O o_Model_order q1786 dX9_findsFirst_91 hr (fun v1 hr => ?_)
  refine z_aload_n O 0 dX9_findsFirst_94 rfl rfl ?_
  refine z_getR O o_Model_land q1765 dX9_findsFirst_95 hr (fun v2 hr => ?_)
  refine z_getIN O o_MLand_houses zn1907 dX9_findsFirst_98 hr (fun v3 hr => ?_)
  refine b2s hr (fun v5 h4 hF hr => ?_)
  refine z_callS O [vr v1, vi v3] (vi v5) fS_X9_turns q2492 (fun l G => mX9_turns l G N v1 v3 h _ hF) rfl ⟨Nat.le_of_ble_eq_true rfl, Nat.le_of_ble_eq_true rfl⟩ (Nat.le_of_ble_eq_true rfl) dX9_findsFirst_101 ?_
  refine z_istore_n O [(2, vi v5), (0, vr x0), (1, vi x1)] dX9_findsFirst_104 rfl (by decide) rfl ?_
  refine z_goto (tgt := 11) O dX9_findsFirst_105 (by decide) ?_
  refine z_sub [1, 2, 0] rfl ?_
  exact hrec11 v5 h4 _ hr
def BX9_findsFirst_67 (N : Nat) (rec11 : Int32 → AH → Option (AH)) (x0 : Option Nat) (x1 : Int32) (rec67 : Int32 → AH → Option (AH)) : Int32 → AH → Option (AH) := fun x3 h =>
  if (4 : Int32) ≤ x3 then
    bX9_findsFirst_90 N rec11 x0 x1 h
  else
    (gR h f_Model_bestOrder x0).bind fun v1 =>
    (gR h f_Model_order x0).bind fun v2 =>
    (aI h 0 v2 x3).bind fun v3 =>
    (sA h 0 v1 x3 v3).bind fun h4 =>
    jlet (x3 + (1 : Int32)) fun v5 =>
    rec67 v5 h4
def LX9_findsFirst_67 (N : Nat) (rec11 : Int32 → AH → Option (AH)) (x0 : Option Nat) (x1 : Int32) : Int32 → AH → Option (AH) := lf (fun _ _ => none) (BX9_findsFirst_67 N rec11 x0 x1) N
theorem wX9_findsFirst_67B {K : ZC} (O : ZOk K cX9_findsFirst RX9 "findsFirst" 4 (none : Option Jvm.ClassFile.FieldType) 8 218) (N : Nat) (rec11 : Int32 → AH → Option (AH)) (x0 : Option Nat) (x1 : Int32) (rec67 : Int32 → AH → Option (AH)) (hrec11 : ∀ (y2 : Int32) (hy : AH) (ry : AH), rec11 y2 hy = some ry → Zw K (eH ry) hy 11 [(0, vr x0), (1, vi x1), (2, vi y2)] []) (hrec67 : ∀ (y3 : Int32) (hy : AH) (ry : AH), rec67 y3 hy = some ry → Zw K (eH ry) hy 67 [(0, vr x0), (1, vi x1), (3, vi y3)] []) (x3 : Int32) (h : AH) (r : AH) (hr : BX9_findsFirst_67 N rec11 x0 x1 rec67 x3 h = some r) : Zw K (eH r) h 67 [(0, vr x0), (1, vi x1), (3, vi x3)] [] := by
  unfold BX9_findsFirst_67 at hr
  refine z_iload_n O 2 dX9_findsFirst_67 rfl rfl ?_
  refine z_iconst O dX9_findsFirst_68 kic_4 ?_
  refine z_icmp_ge (tgt := 90) O dX9_findsFirst_69 (by decide) hr (fun hr => ?_) (fun hr => ?_)
  · refine z_sub [0, 1] rfl ?_
    exact wX9_findsFirst_90 O N rec11 x0 x1 h hrec11 _ hr
  · refine z_aload_n O 0 dX9_findsFirst_72 rfl rfl ?_
    refine z_getR O o_Model_bestOrder q1787 dX9_findsFirst_73 hr (fun v1 hr => ?_)
    refine z_iload_n O 2 dX9_findsFirst_76 rfl rfl ?_
    refine z_aload_n O 0 dX9_findsFirst_77 rfl rfl ?_
    refine z_getR O o_Model_order q1786 dX9_findsFirst_78 hr (fun v2 hr => ?_)
    refine z_iload_n O 2 dX9_findsFirst_81 rfl rfl ?_
    refine z_iaload O dX9_findsFirst_82 hr (fun v3 hr => ?_)
    refine z_iastore O dX9_findsFirst_83 hr (fun h4 hr => ?_)
    refine z_iincL O 2 (fun v5 => [(3, vi v5), (0, vr x0), (1, vi x1)]) dX9_findsFirst_84 rfl rfl (by decide) (fun _ => rfl) hr (fun v5 hr => ?_)
    refine z_goto (tgt := 67) O dX9_findsFirst_87 (by decide) ?_
    refine z_sub [1, 2, 0] rfl ?_
    exact hrec67 v5 h4 _ hr
theorem wX9_findsFirst_67 {K : ZC} (O : ZOk K cX9_findsFirst RX9 "findsFirst" 4 (none : Option Jvm.ClassFile.FieldType) 8 218) (N : Nat) (rec11 : Int32 → AH → Option (AH)) (x0 : Option Nat) (x1 : Int32) (hrec11 : ∀ (y2 : Int32) (hy : AH) (ry : AH), rec11 y2 hy = some ry → Zw K (eH ry) hy 11 [(0, vr x0), (1, vi x1), (2, vi y2)] []) : ∀ (n : Nat) (x3 : Int32) (h : AH) (r : AH), lf (fun _ _ => none) (BX9_findsFirst_67 N rec11 x0 x1) n x3 h = some r → Zw K (eH r) h 67 [(0, vr x0), (1, vi x1), (3, vi x3)] [] := by
  intro n
  induction n with
  | zero => intro x3 h r hr; cases hr
  | succ n ih => intro x3 h r hr; exact wX9_findsFirst_67B O N rec11 x0 x1 (lf (fun _ _ => none) (BX9_findsFirst_67 N rec11 x0 x1) n) hrec11 ih x3 h r hr
def BX9_findsFirst_21 (N : Nat) (rec11 : Int32 → AH → Option (AH)) (x0 : Option Nat) (x1 : Int32) (rec21 : Int32 → AH → Option (AH)) : Int32 → AH → Option (AH) := fun x3 h =>
  if x1 ≤ x3 then
    (gR h f_Model_w x0).bind fun v1 =>
    (F_X9_allSkins N v1 h).bind fun v2 =>
    (gI h f_Model_firstMost x0).bind fun v3 =>
    if v2 ≤ v3 then
      bX9_findsFirst_90 N rec11 x0 x1 h
    else
      (gR h f_Model_w x0).bind fun v4 =>
      (F_X9_allSkins N v4 h).bind fun v5 =>
      (pI h f_Model_firstMost x0 v5).bind fun h6 =>
      LX9_findsFirst_67 N rec11 x0 x1 (0 : Int32) h6
  else
    (gR h f_Model_w x0).bind fun v7 =>
    (F_X9_goesBy N x0 v7 h).bind fun h8 =>
    jlet (x3 + (1 : Int32)) fun v9 =>
    rec21 v9 h8
def LX9_findsFirst_21 (N : Nat) (rec11 : Int32 → AH → Option (AH)) (x0 : Option Nat) (x1 : Int32) : Int32 → AH → Option (AH) := lf (fun _ _ => none) (BX9_findsFirst_21 N rec11 x0 x1) N
theorem wX9_findsFirst_21B {K : ZC} (O : ZOk K cX9_findsFirst RX9 "findsFirst" 4 (none : Option Jvm.ClassFile.FieldType) 8 218) (N : Nat) (rec11 : Int32 → AH → Option (AH)) (x0 : Option Nat) (x1 : Int32) (rec21 : Int32 → AH → Option (AH)) (hrec11 : ∀ (y2 : Int32) (hy : AH) (ry : AH), rec11 y2 hy = some ry → Zw K (eH ry) hy 11 [(0, vr x0), (1, vi x1), (2, vi y2)] []) (hrec21 : ∀ (y3 : Int32) (hy : AH) (ry : AH), rec21 y3 hy = some ry → Zw K (eH ry) hy 21 [(0, vr x0), (1, vi x1), (3, vi y3)] []) (x3 : Int32) (h : AH) (r : AH) (hr : BX9_findsFirst_21 N rec11 x0 x1 rec21 x3 h = some r) : Zw K (eH r) h 21 [(0, vr x0), (1, vi x1), (3, vi x3)] [] := by
  unfold BX9_findsFirst_21 at hr
  refine z_iload_n O 2 dX9_findsFirst_21 rfl rfl ?_
  refine z_iload_n O 1 dX9_findsFirst_22 rfl rfl ?_
  refine z_icmp_ge (tgt := 40) O dX9_findsFirst_23 (by decide) hr (fun hr => ?_) (fun hr => ?_)
  · refine z_aload_n O 0 dX9_findsFirst_40 rfl rfl ?_
    refine z_getR O o_Model_w q1779 dX9_findsFirst_41 hr (fun v1 hr => ?_)
    refine bs hr (fun v2 hF hr => ?_)
    refine z_callS O [vr v1] (vi v2) fS_X9_allSkins q2465 (fun l G => mX9_allSkins l G N v1 h _ hF) rfl ⟨Nat.le_of_ble_eq_true rfl, Nat.le_of_ble_eq_true rfl⟩ (Nat.le_of_ble_eq_true rfl) dX9_findsFirst_44 ?_
    refine z_aload_n O 0 dX9_findsFirst_47 rfl rfl ?_
    refine z_getI O o_Model_firstMost q1790 dX9_findsFirst_48 hr (fun v3 hr => ?_)
    refine z_icmp_le (tgt := 90) O dX9_findsFirst_51 (by decide) hr (fun hr => ?_) (fun hr => ?_)
    · refine z_sub [0, 1] rfl ?_
      exact wX9_findsFirst_90 O N rec11 x0 x1 h hrec11 _ hr
    · refine z_aload_n O 0 dX9_findsFirst_54 rfl rfl ?_
      refine z_aload_n O 0 dX9_findsFirst_55 rfl rfl ?_
      refine z_getR O o_Model_w q1779 dX9_findsFirst_56 hr (fun v4 hr => ?_)
      refine bs hr (fun v5 hF hr => ?_)
      refine z_callS O [vr v4] (vi v5) fS_X9_allSkins q2465 (fun l G => mX9_allSkins l G N v4 h _ hF) rfl ⟨Nat.le_of_ble_eq_true rfl, Nat.le_of_ble_eq_true rfl⟩ (Nat.le_of_ble_eq_true rfl) dX9_findsFirst_59 ?_
      refine z_putI O o_Model_firstMost (w_Model_firstMost _) q1790 dX9_findsFirst_62 hr (fun h6 hr => ?_)
      refine z_iconst O dX9_findsFirst_65 kic_0 ?_
      refine z_istore_n O [(3, vi (0 : Int32)), (0, vr x0), (1, vi x1)] dX9_findsFirst_66 rfl (by decide) rfl ?_
      refine z_sub [1, 2, 0] rfl ?_
      exact wX9_findsFirst_67 O N rec11 x0 x1 hrec11 _ (0 : Int32) h6 _ hr
  · refine z_aload_n O 0 dX9_findsFirst_26 rfl rfl ?_
    refine z_aload_n O 0 dX9_findsFirst_27 rfl rfl ?_
    refine z_getR O o_Model_w q1779 dX9_findsFirst_28 hr (fun v7 hr => ?_)
    refine bs hr (fun h8 hF hr => ?_)
    refine z_callVv O [vr v7] fV_X9_goesBy q2443 (fun l G => mX9_goesBy l G N x0 v7 h _ hF) (zck hF) rfl rfl ⟨Nat.le_of_ble_eq_true rfl, Nat.le_of_ble_eq_true rfl⟩ (Nat.le_of_ble_eq_true rfl) dX9_findsFirst_31 ?_
    refine z_iincL O 2 (fun v9 => [(3, vi v9), (0, vr x0), (1, vi x1)]) dX9_findsFirst_34 rfl rfl (by decide) (fun _ => rfl) hr (fun v9 hr => ?_)
    refine z_goto (tgt := 21) O dX9_findsFirst_37 (by decide) ?_
    refine z_sub [1, 2, 0] rfl ?_
    exact hrec21 v9 h8 _ hr
theorem wX9_findsFirst_21 {K : ZC} (O : ZOk K cX9_findsFirst RX9 "findsFirst" 4 (none : Option Jvm.ClassFile.FieldType) 8 218) (N : Nat) (rec11 : Int32 → AH → Option (AH)) (x0 : Option Nat) (x1 : Int32) (hrec11 : ∀ (y2 : Int32) (hy : AH) (ry : AH), rec11 y2 hy = some ry → Zw K (eH ry) hy 11 [(0, vr x0), (1, vi x1), (2, vi y2)] []) : ∀ (n : Nat) (x3 : Int32) (h : AH) (r : AH), lf (fun _ _ => none) (BX9_findsFirst_21 N rec11 x0 x1) n x3 h = some r → Zw K (eH r) h 21 [(0, vr x0), (1, vi x1), (3, vi x3)] [] := by
  intro n
  induction n with
  | zero => intro x3 h r hr; cases hr
  | succ n ih => intro x3 h r hr; exact wX9_findsFirst_21B O N rec11 x0 x1 (lf (fun _ _ => none) (BX9_findsFirst_21 N rec11 x0 x1) n) hrec11 ih x3 h r hr
def BX9_findsFirst_11 (N : Nat) (x0 : Option Nat) (x1 : Int32) (rec11 : Int32 → AH → Option (AH)) : Int32 → AH → Option (AH) := fun x2 h =>
  if x2 = 0 then
    some h
  else
    (F_X9_copies N x0 h).bind fun h1 =>
    LX9_findsFirst_21 N rec11 x0 x1 (0 : Int32) h1
def LX9_findsFirst_11 (N : Nat) (x0 : Option Nat) (x1 : Int32) : Int32 → AH → Option (AH) := lf (fun _ _ => none) (BX9_findsFirst_11 N x0 x1) N
theorem wX9_findsFirst_11B {K : ZC} (O : ZOk K cX9_findsFirst RX9 "findsFirst" 4 (none : Option Jvm.ClassFile.FieldType) 8 218) (N : Nat) (x0 : Option Nat) (x1 : Int32) (rec11 : Int32 → AH → Option (AH)) (hrec11 : ∀ (y2 : Int32) (hy : AH) (ry : AH), rec11 y2 hy = some ry → Zw K (eH ry) hy 11 [(0, vr x0), (1, vi x1), (2, vi y2)] []) (x2 : Int32) (h : AH) (r : AH) (hr : BX9_findsFirst_11 N x0 x1 rec11 x2 h = some r) : Zw K (eH r) h 11 [(0, vr x0), (1, vi x1), (2, vi x2)] [] := by
  unfold BX9_findsFirst_11 at hr
  refine z_iload_n O 2 dX9_findsFirst_11 rfl rfl ?_
  refine z_if_eq (tgt := 108) O dX9_findsFirst_12 (by decide) hr (fun hr => ?_) (fun hr => ?_)
  · exact z_vret O dX9_findsFirst_108 (by cases hr; rfl)
  · refine z_aload_n O 0 dX9_findsFirst_15 rfl rfl ?_
    refine bs hr (fun h1 hF hr => ?_)
    refine z_callVv O [] fV_X9_copies q2435 (fun l G => mX9_copies l G N x0 h _ hF) (zck hF) rfl rfl ⟨Nat.le_of_ble_eq_true rfl, Nat.le_of_ble_eq_true rfl⟩ (Nat.le_of_ble_eq_true rfl) dX9_findsFirst_16 ?_
    refine z_iconst O dX9_findsFirst_19 kic_0 ?_
    refine z_istore_n O [(3, vi (0 : Int32)), (0, vr x0), (1, vi x1), (2, vi x2)] dX9_findsFirst_20 rfl (by decide) rfl ?_
    refine z_sub [1, 2, 0] rfl ?_
    exact wX9_findsFirst_21 O N rec11 x0 x1 hrec11 _ (0 : Int32) h1 _ hr
theorem wX9_findsFirst_11 {K : ZC} (O : ZOk K cX9_findsFirst RX9 "findsFirst" 4 (none : Option Jvm.ClassFile.FieldType) 8 218) (N : Nat) (x0 : Option Nat) (x1 : Int32) : ∀ (n : Nat) (x2 : Int32) (h : AH) (r : AH), lf (fun _ _ => none) (BX9_findsFirst_11 N x0 x1) n x2 h = some r → Zw K (eH r) h 11 [(0, vr x0), (1, vi x1), (2, vi x2)] [] := by
  intro n
  induction n with
  | zero => intro x2 h r hr; cases hr
  | succ n ih => intro x2 h r hr; exact wX9_findsFirst_11B O N x0 x1 (lf (fun _ _ => none) (BX9_findsFirst_11 N x0 x1) n)  ih x2 h r hr
def F_X9_findsFirst (N : Nat) (x0 : Option Nat) (x1 : Int32) (h : AH) : Option (AH) :=
  (ck h [9] x0).bind fun _ =>
  (pI h f_Model_firstMost x0 (-1 : Int32)).bind fun h1 =>
  (F_X9_byNumbers N x0 h1).bind fun h2 =>
  LX9_findsFirst_11 N x0 x1 (1 : Int32) h2
theorem mX9_findsFirst (l : Launch) (G : ZG) (N : Nat) (x0 : Option Nat) (x1 : Int32) (h : AH) (r : AH) (hr : F_X9_findsFirst N x0 x1 h = some r) : MZ l G yX9_findsFirst cX9_findsFirst 4 (none : Option Jvm.ClassFile.FieldType) 8 218 [vr x0, vi x1] h (eH r) := by
  unfold F_X9_findsFirst at hr
  refine MZ.of (by decide) [(0, vr x0), (1, vi x1)] rfl (Nat.le_of_ble_eq_true rfl) (fun K O => ?_)
  have O : ZOk K cX9_findsFirst RX9 "findsFirst" 4 (none : Option Jvm.ClassFile.FieldType) 8 218 := O
  refine bs hr (fun _ hck hr => ?_)
  refine z_aload_n O 0 dX9_findsFirst_0 rfl rfl ?_
  refine z_iconst O dX9_findsFirst_1 kic_m1 ?_
  refine z_putI O o_Model_firstMost (w_Model_firstMost _) q1790 dX9_findsFirst_2 hr (fun h1 hr => ?_)
  refine z_aload_n O 0 dX9_findsFirst_5 rfl rfl ?_
  refine bs hr (fun h2 hF hr => ?_)
  refine z_callVv O [] fV_X9_byNumbers q2439 (fun l G => mX9_byNumbers l G N x0 h1 _ hF) (zck hF) rfl rfl ⟨Nat.le_of_ble_eq_true rfl, Nat.le_of_ble_eq_true rfl⟩ (Nat.le_of_ble_eq_true rfl) dX9_findsFirst_6 ?_
  refine z_iconst O dX9_findsFirst_9 kic_1 ?_
  refine z_istore_n O [(2, vi (1 : Int32)), (0, vr x0), (1, vi x1)] dX9_findsFirst_10 rfl (by decide) rfl ?_
  refine z_sub [1, 2, 0] rfl ?_
  exact wX9_findsFirst_11 O N x0 x1 _ (1 : Int32) h2 _ hr
theorem fV_X9_first : CVf RX9 yX9_first cX9_first 3 (some .int) 1 := ⟨q2485, q2486, q137, q2487, ⟨⟨by decide +kernel, by decide +kernel⟩, by decide +kernel⟩⟩
def F_X9_first (N : Nat) (x0 : Option Nat) (x1 : Int32) (h : AH) : Option (Int32 × AH) :=
  (ck h [9] x0).bind fun _ =>
  (pI h f_Model_thrown x0 (0 : Int32)).bind fun h1 =>
  (F_X9_refusesIn x0 (1 : Int32) x1 (30 : Int32) h1).bind fun v2 =>
  if v2 ≤ 0 then
    (F_X9_findsFirst N x0 x1 h1).bind fun h3 =>
    (gI h3 f_Model_firstMost x0).bind fun v4 =>
    b2 (F_X9_good x0 v4 h3) fun v6 h5 =>
    some (v6, h5)
  else
    b2 (F_X9_refused x0 v2 h1) fun v8 h7 =>
    some (v8, h7)
theorem mX9_first (l : Launch) (G : ZG) (N : Nat) (x0 : Option Nat) (x1 : Int32) (h : AH) (r : Int32 × AH) (hr : F_X9_first N x0 x1 h = some r) : MZ l G yX9_first cX9_first 3 (some .int) 9 241 [vr x0, vi x1] h (eIH r) := by
  unfold F_X9_first at hr
  refine MZ.of (by decide) [(0, vr x0), (1, vi x1)] rfl (Nat.le_of_ble_eq_true rfl) (fun K O => ?_)
  have O : ZOk K cX9_first RX9 "first" 3 (some .int) 9 241 := O
  refine bs hr (fun _ hck hr => ?_)
  refine z_aload_n O 0 dX9_first_0 rfl rfl ?_
  refine z_iconst O dX9_first_1 kic_0 ?_
  refine z_putI O o_Model_thrown (w_Model_thrown _) q1762 dX9_first_2 hr (fun h1 hr => ?_)
  refine z_aload_n O 0 dX9_first_5 rfl rfl ?_
  refine z_iconst O dX9_first_6 kic_1 ?_
  refine z_iload_n O 1 dX9_first_7 rfl rfl ?_
  refine z_bipush O dX9_first_8 kbi_30 ?_
  refine bs hr (fun v2 hF hr => ?_)
  refine z_callV O [vi (1 : Int32), vi x1, vi (30 : Int32)] (vi v2) fV_X9_refusesIn q2427 (fun l G => mX9_refusesIn l G x0 (1 : Int32) x1 (30 : Int32) h1 _ hF) (zck hF) rfl rfl ⟨Nat.le_of_ble_eq_true rfl, Nat.le_of_ble_eq_true rfl⟩ (Nat.le_of_ble_eq_true rfl) dX9_first_10 ?_
  refine z_istore_n O [(2, vi v2), (0, vr x0), (1, vi x1)] dX9_first_13 rfl (by decide) rfl ?_
  refine z_iload_n O 0 dX9_first_14 rfl rfl ?_
  refine z_if_le (tgt := 24) O dX9_first_15 (by decide) hr (fun hr => ?_) (fun hr => ?_)
  · refine z_aload_n O 1 dX9_first_24 rfl rfl ?_
    refine z_iload_n O 2 dX9_first_25 rfl rfl ?_
    refine bs hr (fun h3 hF hr => ?_)
    refine z_callVv O [vi x1] fV_X9_findsFirst q2488 (fun l G => mX9_findsFirst l G N x0 x1 h1 _ hF) (zck hF) rfl rfl ⟨Nat.le_of_ble_eq_true rfl, Nat.le_of_ble_eq_true rfl⟩ (Nat.le_of_ble_eq_true rfl) dX9_first_26 ?_
    refine z_aload_n O 1 dX9_first_29 rfl rfl ?_
    refine z_aload_n O 1 dX9_first_30 rfl rfl ?_
    refine z_getI O o_Model_firstMost q1790 dX9_first_31 hr (fun v4 hr => ?_)
    refine b2s hr (fun v6 h5 hF hr => ?_)
    refine z_callV O [vi v4] (vi v6) fV_X9_good q2249 (fun l G => mX9_good l G x0 v4 h3 _ hF) (zck hF) rfl rfl ⟨Nat.le_of_ble_eq_true rfl, Nat.le_of_ble_eq_true rfl⟩ (Nat.le_of_ble_eq_true rfl) dX9_first_34 ?_
    exact z_iret O dX9_first_37 (by cases hr; rfl)
  · refine z_aload_n O 1 dX9_first_18 rfl rfl ?_
    refine z_iload_n O 0 dX9_first_19 rfl rfl ?_
    refine b2s hr (fun v8 h7 hF hr => ?_)
    refine z_callV O [vi v2] (vi v8) fV_X9_refused q1886 (fun l G => mX9_refused l G x0 v2 h1 _ hF) (zck hF) rfl rfl ⟨Nat.le_of_ble_eq_true rfl, Nat.le_of_ble_eq_true rfl⟩ (Nat.le_of_ble_eq_true rfl) dX9_first_20 ?_
    exact z_iret O dX9_first_23 (by cases hr; rfl)
theorem fV_X9_firstAt : CVf RX9 yX9_firstAt cX9_firstAt 4 (some .int) 2 := ⟨q2499, q2500, q137, q2501, ⟨⟨by decide +kernel, by decide +kernel⟩, by decide +kernel⟩⟩
def F_X9_firstAt (N : Nat) (x0 : Option Nat) (x1 : Int32) (x2 : Int32) (h : AH) : Option (Int32 × AH) :=
  (ck h [9] x0).bind fun _ =>
  (pI h f_Model_thrown x0 (0 : Int32)).bind fun h1 =>
  (F_X9_isHouse x0 x2 h1).bind fun v2 =>
  (F_X9_refusesIn x0 v2 x1 (30 : Int32) h1).bind fun v3 =>
  if v3 ≤ 0 then
    (F_X9_findsFirst N x0 x1 h1).bind fun h4 =>
    (gR h4 f_Model_bestOrder x0).bind fun v5 =>
    (aI h4 0 v5 x2).bind fun v6 =>
    b2 (F_X9_good x0 v6 h4) fun v8 h7 =>
    some (v8, h7)
  else
    b2 (F_X9_refused x0 v3 h1) fun v10 h9 =>
    some (v10, h9)
theorem mX9_firstAt (l : Launch) (G : ZG) (N : Nat) (x0 : Option Nat) (x1 : Int32) (x2 : Int32) (h : AH) (r : Int32 × AH) (hr : F_X9_firstAt N x0 x1 x2 h = some r) : MZ l G yX9_firstAt cX9_firstAt 4 (some .int) 9 241 [vr x0, vi x1, vi x2] h (eIH r) := by
  unfold F_X9_firstAt at hr
  refine MZ.of (by decide) [(0, vr x0), (1, vi x1), (2, vi x2)] rfl (Nat.le_of_ble_eq_true rfl) (fun K O => ?_)
  have O : ZOk K cX9_firstAt RX9 "firstAt" 4 (some .int) 9 241 := O
  refine bs hr (fun _ hck hr => ?_)
  refine z_aload_n O 0 dX9_firstAt_0 rfl rfl ?_
  refine z_iconst O dX9_firstAt_1 kic_0 ?_
  refine z_putI O o_Model_thrown (w_Model_thrown _) q1762 dX9_firstAt_2 hr (fun h1 hr => ?_)
  refine z_aload_n O 0 dX9_firstAt_5 rfl rfl ?_
  refine z_aload_n O 0 dX9_firstAt_6 rfl rfl ?_
  refine z_iload_n O 2 dX9_firstAt_7 rfl rfl ?_
  refine bs hr (fun v2 hF hr => ?_)
  refine z_callV O [vi x2] (vi v2) fV_X9_isHouse q2292 (fun l G => mX9_isHouse l G x0 x2 h1 _ hF) (zck hF) rfl rfl ⟨Nat.le_of_ble_eq_true rfl, Nat.le_of_ble_eq_true rfl⟩ (Nat.le_of_ble_eq_true rfl) dX9_firstAt_8 ?_
  refine z_iload_n O 1 dX9_firstAt_11 rfl rfl ?_
  refine z_bipush O dX9_firstAt_12 kbi_30 ?_
  refine bs hr (fun v3 hF hr => ?_)
  refine z_callV O [vi v2, vi x1, vi (30 : Int32)] (vi v3) fV_X9_refusesIn q2427 (fun l G => mX9_refusesIn l G x0 v2 x1 (30 : Int32) h1 _ hF) (zck hF) rfl rfl ⟨Nat.le_of_ble_eq_true rfl, Nat.le_of_ble_eq_true rfl⟩ (Nat.le_of_ble_eq_true rfl) dX9_firstAt_14 ?_
  refine z_istore_n O [(3, vi v3), (0, vr x0), (1, vi x1), (2, vi x2)] dX9_firstAt_17 rfl (by decide) rfl ?_
  refine z_iload_n O 0 dX9_firstAt_18 rfl rfl ?_
  refine z_if_le (tgt := 28) O dX9_firstAt_19 (by decide) hr (fun hr => ?_) (fun hr => ?_)
  · refine z_aload_n O 1 dX9_firstAt_28 rfl rfl ?_
    refine z_iload_n O 2 dX9_firstAt_29 rfl rfl ?_
    refine bs hr (fun h4 hF hr => ?_)
    refine z_callVv O [vi x1] fV_X9_findsFirst q2488 (fun l G => mX9_findsFirst l G N x0 x1 h1 _ hF) (zck hF) rfl rfl ⟨Nat.le_of_ble_eq_true rfl, Nat.le_of_ble_eq_true rfl⟩ (Nat.le_of_ble_eq_true rfl) dX9_firstAt_30 ?_
    refine z_aload_n O 1 dX9_firstAt_33 rfl rfl ?_
    refine z_aload_n O 1 dX9_firstAt_34 rfl rfl ?_
    refine z_getR O o_Model_bestOrder q1787 dX9_firstAt_35 hr (fun v5 hr => ?_)
    refine z_iload_n O 3 dX9_firstAt_38 rfl rfl ?_
    refine z_iaload O dX9_firstAt_39 hr (fun v6 hr => ?_)
    refine b2s hr (fun v8 h7 hF hr => ?_)
    refine z_callV O [vi v6] (vi v8) fV_X9_good q2249 (fun l G => mX9_good l G x0 v6 h4 _ hF) (zck hF) rfl rfl ⟨Nat.le_of_ble_eq_true rfl, Nat.le_of_ble_eq_true rfl⟩ (Nat.le_of_ble_eq_true rfl) dX9_firstAt_40 ?_
    exact z_iret O dX9_firstAt_43 (by cases hr; rfl)
  · refine z_aload_n O 1 dX9_firstAt_22 rfl rfl ?_
    refine z_iload_n O 0 dX9_firstAt_23 rfl rfl ?_
    refine b2s hr (fun v10 h9 hF hr => ?_)
    refine z_callV O [vi v3] (vi v10) fV_X9_refused q1886 (fun l G => mX9_refused l G x0 v3 h1 _ hF) (zck hF) rfl rfl ⟨Nat.le_of_ble_eq_true rfl, Nat.le_of_ble_eq_true rfl⟩ (Nat.le_of_ble_eq_true rfl) dX9_firstAt_24 ?_
    exact z_iret O dX9_firstAt_27 (by cases hr; rfl)
theorem fV_X9_fits : CVf RX9 yX9_fits cX9_fits 2 (some .int) 1 := ⟨q2348, q2349, q137, q2350, ⟨⟨by decide +kernel, by decide +kernel⟩, by decide +kernel⟩⟩
def F_X9_fits (N : Nat) (x0 : Option Nat) (x1 : Int32) (h : AH) : Option (Int32 × AH) :=
  (ck h [9] x0).bind fun _ =>
  (pI h f_Model_thrown x0 (0 : Int32)).bind fun h1 =>
  (F_X9_isHouse x0 x1 h1).bind fun v2 =>
  if v2 = 0 then
    b2 (F_X9_refused x0 (1 : Int32) h1) fun v4 h3 =>
    some (v4, h3)
  else
    (gR h1 f_Model_v x0).bind fun v5 =>
    (aI h1 0 v5 ((0 : Int32) + x1)).bind fun v6 =>
    if (6 : Int32) ≤ v6 then
      b2 (F_X9_good x0 (0 : Int32) h1) fun v8 h7 =>
      some (v8, h7)
    else
      (gR h1 f_Model_land x0).bind fun v9 =>
      (gR h1 f_Model_v x0).bind fun v10 =>
      (F_X9_fitsIn N v9 v10 x1 h1).bind fun v11 =>
      if v11 = 0 then
        b2 (F_X9_good x0 (0 : Int32) h1) fun v13 h12 =>
        some (v13, h12)
      else
        b2 (F_X9_good x0 (1 : Int32) h1) fun v15 h14 =>
        some (v15, h14)
theorem mX9_fits (l : Launch) (G : ZG) (N : Nat) (x0 : Option Nat) (x1 : Int32) (h : AH) (r : Int32 × AH) (hr : F_X9_fits N x0 x1 h = some r) : MZ l G yX9_fits cX9_fits 2 (some .int) 4 120 [vr x0, vi x1] h (eIH r) := by
  unfold F_X9_fits at hr
  refine MZ.of (by decide) [(0, vr x0), (1, vi x1)] rfl (Nat.le_of_ble_eq_true rfl) (fun K O => ?_)
  have O : ZOk K cX9_fits RX9 "fits" 2 (some .int) 4 120 := O
  refine bs hr (fun _ hck hr => ?_)
  refine z_aload_n O 0 dX9_fits_0 rfl rfl ?_
  refine z_iconst O dX9_fits_1 kic_0 ?_
  refine z_putI O o_Model_thrown (w_Model_thrown _) q1762 dX9_fits_2 hr (fun h1 hr => ?_)
  refine z_aload_n O 0 dX9_fits_5 rfl rfl ?_
  refine z_iload_n O 1 dX9_fits_6 rfl rfl ?_
  refine bs hr (fun v2 hF hr => ?_)
  refine z_callV O [vi x1] (vi v2) fV_X9_isHouse q2292 (fun l G => mX9_isHouse l G x0 x1 h1 _ hF) (zck hF) rfl rfl ⟨Nat.le_of_ble_eq_true rfl, Nat.le_of_ble_eq_true rfl⟩ (Nat.le_of_ble_eq_true rfl) dX9_fits_7 ?_
  refine z_if_eq (tgt := 53) O dX9_fits_10 (by decide) hr (fun hr => ?_) (fun hr => ?_)
  · refine z_aload_n O 0 dX9_fits_53 rfl rfl ?_
    refine z_iconst O dX9_fits_54 kic_1 ?_
    refine b2s hr (fun v4 h3 hF hr => ?_)
    refine z_callV O [vi (1 : Int32)] (vi v4) fV_X9_refused q1886 (fun l G => mX9_refused l G x0 (1 : Int32) h1 _ hF) (zck hF) rfl rfl ⟨Nat.le_of_ble_eq_true rfl, Nat.le_of_ble_eq_true rfl⟩ (Nat.le_of_ble_eq_true rfl) dX9_fits_55 ?_
    exact z_iret O dX9_fits_58 (by cases hr; rfl)
  · refine z_aload_n O 0 dX9_fits_13 rfl rfl ?_
    refine z_aload_n O 0 dX9_fits_14 rfl rfl ?_
    refine z_getR O o_Model_v q1778 dX9_fits_15 hr (fun v5 hr => ?_)
    refine z_iconst O dX9_fits_18 kic_0 ?_
    refine z_iload_n O 1 dX9_fits_19 rfl rfl ?_
    refine z_iadd O dX9_fits_20 ?_
    refine z_iaload O dX9_fits_21 hr (fun v6 hr => ?_)
    refine z_bipush O dX9_fits_22 kbi_6 ?_
    refine z_icmp_ge (tgt := 46) O dX9_fits_24 (by decide) hr (fun hr => ?_) (fun hr => ?_)
    · refine z_iconst O dX9_fits_46 kic_0 ?_
      refine b2s hr (fun v8 h7 hF hr => ?_)
      refine z_callV O [vi (0 : Int32)] (vi v8) fV_X9_good q2249 (fun l G => mX9_good l G x0 (0 : Int32) h1 _ hF) (zck hF) rfl rfl ⟨Nat.le_of_ble_eq_true rfl, Nat.le_of_ble_eq_true rfl⟩ (Nat.le_of_ble_eq_true rfl) dX9_fits_47 ?_
      refine z_goto (tgt := 58) O dX9_fits_50 (by decide) ?_
      exact z_iret O dX9_fits_58 (by cases hr; rfl)
    · refine z_aload_n O 0 dX9_fits_27 rfl rfl ?_
      refine z_getR O o_Model_land q1765 dX9_fits_28 hr (fun v9 hr => ?_)
      refine z_aload_n O 0 dX9_fits_31 rfl rfl ?_
      refine z_getR O o_Model_v q1778 dX9_fits_32 hr (fun v10 hr => ?_)
      refine z_iload_n O 1 dX9_fits_35 rfl rfl ?_
      refine bs hr (fun v11 hF hr => ?_)
      refine z_callS O [vr v9, vr v10, vi x1] (vi v11) fS_X9_fitsIn q2201 (fun l G => mX9_fitsIn l G N v9 v10 x1 h1 _ hF) rfl ⟨Nat.le_of_ble_eq_true rfl, Nat.le_of_ble_eq_true rfl⟩ (Nat.le_of_ble_eq_true rfl) dX9_fits_36 ?_
      refine z_if_eq (tgt := 46) O dX9_fits_39 (by decide) hr (fun hr => ?_) (fun hr => ?_)
      · refine z_iconst O dX9_fits_46 kic_0 ?_
        refine b2s hr (fun v13 h12 hF hr => ?_)
        refine z_callV O [vi (0 : Int32)] (vi v13) fV_X9_good q2249 (fun l G => mX9_good l G x0 (0 : Int32) h1 _ hF) (zck hF) rfl rfl ⟨Nat.le_of_ble_eq_true rfl, Nat.le_of_ble_eq_true rfl⟩ (Nat.le_of_ble_eq_true rfl) dX9_fits_47 ?_
        refine z_goto (tgt := 58) O dX9_fits_50 (by decide) ?_
        exact z_iret O dX9_fits_58 (by cases hr; rfl)
      · refine z_iconst O dX9_fits_42 kic_1 ?_
        refine z_goto (tgt := 47) O dX9_fits_43 (by decide) ?_
        refine b2s hr (fun v15 h14 hF hr => ?_)
        refine z_callV O [vi (1 : Int32)] (vi v15) fV_X9_good q2249 (fun l G => mX9_good l G x0 (1 : Int32) h1 _ hF) (zck hF) rfl rfl ⟨Nat.le_of_ble_eq_true rfl, Nat.le_of_ble_eq_true rfl⟩ (Nat.le_of_ble_eq_true rfl) dX9_fits_47 ?_
        refine z_goto (tgt := 58) O dX9_fits_50 (by decide) ?_
        exact z_iret O dX9_fits_58 (by cases hr; rfl)
theorem fV_X20_cells : CVf RX20 yX20_cells cX20_cells 1 (some .int) 0 := ⟨q2278, q2279, q155, q2280, ⟨⟨by decide +kernel, by decide +kernel⟩, by decide +kernel⟩⟩
def F_X20_cells (x0 : Option Nat) (h : AH) : Option (Int32) :=
  (ck h [20] x0).bind fun _ =>
  (gI h f_MLand_wide x0).bind fun v1 =>
  (gI h f_MLand_high x0).bind fun v2 =>
  some (v1 * v2)
theorem mX20_cells (l : Launch) (G : ZG) (x0 : Option Nat) (h : AH) (r : Int32) (hr : F_X20_cells x0 h = some r) : MZ l G yX20_cells cX20_cells 1 (some .int) 1 48 [vr x0] h (eI h r) := by
  unfold F_X20_cells at hr
  refine MZ.of (by decide) [(0, vr x0)] rfl (Nat.le_of_ble_eq_true rfl) (fun K O => ?_)
  have O : ZOk K cX20_cells RX20 "cells" 1 (some .int) 1 48 := O
  refine bs hr (fun _ hck hr => ?_)
  refine z_aload_n O 0 dX20_cells_0 rfl rfl ?_
  refine z_getI O o_MLand_wide q1896 dX20_cells_1 hr (fun v1 hr => ?_)
  refine z_aload_n O 0 dX20_cells_4 rfl rfl ?_
  refine z_getI O o_MLand_high q1898 dX20_cells_5 hr (fun v2 hr => ?_)
  refine z_imul O dX20_cells_8 ?_
  exact z_iret O dX20_cells_9 (by cases hr; rfl)
theorem fS_X9_bits : CSf yX9_bits cX9_bits 3 (some .int) 1 := ⟨q2282, q137, q2283, ⟨⟨by decide +kernel, by decide +kernel⟩, by decide +kernel⟩⟩
def BX9_bits_4 (N : Nat) (rec4 : Int32 → Int32 → Option (Int32)) : Int32 → Int32 → Option (Int32) := fun x1 x2 =>
  if x2 = 0 then
    some x1
  else
    jlet (x1 + (1 : Int32)) fun v1 =>
    jlet (x2 &&& (x2 - (1 : Int32))) fun v2 =>
    rec4 v1 v2
def LX9_bits_4 (N : Nat) : Int32 → Int32 → Option (Int32) := lf (fun _ _ => none) (BX9_bits_4 N) N
theorem wX9_bits_4B {K : ZC} (O : ZOk K cX9_bits RX9 "bits" 3 (some .int) 1 48) (N : Nat) (h : AH) (rec4 : Int32 → Int32 → Option (Int32)) (hrec4 : ∀ (y1 : Int32) (y2 : Int32) (ry : Int32), rec4 y1 y2 = some ry → Zw K (eI h ry) h 4 [(1, vi y1), (2, vi y2)] []) (x1 : Int32) (x2 : Int32) (r : Int32) (hr : BX9_bits_4 N rec4 x1 x2 = some r) : Zw K (eI h r) h 4 [(1, vi x1), (2, vi x2)] [] := by
  unfold BX9_bits_4 at hr
  refine z_iload_n O 1 dX9_bits_4 rfl rfl ?_
  refine z_if_eq (tgt := 20) O dX9_bits_5 (by decide) hr (fun hr => ?_) (fun hr => ?_)
  · refine z_iload_n O 0 dX9_bits_20 rfl rfl ?_
    exact z_iret O dX9_bits_21 (by cases hr; rfl)
  · refine z_iincL O 0 (fun v1 => [(1, vi v1), (2, vi x2)]) dX9_bits_8 rfl rfl (by decide) (fun _ => rfl) hr (fun v1 hr => ?_)
    refine z_iload_n O 1 dX9_bits_11 rfl rfl ?_
    refine z_iload_n O 1 dX9_bits_12 rfl rfl ?_
    refine z_iconst O dX9_bits_13 kic_1 ?_
    refine z_isub O dX9_bits_14 ?_
    refine z_iand O dX9_bits_15 ?_
    refine z_letI hr (fun v2 hr => ?_)
    refine z_istore_n O [(2, vi v2), (1, vi v1)] dX9_bits_16 rfl (by decide) rfl ?_
    refine z_goto (tgt := 4) O dX9_bits_17 (by decide) ?_
    refine z_sub [1, 0] rfl ?_
    exact hrec4 v1 v2 _ hr
theorem wX9_bits_4 {K : ZC} (O : ZOk K cX9_bits RX9 "bits" 3 (some .int) 1 48) (N : Nat) (h : AH) : ∀ (n : Nat) (x1 : Int32) (x2 : Int32) (r : Int32), lf (fun _ _ => none) (BX9_bits_4 N) n x1 x2 = some r → Zw K (eI h r) h 4 [(1, vi x1), (2, vi x2)] [] := by
  intro n
  induction n with
  | zero => intro x1 x2 r hr; cases hr
  | succ n ih => intro x1 x2 r hr; exact wX9_bits_4B O N h (lf (fun _ _ => none) (BX9_bits_4 N) n)  ih x1 x2 r hr
def F_X9_bits (N : Nat) (x0 : Int32) : Option (Int32) :=
  LX9_bits_4 N (0 : Int32) x0
theorem mX9_bits (l : Launch) (G : ZG) (N : Nat) (x0 : Int32) (h : AH) (r : Int32) (hr : F_X9_bits N x0 = some r) : MZ l G yX9_bits cX9_bits 3 (some .int) 1 48 [vi x0] h (eI h r) := by
  unfold F_X9_bits at hr
  refine MZ.of (by decide) [(0, vi x0)] rfl (Nat.le_of_ble_eq_true rfl) (fun K O => ?_)
  have O : ZOk K cX9_bits RX9 "bits" 3 (some .int) 1 48 := O
  refine z_iconst O dX9_bits_0 kic_0 ?_
  refine z_istore_n O [(1, vi (0 : Int32)), (0, vi x0)] dX9_bits_1 rfl (by decide) rfl ?_
  refine z_iload_n O 1 dX9_bits_2 rfl rfl ?_
  refine z_istore_n O [(2, vi x0), (1, vi (0 : Int32)), (0, vi x0)] dX9_bits_3 rfl (by decide) rfl ?_
  refine z_sub [1, 0] rfl ?_
  exact wX9_bits_4 O N h _ (0 : Int32) x0 _ hr
theorem fV_X9_owned : CVf RX9 yX9_owned cX9_owned 6 (some .int) 3 := ⟨q2275, qs94, q137, q2276, ⟨⟨by decide +kernel, by decide +kernel⟩, by decide +kernel⟩⟩
def BX9_owned_6 (N : Nat) (x0 : Option Nat) (x1 : Int32) (x2 : Int32) (x3 : Int32) (h : AH) (rec6 : Int32 → Int32 → Option (Int32)) : Int32 → Int32 → Option (Int32) := fun x4 x5 =>
  (gR h f_Model_land x0).bind fun v1 =>
  (F_X20_cells v1 h).bind fun v2 =>
  if v2 ≤ x5 then
    some x4
  else
    (gR h f_Model_land x0).bind fun v3 =>
    (gR h f_Model_v x0).bind fun v4 =>
    (gR h f_Model_land x0).bind fun v5 =>
    (gI h f_MLand_wide v5).bind fun v6 =>
    (rm x5 v6).bind fun v7 =>
    (gR h f_Model_land x0).bind fun v8 =>
    (gI h f_MLand_wide v8).bind fun v9 =>
    (dv x5 v9).bind fun v10 =>
    (F_X9_ownersOf N v3 v4 v7 v10 h).bind fun v11 =>
    (F_X9_bits N v11).bind fun v12 =>
    (F_X9_within v12 x1 x2).bind fun v13 =>
    if v13 = 0 then
      jlet (x4 + (0 : Int32)) fun v14 =>
      jlet (x5 + (1 : Int32)) fun v15 =>
      rec6 v14 v15
    else
      if x3 = 0 then
        jlet (x4 + (1 : Int32)) fun v16 =>
        jlet (x5 + (1 : Int32)) fun v17 =>
        rec6 v16 v17
      else
        (gR h f_Model_land x0).bind fun v18 =>
        (gR h f_MLand_water v18).bind fun v19 =>
        (aI h 3 v19 x5).bind fun v20 =>
        if v20 = 0 then
          jlet (x4 + (1 : Int32)) fun v23 =>
          jlet (x5 + (1 : Int32)) fun v24 =>
          rec6 v23 v24
        else
          jlet (x4 + (0 : Int32)) fun v21 =>
          jlet (x5 + (1 : Int32)) fun v22 =>
          rec6 v21 v22
def LX9_owned_6 (N : Nat) (x0 : Option Nat) (x1 : Int32) (x2 : Int32) (x3 : Int32) (h : AH) : Int32 → Int32 → Option (Int32) := lf (fun _ _ => none) (BX9_owned_6 N x0 x1 x2 x3 h) N
theorem wX9_owned_6B {K : ZC} (O : ZOk K cX9_owned RX9 "owned" 6 (some .int) 4 119) (N : Nat) (x0 : Option Nat) (x1 : Int32) (x2 : Int32) (x3 : Int32) (h : AH) (rec6 : Int32 → Int32 → Option (Int32)) (hrec6 : ∀ (y4 : Int32) (y5 : Int32) (ry : Int32), rec6 y4 y5 = some ry → Zw K (eI h ry) h 6 [(0, vr x0), (1, vi x1), (2, vi x2), (3, vi x3), (4, vi y4), (5, vi y5)] []) (x4 : Int32) (x5 : Int32) (r : Int32) (hr : BX9_owned_6 N x0 x1 x2 x3 h rec6 x4 x5 = some r) : Zw K (eI h r) h 6 [(0, vr x0), (1, vi x1), (2, vi x2), (3, vi x3), (4, vi x4), (5, vi x5)] [] := by
  unfold BX9_owned_6 at hr
  refine z_iload O 5 dX9_owned_6 rfl ?_
  refine z_aload_n O 0 dX9_owned_8 rfl rfl ?_
  refine z_getR O o_Model_land q1765 dX9_owned_9 hr (fun v1 hr => ?_)
  refine bs hr (fun v2 hF hr => ?_)
  refine z_callV O [] (vi v2) fV_X20_cells q2277 (fun l G => mX20_cells l G v1 h _ hF) (zck hF) rfl rfl ⟨Nat.le_of_ble_eq_true rfl, Nat.le_of_ble_eq_true rfl⟩ (Nat.le_of_ble_eq_true rfl) dX9_owned_12 ?_
  refine z_icmp_ge (tgt := 93) O dX9_owned_15 (by decide) hr (fun hr => ?_) (fun hr => ?_)
  · refine z_iload O 4 dX9_owned_93 rfl ?_
    exact z_iret O dX9_owned_95 (by cases hr; rfl)
  · refine z_iload O 4 dX9_owned_18 rfl ?_
    refine z_aload_n O 0 dX9_owned_20 rfl rfl ?_
    refine z_getR O o_Model_land q1765 dX9_owned_21 hr (fun v3 hr => ?_)
    refine z_aload_n O 0 dX9_owned_24 rfl rfl ?_
    refine z_getR O o_Model_v q1778 dX9_owned_25 hr (fun v4 hr => ?_)
    refine z_iload O 5 dX9_owned_28 rfl ?_
    refine z_aload_n O 0 dX9_owned_30 rfl rfl ?_
    refine z_getR O o_Model_land q1765 dX9_owned_31 hr (fun v5 hr => ?_)
    refine z_getIN O o_MLand_wide zn1897 dX9_owned_34 hr (fun v6 hr => ?_)
    refine z_irem O dX9_owned_37 hr (fun v7 hr => ?_)
    refine z_iload O 5 dX9_owned_38 rfl ?_
    refine z_aload_n O 0 dX9_owned_40 rfl rfl ?_
    refine z_getR O o_Model_land q1765 dX9_owned_41 hr (fun v8 hr => ?_)
    refine z_getIN O o_MLand_wide zn1897 dX9_owned_44 hr (fun v9 hr => ?_)
    refine z_idiv O dX9_owned_47 hr (fun v10 hr => ?_)
    refine bs hr (fun v11 hF hr => ?_)
    refine z_callS O [vr v3, vr v4, vi v7, vi v10] (vi v11) fS_X9_ownersOf q2171 (fun l G => mX9_ownersOf l G N v3 v4 v7 v10 h _ hF) rfl ⟨Nat.le_of_ble_eq_true rfl, Nat.le_of_ble_eq_true rfl⟩ (Nat.le_of_ble_eq_true rfl) dX9_owned_48 ?_
    refine bs hr (fun v12 hF hr => ?_)
    refine z_callS O [vi v11] (vi v12) fS_X9_bits q2281 (fun l G => mX9_bits l G N v11 h _ hF) rfl ⟨Nat.le_of_ble_eq_true rfl, Nat.le_of_ble_eq_true rfl⟩ (Nat.le_of_ble_eq_true rfl) dX9_owned_51 ?_
    refine z_iload_n O 1 dX9_owned_54 rfl rfl ?_
    refine z_iload_n O 2 dX9_owned_55 rfl rfl ?_
    refine bs hr (fun v13 hF hr => ?_)
    refine z_callS O [vi v12, vi x1, vi x2] (vi v13) fS_X9_within q2096 (fun l G => mX9_within l G v12 x1 x2 h _ hF) rfl ⟨Nat.le_of_ble_eq_true rfl, Nat.le_of_ble_eq_true rfl⟩ (Nat.le_of_ble_eq_true rfl) dX9_owned_56 ?_
    refine z_if_eq (tgt := 83) O dX9_owned_59 (by decide) hr (fun hr => ?_) (fun hr => ?_)
    · refine z_iconst O dX9_owned_83 kic_0 ?_
      refine z_iadd O dX9_owned_84 ?_
      refine z_letI hr (fun v14 hr => ?_)
      refine z_istore O [(4, vi v14), (0, vr x0), (1, vi x1), (2, vi x2), (3, vi x3), (5, vi x5)] dX9_owned_85 (by decide) rfl ?_
      refine z_iincL O 5 (fun v15 => [(5, vi v15), (4, vi v14), (0, vr x0), (1, vi x1), (2, vi x2), (3, vi x3)]) dX9_owned_87 rfl rfl (by decide) (fun _ => rfl) hr (fun v15 hr => ?_)
      refine z_goto (tgt := 6) O dX9_owned_90 (by decide) ?_
      refine z_sub [2, 3, 4, 5, 1, 0] rfl ?_
      exact hrec6 v14 v15 _ hr
    · refine z_iload_n O 3 dX9_owned_62 rfl rfl ?_
      refine z_if_eq (tgt := 79) O dX9_owned_63 (by decide) hr (fun hr => ?_) (fun hr => ?_)
      · refine z_iconst O dX9_owned_79 kic_1 ?_
        refine z_goto (tgt := 84) O dX9_owned_80 (by decide) ?_
        refine z_iadd O dX9_owned_84 ?_
        refine z_letI hr (fun v16 hr => ?_)
        refine z_istore O [(4, vi v16), (0, vr x0), (1, vi x1), (2, vi x2), (3, vi x3), (5, vi x5)] dX9_owned_85 (by decide) rfl ?_
        refine z_iincL O 5 (fun v17 => [(5, vi v17), (4, vi v16), (0, vr x0), (1, vi x1), (2, vi x2), (3, vi x3)]) dX9_owned_87 rfl rfl (by decide) (fun _ => rfl) hr (fun v17 hr => ?_)
        refine z_goto (tgt := 6) O dX9_owned_90 (by decide) ?_
        refine z_sub [2, 3, 4, 5, 1, 0] rfl ?_
        exact hrec6 v16 v17 _ hr
      · refine z_aload_n O 0 dX9_owned_66 rfl rfl ?_
        refine z_getR O o_Model_land q1765 dX9_owned_67 hr (fun v18 hr => ?_)
        refine z_getRN O o_MLand_water zn1916 dX9_owned_70 hr (fun v19 hr => ?_)
        refine z_iload O 5 dX9_owned_73 rfl ?_
        refine z_zaload O dX9_owned_75 hr (fun v20 hr => ?_)
        refine z_if_ne (tgt := 83) O dX9_owned_76 (by decide) hr (fun hr => ?_) (fun hr => ?_)
        · refine z_iconst O dX9_owned_79 kic_1 ?_
          refine z_goto (tgt := 84) O dX9_owned_80 (by decide) ?_
          refine z_iadd O dX9_owned_84 ?_
          refine z_letI hr (fun v23 hr => ?_)
          refine z_istore O [(4, vi v23), (0, vr x0), (1, vi x1), (2, vi x2), (3, vi x3), (5, vi x5)] dX9_owned_85 (by decide) rfl ?_
          refine z_iincL O 5 (fun v24 => [(5, vi v24), (4, vi v23), (0, vr x0), (1, vi x1), (2, vi x2), (3, vi x3)]) dX9_owned_87 rfl rfl (by decide) (fun _ => rfl) hr (fun v24 hr => ?_)
          refine z_goto (tgt := 6) O dX9_owned_90 (by decide) ?_
          refine z_sub [2, 3, 4, 5, 1, 0] rfl ?_
          exact hrec6 v23 v24 _ hr
        · refine z_iconst O dX9_owned_83 kic_0 ?_
          refine z_iadd O dX9_owned_84 ?_
          refine z_letI hr (fun v21 hr => ?_)
          refine z_istore O [(4, vi v21), (0, vr x0), (1, vi x1), (2, vi x2), (3, vi x3), (5, vi x5)] dX9_owned_85 (by decide) rfl ?_
          refine z_iincL O 5 (fun v22 => [(5, vi v22), (4, vi v21), (0, vr x0), (1, vi x1), (2, vi x2), (3, vi x3)]) dX9_owned_87 rfl rfl (by decide) (fun _ => rfl) hr (fun v22 hr => ?_)
          refine z_goto (tgt := 6) O dX9_owned_90 (by decide) ?_
          refine z_sub [2, 3, 4, 5, 1, 0] rfl ?_
          exact hrec6 v21 v22 _ hr
theorem wX9_owned_6 {K : ZC} (O : ZOk K cX9_owned RX9 "owned" 6 (some .int) 4 119) (N : Nat) (x0 : Option Nat) (x1 : Int32) (x2 : Int32) (x3 : Int32) (h : AH) : ∀ (n : Nat) (x4 : Int32) (x5 : Int32) (r : Int32), lf (fun _ _ => none) (BX9_owned_6 N x0 x1 x2 x3 h) n x4 x5 = some r → Zw K (eI h r) h 6 [(0, vr x0), (1, vi x1), (2, vi x2), (3, vi x3), (4, vi x4), (5, vi x5)] [] := by
  intro n
  induction n with
  | zero => intro x4 x5 r hr; cases hr
  | succ n ih => intro x4 x5 r hr; exact wX9_owned_6B O N x0 x1 x2 x3 h (lf (fun _ _ => none) (BX9_owned_6 N x0 x1 x2 x3 h) n)  ih x4 x5 r hr
def F_X9_owned (N : Nat) (x0 : Option Nat) (x1 : Int32) (x2 : Int32) (x3 : Int32) (h : AH) : Option (Int32) :=
  (ck h [9] x0).bind fun _ =>
  LX9_owned_6 N x0 x1 x2 x3 h (0 : Int32) (0 : Int32)
theorem mX9_owned (l : Launch) (G : ZG) (N : Nat) (x0 : Option Nat) (x1 : Int32) (x2 : Int32) (x3 : Int32) (h : AH) (r : Int32) (hr : F_X9_owned N x0 x1 x2 x3 h = some r) : MZ l G yX9_owned cX9_owned 6 (some .int) 4 119 [vr x0, vi x1, vi x2, vi x3] h (eI h r) := by
  unfold F_X9_owned at hr
  refine MZ.of (by decide) [(0, vr x0), (1, vi x1), (2, vi x2), (3, vi x3)] rfl (Nat.le_of_ble_eq_true rfl) (fun K O => ?_)
  have O : ZOk K cX9_owned RX9 "owned" 6 (some .int) 4 119 := O
  refine bs hr (fun _ hck hr => ?_)
  refine z_iconst O dX9_owned_0 kic_0 ?_
  refine z_istore O [(4, vi (0 : Int32)), (0, vr x0), (1, vi x1), (2, vi x2), (3, vi x3)] dX9_owned_1 (by decide) rfl ?_
  refine z_iconst O dX9_owned_3 kic_0 ?_
  refine z_istore O [(5, vi (0 : Int32)), (4, vi (0 : Int32)), (0, vr x0), (1, vi x1), (2, vi x2), (3, vi x3)] dX9_owned_4 (by decide) rfl ?_
  refine z_sub [2, 3, 4, 5, 1, 0] rfl ?_
  exact wX9_owned_6 O N x0 x1 x2 x3 h _ (0 : Int32) (0 : Int32) _ hr
theorem fV_X9_free : CVf RX9 yX9_free cX9_free 1 (some .int) 0 := ⟨q2285, q2286, q137, q2287, ⟨⟨by decide +kernel, by decide +kernel⟩, by decide +kernel⟩⟩
def F_X9_free (N : Nat) (x0 : Option Nat) (h : AH) : Option (Int32 × AH) :=
  (ck h [9] x0).bind fun _ =>
  (pI h f_Model_thrown x0 (0 : Int32)).bind fun h1 =>
  (gR h1 f_Model_land x0).bind fun v2 =>
  if v2 = none then
    b2 (F_X9_refused x0 (1 : Int32) h1) fun v7 h6 =>
    some (v7, h6)
  else
    (F_X9_owned N x0 (0 : Int32) (0 : Int32) (1 : Int32) h1).bind fun v3 =>
    b2 (F_X9_good x0 v3 h1) fun v5 h4 =>
    some (v5, h4)
theorem mX9_free (l : Launch) (G : ZG) (N : Nat) (x0 : Option Nat) (h : AH) (r : Int32 × AH) (hr : F_X9_free N x0 h = some r) : MZ l G yX9_free cX9_free 1 (some .int) 5 144 [vr x0] h (eIH r) := by
  unfold F_X9_free at hr
  refine MZ.of (by decide) [(0, vr x0)] rfl (Nat.le_of_ble_eq_true rfl) (fun K O => ?_)
  have O : ZOk K cX9_free RX9 "free" 1 (some .int) 5 144 := O
  refine bs hr (fun _ hck hr => ?_)
  refine z_aload_n O 0 dX9_free_0 rfl rfl ?_
  refine z_iconst O dX9_free_1 kic_0 ?_
  refine z_putI O o_Model_thrown (w_Model_thrown _) q1762 dX9_free_2 hr (fun h1 hr => ?_)
  refine z_aload_n O 0 dX9_free_5 rfl rfl ?_
  refine z_getR O o_Model_land q1765 dX9_free_6 hr (fun v2 hr => ?_)
  refine z_ifnonnull (tgt := 20) O dX9_free_9 (by decide) hr (fun hr => ?_) (fun hr => ?_)
  · refine z_aload_n O 0 dX9_free_12 rfl rfl ?_
    refine z_iconst O dX9_free_13 kic_1 ?_
    refine b2s hr (fun v7 h6 hF hr => ?_)
    refine z_callV O [vi (1 : Int32)] (vi v7) fV_X9_refused q1886 (fun l G => mX9_refused l G x0 (1 : Int32) h1 _ hF) (zck hF) rfl rfl ⟨Nat.le_of_ble_eq_true rfl, Nat.le_of_ble_eq_true rfl⟩ (Nat.le_of_ble_eq_true rfl) dX9_free_14 ?_
    refine z_goto (tgt := 31) O dX9_free_17 (by decide) ?_
    exact z_iret O dX9_free_31 (by cases hr; rfl)
  · refine z_aload_n O 0 dX9_free_20 rfl rfl ?_
    refine z_aload_n O 0 dX9_free_21 rfl rfl ?_
    refine z_iconst O dX9_free_22 kic_0 ?_
    refine z_iconst O dX9_free_23 kic_0 ?_
    refine z_iconst O dX9_free_24 kic_1 ?_
    refine bs hr (fun v3 hF hr => ?_)
    refine z_callV O [vi (0 : Int32), vi (0 : Int32), vi (1 : Int32)] (vi v3) fV_X9_owned q2273 (fun l G => mX9_owned l G N x0 (0 : Int32) (0 : Int32) (1 : Int32) h1 _ hF) (zck hF) rfl rfl ⟨Nat.le_of_ble_eq_true rfl, Nat.le_of_ble_eq_true rfl⟩ (Nat.le_of_ble_eq_true rfl) dX9_free_25 ?_
    refine b2s hr (fun v5 h4 hF hr => ?_)
    refine z_callV O [vi v3] (vi v5) fV_X9_good q2249 (fun l G => mX9_good l G x0 v3 h1 _ hF) (zck hF) rfl rfl ⟨Nat.le_of_ble_eq_true rfl, Nat.le_of_ble_eq_true rfl⟩ (Nat.le_of_ble_eq_true rfl) dX9_free_28 ?_
    exact z_iret O dX9_free_31 (by cases hr; rfl)
theorem fV_X9_give : CVf RX9 yX9_give cX9_give 4 (some .boolean) 3 := ⟨q2600, q2601, q137, q2602, ⟨⟨by decide +kernel, by decide +kernel⟩, by decide +kernel⟩⟩
def F_X9_give (N : Nat) (x0 : Option Nat) (x1 : Int32) (x2 : Int32) (x3 : Int32) (h : AH) : Option (Int32 × AH) :=
  (ck h [9] x0).bind fun _ =>
  (pI h f_Model_thrown x0 (0 : Int32)).bind fun h1 =>
  (F_X9_isHouse x0 x1 h1).bind fun v2 =>
  if v2 = 0 then
    b2 (F_X9_denied x0 (1 : Int32) h1) fun v4 h3 =>
    (zb v4).bind fun v5 => some (v5, h3)
  else
    (F_X9_isHouse x0 x2 h1).bind fun v6 =>
    if v6 = 0 then
      b2 (F_X9_denied x0 (1 : Int32) h1) fun v8 h7 =>
      (zb v8).bind fun v9 => some (v9, h7)
    else
      if x1 = x2 then
        b2 (F_X9_denied x0 (1 : Int32) h1) fun v32 h31 =>
        (zb v32).bind fun v33 => some (v33, h31)
      else
        (gR h1 f_Model_v x0).bind fun v10 =>
        (aI h1 0 v10 ((8 : Int32) + x1)).bind fun v11 =>
        (F_X9_within x3 (1 : Int32) v11).bind fun v12 =>
        if v12 = 0 then
          b2 (F_X9_denied x0 (2 : Int32) h1) fun v14 h13 =>
          (zb v14).bind fun v15 => some (v15, h13)
        else
          (gR h1 f_Model_v x0).bind fun v16 =>
          (aI h1 0 v16 ((8 : Int32) + x2)).bind fun v17 =>
          if (v17 + x3) ≤ (999 : Int32) then
            (F_X9_keeps N x0 h1).bind fun h18 =>
            (gR h18 f_Model_v x0).bind fun v19 =>
            (aI h18 0 v19 ((8 : Int32) + x1)).bind fun v20 =>
            (sA h18 0 v19 ((8 : Int32) + x1) (v20 - x3)).bind fun h21 =>
            (gR h21 f_Model_v x0).bind fun v22 =>
            (aI h21 0 v22 ((8 : Int32) + x2)).bind fun v23 =>
            (sA h21 0 v22 ((8 : Int32) + x2) (v23 + x3)).bind fun h24 =>
            b2 (F_X9_granted x0 h24) fun v26 h25 =>
            (zb v26).bind fun v27 => some (v27, h25)
          else
            b2 (F_X9_denied x0 (2 : Int32) h1) fun v29 h28 =>
            (zb v29).bind fun v30 => some (v30, h28)
theorem mX9_give (l : Launch) (G : ZG) (N : Nat) (x0 : Option Nat) (x1 : Int32) (x2 : Int32) (x3 : Int32) (h : AH) (r : Int32 × AH) (hr : F_X9_give N x0 x1 x2 x3 h = some r) : MZ l G yX9_give cX9_give 4 (some .boolean) 3 90 [vr x0, vi x1, vi x2, vi x3] h (eIH r) := by
  unfold F_X9_give at hr
  refine MZ.of (by decide) [(0, vr x0), (1, vi x1), (2, vi x2), (3, vi x3)] rfl (Nat.le_of_ble_eq_true rfl) (fun K O => ?_)
  have O : ZOk K cX9_give RX9 "give" 4 (some .boolean) 3 90 := O
  refine bs hr (fun _ hck hr => ?_)
  refine z_aload_n O 0 dX9_give_0 rfl rfl ?_
  refine z_iconst O dX9_give_1 kic_0 ?_
  refine z_putI O o_Model_thrown (w_Model_thrown _) q1762 dX9_give_2 hr (fun h1 hr => ?_)
  refine z_aload_n O 0 dX9_give_5 rfl rfl ?_
  refine z_iload_n O 1 dX9_give_6 rfl rfl ?_
  refine bs hr (fun v2 hF hr => ?_)
  refine z_callV O [vi x1] (vi v2) fV_X9_isHouse q2292 (fun l G => mX9_isHouse l G x0 x1 h1 _ hF) (zck hF) rfl rfl ⟨Nat.le_of_ble_eq_true rfl, Nat.le_of_ble_eq_true rfl⟩ (Nat.le_of_ble_eq_true rfl) dX9_give_7 ?_
  refine z_if_eq (tgt := 26) O dX9_give_10 (by decide) hr (fun hr => ?_) (fun hr => ?_)
  · refine z_aload_n O 0 dX9_give_26 rfl rfl ?_
    refine z_iconst O dX9_give_27 kic_1 ?_
    refine b2s hr (fun v4 h3 hF hr => ?_)
    refine z_callV O [vi (1 : Int32)] (vi v4) fV_X9_denied q2579 (fun l G => mX9_denied l G x0 (1 : Int32) h1 _ hF) (zck hF) rfl rfl ⟨Nat.le_of_ble_eq_true rfl, Nat.le_of_ble_eq_true rfl⟩ (Nat.le_of_ble_eq_true rfl) dX9_give_28 ?_
    refine bs hr (fun v5 e0 hr => ?_)
    obtain ⟨e1, e2, -⟩ := zb_spec e0
    exact z_zret O e2 dX9_give_31 (by cases hr; cases e1; rfl)
  · refine z_aload_n O 0 dX9_give_13 rfl rfl ?_
    refine z_iload_n O 2 dX9_give_14 rfl rfl ?_
    refine bs hr (fun v6 hF hr => ?_)
    refine z_callV O [vi x2] (vi v6) fV_X9_isHouse q2292 (fun l G => mX9_isHouse l G x0 x2 h1 _ hF) (zck hF) rfl rfl ⟨Nat.le_of_ble_eq_true rfl, Nat.le_of_ble_eq_true rfl⟩ (Nat.le_of_ble_eq_true rfl) dX9_give_15 ?_
    refine z_if_eq (tgt := 26) O dX9_give_18 (by decide) hr (fun hr => ?_) (fun hr => ?_)
    · refine z_aload_n O 0 dX9_give_26 rfl rfl ?_
      refine z_iconst O dX9_give_27 kic_1 ?_
      refine b2s hr (fun v8 h7 hF hr => ?_)
      refine z_callV O [vi (1 : Int32)] (vi v8) fV_X9_denied q2579 (fun l G => mX9_denied l G x0 (1 : Int32) h1 _ hF) (zck hF) rfl rfl ⟨Nat.le_of_ble_eq_true rfl, Nat.le_of_ble_eq_true rfl⟩ (Nat.le_of_ble_eq_true rfl) dX9_give_28 ?_
      refine bs hr (fun v9 e0 hr => ?_)
      obtain ⟨e1, e2, -⟩ := zb_spec e0
      exact z_zret O e2 dX9_give_31 (by cases hr; cases e1; rfl)
    · refine z_iload_n O 1 dX9_give_21 rfl rfl ?_
      refine z_iload_n O 2 dX9_give_22 rfl rfl ?_
      refine z_icmp_ne (tgt := 32) O dX9_give_23 (by decide) hr (fun hr => ?_) (fun hr => ?_)
      · refine z_aload_n O 0 dX9_give_26 rfl rfl ?_
        refine z_iconst O dX9_give_27 kic_1 ?_
        refine b2s hr (fun v32 h31 hF hr => ?_)
        refine z_callV O [vi (1 : Int32)] (vi v32) fV_X9_denied q2579 (fun l G => mX9_denied l G x0 (1 : Int32) h1 _ hF) (zck hF) rfl rfl ⟨Nat.le_of_ble_eq_true rfl, Nat.le_of_ble_eq_true rfl⟩ (Nat.le_of_ble_eq_true rfl) dX9_give_28 ?_
        refine bs hr (fun v33 e0 hr => ?_)
        obtain ⟨e1, e2, -⟩ := zb_spec e0
        exact z_zret O e2 dX9_give_31 (by cases hr; cases e1; rfl)
      · refine z_iload_n O 3 dX9_give_32 rfl rfl ?_
        refine z_iconst O dX9_give_33 kic_1 ?_
        refine z_aload_n O 0 dX9_give_34 rfl rfl ?_
        refine z_getR O o_Model_v q1778 dX9_give_35 hr (fun v10 hr => ?_)
        refine z_bipush O dX9_give_38 kbi_8 ?_
        refine z_iload_n O 1 dX9_give_40 rfl rfl ?_
        refine z_iadd O dX9_give_41 ?_
        refine z_iaload O dX9_give_42 hr (fun v11 hr => ?_)
        refine bs hr (fun v12 hF hr => ?_)
        refine z_callS O [vi x3, vi (1 : Int32), vi v11] (vi v12) fS_X9_within q2096 (fun l G => mX9_within l G x3 (1 : Int32) v11 h1 _ hF) rfl ⟨Nat.le_of_ble_eq_true rfl, Nat.le_of_ble_eq_true rfl⟩ (Nat.le_of_ble_eq_true rfl) dX9_give_43 ?_
        refine z_if_eq (tgt := 66) O dX9_give_46 (by decide) hr (fun hr => ?_) (fun hr => ?_)
        · refine z_aload_n O 0 dX9_give_66 rfl rfl ?_
          refine z_iconst O dX9_give_67 kic_2 ?_
          refine b2s hr (fun v14 h13 hF hr => ?_)
          refine z_callV O [vi (2 : Int32)] (vi v14) fV_X9_denied q2579 (fun l G => mX9_denied l G x0 (2 : Int32) h1 _ hF) (zck hF) rfl rfl ⟨Nat.le_of_ble_eq_true rfl, Nat.le_of_ble_eq_true rfl⟩ (Nat.le_of_ble_eq_true rfl) dX9_give_68 ?_
          refine bs hr (fun v15 e0 hr => ?_)
          obtain ⟨e1, e2, -⟩ := zb_spec e0
          exact z_zret O e2 dX9_give_71 (by cases hr; cases e1; rfl)
        · refine z_aload_n O 0 dX9_give_49 rfl rfl ?_
          refine z_getR O o_Model_v q1778 dX9_give_50 hr (fun v16 hr => ?_)
          refine z_bipush O dX9_give_53 kbi_8 ?_
          refine z_iload_n O 2 dX9_give_55 rfl rfl ?_
          refine z_iadd O dX9_give_56 ?_
          refine z_iaload O dX9_give_57 hr (fun v17 hr => ?_)
          refine z_iload_n O 3 dX9_give_58 rfl rfl ?_
          refine z_iadd O dX9_give_59 ?_
          refine z_sipush O dX9_give_60 ksi_999 ?_
          refine z_icmp_le (tgt := 72) O dX9_give_63 (by decide) hr (fun hr => ?_) (fun hr => ?_)
          · refine z_aload_n O 0 dX9_give_72 rfl rfl ?_
            refine bs hr (fun h18 hF hr => ?_)
            refine z_callVv O [] fV_X9_keeps q2567 (fun l G => mX9_keeps l G N x0 h1 _ hF) (zck hF) rfl rfl ⟨Nat.le_of_ble_eq_true rfl, Nat.le_of_ble_eq_true rfl⟩ (Nat.le_of_ble_eq_true rfl) dX9_give_73 ?_
            refine z_aload_n O 0 dX9_give_76 rfl rfl ?_
            refine z_getR O o_Model_v q1778 dX9_give_77 hr (fun v19 hr => ?_)
            refine z_bipush O dX9_give_80 kbi_8 ?_
            refine z_iload_n O 1 dX9_give_82 rfl rfl ?_
            refine z_iadd O dX9_give_83 ?_
            refine z_dup2 O dX9_give_84 rfl rfl ?_
            refine z_iaload O dX9_give_85 hr (fun v20 hr => ?_)
            refine z_iload_n O 3 dX9_give_86 rfl rfl ?_
            refine z_isub O dX9_give_87 ?_
            refine z_iastore O dX9_give_88 hr (fun h21 hr => ?_)
            refine z_aload_n O 0 dX9_give_89 rfl rfl ?_
            refine z_getR O o_Model_v q1778 dX9_give_90 hr (fun v22 hr => ?_)
            refine z_bipush O dX9_give_93 kbi_8 ?_
            refine z_iload_n O 2 dX9_give_95 rfl rfl ?_
            refine z_iadd O dX9_give_96 ?_
            refine z_dup2 O dX9_give_97 rfl rfl ?_
            refine z_iaload O dX9_give_98 hr (fun v23 hr => ?_)
            refine z_iload_n O 3 dX9_give_99 rfl rfl ?_
            refine z_iadd O dX9_give_100 ?_
            refine z_iastore O dX9_give_101 hr (fun h24 hr => ?_)
            refine z_aload_n O 0 dX9_give_102 rfl rfl ?_
            refine b2s hr (fun v26 h25 hF hr => ?_)
            refine z_callV O [] (vi v26) fV_X9_granted q2583 (fun l G => mX9_granted l G x0 h24 _ hF) (zck hF) rfl rfl ⟨Nat.le_of_ble_eq_true rfl, Nat.le_of_ble_eq_true rfl⟩ (Nat.le_of_ble_eq_true rfl) dX9_give_103 ?_
            refine bs hr (fun v27 e0 hr => ?_)
            obtain ⟨e1, e2, -⟩ := zb_spec e0
            exact z_zret O e2 dX9_give_106 (by cases hr; cases e1; rfl)
          · refine z_aload_n O 0 dX9_give_66 rfl rfl ?_
            refine z_iconst O dX9_give_67 kic_2 ?_
            refine b2s hr (fun v29 h28 hF hr => ?_)
            refine z_callV O [vi (2 : Int32)] (vi v29) fV_X9_denied q2579 (fun l G => mX9_denied l G x0 (2 : Int32) h1 _ hF) (zck hF) rfl rfl ⟨Nat.le_of_ble_eq_true rfl, Nat.le_of_ble_eq_true rfl⟩ (Nat.le_of_ble_eq_true rfl) dX9_give_68 ?_
            refine bs hr (fun v30 e0 hr => ?_)
            obtain ⟨e1, e2, -⟩ := zb_spec e0
            exact z_zret O e2 dX9_give_71 (by cases hr; cases e1; rfl)
theorem fV_X9_heads : CVf RX9 yX9_heads cX9_heads 6 (some .int) 2 := ⟨q2503, q2504, q137, q2505, ⟨⟨by decide +kernel, by decide +kernel⟩, by decide +kernel⟩⟩
def BX9_heads_87 (N : Nat) (x0 : Option Nat) (rec87 : Int32 → Int32 → AH → Option (Int32 × AH)) : Int32 → Int32 → AH → Option (Int32 × AH) := fun x4 x5 h =>
  (gR h f_Model_land x0).bind fun v1 =>
  (gI h f_MLand_houses v1).bind fun v2 =>
  if v2 ≤ x5 then
    b2 (F_X9_good x0 x4 h) fun v4 h3 =>
    some (v4, h3)
  else
    (gR h f_Model_w x0).bind fun v5 =>
    (aI h 0 v5 ((4 : Int32) + x5)).bind fun v6 =>
    jlet (x4 + v6) fun v7 =>
    jlet (x5 + (1 : Int32)) fun v8 =>
    rec87 v7 v8 h
def LX9_heads_87 (N : Nat) (x0 : Option Nat) : Int32 → Int32 → AH → Option (Int32 × AH) := lf (fun _ _ _ => none) (BX9_heads_87 N x0) N
theorem wX9_heads_87B {K : ZC} (O : ZOk K cX9_heads RX9 "heads" 6 (some .int) 8 218) (N : Nat) (x0 : Option Nat) (rec87 : Int32 → Int32 → AH → Option (Int32 × AH)) (hrec87 : ∀ (y4 : Int32) (y5 : Int32) (hy : AH) (ry : Int32 × AH), rec87 y4 y5 hy = some ry → Zw K (eIH ry) hy 87 [(0, vr x0), (4, vi y4), (5, vi y5)] []) (x4 : Int32) (x5 : Int32) (h : AH) (r : Int32 × AH) (hr : BX9_heads_87 N x0 rec87 x4 x5 h = some r) : Zw K (eIH r) h 87 [(0, vr x0), (4, vi x4), (5, vi x5)] [] := by
  unfold BX9_heads_87 at hr
  refine z_iload O 2 dX9_heads_87 rfl ?_
  refine z_aload_n O 0 dX9_heads_89 rfl rfl ?_
  refine z_getR O o_Model_land q1765 dX9_heads_90 hr (fun v1 hr => ?_)
  refine z_getIN O o_MLand_houses zn1907 dX9_heads_93 hr (fun v2 hr => ?_)
  refine z_icmp_ge (tgt := 119) O dX9_heads_96 (by decide) hr (fun hr => ?_) (fun hr => ?_)
  · refine z_aload_n O 0 dX9_heads_119 rfl rfl ?_
    refine z_iload O 1 dX9_heads_120 rfl ?_
    refine b2s hr (fun v4 h3 hF hr => ?_)
    refine z_callV O [vi x4] (vi v4) fV_X9_good q2249 (fun l G => mX9_good l G x0 x4 h _ hF) (zck hF) rfl rfl ⟨Nat.le_of_ble_eq_true rfl, Nat.le_of_ble_eq_true rfl⟩ (Nat.le_of_ble_eq_true rfl) dX9_heads_122 ?_
    exact z_iret O dX9_heads_125 (by cases hr; rfl)
  · refine z_iload O 1 dX9_heads_99 rfl ?_
    refine z_aload_n O 0 dX9_heads_101 rfl rfl ?_
    refine z_getR O o_Model_w q1779 dX9_heads_102 hr (fun v5 hr => ?_)
    refine z_iconst O dX9_heads_105 kic_4 ?_
    refine z_iload O 2 dX9_heads_106 rfl ?_
    refine z_iadd O dX9_heads_108 ?_
    refine z_iaload O dX9_heads_109 hr (fun v6 hr => ?_)
    refine z_iadd O dX9_heads_110 ?_
    refine z_letI hr (fun v7 hr => ?_)
    refine z_istore O [(4, vi v7), (0, vr x0), (5, vi x5)] dX9_heads_111 (by decide) rfl ?_
    refine z_iincL O 2 (fun v8 => [(5, vi v8), (4, vi v7), (0, vr x0)]) dX9_heads_113 rfl rfl (by decide) (fun _ => rfl) hr (fun v8 hr => ?_)
    refine z_goto (tgt := 87) O dX9_heads_116 (by decide) ?_
    refine z_sub [2, 1, 0] rfl ?_
    exact hrec87 v7 v8 h _ hr
theorem wX9_heads_87 {K : ZC} (O : ZOk K cX9_heads RX9 "heads" 6 (some .int) 8 218) (N : Nat) (x0 : Option Nat) : ∀ (n : Nat) (x4 : Int32) (x5 : Int32) (h : AH) (r : Int32 × AH), lf (fun _ _ _ => none) (BX9_heads_87 N x0) n x4 x5 h = some r → Zw K (eIH r) h 87 [(0, vr x0), (4, vi x4), (5, vi x5)] [] := by
  intro n
  induction n with
  | zero => intro x4 x5 h r hr; cases hr
  | succ n ih => intro x4 x5 h r hr; exact wX9_heads_87B O N x0 (lf (fun _ _ _ => none) (BX9_heads_87 N x0) n)  ih x4 x5 h r hr
def BX9_heads_61 (N : Nat) (x0 : Option Nat) (x2 : Int32) (rec61 : Int32 → AH → Option (Int32 × AH)) : Int32 → AH → Option (Int32 × AH) := fun x4 h =>
  if x2 ≤ x4 then
    LX9_heads_87 N x0 (0 : Int32) (0 : Int32) h
  else
    (gR h f_Model_w x0).bind fun v1 =>
    (F_X9_goesBy N x0 v1 h).bind fun h2 =>
    jlet (x4 + (1 : Int32)) fun v3 =>
    rec61 v3 h2
def LX9_heads_61 (N : Nat) (x0 : Option Nat) (x2 : Int32) : Int32 → AH → Option (Int32 × AH) := lf (fun _ _ => none) (BX9_heads_61 N x0 x2) N
theorem wX9_heads_61B {K : ZC} (O : ZOk K cX9_heads RX9 "heads" 6 (some .int) 8 218) (N : Nat) (x0 : Option Nat) (x2 : Int32) (rec61 : Int32 → AH → Option (Int32 × AH)) (hrec61 : ∀ (y4 : Int32) (hy : AH) (ry : Int32 × AH), rec61 y4 hy = some ry → Zw K (eIH ry) hy 61 [(0, vr x0), (2, vi x2), (4, vi y4)] []) (x4 : Int32) (h : AH) (r : Int32 × AH) (hr : BX9_heads_61 N x0 x2 rec61 x4 h = some r) : Zw K (eIH r) h 61 [(0, vr x0), (2, vi x2), (4, vi x4)] [] := by
  unfold BX9_heads_61 at hr
  refine z_iload O 2 dX9_heads_61 rfl ?_
  refine z_iload_n O 1 dX9_heads_63 rfl rfl ?_
  refine z_icmp_ge (tgt := 81) O dX9_heads_64 (by decide) hr (fun hr => ?_) (fun hr => ?_)
  · refine z_iconst O dX9_heads_81 kic_0 ?_
    refine z_istore O [(4, vi (0 : Int32)), (0, vr x0), (2, vi x2)] dX9_heads_82 (by decide) rfl ?_
    refine z_iconst O dX9_heads_84 kic_0 ?_
    refine z_istore O [(5, vi (0 : Int32)), (4, vi (0 : Int32)), (0, vr x0), (2, vi x2)] dX9_heads_85 (by decide) rfl ?_
    refine z_sub [2, 1, 0] rfl ?_
    exact wX9_heads_87 O N x0 _ (0 : Int32) (0 : Int32) h _ hr
  · refine z_aload_n O 0 dX9_heads_67 rfl rfl ?_
    refine z_aload_n O 0 dX9_heads_68 rfl rfl ?_
    refine z_getR O o_Model_w q1779 dX9_heads_69 hr (fun v1 hr => ?_)
    refine bs hr (fun h2 hF hr => ?_)
    refine z_callVv O [vr v1] fV_X9_goesBy q2443 (fun l G => mX9_goesBy l G N x0 v1 h _ hF) (zck hF) rfl rfl ⟨Nat.le_of_ble_eq_true rfl, Nat.le_of_ble_eq_true rfl⟩ (Nat.le_of_ble_eq_true rfl) dX9_heads_72 ?_
    refine z_iincL O 2 (fun v3 => [(4, vi v3), (0, vr x0), (2, vi x2)]) dX9_heads_75 rfl rfl (by decide) (fun _ => rfl) hr (fun v3 hr => ?_)
    refine z_goto (tgt := 61) O dX9_heads_78 (by decide) ?_
    refine z_sub [1, 2, 0] rfl ?_
    exact hrec61 v3 h2 _ hr
theorem wX9_heads_61 {K : ZC} (O : ZOk K cX9_heads RX9 "heads" 6 (some .int) 8 218) (N : Nat) (x0 : Option Nat) (x2 : Int32) : ∀ (n : Nat) (x4 : Int32) (h : AH) (r : Int32 × AH), lf (fun _ _ => none) (BX9_heads_61 N x0 x2) n x4 h = some r → Zw K (eIH r) h 61 [(0, vr x0), (2, vi x2), (4, vi x4)] [] := by
  intro n
  induction n with
  | zero => intro x4 h r hr; cases hr
  | succ n ih => intro x4 h r hr; exact wX9_heads_61B O N x0 x2 (lf (fun _ _ => none) (BX9_heads_61 N x0 x2) n)  ih x4 h r hr
def F_X9_heads (N : Nat) (x0 : Option Nat) (x1 : Int32) (x2 : Int32) (h : AH) : Option (Int32 × AH) :=
  (ck h [9] x0).bind fun _ =>
  (pI h f_Model_thrown x0 (0 : Int32)).bind fun h1 =>
  (F_X9_refusesIn x0 (1 : Int32) x2 (60 : Int32) h1).bind fun v2 =>
  if v2 ≤ 0 then
    (F_X9_within x1 (0 : Int32) (65536 : Int32)).bind fun v3 =>
    if v3 = 0 then
      b2 (F_X9_refused x0 (2 : Int32) h1) fun v9 h8 =>
      some (v9, h8)
    else
      (F_X9_copies N x0 h1).bind fun h4 =>
      (F_X9_byNumbers N x0 h4).bind fun h5 =>
      (gR h5 f_Model_w x0).bind fun v6 =>
      (sA h5 0 v6 (211 : Int32) x1).bind fun h7 =>
      LX9_heads_61 N x0 x2 (0 : Int32) h7
  else
    b2 (F_X9_refused x0 v2 h1) fun v11 h10 =>
    some (v11, h10)
theorem mX9_heads (l : Launch) (G : ZG) (N : Nat) (x0 : Option Nat) (x1 : Int32) (x2 : Int32) (h : AH) (r : Int32 × AH) (hr : F_X9_heads N x0 x1 x2 h = some r) : MZ l G yX9_heads cX9_heads 6 (some .int) 8 218 [vr x0, vi x1, vi x2] h (eIH r) := by
  unfold F_X9_heads at hr
  refine MZ.of (by decide) [(0, vr x0), (1, vi x1), (2, vi x2)] rfl (Nat.le_of_ble_eq_true rfl) (fun K O => ?_)
  have O : ZOk K cX9_heads RX9 "heads" 6 (some .int) 8 218 := O
  refine bs hr (fun _ hck hr => ?_)
  refine z_aload_n O 0 dX9_heads_0 rfl rfl ?_
  refine z_iconst O dX9_heads_1 kic_0 ?_
  refine z_putI O o_Model_thrown (w_Model_thrown _) q1762 dX9_heads_2 hr (fun h1 hr => ?_)
  refine z_aload_n O 0 dX9_heads_5 rfl rfl ?_
  refine z_iconst O dX9_heads_6 kic_1 ?_
  refine z_iload_n O 2 dX9_heads_7 rfl rfl ?_
  refine z_bipush O dX9_heads_8 kbi_60 ?_
  refine bs hr (fun v2 hF hr => ?_)
  refine z_callV O [vi (1 : Int32), vi x2, vi (60 : Int32)] (vi v2) fV_X9_refusesIn q2427 (fun l G => mX9_refusesIn l G x0 (1 : Int32) x2 (60 : Int32) h1 _ hF) (zck hF) rfl rfl ⟨Nat.le_of_ble_eq_true rfl, Nat.le_of_ble_eq_true rfl⟩ (Nat.le_of_ble_eq_true rfl) dX9_heads_10 ?_
  refine z_istore_n O [(3, vi v2), (0, vr x0), (1, vi x1), (2, vi x2)] dX9_heads_13 rfl (by decide) rfl ?_
  refine z_iload_n O 0 dX9_heads_14 rfl rfl ?_
  refine z_if_le (tgt := 24) O dX9_heads_15 (by decide) hr (fun hr => ?_) (fun hr => ?_)
  · refine z_iload_n O 2 dX9_heads_24 rfl rfl ?_
    refine z_iconst O dX9_heads_25 kic_0 ?_
    refine z_ldcw O q2506 dX9_heads_26 ?_
    refine bs hr (fun v3 hF hr => ?_)
    refine z_callS O [vi x1, vi (0 : Int32), vi (65536 : Int32)] (vi v3) fS_X9_within q2096 (fun l G => mX9_within l G x1 (0 : Int32) (65536 : Int32) h1 _ hF) rfl ⟨Nat.le_of_ble_eq_true rfl, Nat.le_of_ble_eq_true rfl⟩ (Nat.le_of_ble_eq_true rfl) dX9_heads_29 ?_
    refine z_if_ne (tgt := 41) O dX9_heads_32 (by decide) hr (fun hr => ?_) (fun hr => ?_)
    · refine z_aload_n O 1 dX9_heads_35 rfl rfl ?_
      refine z_iconst O dX9_heads_36 kic_2 ?_
      refine b2s hr (fun v9 h8 hF hr => ?_)
      refine z_callV O [vi (2 : Int32)] (vi v9) fV_X9_refused q1886 (fun l G => mX9_refused l G x0 (2 : Int32) h1 _ hF) (zck hF) rfl rfl ⟨Nat.le_of_ble_eq_true rfl, Nat.le_of_ble_eq_true rfl⟩ (Nat.le_of_ble_eq_true rfl) dX9_heads_37 ?_
      exact z_iret O dX9_heads_40 (by cases hr; rfl)
    · refine z_aload_n O 1 dX9_heads_41 rfl rfl ?_
      refine bs hr (fun h4 hF hr => ?_)
      refine z_callVv O [] fV_X9_copies q2435 (fun l G => mX9_copies l G N x0 h1 _ hF) (zck hF) rfl rfl ⟨Nat.le_of_ble_eq_true rfl, Nat.le_of_ble_eq_true rfl⟩ (Nat.le_of_ble_eq_true rfl) dX9_heads_42 ?_
      refine z_aload_n O 1 dX9_heads_45 rfl rfl ?_
      refine bs hr (fun h5 hF hr => ?_)
      refine z_callVv O [] fV_X9_byNumbers q2439 (fun l G => mX9_byNumbers l G N x0 h4 _ hF) (zck hF) rfl rfl ⟨Nat.le_of_ble_eq_true rfl, Nat.le_of_ble_eq_true rfl⟩ (Nat.le_of_ble_eq_true rfl) dX9_heads_46 ?_
      refine z_aload_n O 1 dX9_heads_49 rfl rfl ?_
      refine z_getR O o_Model_w q1779 dX9_heads_50 hr (fun v6 hr => ?_)
      refine z_sipush O dX9_heads_53 ksi_211 ?_
      refine z_iload_n O 2 dX9_heads_56 rfl rfl ?_
      refine z_iastore O dX9_heads_57 hr (fun h7 hr => ?_)
      refine z_iconst O dX9_heads_58 kic_0 ?_
      refine z_istore O [(4, vi (0 : Int32)), (3, vi v2), (0, vr x0), (1, vi x1), (2, vi x2)] dX9_heads_59 (by decide) rfl ?_
      refine z_sub [2, 4, 0] rfl ?_
      exact wX9_heads_61 O N x0 x2 _ (0 : Int32) h7 _ hr
  · refine z_aload_n O 1 dX9_heads_18 rfl rfl ?_
    refine z_iload_n O 0 dX9_heads_19 rfl rfl ?_
    refine b2s hr (fun v11 h10 hF hr => ?_)
    refine z_callV O [vi v2] (vi v11) fV_X9_refused q1886 (fun l G => mX9_refused l G x0 v2 h1 _ hF) (zck hF) rfl rfl ⟨Nat.le_of_ble_eq_true rfl, Nat.le_of_ble_eq_true rfl⟩ (Nat.le_of_ble_eq_true rfl) dX9_heads_20 ?_
    exact z_iret O dX9_heads_23 (by cases hr; rfl)
theorem fV_X9_isHeir : CVf RX9 yX9_isHeir cX9_isHeir 2 (some .boolean) 1 := ⟨q2345, qs100, q137, q2346, ⟨⟨by decide +kernel, by decide +kernel⟩, by decide +kernel⟩⟩
def F_X9_isHeir (x0 : Option Nat) (x1 : Int32) (h : AH) : Option (Int32) :=
  (ck h [9] x0).bind fun _ =>
  (gR h f_Model_land x0).bind fun v1 =>
  if v1 = none then
    zb (0 : Int32)
  else
    if x1 < 0 then
      zb (0 : Int32)
    else
      (gR h f_Model_land x0).bind fun v2 =>
      (gI h f_MLand_heirs v2).bind fun v3 =>
      if v3 ≤ x1 then
        zb (0 : Int32)
      else
        zb (1 : Int32)
theorem mX9_isHeir (l : Launch) (G : ZG) (x0 : Option Nat) (x1 : Int32) (h : AH) (r : Int32) (hr : F_X9_isHeir x0 x1 h = some r) : MZ l G yX9_isHeir cX9_isHeir 2 (some .boolean) 1 48 [vr x0, vi x1] h (eI h r) := by
  unfold F_X9_isHeir at hr
  refine MZ.of (by decide) [(0, vr x0), (1, vi x1)] rfl (Nat.le_of_ble_eq_true rfl) (fun K O => ?_)
  have O : ZOk K cX9_isHeir RX9 "isHeir" 2 (some .boolean) 1 48 := O
  refine bs hr (fun _ hck hr => ?_)
  refine z_aload_n O 0 dX9_isHeir_0 rfl rfl ?_
  refine z_getR O o_Model_land q1765 dX9_isHeir_1 hr (fun v1 hr => ?_)
  refine z_ifnull (tgt := 26) O dX9_isHeir_4 (by decide) hr (fun hr => ?_) (fun hr => ?_)
  · refine z_iconst O dX9_isHeir_26 kic_0 ?_
    obtain ⟨e1, e2, -⟩ := zb_spec hr
    exact z_zret O e2 dX9_isHeir_27 (by cases e1; rfl)
  · refine z_iload_n O 1 dX9_isHeir_7 rfl rfl ?_
    refine z_if_lt (tgt := 26) O dX9_isHeir_8 (by decide) hr (fun hr => ?_) (fun hr => ?_)
    · refine z_iconst O dX9_isHeir_26 kic_0 ?_
      obtain ⟨e1, e2, -⟩ := zb_spec hr
      exact z_zret O e2 dX9_isHeir_27 (by cases e1; rfl)
    · refine z_iload_n O 1 dX9_isHeir_11 rfl rfl ?_
      refine z_aload_n O 0 dX9_isHeir_12 rfl rfl ?_
      refine z_getR O o_Model_land q1765 dX9_isHeir_13 hr (fun v2 hr => ?_)
      refine z_getIN O o_MLand_heirs zn1908 dX9_isHeir_16 hr (fun v3 hr => ?_)
      refine z_icmp_ge (tgt := 26) O dX9_isHeir_19 (by decide) hr (fun hr => ?_) (fun hr => ?_)
      · refine z_iconst O dX9_isHeir_26 kic_0 ?_
        obtain ⟨e1, e2, -⟩ := zb_spec hr
        exact z_zret O e2 dX9_isHeir_27 (by cases e1; rfl)
      · refine z_iconst O dX9_isHeir_22 kic_1 ?_
        refine z_goto (tgt := 27) O dX9_isHeir_23 (by decide) ?_
        obtain ⟨e1, e2, -⟩ := zb_spec hr
        exact z_zret O e2 dX9_isHeir_27 (by cases e1; rfl)
theorem fV_X9_warmth : CVf RX9 yX9_warmth cX9_warmth 5 (some .int) 2 := ⟨q2333, qs99, q137, q2334, ⟨⟨by decide +kernel, by decide +kernel⟩, by decide +kernel⟩⟩
def BX9_warmth_13 (N : Nat) (x0 : Option Nat) (x1 : Int32) (h : AH) (rec13 : Int32 → Int32 → Option (Int32)) : Int32 → Int32 → Option (Int32) := fun x3 x4 =>
  (gR h f_Model_v x0).bind fun v1 =>
  (aI h 0 v1 ((0 : Int32) + x1)).bind fun v2 =>
  if v2 < x4 then
    some x3
  else
    (gR h f_Model_v x0).bind fun v3 =>
    (F_X9_part x1 x4 (5 : Int32)).bind fun v4 =>
    (aI h 0 v3 v4).bind fun v5 =>
    if v5 = 0 then
      (gR h f_Model_land x0).bind fun v8 =>
      (gR h f_MLand_warm v8).bind fun v9 =>
      (gR h f_Model_v x0).bind fun v10 =>
      (F_X9_part x1 x4 (0 : Int32)).bind fun v11 =>
      (aI h 0 v10 v11).bind fun v12 =>
      (aI h 0 v9 v12).bind fun v13 =>
      jlet (x3 + v13) fun v14 =>
      jlet (x4 + (1 : Int32)) fun v15 =>
      rec13 v14 v15
    else
      jlet (x3 + (0 : Int32)) fun v6 =>
      jlet (x4 + (1 : Int32)) fun v7 =>
      rec13 v6 v7
def LX9_warmth_13 (N : Nat) (x0 : Option Nat) (x1 : Int32) (h : AH) : Int32 → Int32 → Option (Int32) := lf (fun _ _ => none) (BX9_warmth_13 N x0 x1 h) N
theorem wX9_warmth_13B {K : ZC} (O : ZOk K cX9_warmth RX9 "warmth" 5 (some .int) 2 70) (N : Nat) (x0 : Option Nat) (x1 : Int32) (h : AH) (rec13 : Int32 → Int32 → Option (Int32)) (hrec13 : ∀ (y3 : Int32) (y4 : Int32) (ry : Int32), rec13 y3 y4 = some ry → Zw K (eI h ry) h 13 [(0, vr x0), (1, vi x1), (3, vi y3), (4, vi y4)] []) (x3 : Int32) (x4 : Int32) (r : Int32) (hr : BX9_warmth_13 N x0 x1 h rec13 x3 x4 = some r) : Zw K (eI h r) h 13 [(0, vr x0), (1, vi x1), (3, vi x3), (4, vi x4)] [] := by
  unfold BX9_warmth_13 at hr
  refine z_iload O 3 dX9_warmth_13 rfl ?_
  refine z_aload_n O 0 dX9_warmth_15 rfl rfl ?_
  refine z_getR O o_Model_v q1778 dX9_warmth_16 hr (fun v1 hr => ?_)
  refine z_iconst O dX9_warmth_19 kic_0 ?_
  refine z_iload_n O 1 dX9_warmth_20 rfl rfl ?_
  refine z_iadd O dX9_warmth_21 ?_
  refine z_iaload O dX9_warmth_22 hr (fun v2 hr => ?_)
  refine z_icmp_gt (tgt := 74) O dX9_warmth_23 (by decide) hr (fun hr => ?_) (fun hr => ?_)
  · refine z_iload_n O 2 dX9_warmth_74 rfl rfl ?_
    exact z_iret O dX9_warmth_75 (by cases hr; rfl)
  · refine z_iload_n O 2 dX9_warmth_26 rfl rfl ?_
    refine z_aload_n O 0 dX9_warmth_27 rfl rfl ?_
    refine z_getR O o_Model_v q1778 dX9_warmth_28 hr (fun v3 hr => ?_)
    refine z_iload_n O 1 dX9_warmth_31 rfl rfl ?_
    refine z_iload O 3 dX9_warmth_32 rfl ?_
    refine z_iconst O dX9_warmth_34 kic_5 ?_
    refine bs hr (fun v4 hF hr => ?_)
    refine z_callS O [vi x1, vi x4, vi (5 : Int32)] (vi v4) fS_X9_part q2223 (fun l G => mX9_part l G x1 x4 (5 : Int32) h _ hF) rfl ⟨Nat.le_of_ble_eq_true rfl, Nat.le_of_ble_eq_true rfl⟩ (Nat.le_of_ble_eq_true rfl) dX9_warmth_35 ?_
    refine z_iaload O dX9_warmth_38 hr (fun v5 hr => ?_)
    refine z_if_ne (tgt := 65) O dX9_warmth_39 (by decide) hr (fun hr => ?_) (fun hr => ?_)
    · refine z_aload_n O 0 dX9_warmth_42 rfl rfl ?_
      refine z_getR O o_Model_land q1765 dX9_warmth_43 hr (fun v8 hr => ?_)
      refine z_getRN O o_MLand_warm zn1922 dX9_warmth_46 hr (fun v9 hr => ?_)
      refine z_aload_n O 0 dX9_warmth_49 rfl rfl ?_
      refine z_getR O o_Model_v q1778 dX9_warmth_50 hr (fun v10 hr => ?_)
      refine z_iload_n O 1 dX9_warmth_53 rfl rfl ?_
      refine z_iload O 3 dX9_warmth_54 rfl ?_
      refine z_iconst O dX9_warmth_56 kic_0 ?_
      refine bs hr (fun v11 hF hr => ?_)
      refine z_callS O [vi x1, vi x4, vi (0 : Int32)] (vi v11) fS_X9_part q2223 (fun l G => mX9_part l G x1 x4 (0 : Int32) h _ hF) rfl ⟨Nat.le_of_ble_eq_true rfl, Nat.le_of_ble_eq_true rfl⟩ (Nat.le_of_ble_eq_true rfl) dX9_warmth_57 ?_
      refine z_iaload O dX9_warmth_60 hr (fun v12 hr => ?_)
      refine z_iaload O dX9_warmth_61 hr (fun v13 hr => ?_)
      refine z_goto (tgt := 66) O dX9_warmth_62 (by decide) ?_
      refine z_iadd O dX9_warmth_66 ?_
      refine z_letI hr (fun v14 hr => ?_)
      refine z_istore_n O [(3, vi v14), (0, vr x0), (1, vi x1), (4, vi x4)] dX9_warmth_67 rfl (by decide) rfl ?_
      refine z_iincL O 3 (fun v15 => [(4, vi v15), (3, vi v14), (0, vr x0), (1, vi x1)]) dX9_warmth_68 rfl rfl (by decide) (fun _ => rfl) hr (fun v15 hr => ?_)
      refine z_goto (tgt := 13) O dX9_warmth_71 (by decide) ?_
      refine z_sub [2, 3, 1, 0] rfl ?_
      exact hrec13 v14 v15 _ hr
    · refine z_iconst O dX9_warmth_65 kic_0 ?_
      refine z_iadd O dX9_warmth_66 ?_
      refine z_letI hr (fun v6 hr => ?_)
      refine z_istore_n O [(3, vi v6), (0, vr x0), (1, vi x1), (4, vi x4)] dX9_warmth_67 rfl (by decide) rfl ?_
      refine z_iincL O 3 (fun v7 => [(4, vi v7), (3, vi v6), (0, vr x0), (1, vi x1)]) dX9_warmth_68 rfl rfl (by decide) (fun _ => rfl) hr (fun v7 hr => ?_)
      refine z_goto (tgt := 13) O dX9_warmth_71 (by decide) ?_
      refine z_sub [2, 3, 1, 0] rfl ?_
      exact hrec13 v6 v7 _ hr
theorem wX9_warmth_13 {K : ZC} (O : ZOk K cX9_warmth RX9 "warmth" 5 (some .int) 2 70) (N : Nat) (x0 : Option Nat) (x1 : Int32) (h : AH) : ∀ (n : Nat) (x3 : Int32) (x4 : Int32) (r : Int32), lf (fun _ _ => none) (BX9_warmth_13 N x0 x1 h) n x3 x4 = some r → Zw K (eI h r) h 13 [(0, vr x0), (1, vi x1), (3, vi x3), (4, vi x4)] [] := by
  intro n
  induction n with
  | zero => intro x3 x4 r hr; cases hr
  | succ n ih => intro x3 x4 r hr; exact wX9_warmth_13B O N x0 x1 h (lf (fun _ _ => none) (BX9_warmth_13 N x0 x1 h) n)  ih x3 x4 r hr
def F_X9_warmth (N : Nat) (x0 : Option Nat) (x1 : Int32) (x2 : Int32) (h : AH) : Option (Int32) :=
  (ck h [9] x0).bind fun _ =>
  if x2 ≤ 0 then
    LX9_warmth_13 N x0 x1 h (0 : Int32) (1 : Int32)
  else
    LX9_warmth_13 N x0 x1 h (0 : Int32) x2
theorem mX9_warmth (l : Launch) (G : ZG) (N : Nat) (x0 : Option Nat) (x1 : Int32) (x2 : Int32) (h : AH) (r : Int32) (hr : F_X9_warmth N x0 x1 x2 h = some r) : MZ l G yX9_warmth cX9_warmth 5 (some .int) 2 70 [vr x0, vi x1, vi x2] h (eI h r) := by
  unfold F_X9_warmth at hr
  refine MZ.of (by decide) [(0, vr x0), (1, vi x1), (2, vi x2)] rfl (Nat.le_of_ble_eq_true rfl) (fun K O => ?_)
  have O : ZOk K cX9_warmth RX9 "warmth" 5 (some .int) 2 70 := O
  refine bs hr (fun _ hck hr => ?_)
  refine z_iconst O dX9_warmth_0 kic_0 ?_
  refine z_istore_n O [(3, vi (0 : Int32)), (0, vr x0), (1, vi x1), (2, vi x2)] dX9_warmth_1 rfl (by decide) rfl ?_
  refine z_iload_n O 3 dX9_warmth_2 rfl rfl ?_
  refine z_if_le (tgt := 10) O dX9_warmth_3 (by decide) hr (fun hr => ?_) (fun hr => ?_)
  · refine z_iconst O dX9_warmth_10 kic_1 ?_
    refine z_istore O [(4, vi (1 : Int32)), (3, vi (0 : Int32)), (0, vr x0), (1, vi x1), (2, vi x2)] dX9_warmth_11 (by decide) rfl ?_
    refine z_sub [2, 3, 1, 0] rfl ?_
    exact wX9_warmth_13 O N x0 x1 h _ (0 : Int32) (1 : Int32) _ hr
  · refine z_iload_n O 3 dX9_warmth_6 rfl rfl ?_
    refine z_goto (tgt := 11) O dX9_warmth_7 (by decide) ?_
    refine z_istore O [(4, vi x2), (3, vi (0 : Int32)), (0, vr x0), (1, vi x1), (2, vi x2)] dX9_warmth_11 (by decide) rfl ?_
    refine z_sub [2, 3, 1, 0] rfl ?_
    exact wX9_warmth_13 O N x0 x1 h _ (0 : Int32) x2 _ hr
theorem fV_X9_heir : CVf RX9 yX9_heir cX9_heir 3 (some .int) 2 := ⟨q2340, q2341, q137, q2342, ⟨⟨by decide +kernel, by decide +kernel⟩, by decide +kernel⟩⟩
def F_X9_heir (N : Nat) (x0 : Option Nat) (x1 : Int32) (x2 : Int32) (h : AH) : Option (Int32 × AH) :=
  (ck h [9] x0).bind fun _ =>
  (pI h f_Model_thrown x0 (0 : Int32)).bind fun h1 =>
  (F_X9_isHeir x0 x1 h1).bind fun v2 =>
  if v2 = 0 then
    b2 (F_X9_refused x0 (1 : Int32) h1) fun v4 h3 =>
    some (v4, h3)
  else
    (F_X9_within x2 (0 : Int32) (2 : Int32)).bind fun v5 =>
    if v5 = 0 then
      b2 (F_X9_refused x0 (1 : Int32) h1) fun v24 h23 =>
      some (v24, h23)
    else
      if x2 = 0 then
        (gR h1 f_Model_land x0).bind fun v18 =>
        (gR h1 f_MLand_heirHouse v18).bind fun v19 =>
        (aI h1 0 v19 x1).bind fun v20 =>
        b2 (F_X9_good x0 v20 h1) fun v22 h21 =>
        some (v22, h21)
      else
        if x2 = (1 : Int32) then
          (gR h1 f_Model_v x0).bind fun v14 =>
          (aI h1 0 v14 ((204 : Int32) + x1)).bind fun v15 =>
          b2 (F_X9_good x0 v15 h1) fun v17 h16 =>
          some (v17, h16)
        else
          (gR h1 f_Model_land x0).bind fun v6 =>
          (gR h1 f_MLand_heirHouse v6).bind fun v7 =>
          (aI h1 0 v7 x1).bind fun v8 =>
          (gR h1 f_Model_v x0).bind fun v9 =>
          (aI h1 0 v9 ((204 : Int32) + x1)).bind fun v10 =>
          (F_X9_warmth N x0 v8 v10 h1).bind fun v11 =>
          b2 (F_X9_good x0 v11 h1) fun v13 h12 =>
          some (v13, h12)
theorem mX9_heir (l : Launch) (G : ZG) (N : Nat) (x0 : Option Nat) (x1 : Int32) (x2 : Int32) (h : AH) (r : Int32 × AH) (hr : F_X9_heir N x0 x1 x2 h = some r) : MZ l G yX9_heir cX9_heir 3 (some .int) 3 94 [vr x0, vi x1, vi x2] h (eIH r) := by
  unfold F_X9_heir at hr
  refine MZ.of (by decide) [(0, vr x0), (1, vi x1), (2, vi x2)] rfl (Nat.le_of_ble_eq_true rfl) (fun K O => ?_)
  have O : ZOk K cX9_heir RX9 "heir" 3 (some .int) 3 94 := O
  refine bs hr (fun _ hck hr => ?_)
  refine z_aload_n O 0 dX9_heir_0 rfl rfl ?_
  refine z_iconst O dX9_heir_1 kic_0 ?_
  refine z_putI O o_Model_thrown (w_Model_thrown _) q1762 dX9_heir_2 hr (fun h1 hr => ?_)
  refine z_aload_n O 0 dX9_heir_5 rfl rfl ?_
  refine z_iload_n O 1 dX9_heir_6 rfl rfl ?_
  refine bs hr (fun v2 hF hr => ?_)
  refine z_callV O [vi x1] (vi v2) fV_X9_isHeir q2343 (fun l G => mX9_isHeir l G x0 x1 h1 _ hF) (zck hF) rfl rfl ⟨Nat.le_of_ble_eq_true rfl, Nat.le_of_ble_eq_true rfl⟩ (Nat.le_of_ble_eq_true rfl) dX9_heir_7 ?_
  refine z_if_eq (tgt := 22) O dX9_heir_10 (by decide) hr (fun hr => ?_) (fun hr => ?_)
  · refine z_aload_n O 0 dX9_heir_22 rfl rfl ?_
    refine z_iconst O dX9_heir_23 kic_1 ?_
    refine b2s hr (fun v4 h3 hF hr => ?_)
    refine z_callV O [vi (1 : Int32)] (vi v4) fV_X9_refused q1886 (fun l G => mX9_refused l G x0 (1 : Int32) h1 _ hF) (zck hF) rfl rfl ⟨Nat.le_of_ble_eq_true rfl, Nat.le_of_ble_eq_true rfl⟩ (Nat.le_of_ble_eq_true rfl) dX9_heir_24 ?_
    exact z_iret O dX9_heir_27 (by cases hr; rfl)
  · refine z_iload_n O 2 dX9_heir_13 rfl rfl ?_
    refine z_iconst O dX9_heir_14 kic_0 ?_
    refine z_iconst O dX9_heir_15 kic_2 ?_
    refine bs hr (fun v5 hF hr => ?_)
    refine z_callS O [vi x2, vi (0 : Int32), vi (2 : Int32)] (vi v5) fS_X9_within q2096 (fun l G => mX9_within l G x2 (0 : Int32) (2 : Int32) h1 _ hF) rfl ⟨Nat.le_of_ble_eq_true rfl, Nat.le_of_ble_eq_true rfl⟩ (Nat.le_of_ble_eq_true rfl) dX9_heir_16 ?_
    refine z_if_ne (tgt := 28) O dX9_heir_19 (by decide) hr (fun hr => ?_) (fun hr => ?_)
    · refine z_aload_n O 0 dX9_heir_22 rfl rfl ?_
      refine z_iconst O dX9_heir_23 kic_1 ?_
      refine b2s hr (fun v24 h23 hF hr => ?_)
      refine z_callV O [vi (1 : Int32)] (vi v24) fV_X9_refused q1886 (fun l G => mX9_refused l G x0 (1 : Int32) h1 _ hF) (zck hF) rfl rfl ⟨Nat.le_of_ble_eq_true rfl, Nat.le_of_ble_eq_true rfl⟩ (Nat.le_of_ble_eq_true rfl) dX9_heir_24 ?_
      exact z_iret O dX9_heir_27 (by cases hr; rfl)
    · refine z_aload_n O 0 dX9_heir_28 rfl rfl ?_
      refine z_iload_n O 2 dX9_heir_29 rfl rfl ?_
      refine z_if_ne (tgt := 45) O dX9_heir_30 (by decide) hr (fun hr => ?_) (fun hr => ?_)
      · refine z_aload_n O 0 dX9_heir_33 rfl rfl ?_
        refine z_getR O o_Model_land q1765 dX9_heir_34 hr (fun v18 hr => ?_)
        refine z_getRN O o_MLand_heirHouse zn1932 dX9_heir_37 hr (fun v19 hr => ?_)
        refine z_iload_n O 1 dX9_heir_40 rfl rfl ?_
        refine z_iaload O dX9_heir_41 hr (fun v20 hr => ?_)
        refine z_goto (tgt := 86) O dX9_heir_42 (by decide) ?_
        refine b2s hr (fun v22 h21 hF hr => ?_)
        refine z_callV O [vi v20] (vi v22) fV_X9_good q2249 (fun l G => mX9_good l G x0 v20 h1 _ hF) (zck hF) rfl rfl ⟨Nat.le_of_ble_eq_true rfl, Nat.le_of_ble_eq_true rfl⟩ (Nat.le_of_ble_eq_true rfl) dX9_heir_86 ?_
        exact z_iret O dX9_heir_89 (by cases hr; rfl)
      · refine z_iload_n O 2 dX9_heir_45 rfl rfl ?_
        refine z_iconst O dX9_heir_46 kic_1 ?_
        refine z_icmp_ne (tgt := 63) O dX9_heir_47 (by decide) hr (fun hr => ?_) (fun hr => ?_)
        · refine z_aload_n O 0 dX9_heir_50 rfl rfl ?_
          refine z_getR O o_Model_v q1778 dX9_heir_51 hr (fun v14 hr => ?_)
          refine z_sipush O dX9_heir_54 ksi_204 ?_
          refine z_iload_n O 1 dX9_heir_57 rfl rfl ?_
          refine z_iadd O dX9_heir_58 ?_
          refine z_iaload O dX9_heir_59 hr (fun v15 hr => ?_)
          refine z_goto (tgt := 86) O dX9_heir_60 (by decide) ?_
          refine b2s hr (fun v17 h16 hF hr => ?_)
          refine z_callV O [vi v15] (vi v17) fV_X9_good q2249 (fun l G => mX9_good l G x0 v15 h1 _ hF) (zck hF) rfl rfl ⟨Nat.le_of_ble_eq_true rfl, Nat.le_of_ble_eq_true rfl⟩ (Nat.le_of_ble_eq_true rfl) dX9_heir_86 ?_
          exact z_iret O dX9_heir_89 (by cases hr; rfl)
        · refine z_aload_n O 0 dX9_heir_63 rfl rfl ?_
          refine z_aload_n O 0 dX9_heir_64 rfl rfl ?_
          refine z_getR O o_Model_land q1765 dX9_heir_65 hr (fun v6 hr => ?_)
          refine z_getRN O o_MLand_heirHouse zn1932 dX9_heir_68 hr (fun v7 hr => ?_)
          refine z_iload_n O 1 dX9_heir_71 rfl rfl ?_
          refine z_iaload O dX9_heir_72 hr (fun v8 hr => ?_)
          refine z_aload_n O 0 dX9_heir_73 rfl rfl ?_
          refine z_getR O o_Model_v q1778 dX9_heir_74 hr (fun v9 hr => ?_)
          refine z_sipush O dX9_heir_77 ksi_204 ?_
          refine z_iload_n O 1 dX9_heir_80 rfl rfl ?_
          refine z_iadd O dX9_heir_81 ?_
          refine z_iaload O dX9_heir_82 hr (fun v10 hr => ?_)
          refine bs hr (fun v11 hF hr => ?_)
          refine z_callV O [vi v8, vi v10] (vi v11) fV_X9_warmth q2331 (fun l G => mX9_warmth l G N x0 v8 v10 h1 _ hF) (zck hF) rfl rfl ⟨Nat.le_of_ble_eq_true rfl, Nat.le_of_ble_eq_true rfl⟩ (Nat.le_of_ble_eq_true rfl) dX9_heir_83 ?_
          refine b2s hr (fun v13 h12 hF hr => ?_)
          refine z_callV O [vi v11] (vi v13) fV_X9_good q2249 (fun l G => mX9_good l G x0 v11 h1 _ hF) (zck hF) rfl rfl ⟨Nat.le_of_ble_eq_true rfl, Nat.le_of_ble_eq_true rfl⟩ (Nat.le_of_ble_eq_true rfl) dX9_heir_86 ?_
          exact z_iret O dX9_heir_89 (by cases hr; rfl)
theorem fV_X9_isShut : CVf RX9 yX9_isShut cX9_isShut 4 (some .boolean) 2 := ⟨q2298, qs96, q137, q2299, ⟨⟨by decide +kernel, by decide +kernel⟩, by decide +kernel⟩⟩
def F_X9_isShut (N : Nat) (x0 : Option Nat) (x1 : Option Nat) (x2 : Int32) (h : AH) : Option (Int32) :=
  (ck h [9] x0).bind fun _ =>
  (aI h 0 x1 ((0 : Int32) + x2)).bind fun v1 =>
  if v1 ≤ 0 then
    zb (0 : Int32)
  else
    (gR h f_Model_land x0).bind fun v2 =>
    (F_X9_part x2 v1 (1 : Int32)).bind fun v3 =>
    (aI h 0 x1 v3).bind fun v4 =>
    (F_X9_part x2 v1 (2 : Int32)).bind fun v5 =>
    (aI h 0 x1 v5).bind fun v6 =>
    (F_X9_isFree N v2 x1 x2 v1 v4 v6 h).bind fun v7 =>
    if v7 = 0 then
      zb (1 : Int32)
    else
      zb (0 : Int32)
theorem mX9_isShut (l : Launch) (G : ZG) (N : Nat) (x0 : Option Nat) (x1 : Option Nat) (x2 : Int32) (h : AH) (r : Int32) (hr : F_X9_isShut N x0 x1 x2 h = some r) : MZ l G yX9_isShut cX9_isShut 4 (some .boolean) 5 146 [vr x0, vr x1, vi x2] h (eI h r) := by
  unfold F_X9_isShut at hr
  refine MZ.of (by decide) [(0, vr x0), (1, vr x1), (2, vi x2)] rfl (Nat.le_of_ble_eq_true rfl) (fun K O => ?_)
  have O : ZOk K cX9_isShut RX9 "isShut" 4 (some .boolean) 5 146 := O
  refine bs hr (fun _ hck hr => ?_)
  refine z_aload_n O 1 dX9_isShut_0 rfl rfl ?_
  refine z_iconst O dX9_isShut_1 kic_0 ?_
  refine z_iload_n O 2 dX9_isShut_2 rfl rfl ?_
  refine z_iadd O dX9_isShut_3 ?_
  refine z_iaload O dX9_isShut_4 hr (fun v1 hr => ?_)
  refine z_istore_n O [(3, vi v1), (0, vr x0), (1, vr x1), (2, vi x2)] dX9_isShut_5 rfl (by decide) rfl ?_
  refine z_iload_n O 0 dX9_isShut_6 rfl rfl ?_
  refine z_if_le (tgt := 43) O dX9_isShut_7 (by decide) hr (fun hr => ?_) (fun hr => ?_)
  · refine z_iconst O dX9_isShut_43 kic_0 ?_
    obtain ⟨e1, e2, -⟩ := zb_spec hr
    exact z_zret O e2 dX9_isShut_44 (by cases e1; rfl)
  · refine z_aload_n O 1 dX9_isShut_10 rfl rfl ?_
    refine z_getR O o_Model_land q1765 dX9_isShut_11 hr (fun v2 hr => ?_)
    refine z_aload_n O 2 dX9_isShut_14 rfl rfl ?_
    refine z_iload_n O 3 dX9_isShut_15 rfl rfl ?_
    refine z_iload_n O 0 dX9_isShut_16 rfl rfl ?_
    refine z_aload_n O 2 dX9_isShut_17 rfl rfl ?_
    refine z_iload_n O 3 dX9_isShut_18 rfl rfl ?_
    refine z_iload_n O 0 dX9_isShut_19 rfl rfl ?_
    refine z_iconst O dX9_isShut_20 kic_1 ?_
    refine bs hr (fun v3 hF hr => ?_)
    refine z_callS O [vi x2, vi v1, vi (1 : Int32)] (vi v3) fS_X9_part q2223 (fun l G => mX9_part l G x2 v1 (1 : Int32) h _ hF) rfl ⟨Nat.le_of_ble_eq_true rfl, Nat.le_of_ble_eq_true rfl⟩ (Nat.le_of_ble_eq_true rfl) dX9_isShut_21 ?_
    refine z_iaload O dX9_isShut_24 hr (fun v4 hr => ?_)
    refine z_aload_n O 2 dX9_isShut_25 rfl rfl ?_
    refine z_iload_n O 3 dX9_isShut_26 rfl rfl ?_
    refine z_iload_n O 0 dX9_isShut_27 rfl rfl ?_
    refine z_iconst O dX9_isShut_28 kic_2 ?_
    refine bs hr (fun v5 hF hr => ?_)
    refine z_callS O [vi x2, vi v1, vi (2 : Int32)] (vi v5) fS_X9_part q2223 (fun l G => mX9_part l G x2 v1 (2 : Int32) h _ hF) rfl ⟨Nat.le_of_ble_eq_true rfl, Nat.le_of_ble_eq_true rfl⟩ (Nat.le_of_ble_eq_true rfl) dX9_isShut_29 ?_
    refine z_iaload O dX9_isShut_32 hr (fun v6 hr => ?_)
    refine bs hr (fun v7 hF hr => ?_)
    refine z_callS O [vr v2, vr x1, vi x2, vi v1, vi v4, vi v6] (vi v7) fS_X9_isFree q2300 (fun l G => mX9_isFree l G N v2 x1 x2 v1 v4 v6 h _ hF) rfl ⟨Nat.le_of_ble_eq_true rfl, Nat.le_of_ble_eq_true rfl⟩ (Nat.le_of_ble_eq_true rfl) dX9_isShut_33 ?_
    refine z_if_ne (tgt := 43) O dX9_isShut_36 (by decide) hr (fun hr => ?_) (fun hr => ?_)
    · refine z_iconst O dX9_isShut_39 kic_1 ?_
      refine z_goto (tgt := 44) O dX9_isShut_40 (by decide) ?_
      obtain ⟨e1, e2, -⟩ := zb_spec hr
      exact z_zret O e2 dX9_isShut_44 (by cases e1; rfl)
    · refine z_iconst O dX9_isShut_43 kic_0 ?_
      obtain ⟨e1, e2, -⟩ := zb_spec hr
      exact z_zret O e2 dX9_isShut_44 (by cases e1; rfl)
theorem fV_X9_house : CVf RX9 yX9_house cX9_house 3 (some .int) 2 := ⟨q2289, q2290, q137, q2291, ⟨⟨by decide +kernel, by decide +kernel⟩, by decide +kernel⟩⟩
def bX9_house_193 (N : Nat) (s0 : Option Nat) (s1 : Int32) (s2 : Int32) (h : AH) : Option (Int32 × AH) :=
  if s1 ≤ s2 then
    b2 (F_X9_good s0 (0 : Int32) h) fun v2 h1 =>
    some (v2, h1)
  else
    b2 (F_X9_good s0 (1 : Int32) h) fun v4 h3 =>
    some (v4, h3)
theorem wX9_house_193 {K : ZC} (O : ZOk K cX9_house RX9 "house" 3 (some .int) 6 169) (N : Nat) (s0 : Option Nat) (s1 : Int32) (s2 : Int32) (h : AH) (r : Int32 × AH) (hr : bX9_house_193 N s0 s1 s2 h = some r) : Zw K (eIH r) h 193 [] [vi s2, vi s1, vr s0] := by
  unfold bX9_house_193 at hr
  refine z_icmp_le (tgt := 200) O dX9_house_193 (by decide) hr (fun hr => ?_) (fun hr => ?_)
  · refine z_iconst O dX9_house_200 kic_0 ?_
    refine b2s hr (fun v2 h1 hF hr => ?_)
    refine z_callV O [vi (0 : Int32)] (vi v2) fV_X9_good q2249 (fun l G => mX9_good l G s0 (0 : Int32) h _ hF) (zck hF) rfl rfl ⟨Nat.le_of_ble_eq_true rfl, Nat.le_of_ble_eq_true rfl⟩ (Nat.le_of_ble_eq_true rfl) dX9_house_201 ?_
    exact z_iret O dX9_house_204 (by cases hr; rfl)
  · refine z_iconst O dX9_house_196 kic_1 ?_
    refine z_goto (tgt := 201) O dX9_house_197 (by decide) ?_
    refine b2s hr (fun v4 h3 hF hr => ?_)
    refine z_callV O [vi (1 : Int32)] (vi v4) fV_X9_good q2249 (fun l G => mX9_good l G s0 (1 : Int32) h _ hF) (zck hF) rfl rfl ⟨Nat.le_of_ble_eq_true rfl, Nat.le_of_ble_eq_true rfl⟩ (Nat.le_of_ble_eq_true rfl) dX9_house_201 ?_
    exact z_iret O dX9_house_204 (by cases hr; rfl)
def F_X9_house (N : Nat) (x0 : Option Nat) (x1 : Int32) (x2 : Int32) (h : AH) : Option (Int32 × AH) :=
  (ck h [9] x0).bind fun _ =>
  (pI h f_Model_thrown x0 (0 : Int32)).bind fun h1 =>
  (F_X9_isHouse x0 x1 h1).bind fun v2 =>
  if v2 = 0 then
    b2 (F_X9_refused x0 (1 : Int32) h1) fun v4 h3 =>
    some (v4, h3)
  else
    (F_X9_within x2 (0 : Int32) (6 : Int32)).bind fun v5 =>
    if v5 = 0 then
      b2 (F_X9_refused x0 (1 : Int32) h1) fun v47 h46 =>
      some (v47, h46)
    else
      if x2 = (0 : Int32) then
        (gR h1 f_Model_land x0).bind fun v12 =>
        (gR h1 f_MLand_core v12).bind fun v13 =>
        (aI h1 0 v13 x1).bind fun v14 =>
        b2 (F_X9_good x0 v14 h1) fun v16 h15 =>
        some (v16, h15)
      else if x2 = (1 : Int32) then
        (gR h1 f_Model_v x0).bind fun v17 =>
        (aI h1 0 v17 ((0 : Int32) + x1)).bind fun v18 =>
        b2 (F_X9_good x0 v18 h1) fun v20 h19 =>
        some (v20, h19)
      else if x2 = (2 : Int32) then
        (gR h1 f_Model_v x0).bind fun v21 =>
        (aI h1 0 v21 ((4 : Int32) + x1)).bind fun v22 =>
        b2 (F_X9_good x0 v22 h1) fun v24 h23 =>
        some (v24, h23)
      else if x2 = (3 : Int32) then
        (gR h1 f_Model_v x0).bind fun v25 =>
        (aI h1 0 v25 ((8 : Int32) + x1)).bind fun v26 =>
        b2 (F_X9_good x0 v26 h1) fun v28 h27 =>
        some (v28, h27)
      else if x2 = (4 : Int32) then
        (gR h1 f_Model_land x0).bind fun v29 =>
        (gR h1 f_MLand_stoneOf v29).bind fun v30 =>
        (aI h1 0 v30 x1).bind fun v31 =>
        b2 (F_X9_good x0 v31 h1) fun v33 h32 =>
        some (v33, h32)
      else if x2 = (5 : Int32) then
        (gR h1 f_Model_v x0).bind fun v34 =>
        (F_X9_isShut N x0 v34 x1 h1).bind fun v35 =>
        if v35 = 0 then
          b2 (F_X9_good x0 (0 : Int32) h1) fun v37 h36 =>
          some (v37, h36)
        else
          b2 (F_X9_good x0 (1 : Int32) h1) fun v39 h38 =>
          some (v39, h38)
      else 
        (gR h1 f_Model_v x0).bind fun v40 =>
        (aI h1 0 v40 ((4 : Int32) + x1)).bind fun v41 =>
        (gR h1 f_Model_v x0).bind fun v42 =>
        (aI h1 0 v42 ((0 : Int32) + x1)).bind fun v43 =>
        if v43 = 0 then
          bX9_house_193 N x0 v41 (1 : Int32) h1
        else
          (gR h1 f_Model_v x0).bind fun v44 =>
          (aI h1 0 v44 ((0 : Int32) + x1)).bind fun v45 =>
          bX9_house_193 N x0 v41 ((8 : Int32) * v45) h1
theorem mX9_house (l : Launch) (G : ZG) (N : Nat) (x0 : Option Nat) (x1 : Int32) (x2 : Int32) (h : AH) (r : Int32 × AH) (hr : F_X9_house N x0 x1 x2 h = some r) : MZ l G yX9_house cX9_house 3 (some .int) 6 169 [vr x0, vi x1, vi x2] h (eIH r) := by
  unfold F_X9_house at hr
  refine MZ.of (by decide) [(0, vr x0), (1, vi x1), (2, vi x2)] rfl (Nat.le_of_ble_eq_true rfl) (fun K O => ?_)
  have O : ZOk K cX9_house RX9 "house" 3 (some .int) 6 169 := O
  refine bs hr (fun _ hck hr => ?_)
  refine z_aload_n O 0 dX9_house_0 rfl rfl ?_
  refine z_iconst O dX9_house_1 kic_0 ?_
  refine z_putI O o_Model_thrown (w_Model_thrown _) q1762 dX9_house_2 hr (fun h1 hr => ?_)
  refine z_aload_n O 0 dX9_house_5 rfl rfl ?_
  refine z_iload_n O 1 dX9_house_6 rfl rfl ?_
  refine bs hr (fun v2 hF hr => ?_)
  refine z_callV O [vi x1] (vi v2) fV_X9_isHouse q2292 (fun l G => mX9_isHouse l G x0 x1 h1 _ hF) (zck hF) rfl rfl ⟨Nat.le_of_ble_eq_true rfl, Nat.le_of_ble_eq_true rfl⟩ (Nat.le_of_ble_eq_true rfl) dX9_house_7 ?_
  refine z_if_eq (tgt := 23) O dX9_house_10 (by decide) hr (fun hr => ?_) (fun hr => ?_)
  · refine z_aload_n O 0 dX9_house_23 rfl rfl ?_
    refine z_iconst O dX9_house_24 kic_1 ?_
    refine b2s hr (fun v4 h3 hF hr => ?_)
    refine z_callV O [vi (1 : Int32)] (vi v4) fV_X9_refused q1886 (fun l G => mX9_refused l G x0 (1 : Int32) h1 _ hF) (zck hF) rfl rfl ⟨Nat.le_of_ble_eq_true rfl, Nat.le_of_ble_eq_true rfl⟩ (Nat.le_of_ble_eq_true rfl) dX9_house_25 ?_
    exact z_iret O dX9_house_28 (by cases hr; rfl)
  · refine z_iload_n O 2 dX9_house_13 rfl rfl ?_
    refine z_iconst O dX9_house_14 kic_0 ?_
    refine z_bipush O dX9_house_15 kbi_6 ?_
    refine bs hr (fun v5 hF hr => ?_)
    refine z_callS O [vi x2, vi (0 : Int32), vi (6 : Int32)] (vi v5) fS_X9_within q2096 (fun l G => mX9_within l G x2 (0 : Int32) (6 : Int32) h1 _ hF) rfl ⟨Nat.le_of_ble_eq_true rfl, Nat.le_of_ble_eq_true rfl⟩ (Nat.le_of_ble_eq_true rfl) dX9_house_17 ?_
    refine z_if_ne (tgt := 29) O dX9_house_20 (by decide) hr (fun hr => ?_) (fun hr => ?_)
    · refine z_aload_n O 0 dX9_house_23 rfl rfl ?_
      refine z_iconst O dX9_house_24 kic_1 ?_
      refine b2s hr (fun v47 h46 hF hr => ?_)
      refine z_callV O [vi (1 : Int32)] (vi v47) fV_X9_refused q1886 (fun l G => mX9_refused l G x0 (1 : Int32) h1 _ hF) (zck hF) rfl rfl ⟨Nat.le_of_ble_eq_true rfl, Nat.le_of_ble_eq_true rfl⟩ (Nat.le_of_ble_eq_true rfl) dX9_house_25 ?_
      exact z_iret O dX9_house_28 (by cases hr; rfl)
    · refine z_iload_n O 2 dX9_house_29 rfl rfl ?_
      refine zite hr (fun c6 hr => ?_) (fun c6 hr => ?_)
      · refine z_tabIn (v := (0 : Int32)) (off := 38) (tgt := 68) O dX9_house_30 c6 (by decide) (by decide +kernel) (by decide) ?_
        refine z_aload_n O 0 dX9_house_68 rfl rfl ?_
        refine z_aload_n O 0 dX9_house_69 rfl rfl ?_
        refine z_getR O o_Model_land q1765 dX9_house_70 hr (fun v12 hr => ?_)
        refine z_getRN O o_MLand_core zn1928 dX9_house_73 hr (fun v13 hr => ?_)
        refine z_iload_n O 1 dX9_house_76 rfl rfl ?_
        refine z_iaload O dX9_house_77 hr (fun v14 hr => ?_)
        refine b2s hr (fun v16 h15 hF hr => ?_)
        refine z_callV O [vi v14] (vi v16) fV_X9_good q2249 (fun l G => mX9_good l G x0 v14 h1 _ hF) (zck hF) rfl rfl ⟨Nat.le_of_ble_eq_true rfl, Nat.le_of_ble_eq_true rfl⟩ (Nat.le_of_ble_eq_true rfl) dX9_house_78 ?_
        exact z_iret O dX9_house_81 (by cases hr; rfl)
      refine zite hr (fun c7 hr => ?_) (fun c7 hr => ?_)
      · refine z_tabIn (v := (1 : Int32)) (off := 52) (tgt := 82) O dX9_house_30 c7 (by decide) (by decide +kernel) (by decide) ?_
        refine z_aload_n O 0 dX9_house_82 rfl rfl ?_
        refine z_aload_n O 0 dX9_house_83 rfl rfl ?_
        refine z_getR O o_Model_v q1778 dX9_house_84 hr (fun v17 hr => ?_)
        refine z_iconst O dX9_house_87 kic_0 ?_
        refine z_iload_n O 1 dX9_house_88 rfl rfl ?_
        refine z_iadd O dX9_house_89 ?_
        refine z_iaload O dX9_house_90 hr (fun v18 hr => ?_)
        refine b2s hr (fun v20 h19 hF hr => ?_)
        refine z_callV O [vi v18] (vi v20) fV_X9_good q2249 (fun l G => mX9_good l G x0 v18 h1 _ hF) (zck hF) rfl rfl ⟨Nat.le_of_ble_eq_true rfl, Nat.le_of_ble_eq_true rfl⟩ (Nat.le_of_ble_eq_true rfl) dX9_house_91 ?_
        exact z_iret O dX9_house_94 (by cases hr; rfl)
      refine zite hr (fun c8 hr => ?_) (fun c8 hr => ?_)
      · refine z_tabIn (v := (2 : Int32)) (off := 65) (tgt := 95) O dX9_house_30 c8 (by decide) (by decide +kernel) (by decide) ?_
        refine z_aload_n O 0 dX9_house_95 rfl rfl ?_
        refine z_aload_n O 0 dX9_house_96 rfl rfl ?_
        refine z_getR O o_Model_v q1778 dX9_house_97 hr (fun v21 hr => ?_)
        refine z_iconst O dX9_house_100 kic_4 ?_
        refine z_iload_n O 1 dX9_house_101 rfl rfl ?_
        refine z_iadd O dX9_house_102 ?_
        refine z_iaload O dX9_house_103 hr (fun v22 hr => ?_)
        refine b2s hr (fun v24 h23 hF hr => ?_)
        refine z_callV O [vi v22] (vi v24) fV_X9_good q2249 (fun l G => mX9_good l G x0 v22 h1 _ hF) (zck hF) rfl rfl ⟨Nat.le_of_ble_eq_true rfl, Nat.le_of_ble_eq_true rfl⟩ (Nat.le_of_ble_eq_true rfl) dX9_house_104 ?_
        exact z_iret O dX9_house_107 (by cases hr; rfl)
      refine zite hr (fun c9 hr => ?_) (fun c9 hr => ?_)
      · refine z_tabIn (v := (3 : Int32)) (off := 78) (tgt := 108) O dX9_house_30 c9 (by decide) (by decide +kernel) (by decide) ?_
        refine z_aload_n O 0 dX9_house_108 rfl rfl ?_
        refine z_aload_n O 0 dX9_house_109 rfl rfl ?_
        refine z_getR O o_Model_v q1778 dX9_house_110 hr (fun v25 hr => ?_)
        refine z_bipush O dX9_house_113 kbi_8 ?_
        refine z_iload_n O 1 dX9_house_115 rfl rfl ?_
        refine z_iadd O dX9_house_116 ?_
        refine z_iaload O dX9_house_117 hr (fun v26 hr => ?_)
        refine b2s hr (fun v28 h27 hF hr => ?_)
        refine z_callV O [vi v26] (vi v28) fV_X9_good q2249 (fun l G => mX9_good l G x0 v26 h1 _ hF) (zck hF) rfl rfl ⟨Nat.le_of_ble_eq_true rfl, Nat.le_of_ble_eq_true rfl⟩ (Nat.le_of_ble_eq_true rfl) dX9_house_118 ?_
        exact z_iret O dX9_house_121 (by cases hr; rfl)
      refine zite hr (fun c10 hr => ?_) (fun c10 hr => ?_)
      · refine z_tabIn (v := (4 : Int32)) (off := 92) (tgt := 122) O dX9_house_30 c10 (by decide) (by decide +kernel) (by decide) ?_
        refine z_aload_n O 0 dX9_house_122 rfl rfl ?_
        refine z_aload_n O 0 dX9_house_123 rfl rfl ?_
        refine z_getR O o_Model_land q1765 dX9_house_124 hr (fun v29 hr => ?_)
        refine z_getRN O o_MLand_stoneOf zn1930 dX9_house_127 hr (fun v30 hr => ?_)
        refine z_iload_n O 1 dX9_house_130 rfl rfl ?_
        refine z_iaload O dX9_house_131 hr (fun v31 hr => ?_)
        refine b2s hr (fun v33 h32 hF hr => ?_)
        refine z_callV O [vi v31] (vi v33) fV_X9_good q2249 (fun l G => mX9_good l G x0 v31 h1 _ hF) (zck hF) rfl rfl ⟨Nat.le_of_ble_eq_true rfl, Nat.le_of_ble_eq_true rfl⟩ (Nat.le_of_ble_eq_true rfl) dX9_house_132 ?_
        exact z_iret O dX9_house_135 (by cases hr; rfl)
      refine zite hr (fun c11 hr => ?_) (fun c11 hr => ?_)
      · refine z_tabIn (v := (5 : Int32)) (off := 106) (tgt := 136) O dX9_house_30 c11 (by decide) (by decide +kernel) (by decide) ?_
        refine z_aload_n O 0 dX9_house_136 rfl rfl ?_
        refine z_aload_n O 0 dX9_house_137 rfl rfl ?_
        refine z_aload_n O 0 dX9_house_138 rfl rfl ?_
        refine z_getR O o_Model_v q1778 dX9_house_139 hr (fun v34 hr => ?_)
        refine z_iload_n O 1 dX9_house_142 rfl rfl ?_
        refine bs hr (fun v35 hF hr => ?_)
        refine z_callV O [vr v34, vi x1] (vi v35) fV_X9_isShut q2296 (fun l G => mX9_isShut l G N x0 v34 x1 h1 _ hF) (zck hF) rfl rfl ⟨Nat.le_of_ble_eq_true rfl, Nat.le_of_ble_eq_true rfl⟩ (Nat.le_of_ble_eq_true rfl) dX9_house_143 ?_
        refine z_if_eq (tgt := 153) O dX9_house_146 (by decide) hr (fun hr => ?_) (fun hr => ?_)
        · refine z_iconst O dX9_house_153 kic_0 ?_
          refine b2s hr (fun v37 h36 hF hr => ?_)
          refine z_callV O [vi (0 : Int32)] (vi v37) fV_X9_good q2249 (fun l G => mX9_good l G x0 (0 : Int32) h1 _ hF) (zck hF) rfl rfl ⟨Nat.le_of_ble_eq_true rfl, Nat.le_of_ble_eq_true rfl⟩ (Nat.le_of_ble_eq_true rfl) dX9_house_154 ?_
          exact z_iret O dX9_house_157 (by cases hr; rfl)
        · refine z_iconst O dX9_house_149 kic_1 ?_
          refine z_goto (tgt := 154) O dX9_house_150 (by decide) ?_
          refine b2s hr (fun v39 h38 hF hr => ?_)
          refine z_callV O [vi (1 : Int32)] (vi v39) fV_X9_good q2249 (fun l G => mX9_good l G x0 (1 : Int32) h1 _ hF) (zck hF) rfl rfl ⟨Nat.le_of_ble_eq_true rfl, Nat.le_of_ble_eq_true rfl⟩ (Nat.le_of_ble_eq_true rfl) dX9_house_154 ?_
          exact z_iret O dX9_house_157 (by cases hr; rfl)
      refine z_tabOut (tgt := 158) O dX9_house_30 (zt_out 6 (by decide) (lt_s (p := fun j : Nat => ¬ x2.toInt = (0 : Int) + (j : Int)) (lt_s (p := fun j : Nat => ¬ x2.toInt = (0 : Int) + (j : Int)) (lt_s (p := fun j : Nat => ¬ x2.toInt = (0 : Int) + (j : Int)) (lt_s (p := fun j : Nat => ¬ x2.toInt = (0 : Int) + (j : Int)) (lt_s (p := fun j : Nat => ¬ x2.toInt = (0 : Int) + (j : Int)) (lt_s (p := fun j : Nat => ¬ x2.toInt = (0 : Int) + (j : Int)) lt_0 (lv_neT c6 (by decide))) (lv_neT c7 (by decide))) (lv_neT c8 (by decide))) (lv_neT c9 (by decide))) (lv_neT c10 (by decide))) (lv_neT c11 (by decide)))) (by decide) ?_
      refine z_aload_n O 0 dX9_house_158 rfl rfl ?_
      refine z_aload_n O 0 dX9_house_159 rfl rfl ?_
      refine z_getR O o_Model_v q1778 dX9_house_160 hr (fun v40 hr => ?_)
      refine z_iconst O dX9_house_163 kic_4 ?_
      refine z_iload_n O 1 dX9_house_164 rfl rfl ?_
      refine z_iadd O dX9_house_165 ?_
      refine z_iaload O dX9_house_166 hr (fun v41 hr => ?_)
      refine z_aload_n O 0 dX9_house_167 rfl rfl ?_
      refine z_getR O o_Model_v q1778 dX9_house_168 hr (fun v42 hr => ?_)
      refine z_iconst O dX9_house_171 kic_0 ?_
      refine z_iload_n O 1 dX9_house_172 rfl rfl ?_
      refine z_iadd O dX9_house_173 ?_
      refine z_iaload O dX9_house_174 hr (fun v43 hr => ?_)
      refine z_if_ne (tgt := 182) O dX9_house_175 (by decide) hr (fun hr => ?_) (fun hr => ?_)
      · refine z_iconst O dX9_house_178 kic_1 ?_
        refine z_goto (tgt := 193) O dX9_house_179 (by decide) ?_
        refine z_sub [] rfl ?_
        exact wX9_house_193 O N x0 v41 (1 : Int32) h1 _ hr
      · refine z_bipush O dX9_house_182 kbi_8 ?_
        refine z_aload_n O 0 dX9_house_184 rfl rfl ?_
        refine z_getR O o_Model_v q1778 dX9_house_185 hr (fun v44 hr => ?_)
        refine z_iconst O dX9_house_188 kic_0 ?_
        refine z_iload_n O 1 dX9_house_189 rfl rfl ?_
        refine z_iadd O dX9_house_190 ?_
        refine z_iaload O dX9_house_191 hr (fun v45 hr => ?_)
        refine z_imul O dX9_house_192 ?_
        refine z_sub [] rfl ?_
        exact wX9_house_193 O N x0 v41 ((8 : Int32) * v45) h1 _ hr
theorem fV_X9_in : CVf RX9 yX9_in cX9_in 7 (some .int) 3 := ⟨q2424, q2425, q137, q2426, ⟨⟨by decide +kernel, by decide +kernel⟩, by decide +kernel⟩⟩
def BX9_in_59 (N : Nat) (x0 : Option Nat) (x1 : Int32) (x3 : Int32) (rec59 : Int32 → Int32 → AH → Option (Int32 × AH)) : Int32 → Int32 → AH → Option (Int32 × AH) := fun x5 x6 h =>
  (gR h f_Model_w x0).bind fun v1 =>
  (aI h 0 v1 ((0 : Int32) + x1)).bind fun v2 =>
  if v2 < x6 then
    if x3 = (0 : Int32) then
      (gR h f_Model_w x0).bind fun v7 =>
      (aI h 0 v7 ((0 : Int32) + x1)).bind fun v8 =>
      b2 (F_X9_good x0 v8 h) fun v10 h9 =>
      some (v10, h9)
    else if x3 = (1 : Int32) then
      (gR h f_Model_w x0).bind fun v11 =>
      (aI h 0 v11 ((4 : Int32) + x1)).bind fun v12 =>
      b2 (F_X9_good x0 v12 h) fun v14 h13 =>
      some (v14, h13)
    else if x3 = (2 : Int32) then
      (gR h f_Model_w x0).bind fun v15 =>
      (aI h 0 v15 ((8 : Int32) + x1)).bind fun v16 =>
      b2 (F_X9_good x0 v16 h) fun v18 h17 =>
      some (v18, h17)
    else if x3 = (3 : Int32) then
      b2 (F_X9_good x0 x5 h) fun v20 h19 =>
      some (v20, h19)
    else 
      (gR h f_Model_w x0).bind fun v21 =>
      (F_X9_isShut N x0 v21 x1 h).bind fun v22 =>
      if v22 = 0 then
        b2 (F_X9_good x0 (0 : Int32) h) fun v24 h23 =>
        some (v24, h23)
      else
        b2 (F_X9_good x0 (1 : Int32) h) fun v26 h25 =>
        some (v26, h25)
  else
    (gR h f_Model_w x0).bind fun v27 =>
    (F_X9_part x1 x6 (5 : Int32)).bind fun v28 =>
    (aI h 0 v27 v28).bind fun v29 =>
    jlet (x5 + v29) fun v30 =>
    jlet (x6 + (1 : Int32)) fun v31 =>
    rec59 v30 v31 h
def LX9_in_59 (N : Nat) (x0 : Option Nat) (x1 : Int32) (x3 : Int32) : Int32 → Int32 → AH → Option (Int32 × AH) := lf (fun _ _ _ => none) (BX9_in_59 N x0 x1 x3) N
theorem wX9_in_59B {K : ZC} (O : ZOk K cX9_in RX9 "in" 7 (some .int) 9 240) (N : Nat) (x0 : Option Nat) (x1 : Int32) (x3 : Int32) (rec59 : Int32 → Int32 → AH → Option (Int32 × AH)) (hrec59 : ∀ (y5 : Int32) (y6 : Int32) (hy : AH) (ry : Int32 × AH), rec59 y5 y6 hy = some ry → Zw K (eIH ry) hy 59 [(0, vr x0), (1, vi x1), (3, vi x3), (5, vi y5), (6, vi y6)] []) (x5 : Int32) (x6 : Int32) (h : AH) (r : Int32 × AH) (hr : BX9_in_59 N x0 x1 x3 rec59 x5 x6 h = some r) : Zw K (eIH r) h 59 [(0, vr x0), (1, vi x1), (3, vi x3), (5, vi x5), (6, vi x6)] [] := by
  unfold BX9_in_59 at hr
  refine z_iload O 4 dX9_in_59 rfl ?_
  refine z_aload_n O 0 dX9_in_61 rfl rfl ?_
  refine z_getR O o_Model_w q1779 dX9_in_62 hr (fun v1 hr => ?_)
  refine z_iconst O dX9_in_65 kic_0 ?_
  refine z_iload_n O 1 dX9_in_66 rfl rfl ?_
  refine z_iadd O dX9_in_67 ?_
  refine z_iaload O dX9_in_68 hr (fun v2 hr => ?_)
  refine z_icmp_gt (tgt := 95) O dX9_in_69 (by decide) hr (fun hr => ?_) (fun hr => ?_)
  · refine z_iload_n O 2 dX9_in_95 rfl rfl ?_
    refine zite hr (fun c3 hr => ?_) (fun c3 hr => ?_)
    · refine z_tabIn (v := (0 : Int32)) (off := 32) (tgt := 128) O dX9_in_96 c3 (by decide) (by decide +kernel) (by decide) ?_
      refine z_aload_n O 0 dX9_in_128 rfl rfl ?_
      refine z_aload_n O 0 dX9_in_129 rfl rfl ?_
      refine z_getR O o_Model_w q1779 dX9_in_130 hr (fun v7 hr => ?_)
      refine z_iconst O dX9_in_133 kic_0 ?_
      refine z_iload_n O 1 dX9_in_134 rfl rfl ?_
      refine z_iadd O dX9_in_135 ?_
      refine z_iaload O dX9_in_136 hr (fun v8 hr => ?_)
      refine b2s hr (fun v10 h9 hF hr => ?_)
      refine z_callV O [vi v8] (vi v10) fV_X9_good q2249 (fun l G => mX9_good l G x0 v8 h _ hF) (zck hF) rfl rfl ⟨Nat.le_of_ble_eq_true rfl, Nat.le_of_ble_eq_true rfl⟩ (Nat.le_of_ble_eq_true rfl) dX9_in_137 ?_
      exact z_iret O dX9_in_140 (by cases hr; rfl)
    refine zite hr (fun c4 hr => ?_) (fun c4 hr => ?_)
    · refine z_tabIn (v := (1 : Int32)) (off := 45) (tgt := 141) O dX9_in_96 c4 (by decide) (by decide +kernel) (by decide) ?_
      refine z_aload_n O 0 dX9_in_141 rfl rfl ?_
      refine z_aload_n O 0 dX9_in_142 rfl rfl ?_
      refine z_getR O o_Model_w q1779 dX9_in_143 hr (fun v11 hr => ?_)
      refine z_iconst O dX9_in_146 kic_4 ?_
      refine z_iload_n O 1 dX9_in_147 rfl rfl ?_
      refine z_iadd O dX9_in_148 ?_
      refine z_iaload O dX9_in_149 hr (fun v12 hr => ?_)
      refine b2s hr (fun v14 h13 hF hr => ?_)
      refine z_callV O [vi v12] (vi v14) fV_X9_good q2249 (fun l G => mX9_good l G x0 v12 h _ hF) (zck hF) rfl rfl ⟨Nat.le_of_ble_eq_true rfl, Nat.le_of_ble_eq_true rfl⟩ (Nat.le_of_ble_eq_true rfl) dX9_in_150 ?_
      exact z_iret O dX9_in_153 (by cases hr; rfl)
    refine zite hr (fun c5 hr => ?_) (fun c5 hr => ?_)
    · refine z_tabIn (v := (2 : Int32)) (off := 58) (tgt := 154) O dX9_in_96 c5 (by decide) (by decide +kernel) (by decide) ?_
      refine z_aload_n O 0 dX9_in_154 rfl rfl ?_
      refine z_aload_n O 0 dX9_in_155 rfl rfl ?_
      refine z_getR O o_Model_w q1779 dX9_in_156 hr (fun v15 hr => ?_)
      refine z_bipush O dX9_in_159 kbi_8 ?_
      refine z_iload_n O 1 dX9_in_161 rfl rfl ?_
      refine z_iadd O dX9_in_162 ?_
      refine z_iaload O dX9_in_163 hr (fun v16 hr => ?_)
      refine b2s hr (fun v18 h17 hF hr => ?_)
      refine z_callV O [vi v16] (vi v18) fV_X9_good q2249 (fun l G => mX9_good l G x0 v16 h _ hF) (zck hF) rfl rfl ⟨Nat.le_of_ble_eq_true rfl, Nat.le_of_ble_eq_true rfl⟩ (Nat.le_of_ble_eq_true rfl) dX9_in_164 ?_
      exact z_iret O dX9_in_167 (by cases hr; rfl)
    refine zite hr (fun c6 hr => ?_) (fun c6 hr => ?_)
    · refine z_tabIn (v := (3 : Int32)) (off := 72) (tgt := 168) O dX9_in_96 c6 (by decide) (by decide +kernel) (by decide) ?_
      refine z_aload_n O 0 dX9_in_168 rfl rfl ?_
      refine z_iload O 3 dX9_in_169 rfl ?_
      refine b2s hr (fun v20 h19 hF hr => ?_)
      refine z_callV O [vi x5] (vi v20) fV_X9_good q2249 (fun l G => mX9_good l G x0 x5 h _ hF) (zck hF) rfl rfl ⟨Nat.le_of_ble_eq_true rfl, Nat.le_of_ble_eq_true rfl⟩ (Nat.le_of_ble_eq_true rfl) dX9_in_171 ?_
      exact z_iret O dX9_in_174 (by cases hr; rfl)
    refine z_tabOut (tgt := 175) O dX9_in_96 (zt_out 4 (by decide) (lt_s (p := fun j : Nat => ¬ x3.toInt = (0 : Int) + (j : Int)) (lt_s (p := fun j : Nat => ¬ x3.toInt = (0 : Int) + (j : Int)) (lt_s (p := fun j : Nat => ¬ x3.toInt = (0 : Int) + (j : Int)) (lt_s (p := fun j : Nat => ¬ x3.toInt = (0 : Int) + (j : Int)) lt_0 (lv_neT c3 (by decide))) (lv_neT c4 (by decide))) (lv_neT c5 (by decide))) (lv_neT c6 (by decide)))) (by decide) ?_
    refine z_aload_n O 0 dX9_in_175 rfl rfl ?_
    refine z_aload_n O 0 dX9_in_176 rfl rfl ?_
    refine z_aload_n O 0 dX9_in_177 rfl rfl ?_
    refine z_getR O o_Model_w q1779 dX9_in_178 hr (fun v21 hr => ?_)
    refine z_iload_n O 1 dX9_in_181 rfl rfl ?_
    refine bs hr (fun v22 hF hr => ?_)
    refine z_callV O [vr v21, vi x1] (vi v22) fV_X9_isShut q2296 (fun l G => mX9_isShut l G N x0 v21 x1 h _ hF) (zck hF) rfl rfl ⟨Nat.le_of_ble_eq_true rfl, Nat.le_of_ble_eq_true rfl⟩ (Nat.le_of_ble_eq_true rfl) dX9_in_182 ?_
    refine z_if_eq (tgt := 192) O dX9_in_185 (by decide) hr (fun hr => ?_) (fun hr => ?_)
    · refine z_iconst O dX9_in_192 kic_0 ?_
      refine b2s hr (fun v24 h23 hF hr => ?_)
      refine z_callV O [vi (0 : Int32)] (vi v24) fV_X9_good q2249 (fun l G => mX9_good l G x0 (0 : Int32) h _ hF) (zck hF) rfl rfl ⟨Nat.le_of_ble_eq_true rfl, Nat.le_of_ble_eq_true rfl⟩ (Nat.le_of_ble_eq_true rfl) dX9_in_193 ?_
      exact z_iret O dX9_in_196 (by cases hr; rfl)
    · refine z_iconst O dX9_in_188 kic_1 ?_
      refine z_goto (tgt := 193) O dX9_in_189 (by decide) ?_
      refine b2s hr (fun v26 h25 hF hr => ?_)
      refine z_callV O [vi (1 : Int32)] (vi v26) fV_X9_good q2249 (fun l G => mX9_good l G x0 (1 : Int32) h _ hF) (zck hF) rfl rfl ⟨Nat.le_of_ble_eq_true rfl, Nat.le_of_ble_eq_true rfl⟩ (Nat.le_of_ble_eq_true rfl) dX9_in_193 ?_
      exact z_iret O dX9_in_196 (by cases hr; rfl)
  · refine z_iload O 3 dX9_in_72 rfl ?_
    refine z_aload_n O 0 dX9_in_74 rfl rfl ?_
    refine z_getR O o_Model_w q1779 dX9_in_75 hr (fun v27 hr => ?_)
    refine z_iload_n O 1 dX9_in_78 rfl rfl ?_
    refine z_iload O 4 dX9_in_79 rfl ?_
    refine z_iconst O dX9_in_81 kic_5 ?_
    refine bs hr (fun v28 hF hr => ?_)
    refine z_callS O [vi x1, vi x6, vi (5 : Int32)] (vi v28) fS_X9_part q2223 (fun l G => mX9_part l G x1 x6 (5 : Int32) h _ hF) rfl ⟨Nat.le_of_ble_eq_true rfl, Nat.le_of_ble_eq_true rfl⟩ (Nat.le_of_ble_eq_true rfl) dX9_in_82 ?_
    refine z_iaload O dX9_in_85 hr (fun v29 hr => ?_)
    refine z_iadd O dX9_in_86 ?_
    refine z_letI hr (fun v30 hr => ?_)
    refine z_istore O [(5, vi v30), (0, vr x0), (1, vi x1), (3, vi x3), (6, vi x6)] dX9_in_87 (by decide) rfl ?_
    refine z_iincL O 4 (fun v31 => [(6, vi v31), (5, vi v30), (0, vr x0), (1, vi x1), (3, vi x3)]) dX9_in_89 rfl rfl (by decide) (fun _ => rfl) hr (fun v31 hr => ?_)
    refine z_goto (tgt := 59) O dX9_in_92 (by decide) ?_
    refine z_sub [2, 3, 4, 1, 0] rfl ?_
    exact hrec59 v30 v31 h _ hr
theorem wX9_in_59 {K : ZC} (O : ZOk K cX9_in RX9 "in" 7 (some .int) 9 240) (N : Nat) (x0 : Option Nat) (x1 : Int32) (x3 : Int32) : ∀ (n : Nat) (x5 : Int32) (x6 : Int32) (h : AH) (r : Int32 × AH), lf (fun _ _ _ => none) (BX9_in_59 N x0 x1 x3) n x5 x6 h = some r → Zw K (eIH r) h 59 [(0, vr x0), (1, vi x1), (3, vi x3), (5, vi x5), (6, vi x6)] [] := by
  intro n
  induction n with
  | zero => intro x5 x6 h r hr; cases hr
  | succ n ih => intro x5 x6 h r hr; exact wX9_in_59B O N x0 x1 x3 (lf (fun _ _ _ => none) (BX9_in_59 N x0 x1 x3) n)  ih x5 x6 h r hr
def bX9_in_28 (N : Nat) (x0 : Option Nat) (x1 : Int32) (x2 : Int32) (x3 : Int32) (s0 : Option Nat) (s1 : Int32) (h : AH) : Option (Int32 × AH) :=
  (F_X9_refusesIn s0 s1 x2 (60 : Int32) h).bind fun v1 =>
  if v1 ≤ 0 then
    (F_X9_inYears N x0 x2 h).bind fun h2 =>
    LX9_in_59 N x0 x1 x3 (0 : Int32) (1 : Int32) h2
  else
    b2 (F_X9_refused x0 v1 h) fun v4 h3 =>
    some (v4, h3)
theorem wX9_in_28 {K : ZC} (O : ZOk K cX9_in RX9 "in" 7 (some .int) 9 240) (N : Nat) (x0 : Option Nat) (x1 : Int32) (x2 : Int32) (x3 : Int32) (s0 : Option Nat) (s1 : Int32) (h : AH) (r : Int32 × AH) (hr : bX9_in_28 N x0 x1 x2 x3 s0 s1 h = some r) : Zw K (eIH r) h 28 [(0, vr x0), (1, vi x1), (2, vi x2), (3, vi x3)] [vi s1, vr s0] := by
  unfold bX9_in_28 at hr
  refine z_iload_n O 2 dX9_in_28 rfl rfl ?_
  refine z_bipush O dX9_in_29 kbi_60 ?_
  refine bs hr (fun v1 hF hr => ?_)
  refine z_callV O [vi s1, vi x2, vi (60 : Int32)] (vi v1) fV_X9_refusesIn q2427 (fun l G => mX9_refusesIn l G s0 s1 x2 (60 : Int32) h _ hF) (zck hF) rfl rfl ⟨Nat.le_of_ble_eq_true rfl, Nat.le_of_ble_eq_true rfl⟩ (Nat.le_of_ble_eq_true rfl) dX9_in_31 ?_
  refine z_istore O [(4, vi v1), (0, vr x0), (1, vi x1), (2, vi x2), (3, vi x3)] dX9_in_34 (by decide) rfl ?_
  refine z_iload O 0 dX9_in_36 rfl ?_
  refine z_if_le (tgt := 48) O dX9_in_38 (by decide) hr (fun hr => ?_) (fun hr => ?_)
  · refine z_aload_n O 1 dX9_in_48 rfl rfl ?_
    refine z_iload_n O 3 dX9_in_49 rfl rfl ?_
    refine bs hr (fun h2 hF hr => ?_)
    refine z_callVv O [vi x2] fV_X9_inYears q2431 (fun l G => mX9_inYears l G N x0 x2 h _ hF) (zck hF) rfl rfl ⟨Nat.le_of_ble_eq_true rfl, Nat.le_of_ble_eq_true rfl⟩ (Nat.le_of_ble_eq_true rfl) dX9_in_50 ?_
    refine z_iconst O dX9_in_53 kic_0 ?_
    refine z_istore O [(5, vi (0 : Int32)), (4, vi v1), (0, vr x0), (1, vi x1), (2, vi x2), (3, vi x3)] dX9_in_54 (by decide) rfl ?_
    refine z_iconst O dX9_in_56 kic_1 ?_
    refine z_istore O [(6, vi (1 : Int32)), (5, vi (0 : Int32)), (4, vi v1), (0, vr x0), (1, vi x1), (2, vi x2), (3, vi x3)] dX9_in_57 (by decide) rfl ?_
    refine z_sub [3, 4, 6, 1, 0] rfl ?_
    exact wX9_in_59 O N x0 x1 x3 _ (0 : Int32) (1 : Int32) h2 _ hr
  · refine z_aload_n O 1 dX9_in_41 rfl rfl ?_
    refine z_iload O 0 dX9_in_42 rfl ?_
    refine b2s hr (fun v4 h3 hF hr => ?_)
    refine z_callV O [vi v1] (vi v4) fV_X9_refused q1886 (fun l G => mX9_refused l G x0 v1 h _ hF) (zck hF) rfl rfl ⟨Nat.le_of_ble_eq_true rfl, Nat.le_of_ble_eq_true rfl⟩ (Nat.le_of_ble_eq_true rfl) dX9_in_44 ?_
    exact z_iret O dX9_in_47 (by cases hr; rfl)
def F_X9_in (N : Nat) (x0 : Option Nat) (x1 : Int32) (x2 : Int32) (x3 : Int32) (h : AH) : Option (Int32 × AH) :=
  (ck h [9] x0).bind fun _ =>
  (pI h f_Model_thrown x0 (0 : Int32)).bind fun h1 =>
  (F_X9_isHouse x0 x1 h1).bind fun v2 =>
  if v2 = 0 then
    bX9_in_28 N x0 x1 x2 x3 x0 (0 : Int32) h1
  else
    (F_X9_within x3 (0 : Int32) (4 : Int32)).bind fun v3 =>
    if v3 = 0 then
      bX9_in_28 N x0 x1 x2 x3 x0 (0 : Int32) h1
    else
      bX9_in_28 N x0 x1 x2 x3 x0 (1 : Int32) h1
theorem mX9_in (l : Launch) (G : ZG) (N : Nat) (x0 : Option Nat) (x1 : Int32) (x2 : Int32) (x3 : Int32) (h : AH) (r : Int32 × AH) (hr : F_X9_in N x0 x1 x2 x3 h = some r) : MZ l G yX9_in cX9_in 7 (some .int) 9 240 [vr x0, vi x1, vi x2, vi x3] h (eIH r) := by
  unfold F_X9_in at hr
  refine MZ.of (by decide) [(0, vr x0), (1, vi x1), (2, vi x2), (3, vi x3)] rfl (Nat.le_of_ble_eq_true rfl) (fun K O => ?_)
  have O : ZOk K cX9_in RX9 "in" 7 (some .int) 9 240 := O
  refine bs hr (fun _ hck hr => ?_)
  refine z_aload_n O 0 dX9_in_0 rfl rfl ?_
  refine z_iconst O dX9_in_1 kic_0 ?_
  refine z_putI O o_Model_thrown (w_Model_thrown _) q1762 dX9_in_2 hr (fun h1 hr => ?_)
  refine z_aload_n O 0 dX9_in_5 rfl rfl ?_
  refine z_aload_n O 0 dX9_in_6 rfl rfl ?_
  refine z_iload_n O 1 dX9_in_7 rfl rfl ?_
  refine bs hr (fun v2 hF hr => ?_)
  refine z_callV O [vi x1] (vi v2) fV_X9_isHouse q2292 (fun l G => mX9_isHouse l G x0 x1 h1 _ hF) (zck hF) rfl rfl ⟨Nat.le_of_ble_eq_true rfl, Nat.le_of_ble_eq_true rfl⟩ (Nat.le_of_ble_eq_true rfl) dX9_in_8 ?_
  refine z_if_eq (tgt := 27) O dX9_in_11 (by decide) hr (fun hr => ?_) (fun hr => ?_)
  · refine z_iconst O dX9_in_27 kic_0 ?_
    exact wX9_in_28 O N x0 x1 x2 x3 x0 (0 : Int32) h1 _ hr
  · refine z_iload_n O 3 dX9_in_14 rfl rfl ?_
    refine z_iconst O dX9_in_15 kic_0 ?_
    refine z_iconst O dX9_in_16 kic_4 ?_
    refine bs hr (fun v3 hF hr => ?_)
    refine z_callS O [vi x3, vi (0 : Int32), vi (4 : Int32)] (vi v3) fS_X9_within q2096 (fun l G => mX9_within l G x3 (0 : Int32) (4 : Int32) h1 _ hF) rfl ⟨Nat.le_of_ble_eq_true rfl, Nat.le_of_ble_eq_true rfl⟩ (Nat.le_of_ble_eq_true rfl) dX9_in_17 ?_
    refine z_if_eq (tgt := 27) O dX9_in_20 (by decide) hr (fun hr => ?_) (fun hr => ?_)
    · refine z_iconst O dX9_in_27 kic_0 ?_
      exact wX9_in_28 O N x0 x1 x2 x3 x0 (0 : Int32) h1 _ hr
    · refine z_iconst O dX9_in_23 kic_1 ?_
      refine z_goto (tgt := 28) O dX9_in_24 (by decide) ?_
      exact wX9_in_28 O N x0 x1 x2 x3 x0 (1 : Int32) h1 _ hr
theorem fI_X9_init : CIf yX9_init cX9_init 1 0 := ⟨q1759, rfl, q137, q1760, ⟨⟨by decide +kernel, by decide +kernel⟩, by decide +kernel⟩⟩
def F_X9_init (x0 : Option Nat) (h : AH) : Option (AH) :=
  (ck h [9] x0).bind fun _ =>
  (pI h f_Model_where x0 (-1 : Int32)).bind fun h1 =>
  b2 (nI_ h1 1 (1000 : Int32)) fun v2 h3 =>
  (pR h3 f_Model_tape x0 v2).bind fun h4 =>
  b2 (nI_ h4 0 (212 : Int32)) fun v5 h6 =>
  (pR h6 f_Model_v x0 v5).bind fun h7 =>
  b2 (nI_ h7 0 (212 : Int32)) fun v8 h9 =>
  (pR h9 f_Model_w x0 v8).bind fun h10 =>
  b2 (nI_ h10 0 (2120 : Int32)) fun v11 h12 =>
  (pR h12 f_Model_past x0 v11).bind fun h13 =>
  b2 (nI_ h13 0 (636 : Int32)) fun v14 h15 =>
  (pR h15 f_Model_kept x0 v14).bind fun h16 =>
  b2 (nI_ h16 0 (4 : Int32)) fun v17 h18 =>
  (pR h18 f_Model_order x0 v17).bind fun h19 =>
  b2 (nI_ h19 0 (4 : Int32)) fun v20 h21 =>
  (pR h21 f_Model_bestOrder x0 v20).bind fun h22 =>
  b2 (nI_ h22 0 (48 : Int32)) fun v23 h24 =>
  (pR h24 f_Model_cost x0 v23).bind fun h25 =>
  b2 (nI_ h25 0 (48 : Int32)) fun v26 h27 =>
  (pR h27 f_Model_outer x0 v26).bind fun h28 =>
  b2 (nI_ h28 0 (6 : Int32)) fun v29 h30 =>
  (pR h30 f_Model_row x0 v29).bind fun h31 =>
  b2 (nI_ h31 0 (6 : Int32)) fun v32 h33 =>
  (pR h33 f_Model_soonest x0 v32).bind fun h34 =>
  b2 (nI_ h34 0 (6 : Int32)) fun v35 h36 =>
  (pR h36 f_Model_latest x0 v35).bind fun h37 =>
  b2 (nI_ h37 0 (6 : Int32)) fun v38 h39 =>
  (pR h39 f_Model_ahead x0 v38).bind fun h40 =>
  b2 (nI_ h40 0 (6 : Int32)) fun v41 h42 =>
  (pR h42 f_Model_soonYear x0 v41).bind fun h43 =>
  b2 (nI_ h43 0 (6 : Int32)) fun v44 h45 =>
  (pR h45 f_Model_lateYear x0 v44).bind fun h46 =>
  b2 (nI_ h46 0 (6 : Int32)) fun v47 h48 =>
  (pR h48 f_Model_wanted x0 v47).bind fun h49 =>
  some h49
theorem mX9_init (l : Launch) (G : ZG) (x0 : Option Nat) (h : AH) (r : AH) (hr : F_X9_init x0 h = some r) : MZ l G yX9_init cX9_init 1 (none : Option Jvm.ClassFile.FieldType) 1 48 [vr x0] h (eH r) := by
  unfold F_X9_init at hr
  refine MZ.of (by decide) [(0, vr x0)] rfl (Nat.le_of_ble_eq_true rfl) (fun K O => ?_)
  have O : ZOk K cX9_init RX9 "<init>" 1 (none : Option Jvm.ClassFile.FieldType) 1 48 := O
  refine bs hr (fun _ hck hr2 => ?_)
  clear hr
  obtain ⟨a0, rfl⟩ := ck_some hck
  have hr := hr2
  refine z_aload_n O 0 dX9_init_0 rfl rfl ?_
  refine z_objInit O q1761 q163 q164 ⟨_, rfl⟩ ⟨Nat.le_of_ble_eq_true rfl, Nat.le_of_ble_eq_true rfl⟩ (Nat.le_of_ble_eq_true rfl) dX9_init_1 ?_
  refine z_aload_n O 0 dX9_init_4 rfl rfl ?_
  refine z_iconst O dX9_init_5 kic_m1 ?_
  refine z_putI O o_Model_where (w_Model_where _) q1764 dX9_init_6 hr (fun h1 hr => ?_)
  refine z_aload_n O 0 dX9_init_9 rfl rfl ?_
  refine z_sipush O dX9_init_10 ksi_1000 ?_
  refine z_newarrB O q244 dX9_init_13 hr (fun v2 h3 hr => ?_)
  refine z_putRF O rfl o_Model_tape w_Model_tape rfl q1767 dX9_init_15 hr (fun h4 hr => ?_)
  refine z_aload_n O 0 dX9_init_18 rfl rfl ?_
  refine z_sipush O dX9_init_19 ksi_212 ?_
  refine z_newarrI O q377 dX9_init_22 hr (fun v5 h6 hr => ?_)
  refine z_putRF O rfl o_Model_v w_Model_v rfl q1778 dX9_init_24 hr (fun h7 hr => ?_)
  refine z_aload_n O 0 dX9_init_27 rfl rfl ?_
  refine z_sipush O dX9_init_28 ksi_212 ?_
  refine z_newarrI O q377 dX9_init_31 hr (fun v8 h9 hr => ?_)
  refine z_putRF O rfl o_Model_w w_Model_w rfl q1779 dX9_init_33 hr (fun h10 hr => ?_)
  refine z_aload_n O 0 dX9_init_36 rfl rfl ?_
  refine z_sipush O dX9_init_37 ksi_2120 ?_
  refine z_newarrI O q377 dX9_init_40 hr (fun v11 h12 hr => ?_)
  refine z_putRF O rfl o_Model_past w_Model_past rfl q1780 dX9_init_42 hr (fun h13 hr => ?_)
  refine z_aload_n O 0 dX9_init_45 rfl rfl ?_
  refine z_sipush O dX9_init_46 ksi_636 ?_
  refine z_newarrI O q377 dX9_init_49 hr (fun v14 h15 hr => ?_)
  refine z_putRF O rfl o_Model_kept w_Model_kept rfl q1781 dX9_init_51 hr (fun h16 hr => ?_)
  refine z_aload_n O 0 dX9_init_54 rfl rfl ?_
  refine z_iconst O dX9_init_55 kic_4 ?_
  refine z_newarrI O q377 dX9_init_56 hr (fun v17 h18 hr => ?_)
  refine z_putRF O rfl o_Model_order w_Model_order rfl q1786 dX9_init_58 hr (fun h19 hr => ?_)
  refine z_aload_n O 0 dX9_init_61 rfl rfl ?_
  refine z_iconst O dX9_init_62 kic_4 ?_
  refine z_newarrI O q377 dX9_init_63 hr (fun v20 h21 hr => ?_)
  refine z_putRF O rfl o_Model_bestOrder w_Model_bestOrder rfl q1787 dX9_init_65 hr (fun h22 hr => ?_)
  refine z_aload_n O 0 dX9_init_68 rfl rfl ?_
  refine z_bipush O dX9_init_69 kbi_48 ?_
  refine z_newarrI O q377 dX9_init_71 hr (fun v23 h24 hr => ?_)
  refine z_putRF O rfl o_Model_cost w_Model_cost rfl q1788 dX9_init_73 hr (fun h25 hr => ?_)
  refine z_aload_n O 0 dX9_init_76 rfl rfl ?_
  refine z_bipush O dX9_init_77 kbi_48 ?_
  refine z_newarrI O q377 dX9_init_79 hr (fun v26 h27 hr => ?_)
  refine z_putRF O rfl o_Model_outer w_Model_outer rfl q1789 dX9_init_81 hr (fun h28 hr => ?_)
  refine z_aload_n O 0 dX9_init_84 rfl rfl ?_
  refine z_bipush O dX9_init_85 kbi_6 ?_
  refine z_newarrI O q377 dX9_init_87 hr (fun v29 h30 hr => ?_)
  refine z_putRF O rfl o_Model_row w_Model_row rfl q1791 dX9_init_89 hr (fun h31 hr => ?_)
  refine z_aload_n O 0 dX9_init_92 rfl rfl ?_
  refine z_bipush O dX9_init_93 kbi_6 ?_
  refine z_newarrI O q377 dX9_init_95 hr (fun v32 h33 hr => ?_)
  refine z_putRF O rfl o_Model_soonest w_Model_soonest rfl q1792 dX9_init_97 hr (fun h34 hr => ?_)
  refine z_aload_n O 0 dX9_init_100 rfl rfl ?_
  refine z_bipush O dX9_init_101 kbi_6 ?_
  refine z_newarrI O q377 dX9_init_103 hr (fun v35 h36 hr => ?_)
  refine z_putRF O rfl o_Model_latest w_Model_latest rfl q1793 dX9_init_105 hr (fun h37 hr => ?_)
  refine z_aload_n O 0 dX9_init_108 rfl rfl ?_
  refine z_bipush O dX9_init_109 kbi_6 ?_
  refine z_newarrI O q377 dX9_init_111 hr (fun v38 h39 hr => ?_)
  refine z_putRF O rfl o_Model_ahead w_Model_ahead rfl q1794 dX9_init_113 hr (fun h40 hr => ?_)
  refine z_aload_n O 0 dX9_init_116 rfl rfl ?_
  refine z_bipush O dX9_init_117 kbi_6 ?_
  refine z_newarrI O q377 dX9_init_119 hr (fun v41 h42 hr => ?_)
  refine z_putRF O rfl o_Model_soonYear w_Model_soonYear rfl q1795 dX9_init_121 hr (fun h43 hr => ?_)
  refine z_aload_n O 0 dX9_init_124 rfl rfl ?_
  refine z_bipush O dX9_init_125 kbi_6 ?_
  refine z_newarrI O q377 dX9_init_127 hr (fun v44 h45 hr => ?_)
  refine z_putRF O rfl o_Model_lateYear w_Model_lateYear rfl q1796 dX9_init_129 hr (fun h46 hr => ?_)
  refine z_aload_n O 0 dX9_init_132 rfl rfl ?_
  refine z_bipush O dX9_init_133 kbi_6 ?_
  refine z_newarrI O q377 dX9_init_135 hr (fun v47 h48 hr => ?_)
  refine z_putRF O rfl o_Model_wanted w_Model_wanted rfl q1797 dX9_init_137 hr (fun h49 hr => ?_)
  exact z_vret O dX9_init_140 (by cases hr; rfl)
theorem fI_X20_init : CIf yX20_init cX20_init 1 0 := ⟨q1893, rfl, q155, q1894, ⟨⟨by decide +kernel, by decide +kernel⟩, by decide +kernel⟩⟩
def F_X20_init (x0 : Option Nat) (h : AH) : Option (AH) :=
  (ck h [20] x0).bind fun _ =>
  (pI h f_MLand_year x0 (-1 : Int32)).bind fun h1 =>
  b2 (nI_ h1 3 (144 : Int32)) fun v2 h3 =>
  (pR h3 f_MLand_water x0 v2).bind fun h4 =>
  b2 (nI_ h4 0 (4 : Int32)) fun v5 h6 =>
  (pR h6 f_MLand_kind x0 v5).bind fun h7 =>
  b2 (nI_ h7 0 (4 : Int32)) fun v8 h9 =>
  (pR h9 f_MLand_costs x0 v8).bind fun h10 =>
  b2 (nI_ h10 0 (4 : Int32)) fun v11 h12 =>
  (pR h12 f_MLand_warm x0 v11).bind fun h13 =>
  b2 (nI_ h13 0 (4 : Int32)) fun v14 h15 =>
  (pR h15 f_MLand_rots x0 v14).bind fun h16 =>
  b2 (nI_ h16 0 (4 : Int32)) fun v17 h18 =>
  (pR h18 f_MLand_strong x0 v17).bind fun h19 =>
  b2 (nI_ h19 0 (4 : Int32)) fun v20 h21 =>
  (pR h21 f_MLand_core x0 v20).bind fun h22 =>
  b2 (nI_ h22 0 (4 : Int32)) fun v23 h24 =>
  (pR h24 f_MLand_stoneOf x0 v23).bind fun h25 =>
  b2 (nI_ h25 0 (6 : Int32)) fun v26 h27 =>
  (pR h27 f_MLand_heirHouse x0 v26).bind fun h28 =>
  b2 (nI_ h28 0 (6 : Int32)) fun v29 h30 =>
  (pR h30 f_MLand_older x0 v29).bind fun h31 =>
  b2 (nI_ h31 0 (6 : Int32)) fun v32 h33 =>
  (pR h33 f_MLand_coin x0 v32).bind fun h34 =>
  b2 (nI_ h34 0 (6 : Int32)) fun v35 h36 =>
  (pR h36 f_MLand_smell x0 v35).bind fun h37 =>
  b2 (nJ_ h37 (32 : Int32)) fun v38 h39 =>
  (pR h39 f_MLand_name x0 v38).bind fun h40 =>
  b2 (nI_ h40 0 (32 : Int32)) fun v41 h42 =>
  (pR h42 f_MLand_nameSort x0 v41).bind fun h43 =>
  b2 (nI_ h43 0 (32 : Int32)) fun v44 h45 =>
  (pR h45 f_MLand_nameNumber x0 v44).bind fun h46 =>
  b2 (nI_ h46 0 (212 : Int32)) fun v47 h48 =>
  (pR h48 f_MLand_first x0 v47).bind fun h49 =>
  some h49
theorem mX20_init (l : Launch) (G : ZG) (x0 : Option Nat) (h : AH) (r : AH) (hr : F_X20_init x0 h = some r) : MZ l G yX20_init cX20_init 1 (none : Option Jvm.ClassFile.FieldType) 1 48 [vr x0] h (eH r) := by
  unfold F_X20_init at hr
  refine MZ.of (by decide) [(0, vr x0)] rfl (Nat.le_of_ble_eq_true rfl) (fun K O => ?_)
  have O : ZOk K cX20_init RX20 "<init>" 1 (none : Option Jvm.ClassFile.FieldType) 1 48 := O
  refine bs hr (fun _ hck hr2 => ?_)
  clear hr
  obtain ⟨a0, rfl⟩ := ck_some hck
  have hr := hr2
  refine z_aload_n O 0 dX20_init_0 rfl rfl ?_
  refine z_objInit O q1895 q163 q164 ⟨_, rfl⟩ ⟨Nat.le_of_ble_eq_true rfl, Nat.le_of_ble_eq_true rfl⟩ (Nat.le_of_ble_eq_true rfl) dX20_init_1 ?_
  refine z_aload_n O 0 dX20_init_4 rfl rfl ?_
  refine z_iconst O dX20_init_5 kic_m1 ?_
  refine z_putI O o_MLand_year (w_MLand_year _) q1900 dX20_init_6 hr (fun h1 hr => ?_)
  refine z_aload_n O 0 dX20_init_9 rfl rfl ?_
  refine z_sipush O dX20_init_10 ksi_144 ?_
  refine z_newarrZ O q2010 dX20_init_13 hr (fun v2 h3 hr => ?_)
  refine z_putRF O rfl o_MLand_water w_MLand_water rfl q1915 dX20_init_15 hr (fun h4 hr => ?_)
  refine z_aload_n O 0 dX20_init_18 rfl rfl ?_
  refine z_iconst O dX20_init_19 kic_4 ?_
  refine z_newarrI O q377 dX20_init_20 hr (fun v5 h6 hr => ?_)
  refine z_putRF O rfl o_MLand_kind w_MLand_kind rfl q1917 dX20_init_22 hr (fun h7 hr => ?_)
  refine z_aload_n O 0 dX20_init_25 rfl rfl ?_
  refine z_iconst O dX20_init_26 kic_4 ?_
  refine z_newarrI O q377 dX20_init_27 hr (fun v8 h9 hr => ?_)
  refine z_putRF O rfl o_MLand_costs w_MLand_costs rfl q1919 dX20_init_29 hr (fun h10 hr => ?_)
  refine z_aload_n O 0 dX20_init_32 rfl rfl ?_
  refine z_iconst O dX20_init_33 kic_4 ?_
  refine z_newarrI O q377 dX20_init_34 hr (fun v11 h12 hr => ?_)
  refine z_putRF O rfl o_MLand_warm w_MLand_warm rfl q1921 dX20_init_36 hr (fun h13 hr => ?_)
  refine z_aload_n O 0 dX20_init_39 rfl rfl ?_
  refine z_iconst O dX20_init_40 kic_4 ?_
  refine z_newarrI O q377 dX20_init_41 hr (fun v14 h15 hr => ?_)
  refine z_putRF O rfl o_MLand_rots w_MLand_rots rfl q1923 dX20_init_43 hr (fun h16 hr => ?_)
  refine z_aload_n O 0 dX20_init_46 rfl rfl ?_
  refine z_iconst O dX20_init_47 kic_4 ?_
  refine z_newarrI O q377 dX20_init_48 hr (fun v17 h18 hr => ?_)
  refine z_putRF O rfl o_MLand_strong w_MLand_strong rfl q1925 dX20_init_50 hr (fun h19 hr => ?_)
  refine z_aload_n O 0 dX20_init_53 rfl rfl ?_
  refine z_iconst O dX20_init_54 kic_4 ?_
  refine z_newarrI O q377 dX20_init_55 hr (fun v20 h21 hr => ?_)
  refine z_putRF O rfl o_MLand_core w_MLand_core rfl q1927 dX20_init_57 hr (fun h22 hr => ?_)
  refine z_aload_n O 0 dX20_init_60 rfl rfl ?_
  refine z_iconst O dX20_init_61 kic_4 ?_
  refine z_newarrI O q377 dX20_init_62 hr (fun v23 h24 hr => ?_)
  refine z_putRF O rfl o_MLand_stoneOf w_MLand_stoneOf rfl q1929 dX20_init_64 hr (fun h25 hr => ?_)
  refine z_aload_n O 0 dX20_init_67 rfl rfl ?_
  refine z_bipush O dX20_init_68 kbi_6 ?_
  refine z_newarrI O q377 dX20_init_70 hr (fun v26 h27 hr => ?_)
  refine z_putRF O rfl o_MLand_heirHouse w_MLand_heirHouse rfl q1931 dX20_init_72 hr (fun h28 hr => ?_)
  refine z_aload_n O 0 dX20_init_75 rfl rfl ?_
  refine z_bipush O dX20_init_76 kbi_6 ?_
  refine z_newarrI O q377 dX20_init_78 hr (fun v29 h30 hr => ?_)
  refine z_putRF O rfl o_MLand_older w_MLand_older rfl q1933 dX20_init_80 hr (fun h31 hr => ?_)
  refine z_aload_n O 0 dX20_init_83 rfl rfl ?_
  refine z_bipush O dX20_init_84 kbi_6 ?_
  refine z_newarrI O q377 dX20_init_86 hr (fun v32 h33 hr => ?_)
  refine z_putRF O rfl o_MLand_coin w_MLand_coin rfl q1935 dX20_init_88 hr (fun h34 hr => ?_)
  refine z_aload_n O 0 dX20_init_91 rfl rfl ?_
  refine z_bipush O dX20_init_92 kbi_6 ?_
  refine z_newarrI O q377 dX20_init_94 hr (fun v35 h36 hr => ?_)
  refine z_putRF O rfl o_MLand_smell w_MLand_smell rfl q1937 dX20_init_96 hr (fun h37 hr => ?_)
  refine z_aload_n O 0 dX20_init_99 rfl rfl ?_
  refine z_bipush O dX20_init_100 kbi_32 ?_
  refine z_newarrJ O q2011 dX20_init_102 hr (fun v38 h39 hr => ?_)
  refine z_putRF O rfl o_MLand_name w_MLand_name rfl q1939 dX20_init_104 hr (fun h40 hr => ?_)
  refine z_aload_n O 0 dX20_init_107 rfl rfl ?_
  refine z_bipush O dX20_init_108 kbi_32 ?_
  refine z_newarrI O q377 dX20_init_110 hr (fun v41 h42 hr => ?_)
  refine z_putRF O rfl o_MLand_nameSort w_MLand_nameSort rfl q1941 dX20_init_112 hr (fun h43 hr => ?_)
  refine z_aload_n O 0 dX20_init_115 rfl rfl ?_
  refine z_bipush O dX20_init_116 kbi_32 ?_
  refine z_newarrI O q377 dX20_init_118 hr (fun v44 h45 hr => ?_)
  refine z_putRF O rfl o_MLand_nameNumber w_MLand_nameNumber rfl q1943 dX20_init_120 hr (fun h46 hr => ?_)
  refine z_aload_n O 0 dX20_init_123 rfl rfl ?_
  refine z_sipush O dX20_init_124 ksi_212 ?_
  refine z_newarrI O q377 dX20_init_127 hr (fun v47 h48 hr => ?_)
  refine z_putRF O rfl o_MLand_first w_MLand_first rfl q1945 dX20_init_129 hr (fun h49 hr => ?_)
  exact z_vret O dX20_init_132 (by cases hr; rfl)
theorem fV_X9_byteAt : CVf RX9 yX9_byteAt cX9_byteAt 2 (some .int) 1 := ⟨q2018, qs63, q137, q2019, ⟨⟨by decide +kernel, by decide +kernel⟩, by decide +kernel⟩⟩
def F_X9_byteAt (x0 : Option Nat) (x1 : Int32) (h : AH) : Option (Int32) :=
  (ck h [9] x0).bind fun _ =>
  (gI h f_Model_size x0).bind fun v1 =>
  if v1 ≤ x1 then
    some (-1 : Int32)
  else
    (gR h f_Model_tape x0).bind fun v2 =>
    (aI h 1 v2 x1).bind fun v3 =>
    some (v3 &&& (255 : Int32))
theorem mX9_byteAt (l : Launch) (G : ZG) (x0 : Option Nat) (x1 : Int32) (h : AH) (r : Int32) (hr : F_X9_byteAt x0 x1 h = some r) : MZ l G yX9_byteAt cX9_byteAt 2 (some .int) 1 48 [vr x0, vi x1] h (eI h r) := by
  unfold F_X9_byteAt at hr
  refine MZ.of (by decide) [(0, vr x0), (1, vi x1)] rfl (Nat.le_of_ble_eq_true rfl) (fun K O => ?_)
  have O : ZOk K cX9_byteAt RX9 "byteAt" 2 (some .int) 1 48 := O
  refine bs hr (fun _ hck hr => ?_)
  refine z_iload_n O 1 dX9_byteAt_0 rfl rfl ?_
  refine z_aload_n O 0 dX9_byteAt_1 rfl rfl ?_
  refine z_getI O o_Model_size q1769 dX9_byteAt_2 hr (fun v1 hr => ?_)
  refine z_icmp_ge (tgt := 21) O dX9_byteAt_5 (by decide) hr (fun hr => ?_) (fun hr => ?_)
  · refine z_iconst O dX9_byteAt_21 kic_m1 ?_
    exact z_iret O dX9_byteAt_22 (by cases hr; rfl)
  · refine z_aload_n O 0 dX9_byteAt_8 rfl rfl ?_
    refine z_getR O o_Model_tape q1767 dX9_byteAt_9 hr (fun v2 hr => ?_)
    refine z_iload_n O 1 dX9_byteAt_12 rfl rfl ?_
    refine z_baload O dX9_byteAt_13 hr (fun v3 hr => ?_)
    refine z_sipush O dX9_byteAt_14 ksi_255 ?_
    refine z_iand O dX9_byteAt_17 ?_
    refine z_goto (tgt := 22) O dX9_byteAt_18 (by decide) ?_
    exact z_iret O dX9_byteAt_22 (by cases hr; rfl)
theorem fS_X9_isDigit : CSf yX9_isDigit cX9_isDigit 1 (some .boolean) 1 := ⟨q2025, q137, q2026, ⟨⟨by decide +kernel, by decide +kernel⟩, by decide +kernel⟩⟩
def F_X9_isDigit (x0 : Int32) : Option (Int32) :=
  if x0 < (48 : Int32) then
    zb (0 : Int32)
  else
    if (57 : Int32) < x0 then
      zb (0 : Int32)
    else
      zb (1 : Int32)
theorem mX9_isDigit (l : Launch) (G : ZG) (x0 : Int32) (h : AH) (r : Int32) (hr : F_X9_isDigit x0 = some r) : MZ l G yX9_isDigit cX9_isDigit 1 (some .boolean) 1 48 [vi x0] h (eI h r) := by
  unfold F_X9_isDigit at hr
  refine MZ.of (by decide) [(0, vi x0)] rfl (Nat.le_of_ble_eq_true rfl) (fun K O => ?_)
  have O : ZOk K cX9_isDigit RX9 "isDigit" 1 (some .boolean) 1 48 := O
  refine z_iload_n O 0 dX9_isDigit_0 rfl rfl ?_
  refine z_bipush O dX9_isDigit_1 kbi_48 ?_
  refine z_icmp_lt (tgt := 16) O dX9_isDigit_3 (by decide) hr (fun hr => ?_) (fun hr => ?_)
  · refine z_iconst O dX9_isDigit_16 kic_0 ?_
    obtain ⟨e1, e2, -⟩ := zb_spec hr
    exact z_zret O e2 dX9_isDigit_17 (by cases e1; rfl)
  · refine z_iload_n O 0 dX9_isDigit_6 rfl rfl ?_
    refine z_bipush O dX9_isDigit_7 kbi_57 ?_
    refine z_icmp_gt (tgt := 16) O dX9_isDigit_9 (by decide) hr (fun hr => ?_) (fun hr => ?_)
    · refine z_iconst O dX9_isDigit_16 kic_0 ?_
      obtain ⟨e1, e2, -⟩ := zb_spec hr
      exact z_zret O e2 dX9_isDigit_17 (by cases e1; rfl)
    · refine z_iconst O dX9_isDigit_12 kic_1 ?_
      refine z_goto (tgt := 17) O dX9_isDigit_13 (by decide) ?_
      obtain ⟨e1, e2, -⟩ := zb_spec hr
      exact z_zret O e2 dX9_isDigit_17 (by cases e1; rfl)
theorem fS_X9_isLetter : CSf yX9_isLetter cX9_isLetter 1 (some .boolean) 1 := ⟨q2021, q137, q2022, ⟨⟨by decide +kernel, by decide +kernel⟩, by decide +kernel⟩⟩
def F_X9_isLetter (x0 : Int32) : Option (Int32) :=
  if x0 < (97 : Int32) then
    zb (0 : Int32)
  else
    if (122 : Int32) < x0 then
      zb (0 : Int32)
    else
      zb (1 : Int32)
theorem mX9_isLetter (l : Launch) (G : ZG) (x0 : Int32) (h : AH) (r : Int32) (hr : F_X9_isLetter x0 = some r) : MZ l G yX9_isLetter cX9_isLetter 1 (some .boolean) 1 48 [vi x0] h (eI h r) := by
  unfold F_X9_isLetter at hr
  refine MZ.of (by decide) [(0, vi x0)] rfl (Nat.le_of_ble_eq_true rfl) (fun K O => ?_)
  have O : ZOk K cX9_isLetter RX9 "isLetter" 1 (some .boolean) 1 48 := O
  refine z_iload_n O 0 dX9_isLetter_0 rfl rfl ?_
  refine z_bipush O dX9_isLetter_1 kbi_97 ?_
  refine z_icmp_lt (tgt := 16) O dX9_isLetter_3 (by decide) hr (fun hr => ?_) (fun hr => ?_)
  · refine z_iconst O dX9_isLetter_16 kic_0 ?_
    obtain ⟨e1, e2, -⟩ := zb_spec hr
    exact z_zret O e2 dX9_isLetter_17 (by cases e1; rfl)
  · refine z_iload_n O 0 dX9_isLetter_6 rfl rfl ?_
    refine z_bipush O dX9_isLetter_7 kbi_122 ?_
    refine z_icmp_gt (tgt := 16) O dX9_isLetter_9 (by decide) hr (fun hr => ?_) (fun hr => ?_)
    · refine z_iconst O dX9_isLetter_16 kic_0 ?_
      obtain ⟨e1, e2, -⟩ := zb_spec hr
      exact z_zret O e2 dX9_isLetter_17 (by cases e1; rfl)
    · refine z_iconst O dX9_isLetter_12 kic_1 ?_
      refine z_goto (tgt := 17) O dX9_isLetter_13 (by decide) ?_
      obtain ⟨e1, e2, -⟩ := zb_spec hr
      exact z_zret O e2 dX9_isLetter_17 (by cases e1; rfl)
