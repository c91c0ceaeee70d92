set_option maxRecDepth 100000
set_option maxHeartbeats 4000000
theorem fS_X1_has : CSf yX1_has cX1_has 2 (some .boolean) 2 := ⟨q1597, q126, q1598, ⟨⟨by decide +kernel, by decide +kernel⟩, by decide +kernel⟩⟩
def F_X1_has (x0 : Int32) (x1 : Int32) : Option (Int32) :=
  if ((x0 >>> (x1 &&& 31)) &&& (1 : Int32)) = (1 : Int32) then
    zb (1 : Int32)
  else
    zb (0 : Int32)
theorem mX1_has (l : Launch) (G : ZG) (x0 : Int32) (x1 : Int32) (h : AH) (r : Int32) (hr : F_X1_has x0 x1 = some r) : MZ l G yX1_has cX1_has 2 (some .boolean) 1 48 [vi x0, vi x1] h (eI h r) := by
  unfold F_X1_has at hr
  refine MZ.of (by decide) [(0, vi x0), (1, vi x1)] rfl (Nat.le_of_ble_eq_true rfl) (fun K O => ?_)
  have O : ZOk K cX1_has RX1 "has" 2 (some .boolean) 1 48 := O
  refine z_iload_n O 0 dX1_has_0 rfl rfl ?_
  refine z_iload_n O 1 dX1_has_1 rfl rfl ?_
  refine z_ishr O dX1_has_2 ?_
  refine z_iconst O dX1_has_3 kic_1 ?_
  refine z_iand O dX1_has_4 ?_
  refine z_iconst O dX1_has_5 kic_1 ?_
  refine z_icmp_ne (tgt := 13) O dX1_has_6 (by decide) hr (fun hr => ?_) (fun hr => ?_)
  · refine z_iconst O dX1_has_9 kic_1 ?_
    refine z_goto (tgt := 14) O dX1_has_10 (by decide) ?_
    obtain ⟨e1, e2, -⟩ := zb_spec hr
    exact z_zret O e2 dX1_has_14 (by cases e1; rfl)
  · refine z_iconst O dX1_has_13 kic_0 ?_
    obtain ⟨e1, e2, -⟩ := zb_spec hr
    exact z_zret O e2 dX1_has_14 (by cases e1; rfl)
theorem fV_X8_high : CVf RX8 yX8_high cX8_high 3 (some .int) 1 := ⟨q1592, qs55, q136, q1593, ⟨⟨by decide +kernel, by decide +kernel⟩, by decide +kernel⟩⟩
def F_X8_high (x0 : Option Nat) (x1 : Int32) (h : AH) : Option (Int32) :=
  (ck h [8] x0).bind fun _ =>
  (gR h f_Orders_land x0).bind fun v1 =>
  (gR h f_Land_walls v1).bind fun v2 =>
  (aR h v2 x1).bind fun v3 =>
  (gI h f_Wall_smell v3).bind fun v4 =>
  if v4 = (-1 : Int32) then
    (gI h f_Orders_now x0).bind fun v6 =>
    some (v6 - (1 : Int32))
  else
    (gI h f_Orders_now x0).bind fun v5 =>
    some (jmin (v5 - (1 : Int32)) (v4 - (1 : Int32)))
theorem mX8_high (l : Launch) (G : ZG) (x0 : Option Nat) (x1 : Int32) (h : AH) (r : Int32) (hr : F_X8_high x0 x1 h = some r) : MZ l G yX8_high cX8_high 3 (some .int) 1 48 [vr x0, vi x1] h (eI h r) := by
  unfold F_X8_high at hr
  refine MZ.of (by decide) [(0, vr x0), (1, vi x1)] rfl (Nat.le_of_ble_eq_true rfl) (fun K O => ?_)
  have O : ZOk K cX8_high RX8 "high" 3 (some .int) 1 48 := O
  refine bs hr (fun _ hck hr => ?_)
  refine z_aload_n O 0 dX8_high_0 rfl rfl ?_
  refine z_getR O o_Orders_land q440 dX8_high_1 hr (fun v1 hr => ?_)
  refine z_getR O o_Land_walls q577 dX8_high_4 hr (fun v2 hr => ?_)
  refine z_iload_n O 1 dX8_high_7 rfl rfl ?_
  refine z_aaload O dX8_high_8 hr (fun v3 hr => ?_)
  refine z_getI O o_Wall_smell q1166 dX8_high_9 hr (fun v4 hr => ?_)
  refine z_istore_n O [(2, vi v4), (0, vr x0), (1, vi x1)] dX8_high_12 rfl (by decide) rfl ?_
  refine z_iload_n O 0 dX8_high_13 rfl rfl ?_
  refine z_iconst O dX8_high_14 kic_m1 ?_
  refine z_icmp_ne (tgt := 27) O dX8_high_15 (by decide) hr (fun hr => ?_) (fun hr => ?_)
  · refine z_aload_n O 1 dX8_high_18 rfl rfl ?_
    refine z_getI O o_Orders_now q441 dX8_high_19 hr (fun v6 hr => ?_)
    refine z_iconst O dX8_high_22 kic_1 ?_
    refine z_isub O dX8_high_23 ?_
    refine z_goto (tgt := 39) O dX8_high_24 (by decide) ?_
    exact z_iret O dX8_high_39 (by cases hr; rfl)
  · refine z_aload_n O 1 dX8_high_27 rfl rfl ?_
    refine z_getI O o_Orders_now q441 dX8_high_28 hr (fun v5 hr => ?_)
    refine z_iconst O dX8_high_31 kic_1 ?_
    refine z_isub O dX8_high_32 ?_
    refine z_iload_n O 0 dX8_high_33 rfl rfl ?_
    refine z_iconst O dX8_high_34 kic_1 ?_
    refine z_isub O dX8_high_35 ?_
    refine z_mmin O q1594 ⟨Nat.le_of_ble_eq_true rfl, Nat.le_of_ble_eq_true rfl⟩ (Nat.le_of_ble_eq_true rfl) dX8_high_36 ?_
    exact z_iret O dX8_high_39 (by cases hr; rfl)
theorem fV_X8_low : CVf RX8 yX8_low cX8_low 2 (some .int) 1 := ⟨q1587, qs54, q136, q1588, ⟨⟨by decide +kernel, by decide +kernel⟩, by decide +kernel⟩⟩
def F_X8_low (x0 : Option Nat) (x1 : Int32) (h : AH) : Option (Int32) :=
  (ck h [8] x0).bind fun _ =>
  (gR h f_Orders_land x0).bind fun v1 =>
  (gR h f_Land_walls v1).bind fun v2 =>
  (aR h v2 x1).bind fun v3 =>
  (gI h f_Wall_coin v3).bind fun v4 =>
  some (jmax (0 : Int32) v4)
theorem mX8_low (l : Launch) (G : ZG) (x0 : Option Nat) (x1 : Int32) (h : AH) (r : Int32) (hr : F_X8_low x0 x1 h = some r) : MZ l G yX8_low cX8_low 2 (some .int) 1 48 [vr x0, vi x1] h (eI h r) := by
  unfold F_X8_low at hr
  refine MZ.of (by decide) [(0, vr x0), (1, vi x1)] rfl (Nat.le_of_ble_eq_true rfl) (fun K O => ?_)
  have O : ZOk K cX8_low RX8 "low" 2 (some .int) 1 48 := O
  refine bs hr (fun _ hck hr => ?_)
  refine z_iconst O dX8_low_0 kic_0 ?_
  refine z_aload_n O 0 dX8_low_1 rfl rfl ?_
  refine z_getR O o_Orders_land q440 dX8_low_2 hr (fun v1 hr => ?_)
  refine z_getR O o_Land_walls q577 dX8_low_5 hr (fun v2 hr => ?_)
  refine z_iload_n O 1 dX8_low_8 rfl rfl ?_
  refine z_aaload O dX8_low_9 hr (fun v3 hr => ?_)
  refine z_getI O o_Wall_coin q1163 dX8_low_10 hr (fun v4 hr => ?_)
  refine z_mmax O q1589 ⟨Nat.le_of_ble_eq_true rfl, Nat.le_of_ble_eq_true rfl⟩ (Nat.le_of_ble_eq_true rfl) dX8_low_13 ?_
  exact z_iret O dX8_low_16 (by cases hr; rfl)
theorem fV_X8_end : CVf RX8 yX8_end cX8_end 5 (none : Option Jvm.ClassFile.FieldType) 0 := ⟨q1583, qs53, q136, q1584, ⟨⟨by decide +kernel, by decide +kernel⟩, by decide +kernel⟩⟩
def BX8_end_138 (N : Nat) (x0 : Option Nat) (x1 : Int32) (rec138 : Int32 → Int32 → AH → Option (AH)) : Int32 → Int32 → AH → Option (AH) := fun x2 x3 h =>
  if x3 < 0 then
    (gR h f_Orders_order x0).bind fun v1 =>
    (gR h f_Orders_rows x0).bind fun v2 =>
    (gI h f_Orders_many x0).bind fun v3 =>
    (aC h v1 (0 : Int32) v2 ((6 : Int32) * v3) x1).bind fun h4 =>
    (gI h4 f_Orders_many x0).bind fun v5 =>
    (pI h4 f_Orders_many x0 (v5 + (1 : Int32))).bind fun h6 =>
    some h6
  else
    (gR h f_Orders_order x0).bind fun v7 =>
    (aI h 0 v7 x3).bind fun v8 =>
    (F_X8_high x0 v8 h).bind fun v9 =>
    jlet (jmin (x2 - (1 : Int32)) v9) fun v10 =>
    (gR h f_Orders_latest x0).bind fun v11 =>
    (gR h f_Orders_order x0).bind fun v12 =>
    (aI h 0 v12 x3).bind fun v13 =>
    (gR h f_Orders_latest x0).bind fun v14 =>
    (gR h f_Orders_order x0).bind fun v15 =>
    (aI h 0 v15 x3).bind fun v16 =>
    (aI h 0 v14 v16).bind fun v17 =>
    (sA h 0 v11 v13 (jmax v17 v10)).bind fun h18 =>
    jlet (x3 + (-1 : Int32)) fun v19 =>
    rec138 v10 v19 h18
def LX8_end_138 (N : Nat) (x0 : Option Nat) (x1 : Int32) : Int32 → Int32 → AH → Option (AH) := lf (fun _ _ _ => none) (BX8_end_138 N x0 x1) N
theorem wX8_end_138B {K : ZC} (O : ZOk K cX8_end RX8 "end" 5 (none : Option Jvm.ClassFile.FieldType) 2 70) (N : Nat) (x0 : Option Nat) (x1 : Int32) (rec138 : Int32 → Int32 → AH → Option (AH)) (hrec138 : ∀ (y2 : Int32) (y3 : Int32) (hy : AH) (ry : AH), rec138 y2 y3 hy = some ry → Zw K (eH ry) hy 138 [(0, vr x0), (1, vi x1), (2, vi y2), (3, vi y3)] []) (x2 : Int32) (x3 : Int32) (h : AH) (r : AH) (hr : BX8_end_138 N x0 x1 rec138 x2 x3 h = some r) : Zw K (eH r) h 138 [(0, vr x0), (1, vi x1), (2, vi x2), (3, vi x3)] [] := by
  unfold BX8_end_138 at hr
  refine z_iload_n O 3 dX8_end_138 rfl rfl ?_
  refine z_if_lt (tgt := 191) O dX8_end_139 (by decide) hr (fun hr => ?_) (fun hr => ?_)
  · refine z_aload_n O 0 dX8_end_191 rfl rfl ?_
    refine z_getR O o_Orders_order q436 dX8_end_192 hr (fun v1 hr => ?_)
    refine z_iconst O dX8_end_195 kic_0 ?_
    refine z_aload_n O 0 dX8_end_196 rfl rfl ?_
    refine z_getR O o_Orders_rows q437 dX8_end_197 hr (fun v2 hr => ?_)
    refine z_bipush O dX8_end_200 kbi_6 ?_
    refine z_aload_n O 0 dX8_end_202 rfl rfl ?_
    refine z_getI O o_Orders_many q442 dX8_end_203 hr (fun v3 hr => ?_)
    refine z_imul O dX8_end_206 ?_
    refine z_iload_n O 1 dX8_end_207 rfl rfl ?_
    refine z_acopy O q1595 dX8_end_208 ⟨Nat.le_of_ble_eq_true rfl, Nat.le_of_ble_eq_true rfl⟩ (Nat.le_of_ble_eq_true rfl) hr (fun h4 hr => ?_)
    refine z_aload_n O 0 dX8_end_211 rfl rfl ?_
    refine z_dup O dX8_end_212 rfl ?_
    refine z_getI O o_Orders_many q442 dX8_end_213 hr (fun v5 hr => ?_)
    refine z_iconst O dX8_end_216 kic_1 ?_
    refine z_iadd O dX8_end_217 ?_
    refine z_putI O o_Orders_many (w_Orders_many _) q442 dX8_end_218 hr (fun h6 hr => ?_)
    exact z_vret O dX8_end_221 (by cases hr; rfl)
  · refine z_iload_n O 2 dX8_end_142 rfl rfl ?_
    refine z_iconst O dX8_end_143 kic_1 ?_
    refine z_isub O dX8_end_144 ?_
    refine z_aload_n O 0 dX8_end_145 rfl rfl ?_
    refine z_aload_n O 0 dX8_end_146 rfl rfl ?_
    refine z_getR O o_Orders_order q436 dX8_end_147 hr (fun v7 hr => ?_)
    refine z_iload_n O 3 dX8_end_150 rfl rfl ?_
    refine z_iaload O dX8_end_151 hr (fun v8 hr => ?_)
    refine bs hr (fun v9 hF hr => ?_)
    refine z_callV O [vi v8] (vi v9) fV_X8_high q1590 (fun l G => mX8_high l G x0 v8 h _ hF) (zck hF) rfl rfl ⟨Nat.le_of_ble_eq_true rfl, Nat.le_of_ble_eq_true rfl⟩ (Nat.le_of_ble_eq_true rfl) dX8_end_152 ?_
    refine z_mmin O q1594 ⟨Nat.le_of_ble_eq_true rfl, Nat.le_of_ble_eq_true rfl⟩ (Nat.le_of_ble_eq_true rfl) dX8_end_155 ?_
    refine z_letI hr (fun v10 hr => ?_)
    refine z_istore_n O [(2, vi v10), (0, vr x0), (1, vi x1), (3, vi x3)] dX8_end_158 rfl (by decide) rfl ?_
    refine z_aload_n O 1 dX8_end_159 rfl rfl ?_
    refine z_getR O o_Orders_latest q439 dX8_end_160 hr (fun v11 hr => ?_)
    refine z_aload_n O 1 dX8_end_163 rfl rfl ?_
    refine z_getR O o_Orders_order q436 dX8_end_164 hr (fun v12 hr => ?_)
    refine z_iload_n O 3 dX8_end_167 rfl rfl ?_
    refine z_iaload O dX8_end_168 hr (fun v13 hr => ?_)
    refine z_aload_n O 1 dX8_end_169 rfl rfl ?_
    refine z_getR O o_Orders_latest q439 dX8_end_170 hr (fun v14 hr => ?_)
    refine z_aload_n O 1 dX8_end_173 rfl rfl ?_
    refine z_getR O o_Orders_order q436 dX8_end_174 hr (fun v15 hr => ?_)
    refine z_iload_n O 3 dX8_end_177 rfl rfl ?_
    refine z_iaload O dX8_end_178 hr (fun v16 hr => ?_)
    refine z_iaload O dX8_end_179 hr (fun v17 hr => ?_)
    refine z_iload_n O 0 dX8_end_180 rfl rfl ?_
    refine z_mmax O q1589 ⟨Nat.le_of_ble_eq_true rfl, Nat.le_of_ble_eq_true rfl⟩ (Nat.le_of_ble_eq_true rfl) dX8_end_181 ?_
    refine z_iastore O dX8_end_184 hr (fun h18 hr => ?_)
    refine z_iincL O 3 (fun v19 => [(3, vi v19), (2, vi v10), (0, vr x0), (1, vi x1)]) dX8_end_185 rfl rfl (by decide) (fun _ => rfl) hr (fun v19 hr => ?_)
    refine z_goto (tgt := 138) O dX8_end_188 (by decide) ?_
    refine z_sub [2, 3, 1, 0] rfl ?_
    exact hrec138 v10 v19 h18 _ hr
theorem wX8_end_138 {K : ZC} (O : ZOk K cX8_end RX8 "end" 5 (none : Option Jvm.ClassFile.FieldType) 2 70) (N : Nat) (x0 : Option Nat) (x1 : Int32) : ∀ (n : Nat) (x2 : Int32) (x3 : Int32) (h : AH) (r : AH), lf (fun _ _ _ => none) (BX8_end_138 N x0 x1) n x2 x3 h = some r → Zw K (eH r) h 138 [(0, vr x0), (1, vi x1), (2, vi x2), (3, vi x3)] [] := by
  intro n
  induction n with
  | zero => intro x2 x3 h r hr; cases hr
  | succ n ih => intro x2 x3 h r hr; exact wX8_end_138B O N x0 x1 (lf (fun _ _ _ => none) (BX8_end_138 N x0 x1) n)  ih x2 x3 h r hr
def BX8_end_59 (N : Nat) (x0 : Option Nat) (x1 : Int32) (rec59 : Int32 → Int32 → AH → Option (AH)) : Int32 → Int32 → AH → Option (AH) := fun x2 x3 h =>
  if x1 ≤ x3 then
    (gI h f_Orders_now x0).bind fun v1 =>
    jlet (x1 - (1 : Int32)) fun v2 =>
    LX8_end_138 N x0 x1 v1 v2 h
  else
    (gR h f_Orders_order x0).bind fun v3 =>
    (aI h 0 v3 x3).bind fun v4 =>
    (F_X8_low x0 v4 h).bind fun v5 =>
    jlet (jmax (x2 + (1 : Int32)) v5) fun v6 =>
    (gR h f_Orders_order x0).bind fun v7 =>
    (aI h 0 v7 x3).bind fun v8 =>
    (gR h f_Orders_soonest x0).bind fun v9 =>
    (gR h f_Orders_soonest x0).bind fun v10 =>
    (aI h 0 v10 v8).bind fun v11 =>
    if v11 = (-2 : Int32) then
      (sA h 0 v9 v8 v6).bind fun h16 =>
      jlet (x3 + (1 : Int32)) fun v17 =>
      rec59 v6 v17 h16
    else
      (gR h f_Orders_soonest x0).bind fun v12 =>
      (aI h 0 v12 v8).bind fun v13 =>
      (sA h 0 v9 v8 (jmin v13 v6)).bind fun h14 =>
      jlet (x3 + (1 : Int32)) fun v15 =>
      rec59 v6 v15 h14
def LX8_end_59 (N : Nat) (x0 : Option Nat) (x1 : Int32) : Int32 → Int32 → AH → Option (AH) := lf (fun _ _ _ => none) (BX8_end_59 N x0 x1) N
theorem wX8_end_59B {K : ZC} (O : ZOk K cX8_end RX8 "end" 5 (none : Option Jvm.ClassFile.FieldType) 2 70) (N : Nat) (x0 : Option Nat) (x1 : Int32) (rec59 : Int32 → Int32 → AH → Option (AH)) (hrec59 : ∀ (y2 : Int32) (y3 : Int32) (hy : AH) (ry : AH), rec59 y2 y3 hy = some ry → Zw K (eH ry) hy 59 [(0, vr x0), (1, vi x1), (2, vi y2), (3, vi y3)] []) (x2 : Int32) (x3 : Int32) (h : AH) (r : AH) (hr : BX8_end_59 N x0 x1 rec59 x2 x3 h = some r) : Zw K (eH r) h 59 [(0, vr x0), (1, vi x1), (2, vi x2), (3, vi x3)] [] := by
  unfold BX8_end_59 at hr
  refine z_iload_n O 3 dX8_end_59 rfl rfl ?_
  refine z_iload_n O 1 dX8_end_60 rfl rfl ?_
  refine z_icmp_ge (tgt := 129) O dX8_end_61 (by decide) hr (fun hr => ?_) (fun hr => ?_)
  · refine z_aload_n O 0 dX8_end_129 rfl rfl ?_
    refine z_getI O o_Orders_now q441 dX8_end_130 hr (fun v1 hr => ?_)
    refine z_istore_n O [(2, vi v1), (0, vr x0), (1, vi x1), (3, vi x3)] dX8_end_133 rfl (by decide) rfl ?_
    refine z_iload_n O 2 dX8_end_134 rfl rfl ?_
    refine z_iconst O dX8_end_135 kic_1 ?_
    refine z_isub O dX8_end_136 ?_
    refine z_letI hr (fun v2 hr => ?_)
    refine z_istore_n O [(3, vi v2), (2, vi v1), (0, vr x0), (1, vi x1)] dX8_end_137 rfl (by decide) rfl ?_
    refine z_sub [2, 3, 1, 0] rfl ?_
    exact wX8_end_138 O N x0 x1 _ v1 v2 h _ hr
  · refine z_iload_n O 2 dX8_end_64 rfl rfl ?_
    refine z_iconst O dX8_end_65 kic_1 ?_
    refine z_iadd O dX8_end_66 ?_
    refine z_aload_n O 0 dX8_end_67 rfl rfl ?_
    refine z_aload_n O 0 dX8_end_68 rfl rfl ?_
    refine z_getR O o_Orders_order q436 dX8_end_69 hr (fun v3 hr => ?_)
    refine z_iload_n O 3 dX8_end_72 rfl rfl ?_
    refine z_iaload O dX8_end_73 hr (fun v4 hr => ?_)
    refine bs hr (fun v5 hF hr => ?_)
    refine z_callV O [vi v4] (vi v5) fV_X8_low q1585 (fun l G => mX8_low l G x0 v4 h _ hF) (zck hF) rfl rfl ⟨Nat.le_of_ble_eq_true rfl, Nat.le_of_ble_eq_true rfl⟩ (Nat.le_of_ble_eq_true rfl) dX8_end_74 ?_
    refine z_mmax O q1589 ⟨Nat.le_of_ble_eq_true rfl, Nat.le_of_ble_eq_true rfl⟩ (Nat.le_of_ble_eq_true rfl) dX8_end_77 ?_
    refine z_letI hr (fun v6 hr => ?_)
    refine z_istore_n O [(2, vi v6), (0, vr x0), (1, vi x1), (3, vi x3)] dX8_end_80 rfl (by decide) rfl ?_
    refine z_aload_n O 1 dX8_end_81 rfl rfl ?_
    refine z_getR O o_Orders_order q436 dX8_end_82 hr (fun v7 hr => ?_)
    refine z_iload_n O 3 dX8_end_85 rfl rfl ?_
    refine z_iaload O dX8_end_86 hr (fun v8 hr => ?_)
    refine z_istore O [(4, vi v8), (2, vi v6), (0, vr x0), (1, vi x1), (3, vi x3)] dX8_end_87 (by decide) rfl ?_
    refine z_aload_n O 2 dX8_end_89 rfl rfl ?_
    refine z_getR O o_Orders_soonest q438 dX8_end_90 hr (fun v9 hr => ?_)
    refine z_iload O 0 dX8_end_93 rfl ?_
    refine z_aload_n O 2 dX8_end_95 rfl rfl ?_
    refine z_getR O o_Orders_soonest q438 dX8_end_96 hr (fun v10 hr => ?_)
    refine z_iload O 0 dX8_end_99 rfl ?_
    refine z_iaload O dX8_end_101 hr (fun v11 hr => ?_)
    refine z_bipush O dX8_end_102 kbi_m2 ?_
    refine z_icmp_ne (tgt := 111) O dX8_end_104 (by decide) hr (fun hr => ?_) (fun hr => ?_)
    · refine z_iload_n O 1 dX8_end_107 rfl rfl ?_
      refine z_goto (tgt := 122) O dX8_end_108 (by decide) ?_
      refine z_iastore O dX8_end_122 hr (fun h16 hr => ?_)
      refine z_iincL O 4 (fun v17 => [(3, vi v17), (4, vi v8), (2, vi v6), (0, vr x0), (1, vi x1)]) dX8_end_123 rfl rfl (by decide) (fun _ => rfl) hr (fun v17 hr => ?_)
      refine z_goto (tgt := 59) O dX8_end_126 (by decide) ?_
      refine z_sub [3, 4, 2, 0] rfl ?_
      exact hrec59 v6 v17 h16 _ hr
    · refine z_aload_n O 2 dX8_end_111 rfl rfl ?_
      refine z_getR O o_Orders_soonest q438 dX8_end_112 hr (fun v12 hr => ?_)
      refine z_iload O 0 dX8_end_115 rfl ?_
      refine z_iaload O dX8_end_117 hr (fun v13 hr => ?_)
      refine z_iload_n O 1 dX8_end_118 rfl rfl ?_
      refine z_mmin O q1594 ⟨Nat.le_of_ble_eq_true rfl, Nat.le_of_ble_eq_true rfl⟩ (Nat.le_of_ble_eq_true rfl) dX8_end_119 ?_
      refine z_iastore O dX8_end_122 hr (fun h14 hr => ?_)
      refine z_iincL O 4 (fun v15 => [(3, vi v15), (4, vi v8), (2, vi v6), (0, vr x0), (1, vi x1)]) dX8_end_123 rfl rfl (by decide) (fun _ => rfl) hr (fun v15 hr => ?_)
      refine z_goto (tgt := 59) O dX8_end_126 (by decide) ?_
      refine z_sub [3, 4, 2, 0] rfl ?_
      exact hrec59 v6 v15 h14 _ hr
theorem wX8_end_59 {K : ZC} (O : ZOk K cX8_end RX8 "end" 5 (none : Option Jvm.ClassFile.FieldType) 2 70) (N : Nat) (x0 : Option Nat) (x1 : Int32) : ∀ (n : Nat) (x2 : Int32) (x3 : Int32) (h : AH) (r : AH), lf (fun _ _ _ => none) (BX8_end_59 N x0 x1) n x2 x3 h = some r → Zw K (eH r) h 59 [(0, vr x0), (1, vi x1), (2, vi x2), (3, vi x3)] [] := by
  intro n
  induction n with
  | zero => intro x2 x3 h r hr; cases hr
  | succ n ih => intro x2 x3 h r hr; exact wX8_end_59B O N x0 x1 (lf (fun _ _ _ => none) (BX8_end_59 N x0 x1) n)  ih x2 x3 h r hr
def BX8_end_12 (N : Nat) (x0 : Option Nat) (x1 : Int32) (rec12 : Int32 → Int32 → AH → Option (AH)) : Int32 → Int32 → AH → Option (AH) := fun x2 x3 h =>
  if x1 ≤ x3 then
    LX8_end_59 N x0 x1 (-1 : Int32) (0 : Int32) h
  else
    (gR h f_Orders_order x0).bind fun v1 =>
    (aI h 0 v1 x3).bind fun v2 =>
    (F_X8_low x0 v2 h).bind fun v3 =>
    jlet (jmax (x2 + (1 : Int32)) v3) fun v4 =>
    (gR h f_Orders_order x0).bind fun v5 =>
    (aI h 0 v5 x3).bind fun v6 =>
    (F_X8_high x0 v6 h).bind fun v7 =>
    if v4 ≤ v7 then
      jlet (x3 + (1 : Int32)) fun v8 =>
      rec12 v4 v8 h
    else
      some h
def LX8_end_12 (N : Nat) (x0 : Option Nat) (x1 : Int32) : Int32 → Int32 → AH → Option (AH) := lf (fun _ _ _ => none) (BX8_end_12 N x0 x1) N
theorem wX8_end_12B {K : ZC} (O : ZOk K cX8_end RX8 "end" 5 (none : Option Jvm.ClassFile.FieldType) 2 70) (N : Nat) (x0 : Option Nat) (x1 : Int32) (rec12 : Int32 → Int32 → AH → Option (AH)) (hrec12 : ∀ (y2 : Int32) (y3 : Int32) (hy : AH) (ry : AH), rec12 y2 y3 hy = some ry → Zw K (eH ry) hy 12 [(0, vr x0), (1, vi x1), (2, vi y2), (3, vi y3)] []) (x2 : Int32) (x3 : Int32) (h : AH) (r : AH) (hr : BX8_end_12 N x0 x1 rec12 x2 x3 h = some r) : Zw K (eH r) h 12 [(0, vr x0), (1, vi x1), (2, vi x2), (3, vi x3)] [] := by
  unfold BX8_end_12 at hr
  refine z_iload_n O 3 dX8_end_12 rfl rfl ?_
  refine z_iload_n O 1 dX8_end_13 rfl rfl ?_
  refine z_icmp_ge (tgt := 55) O dX8_end_14 (by decide) hr (fun hr => ?_) (fun hr => ?_)
  · refine z_iconst O dX8_end_55 kic_m1 ?_
    refine z_istore_n O [(2, vi (-1 : Int32)), (0, vr x0), (1, vi x1), (3, vi x3)] dX8_end_56 rfl (by decide) rfl ?_
    refine z_iconst O dX8_end_57 kic_0 ?_
    refine z_istore_n O [(3, vi (0 : Int32)), (2, vi (-1 : Int32)), (0, vr x0), (1, vi x1)] dX8_end_58 rfl (by decide) rfl ?_
    refine z_sub [2, 3, 1, 0] rfl ?_
    exact wX8_end_59 O N x0 x1 _ (-1 : Int32) (0 : Int32) h _ hr
  · refine z_iload_n O 2 dX8_end_17 rfl rfl ?_
    refine z_iconst O dX8_end_18 kic_1 ?_
    refine z_iadd O dX8_end_19 ?_
    refine z_aload_n O 0 dX8_end_20 rfl rfl ?_
    refine z_aload_n O 0 dX8_end_21 rfl rfl ?_
    refine z_getR O o_Orders_order q436 dX8_end_22 hr (fun v1 hr => ?_)
    refine z_iload_n O 3 dX8_end_25 rfl rfl ?_
    refine z_iaload O dX8_end_26 hr (fun v2 hr => ?_)
    refine bs hr (fun v3 hF hr => ?_)
    refine z_callV O [vi v2] (vi v3) fV_X8_low q1585 (fun l G => mX8_low l G x0 v2 h _ hF) (zck hF) rfl rfl ⟨Nat.le_of_ble_eq_true rfl, Nat.le_of_ble_eq_true rfl⟩ (Nat.le_of_ble_eq_true rfl) dX8_end_27 ?_
    refine z_mmax O q1589 ⟨Nat.le_of_ble_eq_true rfl, Nat.le_of_ble_eq_true rfl⟩ (Nat.le_of_ble_eq_true rfl) dX8_end_30 ?_
    refine z_letI hr (fun v4 hr => ?_)
    refine z_istore_n O [(2, vi v4), (0, vr x0), (1, vi x1), (3, vi x3)] dX8_end_33 rfl (by decide) rfl ?_
    refine z_iload_n O 0 dX8_end_34 rfl rfl ?_
    refine z_aload_n O 1 dX8_end_35 rfl rfl ?_
    refine z_aload_n O 1 dX8_end_36 rfl rfl ?_
    refine z_getR O o_Orders_order q436 dX8_end_37 hr (fun v5 hr => ?_)
    refine z_iload_n O 3 dX8_end_40 rfl rfl ?_
    refine z_iaload O dX8_end_41 hr (fun v6 hr => ?_)
    refine bs hr (fun v7 hF hr => ?_)
    refine z_callV O [vi v6] (vi v7) fV_X8_high q1590 (fun l G => mX8_high l G x0 v6 h _ hF) (zck hF) rfl rfl ⟨Nat.le_of_ble_eq_true rfl, Nat.le_of_ble_eq_true rfl⟩ (Nat.le_of_ble_eq_true rfl) dX8_end_42 ?_
    refine z_icmp_le (tgt := 49) O dX8_end_45 (by decide) hr (fun hr => ?_) (fun hr => ?_)
    · refine z_iincL O 3 (fun v8 => [(3, vi v8), (2, vi v4), (0, vr x0), (1, vi x1)]) dX8_end_49 rfl rfl (by decide) (fun _ => rfl) hr (fun v8 hr => ?_)
      refine z_goto (tgt := 12) O dX8_end_52 (by decide) ?_
      refine z_sub [2, 3, 1, 0] rfl ?_
      exact hrec12 v4 v8 h _ hr
    · exact z_vret O dX8_end_48 (by cases hr; rfl)
theorem wX8_end_12 {K : ZC} (O : ZOk K cX8_end RX8 "end" 5 (none : Option Jvm.ClassFile.FieldType) 2 70) (N : Nat) (x0 : Option Nat) (x1 : Int32) : ∀ (n : Nat) (x2 : Int32) (x3 : Int32) (h : AH) (r : AH), lf (fun _ _ _ => none) (BX8_end_12 N x0 x1) n x2 x3 h = some r → Zw K (eH r) h 12 [(0, vr x0), (1, vi x1), (2, vi x2), (3, vi x3)] [] := by
  intro n
  induction n with
  | zero => intro x2 x3 h r hr; cases hr
  | succ n ih => intro x2 x3 h r hr; exact wX8_end_12B O N x0 x1 (lf (fun _ _ _ => none) (BX8_end_12 N x0 x1) n)  ih x2 x3 h r hr
def F_X8_end (N : Nat) (x0 : Option Nat) (h : AH) : Option (AH) :=
  (ck h [8] x0).bind fun _ =>
  (gR h f_Orders_land x0).bind fun v1 =>
  (gI h f_Land_wallMany v1).bind fun v2 =>
  LX8_end_12 N x0 v2 (-1 : Int32) (0 : Int32) h
theorem mX8_end (l : Launch) (G : ZG) (N : Nat) (x0 : Option Nat) (h : AH) (r : AH) (hr : F_X8_end N x0 h = some r) : MZ l G yX8_end cX8_end 5 (none : Option Jvm.ClassFile.FieldType) 2 70 [vr x0] h (eH r) := by
  unfold F_X8_end at hr
  refine MZ.of (by decide) [(0, vr x0)] rfl (Nat.le_of_ble_eq_true rfl) (fun K O => ?_)
  have O : ZOk K cX8_end RX8 "end" 5 (none : Option Jvm.ClassFile.FieldType) 2 70 := O
  refine bs hr (fun _ hck hr => ?_)
  refine z_aload_n O 0 dX8_end_0 rfl rfl ?_
  refine z_getR O o_Orders_land q440 dX8_end_1 hr (fun v1 hr => ?_)
  refine z_getI O o_Land_wallMany q606 dX8_end_4 hr (fun v2 hr => ?_)
  refine z_istore_n O [(1, vi v2), (0, vr x0)] dX8_end_7 rfl (by decide) rfl ?_
  refine z_iconst O dX8_end_8 kic_m1 ?_
  refine z_istore_n O [(2, vi (-1 : Int32)), (1, vi v2), (0, vr x0)] dX8_end_9 rfl (by decide) rfl ?_
  refine z_iconst O dX8_end_10 kic_0 ?_
  refine z_istore_n O [(3, vi (0 : Int32)), (2, vi (-1 : Int32)), (1, vi v2), (0, vr x0)] dX8_end_11 rfl (by decide) rfl ?_
  refine z_sub [3, 2, 1, 0] rfl ?_
  exact wX8_end_12 O N x0 v2 _ (-1 : Int32) (0 : Int32) h _ hr
theorem fV_X8_mayBe : CVf RX8 yX8_mayBe cX8_mayBe 5 (some .boolean) 2 := ⟨q1601, qs56, q136, q1602, ⟨⟨by decide +kernel, by decide +kernel⟩, by decide +kernel⟩⟩
def BX8_mayBe_5 (N : Nat) (x0 : Option Nat) (x1 : Int32) (x2 : Int32) (h : AH) (rec5 : Int32 → Int32 → Option (Int32)) : Int32 → Int32 → Option (Int32) := fun x3 x4 =>
  (gR h f_Orders_land x0).bind fun v1 =>
  (gI h f_Land_olderMany v1).bind fun v2 =>
  if v2 ≤ x4 then
    zb x3
  else
    if x3 = 0 then
      jlet (x4 + (1 : Int32)) fun v3 =>
      rec5 (0 : Int32) v3
    else
      (gR h f_Orders_land x0).bind fun v4 =>
      (gR h f_Land_younger v4).bind fun v5 =>
      (aI h 0 v5 x4).bind fun v6 =>
      if v6 = x1 then
        (gR h f_Orders_land x0).bind fun v8 =>
        (gR h f_Land_older v8).bind fun v9 =>
        (aI h 0 v9 x4).bind fun v10 =>
        (F_X1_has x2 v10).bind fun v11 =>
        if v11 = 0 then
          jlet (x4 + (1 : Int32)) fun v12 =>
          rec5 (0 : Int32) v12
        else
          jlet (x4 + (1 : Int32)) fun v13 =>
          rec5 (1 : Int32) v13
      else
        jlet (x4 + (1 : Int32)) fun v7 =>
        rec5 (1 : Int32) v7
def LX8_mayBe_5 (N : Nat) (x0 : Option Nat) (x1 : Int32) (x2 : Int32) (h : AH) : Int32 → Int32 → Option (Int32) := lf (fun _ _ => none) (BX8_mayBe_5 N x0 x1 x2 h) N
theorem wX8_mayBe_5B {K : ZC} (O : ZOk K cX8_mayBe RX8 "mayBe" 5 (some .boolean) 2 69) (N : Nat) (x0 : Option Nat) (x1 : Int32) (x2 : Int32) (h : AH) (rec5 : Int32 → Int32 → Option (Int32)) (hrec5 : ∀ (y3 : Int32) (y4 : Int32) (ry : Int32), rec5 y3 y4 = some ry → Zw K (eI h ry) h 5 [(0, vr x0), (1, vi x1), (2, vi x2), (3, vi y3), (4, vi y4)] []) (x3 : Int32) (x4 : Int32) (r : Int32) (hr : BX8_mayBe_5 N x0 x1 x2 h rec5 x3 x4 = some r) : Zw K (eI h r) h 5 [(0, vr x0), (1, vi x1), (2, vi x2), (3, vi x3), (4, vi x4)] [] := by
  unfold BX8_mayBe_5 at hr
  refine z_iload O 4 dX8_mayBe_5 rfl ?_
  refine z_aload_n O 0 dX8_mayBe_7 rfl rfl ?_
  refine z_getR O o_Orders_land q440 dX8_mayBe_8 hr (fun v1 hr => ?_)
  refine z_getI O o_Land_olderMany q609 dX8_mayBe_11 hr (fun v2 hr => ?_)
  refine z_icmp_ge (tgt := 64) O dX8_mayBe_14 (by decide) hr (fun hr => ?_) (fun hr => ?_)
  · refine z_iload_n O 3 dX8_mayBe_64 rfl rfl ?_
    obtain ⟨e1, e2, -⟩ := zb_spec hr
    exact z_zret O e2 dX8_mayBe_65 (by cases e1; rfl)
  · refine z_iload_n O 3 dX8_mayBe_17 rfl rfl ?_
    refine z_if_eq (tgt := 56) O dX8_mayBe_18 (by decide) hr (fun hr => ?_) (fun hr => ?_)
    · refine z_iconst O dX8_mayBe_56 kic_0 ?_
      refine z_istore_n O [(3, vi (0 : Int32)), (0, vr x0), (1, vi x1), (2, vi x2), (4, vi x4)] dX8_mayBe_57 rfl (by decide) rfl ?_
      refine z_iincL O 4 (fun v3 => [(4, vi v3), (3, vi (0 : Int32)), (0, vr x0), (1, vi x1), (2, vi x2)]) dX8_mayBe_58 rfl rfl (by decide) (fun _ => rfl) hr (fun v3 hr => ?_)
      refine z_goto (tgt := 5) O dX8_mayBe_61 (by decide) ?_
      refine z_sub [2, 3, 4, 1, 0] rfl ?_
      exact hrec5 (0 : Int32) v3 _ hr
    · refine z_aload_n O 0 dX8_mayBe_21 rfl rfl ?_
      refine z_getR O o_Orders_land q440 dX8_mayBe_22 hr (fun v4 hr => ?_)
      refine z_getR O o_Land_younger q565 dX8_mayBe_25 hr (fun v5 hr => ?_)
      refine z_iload O 4 dX8_mayBe_28 rfl ?_
      refine z_iaload O dX8_mayBe_30 hr (fun v6 hr => ?_)
      refine z_iload_n O 1 dX8_mayBe_31 rfl rfl ?_
      refine z_icmp_ne (tgt := 52) O dX8_mayBe_32 (by decide) hr (fun hr => ?_) (fun hr => ?_)
      · refine z_iload_n O 2 dX8_mayBe_35 rfl rfl ?_
        refine z_aload_n O 0 dX8_mayBe_36 rfl rfl ?_
        refine z_getR O o_Orders_land q440 dX8_mayBe_37 hr (fun v8 hr => ?_)
        refine z_getR O o_Land_older q562 dX8_mayBe_40 hr (fun v9 hr => ?_)
        refine z_iload O 4 dX8_mayBe_43 rfl ?_
        refine z_iaload O dX8_mayBe_45 hr (fun v10 hr => ?_)
        refine bs hr (fun v11 hF hr => ?_)
        refine z_callSN O [vi x2, vi v10] (vi v11) fS_X1_has zn1596 (fun l G => mX1_has l G x2 v10 h _ hF) rfl ⟨Nat.le_of_ble_eq_true rfl, Nat.le_of_ble_eq_true rfl⟩ (Nat.le_of_ble_eq_true rfl) dX8_mayBe_46 ?_
        refine z_if_eq (tgt := 56) O dX8_mayBe_49 (by decide) hr (fun hr => ?_) (fun hr => ?_)
        · refine z_iconst O dX8_mayBe_56 kic_0 ?_
          refine z_istore_n O [(3, vi (0 : Int32)), (0, vr x0), (1, vi x1), (2, vi x2), (4, vi x4)] dX8_mayBe_57 rfl (by decide) rfl ?_
          refine z_iincL O 4 (fun v12 => [(4, vi v12), (3, vi (0 : Int32)), (0, vr x0), (1, vi x1), (2, vi x2)]) dX8_mayBe_58 rfl rfl (by decide) (fun _ => rfl) hr (fun v12 hr => ?_)
          refine z_goto (tgt := 5) O dX8_mayBe_61 (by decide) ?_
          refine z_sub [2, 3, 4, 1, 0] rfl ?_
          exact hrec5 (0 : Int32) v12 _ hr
        · refine z_iconst O dX8_mayBe_52 kic_1 ?_
          refine z_goto (tgt := 57) O dX8_mayBe_53 (by decide) ?_
          refine z_istore_n O [(3, vi (1 : Int32)), (0, vr x0), (1, vi x1), (2, vi x2), (4, vi x4)] dX8_mayBe_57 rfl (by decide) rfl ?_
          refine z_iincL O 4 (fun v13 => [(4, vi v13), (3, vi (1 : Int32)), (0, vr x0), (1, vi x1), (2, vi x2)]) dX8_mayBe_58 rfl rfl (by decide) (fun _ => rfl) hr (fun v13 hr => ?_)
          refine z_goto (tgt := 5) O dX8_mayBe_61 (by decide) ?_
          refine z_sub [2, 3, 4, 1, 0] rfl ?_
          exact hrec5 (1 : Int32) v13 _ hr
      · refine z_iconst O dX8_mayBe_52 kic_1 ?_
        refine z_goto (tgt := 57) O dX8_mayBe_53 (by decide) ?_
        refine z_istore_n O [(3, vi (1 : Int32)), (0, vr x0), (1, vi x1), (2, vi x2), (4, vi x4)] dX8_mayBe_57 rfl (by decide) rfl ?_
        refine z_iincL O 4 (fun v7 => [(4, vi v7), (3, vi (1 : Int32)), (0, vr x0), (1, vi x1), (2, vi x2)]) dX8_mayBe_58 rfl rfl (by decide) (fun _ => rfl) hr (fun v7 hr => ?_)
        refine z_goto (tgt := 5) O dX8_mayBe_61 (by decide) ?_
        refine z_sub [2, 3, 4, 1, 0] rfl ?_
        exact hrec5 (1 : Int32) v7 _ hr
theorem wX8_mayBe_5 {K : ZC} (O : ZOk K cX8_mayBe RX8 "mayBe" 5 (some .boolean) 2 69) (N : Nat) (x0 : Option Nat) (x1 : Int32) (x2 : Int32) (h : AH) : ∀ (n : Nat) (x3 : Int32) (x4 : Int32) (r : Int32), lf (fun _ _ => none) (BX8_mayBe_5 N x0 x1 x2 h) n x3 x4 = some r → Zw K (eI h r) h 5 [(0, vr x0), (1, vi x1), (2, vi x2), (3, vi x3), (4, vi x4)] [] := by
  intro n
  induction n with
  | zero => intro x3 x4 r hr; cases hr
  | succ n ih => intro x3 x4 r hr; exact wX8_mayBe_5B O N x0 x1 x2 h (lf (fun _ _ => none) (BX8_mayBe_5 N x0 x1 x2 h) n)  ih x3 x4 r hr
def F_X8_mayBe (N : Nat) (x0 : Option Nat) (x1 : Int32) (x2 : Int32) (h : AH) : Option (Int32) :=
  (ck h [8] x0).bind fun _ =>
  LX8_mayBe_5 N x0 x1 x2 h (1 : Int32) (0 : Int32)
theorem mX8_mayBe (l : Launch) (G : ZG) (N : Nat) (x0 : Option Nat) (x1 : Int32) (x2 : Int32) (h : AH) (r : Int32) (hr : F_X8_mayBe N x0 x1 x2 h = some r) : MZ l G yX8_mayBe cX8_mayBe 5 (some .boolean) 2 69 [vr x0, vi x1, vi x2] h (eI h r) := by
  unfold F_X8_mayBe at hr
  refine MZ.of (by decide) [(0, vr x0), (1, vi x1), (2, vi x2)] rfl (Nat.le_of_ble_eq_true rfl) (fun K O => ?_)
  have O : ZOk K cX8_mayBe RX8 "mayBe" 5 (some .boolean) 2 69 := O
  refine bs hr (fun _ hck hr => ?_)
  refine z_iconst O dX8_mayBe_0 kic_1 ?_
  refine z_istore_n O [(3, vi (1 : Int32)), (0, vr x0), (1, vi x1), (2, vi x2)] dX8_mayBe_1 rfl (by decide) rfl ?_
  refine z_iconst O dX8_mayBe_2 kic_0 ?_
  refine z_istore O [(4, vi (0 : Int32)), (3, vi (1 : Int32)), (0, vr x0), (1, vi x1), (2, vi x2)] dX8_mayBe_3 (by decide) rfl ?_
  refine z_sub [2, 3, 4, 1, 0] rfl ?_
  exact wX8_mayBe_5 O N x0 x1 x2 h _ (1 : Int32) (0 : Int32) _ hr
theorem fV_X8_tries : CVf RX8 yX8_tries cX8_tries 4 (none : Option Jvm.ClassFile.FieldType) 2 := ⟨q1579, qs52, q136, q1580, ⟨⟨by decide +kernel, by decide +kernel⟩, by decide +kernel⟩⟩
def BX8_tries_18 (N : Nat) (self : Option Nat → Int32 → Int32 → AH → Option (AH)) (x0 : Option Nat) (x1 : Int32) (x2 : Int32) (rec18 : Int32 → AH → Option (AH)) : Int32 → AH → Option (AH) := fun x3 h =>
  (gR h f_Orders_land x0).bind fun v1 =>
  (gI h f_Land_wallMany v1).bind fun v2 =>
  if v2 ≤ x3 then
    some h
  else
    (F_X1_has x2 x3).bind fun v3 =>
    if v3 = 0 then
      (F_X8_mayBe N x0 x3 x2 h).bind fun v5 =>
      if v5 = 0 then
        jlet (x3 + (1 : Int32)) fun v10 =>
        rec18 v10 h
      else
        (gR h f_Orders_order x0).bind fun v6 =>
        (sA h 0 v6 x1 x3).bind fun h7 =>
        (ck h7 [8] x0).bind fun _ =>
        (self x0 (x1 + (1 : Int32)) (x2 ||| ((1 : Int32) <<< (x3 &&& 31))) h7).bind fun h8 =>
        jlet (x3 + (1 : Int32)) fun v9 =>
        rec18 v9 h8
    else
      jlet (x3 + (1 : Int32)) fun v4 =>
      rec18 v4 h
def LX8_tries_18 (N : Nat) (self : Option Nat → Int32 → Int32 → AH → Option (AH)) (x0 : Option Nat) (x1 : Int32) (x2 : Int32) : Int32 → AH → Option (AH) := lf (fun _ _ => none) (BX8_tries_18 N self x0 x1 x2) N
theorem wX8_tries_18B {K : ZC} {rd : Nat} (O : ZOk K cX8_tries RX8 "tries" 4 (none : Option Jvm.ClassFile.FieldType) (3 + (rd + 1)) (94 + (rd + 1) * 23)) (N : Nat) (self : Option Nat → Int32 → Int32 → AH → Option (AH)) (x0 : Option Nat) (x1 : Int32) (x2 : Int32) (rec18 : Int32 → AH → Option (AH)) (hself : ∀ (a0 : Option Nat) (a1 : Int32) (a2 : Int32) (ha : AH) (ra : AH), self a0 a1 a2 ha = some ra → ∀ (l : Launch) (G : ZG), MZ l G yX8_tries cX8_tries 4 (none : Option Jvm.ClassFile.FieldType) (3 + rd) (94 + rd * 23) [vr a0, vi a1, vi a2] ha (eH ra)) (hrec18 : ∀ (y3 : Int32) (hy : AH) (ry : AH), rec18 y3 hy = some ry → Zw K (eH ry) hy 18 [(0, vr x0), (1, vi x1), (2, vi x2), (3, vi y3)] []) (x3 : Int32) (h : AH) (r : AH) (hr : BX8_tries_18 N self x0 x1 x2 rec18 x3 h = some r) : Zw K (eH r) h 18 [(0, vr x0), (1, vi x1), (2, vi x2), (3, vi x3)] [] := by
  unfold BX8_tries_18 at hr
  refine z_iload_n O 3 dX8_tries_18 rfl rfl ?_
  refine z_aload_n O 0 dX8_tries_19 rfl rfl ?_
  refine z_getR O o_Orders_land q440 dX8_tries_20 hr (fun v1 hr => ?_)
  refine z_getI O o_Land_wallMany q606 dX8_tries_23 hr (fun v2 hr => ?_)
  refine z_icmp_ge (tgt := 74) O dX8_tries_26 (by decide) hr (fun hr => ?_) (fun hr => ?_)
  · exact z_vret O dX8_tries_74 (by cases hr; rfl)
  · refine z_iload_n O 2 dX8_tries_29 rfl rfl ?_
    refine z_iload_n O 3 dX8_tries_30 rfl rfl ?_
    refine bs hr (fun v3 hF hr => ?_)
    refine z_callSN O [vi x2, vi x3] (vi v3) fS_X1_has zn1596 (fun l G => mX1_has l G x2 x3 h _ hF) rfl ⟨by omega, by omega⟩ (Nat.le_of_ble_eq_true rfl) dX8_tries_31 ?_
    refine z_if_ne (tgt := 68) O dX8_tries_34 (by decide) hr (fun hr => ?_) (fun hr => ?_)
    · refine z_aload_n O 0 dX8_tries_37 rfl rfl ?_
      refine z_iload_n O 3 dX8_tries_38 rfl rfl ?_
      refine z_iload_n O 2 dX8_tries_39 rfl rfl ?_
      refine bs hr (fun v5 hF hr => ?_)
      refine z_callV O [vi x3, vi x2] (vi v5) fV_X8_mayBe q1599 (fun l G => mX8_mayBe l G N x0 x3 x2 h _ hF) (zck hF) rfl rfl ⟨by omega, by omega⟩ (Nat.le_of_ble_eq_true rfl) dX8_tries_40 ?_
      refine z_if_ne (tgt := 49) O dX8_tries_43 (by decide) hr (fun hr => ?_) (fun hr => ?_)
      · refine z_goto (tgt := 68) O dX8_tries_46 (by decide) ?_
        refine z_iincL O 3 (fun v10 => [(3, vi v10), (0, vr x0), (1, vi x1), (2, vi x2)]) dX8_tries_68 rfl rfl (by decide) (fun _ => rfl) hr (fun v10 hr => ?_)
        refine z_goto (tgt := 18) O dX8_tries_71 (by decide) ?_
        refine z_sub [1, 2, 3, 0] rfl ?_
        exact hrec18 v10 h _ hr
      · refine z_aload_n O 0 dX8_tries_49 rfl rfl ?_
        refine z_getR O o_Orders_order q436 dX8_tries_50 hr (fun v6 hr => ?_)
        refine z_iload_n O 1 dX8_tries_53 rfl rfl ?_
        refine z_iload_n O 3 dX8_tries_54 rfl rfl ?_
        refine z_iastore O dX8_tries_55 hr (fun h7 hr => ?_)
        refine z_aload_n O 0 dX8_tries_56 rfl rfl ?_
        refine z_iload_n O 1 dX8_tries_57 rfl rfl ?_
        refine z_iconst O dX8_tries_58 kic_1 ?_
        refine z_iadd O dX8_tries_59 ?_
        refine z_iload_n O 2 dX8_tries_60 rfl rfl ?_
        refine z_iconst O dX8_tries_61 kic_1 ?_
        refine z_iload_n O 3 dX8_tries_62 rfl rfl ?_
        refine z_ishl O dX8_tries_63 ?_
        refine z_ior O dX8_tries_64 ?_
        refine bs hr (fun _ hck0 hr => ?_)
        refine bs hr (fun h8 hF hr => ?_)
        refine z_callVv O [vi (x1 + (1 : Int32)), vi (x2 ||| ((1 : Int32) <<< (x3 &&& 31)))] fV_X8_tries q1577 (fun l G => hself x0 (x1 + (1 : Int32)) (x2 ||| ((1 : Int32) <<< (x3 &&& 31))) h7 _ hF l G) hck0 rfl rfl ⟨by omega, by omega⟩ (Nat.le_of_ble_eq_true rfl) dX8_tries_65 ?_
        refine z_iincL O 3 (fun v9 => [(3, vi v9), (0, vr x0), (1, vi x1), (2, vi x2)]) dX8_tries_68 rfl rfl (by decide) (fun _ => rfl) hr (fun v9 hr => ?_)
        refine z_goto (tgt := 18) O dX8_tries_71 (by decide) ?_
        refine z_sub [1, 2, 3, 0] rfl ?_
        exact hrec18 v9 h8 _ hr
    · refine z_iincL O 3 (fun v4 => [(3, vi v4), (0, vr x0), (1, vi x1), (2, vi x2)]) dX8_tries_68 rfl rfl (by decide) (fun _ => rfl) hr (fun v4 hr => ?_)
      refine z_goto (tgt := 18) O dX8_tries_71 (by decide) ?_
      refine z_sub [1, 2, 3, 0] rfl ?_
      exact hrec18 v4 h _ hr
theorem wX8_tries_18 {K : ZC} {rd : Nat} (O : ZOk K cX8_tries RX8 "tries" 4 (none : Option Jvm.ClassFile.FieldType) (3 + (rd + 1)) (94 + (rd + 1) * 23)) (N : Nat) (self : Option Nat → Int32 → Int32 → AH → Option (AH)) (x0 : Option Nat) (x1 : Int32) (x2 : Int32) (hself : ∀ (a0 : Option Nat) (a1 : Int32) (a2 : Int32) (ha : AH) (ra : AH), self a0 a1 a2 ha = some ra → ∀ (l : Launch) (G : ZG), MZ l G yX8_tries cX8_tries 4 (none : Option Jvm.ClassFile.FieldType) (3 + rd) (94 + rd * 23) [vr a0, vi a1, vi a2] ha (eH ra)) : ∀ (n : Nat) (x3 : Int32) (h : AH) (r : AH), lf (fun _ _ => none) (BX8_tries_18 N self x0 x1 x2) n x3 h = some r → Zw K (eH r) h 18 [(0, vr x0), (1, vi x1), (2, vi x2), (3, vi x3)] [] := by
  intro n
  induction n with
  | zero => intro x3 h r hr; cases hr
  | succ n ih => intro x3 h r hr; exact wX8_tries_18B O N self x0 x1 x2 (lf (fun _ _ => none) (BX8_tries_18 N self x0 x1 x2) n) hself ih x3 h r hr
def Fb_X8_tries (N : Nat) (self : Option Nat → Int32 → Int32 → AH → Option (AH)) (x0 : Option Nat) (x1 : Int32) (x2 : Int32) (h : AH) : Option (AH) :=
  (ck h [8] x0).bind fun _ =>
  (gR h f_Orders_land x0).bind fun v1 =>
  (gI h f_Land_wallMany v1).bind fun v2 =>
  if x1 = v2 then
    (F_X8_end N x0 h).bind fun h3 =>
    some h3
  else
    LX8_tries_18 N self x0 x1 x2 (0 : Int32) h
def F_X8_tries (N : Nat) : Option Nat → Int32 → Int32 → AH → Option (AH) := lf (fun _ _ _ _ => none) (fun self => Fb_X8_tries N self) 8
theorem mbX8_tries (l : Launch) (G : ZG) (N : Nat) (self : Option Nat → Int32 → Int32 → AH → Option (AH)) (rd : Nat) (hself : ∀ (a0 : Option Nat) (a1 : Int32) (a2 : Int32) (ha : AH) (ra : AH), self a0 a1 a2 ha = some ra → ∀ (l : Launch) (G : ZG), MZ l G yX8_tries cX8_tries 4 (none : Option Jvm.ClassFile.FieldType) (3 + rd) (94 + rd * 23) [vr a0, vi a1, vi a2] ha (eH ra)) (x0 : Option Nat) (x1 : Int32) (x2 : Int32) (h : AH) (r : AH) (hr : Fb_X8_tries N self x0 x1 x2 h = some r) : MZ l G yX8_tries cX8_tries 4 (none : Option Jvm.ClassFile.FieldType) (3 + (rd + 1)) (94 + (rd + 1) * 23) [vr x0, vi x1, vi x2] h (eH r) := by
  unfold Fb_X8_tries at hr
  refine MZ.of (by decide) [(0, vr x0), (1, vi x1), (2, vi x2)] rfl (Nat.le_of_ble_eq_true rfl) (fun K O => ?_)
  have O : ZOk K cX8_tries RX8 "tries" 4 (none : Option Jvm.ClassFile.FieldType) (3 + (rd + 1)) (94 + (rd + 1) * 23) := O
  refine bs hr (fun _ hck hr => ?_)
  refine z_iload_n O 1 dX8_tries_0 rfl rfl ?_
  refine z_aload_n O 0 dX8_tries_1 rfl rfl ?_
  refine z_getR O o_Orders_land q440 dX8_tries_2 hr (fun v1 hr => ?_)
  refine z_getI O o_Land_wallMany q606 dX8_tries_5 hr (fun v2 hr => ?_)
  refine z_icmp_ne (tgt := 16) O dX8_tries_8 (by decide) hr (fun hr => ?_) (fun hr => ?_)
  · refine z_aload_n O 0 dX8_tries_11 rfl rfl ?_
    refine bs hr (fun h3 hF hr => ?_)
    refine z_callVv O [] fV_X8_end q1581 (fun l G => mX8_end l G N x0 h _ hF) (zck hF) rfl rfl ⟨by omega, by omega⟩ (Nat.le_of_ble_eq_true rfl) dX8_tries_12 ?_
    exact z_vret O dX8_tries_15 (by cases hr; rfl)
  · refine z_iconst O dX8_tries_16 kic_0 ?_
    refine z_istore_n O [(3, vi (0 : Int32)), (0, vr x0), (1, vi x1), (2, vi x2)] dX8_tries_17 rfl (by decide) rfl ?_
    refine z_sub [1, 2, 3, 0] rfl ?_
    exact wX8_tries_18 O N self x0 x1 x2 hself _ (0 : Int32) h _ hr
theorem mrX8_tries (N : Nat) : ∀ (rd : Nat) (x0 : Option Nat) (x1 : Int32) (x2 : Int32) (h : AH) (r : AH), lf (fun _ _ _ _ => none) (fun self => Fb_X8_tries N self) rd x0 x1 x2 h = some r → ∀ (l : Launch) (G : ZG), MZ l G yX8_tries cX8_tries 4 (none : Option Jvm.ClassFile.FieldType) (3 + rd) (94 + rd * 23) [vr x0, vi x1, vi x2] h (eH r) := by
  intro rd
  induction rd with
  | zero => intro x0 x1 x2 h r hr; cases hr
  | succ rd ih => intro x0 x1 x2 h r hr l G; exact mbX8_tries l G N _ rd ih x0 x1 x2 h r hr
theorem mX8_tries (l : Launch) (G : ZG) (N : Nat) (x0 : Option Nat) (x1 : Int32) (x2 : Int32) (h : AH) (r : AH) (hr : F_X8_tries N x0 x1 x2 h = some r) : MZ l G yX8_tries cX8_tries 4 (none : Option Jvm.ClassFile.FieldType) 12 301 [vr x0, vi x1, vi x2] h (eH r) := (mrX8_tries N 8 x0 x1 x2 h r hr l G).mono (Nat.le_of_ble_eq_true rfl) (Nat.le_of_ble_eq_true rfl)
theorem fV_X8_lay : CVf RX8 yX8_lay cX8_lay 4 (none : Option Jvm.ClassFile.FieldType) 2 := ⟨q1574, q1575, q136, q1576, ⟨⟨by decide +kernel, by decide +kernel⟩, by decide +kernel⟩⟩
def BX8_lay_17 (N : Nat) (x0 : Option Nat) (rec17 : Int32 → AH → Option (AH)) : Int32 → AH → Option (AH) := fun x3 h =>
  if (6 : Int32) ≤ x3 then
    (F_X8_tries N x0 (0 : Int32) (0 : Int32) h).bind fun h1 =>
    some h1
  else
    (gR h f_Orders_soonest x0).bind fun v2 =>
    (sA h 0 v2 x3 (-2 : Int32)).bind fun h3 =>
    (gR h3 f_Orders_latest x0).bind fun v4 =>
    (sA h3 0 v4 x3 (-2 : Int32)).bind fun h5 =>
    jlet (x3 + (1 : Int32)) fun v6 =>
    rec17 v6 h5
def LX8_lay_17 (N : Nat) (x0 : Option Nat) : Int32 → AH → Option (AH) := lf (fun _ _ => none) (BX8_lay_17 N x0) N
theorem wX8_lay_17B {K : ZC} (O : ZOk K cX8_lay RX8 "lay" 4 (none : Option Jvm.ClassFile.FieldType) 13 324) (N : Nat) (x0 : Option Nat) (rec17 : Int32 → AH → Option (AH)) (hrec17 : ∀ (y3 : Int32) (hy : AH) (ry : AH), rec17 y3 hy = some ry → Zw K (eH ry) hy 17 [(0, vr x0), (3, vi y3)] []) (x3 : Int32) (h : AH) (r : AH) (hr : BX8_lay_17 N x0 rec17 x3 h = some r) : Zw K (eH r) h 17 [(0, vr x0), (3, vi x3)] [] := by
  unfold BX8_lay_17 at hr
  refine z_iload_n O 1 dX8_lay_17 rfl rfl ?_
  refine z_bipush O dX8_lay_18 kbi_6 ?_
  refine z_icmp_ge (tgt := 45) O dX8_lay_20 (by decide) hr (fun hr => ?_) (fun hr => ?_)
  · refine z_aload_n O 0 dX8_lay_45 rfl rfl ?_
    refine z_iconst O dX8_lay_46 kic_0 ?_
    refine z_iconst O dX8_lay_47 kic_0 ?_
    refine bs hr (fun h1 hF hr => ?_)
    refine z_callVv O [vi (0 : Int32), vi (0 : Int32)] fV_X8_tries q1577 (fun l G => mX8_tries l G N x0 (0 : Int32) (0 : Int32) h _ hF) (zck hF) rfl rfl ⟨Nat.le_of_ble_eq_true rfl, Nat.le_of_ble_eq_true rfl⟩ (Nat.le_of_ble_eq_true rfl) dX8_lay_48 ?_
    exact z_vret O dX8_lay_51 (by cases hr; rfl)
  · refine z_aload_n O 0 dX8_lay_23 rfl rfl ?_
    refine z_getR O o_Orders_soonest q438 dX8_lay_24 hr (fun v2 hr => ?_)
    refine z_iload_n O 1 dX8_lay_27 rfl rfl ?_
    refine z_bipush O dX8_lay_28 kbi_m2 ?_
    refine z_iastore O dX8_lay_30 hr (fun h3 hr => ?_)
    refine z_aload_n O 0 dX8_lay_31 rfl rfl ?_
    refine z_getR O o_Orders_latest q439 dX8_lay_32 hr (fun v4 hr => ?_)
    refine z_iload_n O 1 dX8_lay_35 rfl rfl ?_
    refine z_bipush O dX8_lay_36 kbi_m2 ?_
    refine z_iastore O dX8_lay_38 hr (fun h5 hr => ?_)
    refine z_iincL O 1 (fun v6 => [(3, vi v6), (0, vr x0)]) dX8_lay_39 rfl rfl (by decide) (fun _ => rfl) hr (fun v6 hr => ?_)
    refine z_goto (tgt := 17) O dX8_lay_42 (by decide) ?_
    refine z_sub [1, 0] rfl ?_
    exact hrec17 v6 h5 _ hr
theorem wX8_lay_17 {K : ZC} (O : ZOk K cX8_lay RX8 "lay" 4 (none : Option Jvm.ClassFile.FieldType) 13 324) (N : Nat) (x0 : Option Nat) : ∀ (n : Nat) (x3 : Int32) (h : AH) (r : AH), lf (fun _ _ => none) (BX8_lay_17 N x0) n x3 h = some r → Zw K (eH r) h 17 [(0, vr x0), (3, vi x3)] [] := by
  intro n
  induction n with
  | zero => intro x3 h r hr; cases hr
  | succ n ih => intro x3 h r hr; exact wX8_lay_17B O N x0 (lf (fun _ _ => none) (BX8_lay_17 N x0) n)  ih x3 h r hr
def F_X8_lay (N : Nat) (x0 : Option Nat) (x1 : Option Nat) (x2 : Int32) (h : AH) : Option (AH) :=
  (ck h [8] x0).bind fun _ =>
  (pR h f_Orders_land x0 x1).bind fun h1 =>
  (pI h1 f_Orders_now x0 x2).bind fun h2 =>
  (pI h2 f_Orders_many x0 (0 : Int32)).bind fun h3 =>
  LX8_lay_17 N x0 (0 : Int32) h3
theorem mX8_lay (l : Launch) (G : ZG) (N : Nat) (x0 : Option Nat) (x1 : Option Nat) (x2 : Int32) (h : AH) (r : AH) (hr : F_X8_lay N x0 x1 x2 h = some r) : MZ l G yX8_lay cX8_lay 4 (none : Option Jvm.ClassFile.FieldType) 13 324 [vr x0, vr x1, vi x2] h (eH r) := by
  unfold F_X8_lay at hr
  refine MZ.of (by decide) [(0, vr x0), (1, vr x1), (2, vi x2)] rfl (Nat.le_of_ble_eq_true rfl) (fun K O => ?_)
  have O : ZOk K cX8_lay RX8 "lay" 4 (none : Option Jvm.ClassFile.FieldType) 13 324 := O
  refine bs hr (fun _ hck hr => ?_)
  refine z_aload_n O 0 dX8_lay_0 rfl rfl ?_
  refine z_aload_n O 1 dX8_lay_1 rfl rfl ?_
  refine z_putR O rfl o_Orders_land (w_Orders_land _) q440 dX8_lay_2 hr (fun h1 hr => ?_)
  refine z_aload_n O 0 dX8_lay_5 rfl rfl ?_
  refine z_iload_n O 2 dX8_lay_6 rfl rfl ?_
  refine z_putI O o_Orders_now (w_Orders_now _) q441 dX8_lay_7 hr (fun h2 hr => ?_)
  refine z_aload_n O 0 dX8_lay_10 rfl rfl ?_
  refine z_iconst O dX8_lay_11 kic_0 ?_
  refine z_putI O o_Orders_many (w_Orders_many _) q442 dX8_lay_12 hr (fun h3 hr => ?_)
  refine z_iconst O dX8_lay_15 kic_0 ?_
  refine z_istore_n O [(3, vi (0 : Int32)), (0, vr x0), (1, vr x1), (2, vi x2)] dX8_lay_16 rfl (by decide) rfl ?_
  refine z_sub [1, 0] rfl ?_
  exact wX8_lay_17 O N x0 _ (0 : Int32) h3 _ hr
theorem fV_X1_layOrders : CVf RX1 yX1_layOrders cX1_layOrders 1 (none : Option Jvm.ClassFile.FieldType) 0 := ⟨q1571, qs51, q126, q1572, ⟨⟨by decide +kernel, by decide +kernel⟩, by decide +kernel⟩⟩
def F_X1_layOrders (N : Nat) (x0 : Option Nat) (h : AH) : Option (AH) :=
  (ck h [1] x0).bind fun _ =>
  (gR h f_Year_orders x0).bind fun v1 =>
  (gR h f_Year_land x0).bind fun v2 =>
  (gR h f_Year_village x0).bind fun v3 =>
  (gI h f_Village_year v3).bind fun v4 =>
  (F_X8_lay N v1 v2 v4 h).bind fun h5 =>
  some h5
theorem mX1_layOrders (l : Launch) (G : ZG) (N : Nat) (x0 : Option Nat) (h : AH) (r : AH) (hr : F_X1_layOrders N x0 h = some r) : MZ l G yX1_layOrders cX1_layOrders 1 (none : Option Jvm.ClassFile.FieldType) 14 347 [vr x0] h (eH r) := by
  unfold F_X1_layOrders at hr
  refine MZ.of (by decide) [(0, vr x0)] rfl (Nat.le_of_ble_eq_true rfl) (fun K O => ?_)
  have O : ZOk K cX1_layOrders RX1 "layOrders" 1 (none : Option Jvm.ClassFile.FieldType) 14 347 := O
  refine bs hr (fun _ hck hr => ?_)
  refine z_aload_n O 0 dX1_layOrders_0 rfl rfl ?_
  refine z_getR O o_Year_orders q473 dX1_layOrders_1 hr (fun v1 hr => ?_)
  refine z_aload_n O 0 dX1_layOrders_4 rfl rfl ?_
  refine z_getR O o_Year_land q463 dX1_layOrders_5 hr (fun v2 hr => ?_)
  refine z_aload_n O 0 dX1_layOrders_8 rfl rfl ?_
  refine z_getR O o_Year_village q469 dX1_layOrders_9 hr (fun v3 hr => ?_)
  refine z_getI O o_Village_year q349 dX1_layOrders_12 hr (fun v4 hr => ?_)
  refine bs hr (fun h5 hF hr => ?_)
  refine z_callVv O [vr v2, vi v4] fV_X8_lay q1573 (fun l G => mX8_lay l G N v1 v2 v4 h _ hF) (zck hF) rfl rfl ⟨Nat.le_of_ble_eq_true rfl, Nat.le_of_ble_eq_true rfl⟩ (Nat.le_of_ble_eq_true rfl) dX1_layOrders_15 ?_
  exact z_vret O dX1_layOrders_18 (by cases hr; rfl)
theorem fV_X8_latest : CVf RX8 yX8_latest cX8_latest 2 (some .int) 1 := ⟨q1628, q1629, q136, q1630, ⟨⟨by decide +kernel, by decide +kernel⟩, by decide +kernel⟩⟩
def F_X8_latest (x0 : Option Nat) (x1 : Int32) (h : AH) : Option (Int32) :=
  (ck h [8] x0).bind fun _ =>
  (gR h f_Orders_latest x0).bind fun v1 =>
  (aI h 0 v1 x1).bind fun v2 =>
  some v2
theorem mX8_latest (l : Launch) (G : ZG) (x0 : Option Nat) (x1 : Int32) (h : AH) (r : Int32) (hr : F_X8_latest x0 x1 h = some r) : MZ l G yX8_latest cX8_latest 2 (some .int) 1 48 [vr x0, vi x1] h (eI h r) := by
  unfold F_X8_latest at hr
  refine MZ.of (by decide) [(0, vr x0), (1, vi x1)] rfl (Nat.le_of_ble_eq_true rfl) (fun K O => ?_)
  have O : ZOk K cX8_latest RX8 "latest" 2 (some .int) 1 48 := O
  refine bs hr (fun _ hck hr => ?_)
  refine z_aload_n O 0 dX8_latest_0 rfl rfl ?_
  refine z_getR O o_Orders_latest q439 dX8_latest_1 hr (fun v1 hr => ?_)
  refine z_iload_n O 1 dX8_latest_4 rfl rfl ?_
  refine z_iaload O dX8_latest_5 hr (fun v2 hr => ?_)
  exact z_iret O dX8_latest_6 (by cases hr; rfl)
theorem fV_X1_latest : CVf RX1 yX1_latest cX1_latest 2 (some .int) 1 := ⟨q1624, q1625, q126, q1626, ⟨⟨by decide +kernel, by decide +kernel⟩, by decide +kernel⟩⟩
def F_X1_latest (N : Nat) (x0 : Option Nat) (x1 : Int32) (h : AH) : Option (Int32 × AH) :=
  (ck h [1] x0).bind fun _ =>
  (F_X1_anew x0 h).bind fun h1 =>
  (F_X1_isWall x0 x1 h1).bind fun v2 =>
  if v2 = 0 then
    b2 (F_X1_no x0 (1 : Int32) h1) fun v7 h6 =>
    some (v7, h6)
  else
    (F_X1_layOrders N x0 h1).bind fun h3 =>
    (gR h3 f_Year_orders x0).bind fun v4 =>
    (F_X8_latest v4 x1 h3).bind fun v5 =>
    some (v5, h3)
theorem mX1_latest (l : Launch) (G : ZG) (N : Nat) (x0 : Option Nat) (x1 : Int32) (h : AH) (r : Int32 × AH) (hr : F_X1_latest N x0 x1 h = some r) : MZ l G yX1_latest cX1_latest 2 (some .int) 15 367 [vr x0, vi x1] h (eIH r) := by
  unfold F_X1_latest at hr
  refine MZ.of (by decide) [(0, vr x0), (1, vi x1)] rfl (Nat.le_of_ble_eq_true rfl) (fun K O => ?_)
  have O : ZOk K cX1_latest RX1 "latest" 2 (some .int) 15 367 := O
  refine bs hr (fun _ hck hr => ?_)
  refine z_aload_n O 0 dX1_latest_0 rfl rfl ?_
  refine bs hr (fun h1 hF hr => ?_)
  refine z_callVv O [] fV_X1_anew q528 (fun l G => mX1_anew l G x0 h _ hF) (zck hF) rfl rfl ⟨Nat.le_of_ble_eq_true rfl, Nat.le_of_ble_eq_true rfl⟩ (Nat.le_of_ble_eq_true rfl) dX1_latest_1 ?_
  refine z_aload_n O 0 dX1_latest_4 rfl rfl ?_
  refine z_iload_n O 1 dX1_latest_5 rfl rfl ?_
  refine bs hr (fun v2 hF hr => ?_)
  refine z_callV O [vi x1] (vi v2) fV_X1_isWall q1607 (fun l G => mX1_isWall l G x0 x1 h1 _ hF) (zck hF) rfl rfl ⟨Nat.le_of_ble_eq_true rfl, Nat.le_of_ble_eq_true rfl⟩ (Nat.le_of_ble_eq_true rfl) dX1_latest_6 ?_
  refine z_if_ne (tgt := 18) O dX1_latest_9 (by decide) hr (fun hr => ?_) (fun hr => ?_)
  · refine z_aload_n O 0 dX1_latest_12 rfl rfl ?_
    refine z_iconst O dX1_latest_13 kic_1 ?_
    refine b2s hr (fun v7 h6 hF hr => ?_)
    refine z_callV O [vi (1 : Int32)] (vi v7) fV_X1_no q535 (fun l G => mX1_no l G x0 (1 : Int32) h1 _ hF) (zck hF) rfl rfl ⟨Nat.le_of_ble_eq_true rfl, Nat.le_of_ble_eq_true rfl⟩ (Nat.le_of_ble_eq_true rfl) dX1_latest_14 ?_
    exact z_iret O dX1_latest_17 (by cases hr; rfl)
  · refine z_aload_n O 0 dX1_latest_18 rfl rfl ?_
    refine bs hr (fun h3 hF hr => ?_)
    refine z_callVv O [] fV_X1_layOrders q1569 (fun l G => mX1_layOrders l G N x0 h1 _ hF) (zck hF) rfl rfl ⟨Nat.le_of_ble_eq_true rfl, Nat.le_of_ble_eq_true rfl⟩ (Nat.le_of_ble_eq_true rfl) dX1_latest_19 ?_
    refine z_aload_n O 0 dX1_latest_22 rfl rfl ?_
    refine z_getR O o_Year_orders q473 dX1_latest_23 hr (fun v4 hr => ?_)
    refine z_iload_n O 1 dX1_latest_26 rfl rfl ?_
    refine bs hr (fun v5 hF hr => ?_)
    refine z_callV O [vi x1] (vi v5) fV_X8_latest q1627 (fun l G => mX8_latest l G v4 x1 h3 _ hF) (zck hF) rfl rfl ⟨Nat.le_of_ble_eq_true rfl, Nat.le_of_ble_eq_true rfl⟩ (Nat.le_of_ble_eq_true rfl) dX1_latest_27 ?_
    exact z_iret O dX1_latest_30 (by cases hr; rfl)
theorem fV_X1_light : CVf RX1 yX1_light cX1_light 3 (some .int) 2 := ⟨q1296, q1297, q126, q1298, ⟨⟨by decide +kernel, by decide +kernel⟩, by decide +kernel⟩⟩
def F_X1_light (x0 : Option Nat) (x1 : Int32) (x2 : Int32) (h : AH) : Option (Int32 × AH) :=
  (ck h [1] x0).bind fun _ =>
  (F_X1_anew x0 h).bind fun h1 =>
  (F_X1_isDepth x0 x1 x2 h1).bind fun v2 =>
  if v2 = 0 then
    b2 (F_X1_no x0 (1 : Int32) h1) fun v4 h3 =>
    some (v4, h3)
  else
    (gR h1 f_Year_village x0).bind fun v5 =>
    (F_X4_house v5 x1 h1).bind fun v6 =>
    (gI h1 f_House_many v6).bind fun v7 =>
    some ((jmax (0 : Int32) ((9 : Int32) - ((3 : Int32) * (v7 - x2)))), h1)
theorem mX1_light (l : Launch) (G : ZG) (x0 : Option Nat) (x1 : Int32) (x2 : Int32) (h : AH) (r : Int32 × AH) (hr : F_X1_light x0 x1 x2 h = some r) : MZ l G yX1_light cX1_light 3 (some .int) 4 113 [vr x0, vi x1, vi x2] h (eIH r) := by
  unfold F_X1_light at hr
  refine MZ.of (by decide) [(0, vr x0), (1, vi x1), (2, vi x2)] rfl (Nat.le_of_ble_eq_true rfl) (fun K O => ?_)
  have O : ZOk K cX1_light RX1 "light" 3 (some .int) 4 113 := O
  refine bs hr (fun _ hck hr => ?_)
  refine z_aload_n O 0 dX1_light_0 rfl rfl ?_
  refine bs hr (fun h1 hF hr => ?_)
  refine z_callVv O [] fV_X1_anew q528 (fun l G => mX1_anew l G x0 h _ hF) (zck hF) rfl rfl ⟨Nat.le_of_ble_eq_true rfl, Nat.le_of_ble_eq_true rfl⟩ (Nat.le_of_ble_eq_true rfl) dX1_light_1 ?_
  refine z_aload_n O 0 dX1_light_4 rfl rfl ?_
  refine z_iload_n O 1 dX1_light_5 rfl rfl ?_
  refine z_iload_n O 2 dX1_light_6 rfl rfl ?_
  refine bs hr (fun v2 hF hr => ?_)
  refine z_callV O [vi x1, vi x2] (vi v2) fV_X1_isDepth q1282 (fun l G => mX1_isDepth l G x0 x1 x2 h1 _ hF) (zck hF) rfl rfl ⟨Nat.le_of_ble_eq_true rfl, Nat.le_of_ble_eq_true rfl⟩ (Nat.le_of_ble_eq_true rfl) dX1_light_7 ?_
  refine z_if_eq (tgt := 38) O dX1_light_10 (by decide) hr (fun hr => ?_) (fun hr => ?_)
  · refine z_aload_n O 0 dX1_light_38 rfl rfl ?_
    refine z_iconst O dX1_light_39 kic_1 ?_
    refine b2s hr (fun v4 h3 hF hr => ?_)
    refine z_callV O [vi (1 : Int32)] (vi v4) fV_X1_no q535 (fun l G => mX1_no l G x0 (1 : Int32) h1 _ hF) (zck hF) rfl rfl ⟨Nat.le_of_ble_eq_true rfl, Nat.le_of_ble_eq_true rfl⟩ (Nat.le_of_ble_eq_true rfl) dX1_light_40 ?_
    exact z_iret O dX1_light_43 (by cases hr; rfl)
  · refine z_iconst O dX1_light_13 kic_0 ?_
    refine z_bipush O dX1_light_14 kbi_9 ?_
    refine z_iconst O dX1_light_16 kic_3 ?_
    refine z_aload_n O 0 dX1_light_17 rfl rfl ?_
    refine z_getR O o_Year_village q469 dX1_light_18 hr (fun v5 hr => ?_)
    refine z_iload_n O 1 dX1_light_21 rfl rfl ?_
    refine bs hr (fun v6 hF hr => ?_)
    refine z_callV O [vi x1] (vr v6) fV_X4_house q1249 (fun l G => mX4_house l G v5 x1 h1 _ hF) (zck hF) rfl rfl ⟨Nat.le_of_ble_eq_true rfl, Nat.le_of_ble_eq_true rfl⟩ (Nat.le_of_ble_eq_true rfl) dX1_light_22 ?_
    refine z_getI O o_House_many q314 dX1_light_25 hr (fun v7 hr => ?_)
    refine z_iload_n O 2 dX1_light_28 rfl rfl ?_
    refine z_isub O dX1_light_29 ?_
    refine z_imul O dX1_light_30 ?_
    refine z_isub O dX1_light_31 ?_
    refine z_mmax O q1299 ⟨Nat.le_of_ble_eq_true rfl, Nat.le_of_ble_eq_true rfl⟩ (Nat.le_of_ble_eq_true rfl) dX1_light_32 ?_
    refine z_goto (tgt := 43) O dX1_light_35 (by decide) ?_
    exact z_iret O dX1_light_43 (by cases hr; rfl)
theorem fV_X1_lock : CVf RX1 yX1_lock cX1_lock 4 (some .boolean) 3 := ⟨q1676, q1677, q126, q1678, ⟨⟨by decide +kernel, by decide +kernel⟩, by decide +kernel⟩⟩
def bX1_lock_52 (N : Nat) (x0 : Option Nat) (x1 : Int32) (x2 : Int32) (x3 : Int32) (s0 : Option Nat) (s1 : Int32) (h : AH) : Option (Int32 × AH) :=
  b2 (F_X1_yes s0 s1 h) fun v2 h1 =>
  if v2 = 0 then
    (zb (0 : Int32)).bind fun v11 => some (v11, h1)
  else
    (F_X1_note N x0 h1).bind fun h3 =>
    (gR h3 f_Year_village x0).bind fun v4 =>
    (F_X4_house v4 x1 h3).bind fun v5 =>
    (F_X5_skin v5 x2 h3).bind fun v6 =>
    (pI h3 f_Skin_lock v6 x3).bind fun h7 =>
    b2 (F_X1_done N x0 h7) fun v9 h8 =>
    (zb v9).bind fun v10 => some (v10, h8)
theorem wX1_lock_52 {K : ZC} (O : ZOk K cX1_lock RX1 "lock" 4 (some .boolean) 5 135) (N : Nat) (x0 : Option Nat) (x1 : Int32) (x2 : Int32) (x3 : Int32) (s0 : Option Nat) (s1 : Int32) (h : AH) (r : Int32 × AH) (hr : bX1_lock_52 N x0 x1 x2 x3 s0 s1 h = some r) : Zw K (eIH r) h 52 [(0, vr x0), (1, vi x1), (2, vi x2), (3, vi x3)] [vi s1, vr s0] := by
  unfold bX1_lock_52 at hr
  refine b2s hr (fun v2 h1 hF hr => ?_)
  refine z_callV O [vi s1] (vi v2) fV_X1_yes q1666 (fun l G => mX1_yes l G s0 s1 h _ hF) (zck hF) rfl rfl ⟨Nat.le_of_ble_eq_true rfl, Nat.le_of_ble_eq_true rfl⟩ (Nat.le_of_ble_eq_true rfl) dX1_lock_52 ?_
  refine z_if_ne (tgt := 60) O dX1_lock_55 (by decide) hr (fun hr => ?_) (fun hr => ?_)
  · refine z_iconst O dX1_lock_58 kic_0 ?_
    refine bs hr (fun v11 e0 hr => ?_)
    obtain ⟨e1, e2, -⟩ := zb_spec e0
    exact z_zret O e2 dX1_lock_59 (by cases hr; cases e1; rfl)
  · refine z_aload_n O 0 dX1_lock_60 rfl rfl ?_
    refine bs hr (fun h3 hF hr => ?_)
    refine z_callVv O [] fV_X1_note q1648 (fun l G => mX1_note l G N x0 h1 _ hF) (zck hF) rfl rfl ⟨Nat.le_of_ble_eq_true rfl, Nat.le_of_ble_eq_true rfl⟩ (Nat.le_of_ble_eq_true rfl) dX1_lock_61 ?_
    refine z_aload_n O 0 dX1_lock_64 rfl rfl ?_
    refine z_getR O o_Year_village q469 dX1_lock_65 hr (fun v4 hr => ?_)
    refine z_iload_n O 1 dX1_lock_68 rfl rfl ?_
    refine bs hr (fun v5 hF hr => ?_)
    refine z_callV O [vi x1] (vr v5) fV_X4_house q1249 (fun l G => mX4_house l G v4 x1 h3 _ hF) (zck hF) rfl rfl ⟨Nat.le_of_ble_eq_true rfl, Nat.le_of_ble_eq_true rfl⟩ (Nat.le_of_ble_eq_true rfl) dX1_lock_69 ?_
    refine z_iload_n O 2 dX1_lock_72 rfl rfl ?_
    refine bs hr (fun v6 hF hr => ?_)
    refine z_callV O [vi x2] (vr v6) fV_X5_skin q1286 (fun l G => mX5_skin l G v5 x2 h3 _ hF) (zck hF) rfl rfl ⟨Nat.le_of_ble_eq_true rfl, Nat.le_of_ble_eq_true rfl⟩ (Nat.le_of_ble_eq_true rfl) dX1_lock_73 ?_
    refine z_iload_n O 3 dX1_lock_76 rfl rfl ?_
    refine z_putI O o_Skin_lock (w_Skin_lock _) q276 dX1_lock_77 hr (fun h7 hr => ?_)
    refine z_aload_n O 0 dX1_lock_80 rfl rfl ?_
    refine b2s hr (fun v9 h8 hF hr => ?_)
    refine z_callV O [] (vi v9) fV_X1_done q1652 (fun l G => mX1_done l G N x0 h7 _ hF) (zck hF) rfl rfl ⟨Nat.le_of_ble_eq_true rfl, Nat.le_of_ble_eq_true rfl⟩ (Nat.le_of_ble_eq_true rfl) dX1_lock_81 ?_
    refine bs hr (fun v10 e0 hr => ?_)
    obtain ⟨e1, e2, -⟩ := zb_spec e0
    exact z_zret O e2 dX1_lock_84 (by cases hr; cases e1; rfl)
def F_X1_lock (N : Nat) (x0 : Option Nat) (x1 : Int32) (x2 : Int32) (x3 : Int32) (h : AH) : Option (Int32 × AH) :=
  (ck h [1] x0).bind fun _ =>
  (F_X1_isSkin x0 x1 x2 h).bind fun v1 =>
  if v1 = 0 then
    bX1_lock_52 N x0 x1 x2 x3 x0 (1 : Int32) h
  else
    (F_X1_within x3 (0 : Int32) (99 : Int32)).bind fun v2 =>
    if v2 = 0 then
      bX1_lock_52 N x0 x1 x2 x3 x0 (2 : Int32) h
    else
      (gR h f_Year_village x0).bind fun v3 =>
      (F_X4_house v3 x1 h).bind fun v4 =>
      (F_X5_skin v4 x2 h).bind fun v5 =>
      (gI h f_Skin_lock v5).bind fun v6 =>
      if v6 = x3 then
        bX1_lock_52 N x0 x1 x2 x3 x0 (5 : Int32) h
      else
        bX1_lock_52 N x0 x1 x2 x3 x0 (0 : Int32) h
theorem mX1_lock (l : Launch) (G : ZG) (N : Nat) (x0 : Option Nat) (x1 : Int32) (x2 : Int32) (x3 : Int32) (h : AH) (r : Int32 × AH) (hr : F_X1_lock N x0 x1 x2 x3 h = some r) : MZ l G yX1_lock cX1_lock 4 (some .boolean) 5 135 [vr x0, vi x1, vi x2, vi x3] h (eIH r) := by
  unfold F_X1_lock at hr
  refine MZ.of (by decide) [(0, vr x0), (1, vi x1), (2, vi x2), (3, vi x3)] rfl (Nat.le_of_ble_eq_true rfl) (fun K O => ?_)
  have O : ZOk K cX1_lock RX1 "lock" 4 (some .boolean) 5 135 := O
  refine bs hr (fun _ hck hr => ?_)
  refine z_aload_n O 0 dX1_lock_0 rfl rfl ?_
  refine z_aload_n O 0 dX1_lock_1 rfl rfl ?_
  refine z_iload_n O 1 dX1_lock_2 rfl rfl ?_
  refine z_iload_n O 2 dX1_lock_3 rfl rfl ?_
  refine bs hr (fun v1 hF hr => ?_)
  refine z_callV O [vi x1, vi x2] (vi v1) fV_X1_isSkin q1278 (fun l G => mX1_isSkin l G x0 x1 x2 h _ hF) (zck hF) rfl rfl ⟨Nat.le_of_ble_eq_true rfl, Nat.le_of_ble_eq_true rfl⟩ (Nat.le_of_ble_eq_true rfl) dX1_lock_4 ?_
  refine z_if_ne (tgt := 14) O dX1_lock_7 (by decide) hr (fun hr => ?_) (fun hr => ?_)
  · refine z_iconst O dX1_lock_10 kic_1 ?_
    refine z_goto (tgt := 52) O dX1_lock_11 (by decide) ?_
    exact wX1_lock_52 O N x0 x1 x2 x3 x0 (1 : Int32) h _ hr
  · refine z_iload_n O 3 dX1_lock_14 rfl rfl ?_
    refine z_iconst O dX1_lock_15 kic_0 ?_
    refine z_bipush O dX1_lock_16 kbi_99 ?_
    refine bs hr (fun v2 hF hr => ?_)
    refine z_callS O [vi x3, vi (0 : Int32), vi (99 : Int32)] (vi v2) fS_X1_within q532 (fun l G => mX1_within l G x3 (0 : Int32) (99 : Int32) h _ hF) rfl ⟨Nat.le_of_ble_eq_true rfl, Nat.le_of_ble_eq_true rfl⟩ (Nat.le_of_ble_eq_true rfl) dX1_lock_18 ?_
    refine z_if_ne (tgt := 28) O dX1_lock_21 (by decide) hr (fun hr => ?_) (fun hr => ?_)
    · refine z_iconst O dX1_lock_24 kic_2 ?_
      refine z_goto (tgt := 52) O dX1_lock_25 (by decide) ?_
      exact wX1_lock_52 O N x0 x1 x2 x3 x0 (2 : Int32) h _ hr
    · refine z_aload_n O 0 dX1_lock_28 rfl rfl ?_
      refine z_getR O o_Year_village q469 dX1_lock_29 hr (fun v3 hr => ?_)
      refine z_iload_n O 1 dX1_lock_32 rfl rfl ?_
      refine bs hr (fun v4 hF hr => ?_)
      refine z_callV O [vi x1] (vr v4) fV_X4_house q1249 (fun l G => mX4_house l G v3 x1 h _ hF) (zck hF) rfl rfl ⟨Nat.le_of_ble_eq_true rfl, Nat.le_of_ble_eq_true rfl⟩ (Nat.le_of_ble_eq_true rfl) dX1_lock_33 ?_
      refine z_iload_n O 2 dX1_lock_36 rfl rfl ?_
      refine bs hr (fun v5 hF hr => ?_)
      refine z_callV O [vi x2] (vr v5) fV_X5_skin q1286 (fun l G => mX5_skin l G v4 x2 h _ hF) (zck hF) rfl rfl ⟨Nat.le_of_ble_eq_true rfl, Nat.le_of_ble_eq_true rfl⟩ (Nat.le_of_ble_eq_true rfl) dX1_lock_37 ?_
      refine z_getI O o_Skin_lock q276 dX1_lock_40 hr (fun v6 hr => ?_)
      refine z_iload_n O 3 dX1_lock_43 rfl rfl ?_
      refine z_icmp_ne (tgt := 51) O dX1_lock_44 (by decide) hr (fun hr => ?_) (fun hr => ?_)
      · refine z_iconst O dX1_lock_47 kic_5 ?_
        refine z_goto (tgt := 52) O dX1_lock_48 (by decide) ?_
        exact wX1_lock_52 O N x0 x1 x2 x3 x0 (5 : Int32) h _ hr
      · refine z_iconst O dX1_lock_51 kic_0 ?_
        exact wX1_lock_52 O N x0 x1 x2 x3 x0 (0 : Int32) h _ hr
theorem fV_X1_mark : CVf RX1 yX1_mark cX1_mark 1 (some .int) 0 := ⟨q1696, q1697, q126, q1698, ⟨⟨by decide +kernel, by decide +kernel⟩, by decide +kernel⟩⟩
def F_X1_mark (N : Nat) (x0 : Option Nat) (h : AH) : Option (Int32 × AH) :=
  (ck h [1] x0).bind fun _ =>
  (F_X1_anew x0 h).bind fun h1 =>
  (gR h1 f_Year_land x0).bind fun v2 =>
  if v2 = none then
    b2 (F_X1_no x0 (1 : Int32) h1) fun v15 h14 =>
    some (v15, h14)
  else
    (gI h1 f_Year_markMany x0).bind fun v3 =>
    if v3 = (3 : Int32) then
      b2 (F_X1_no x0 (3 : Int32) h1) fun v13 h12 =>
      some (v13, h12)
    else
      (gR h1 f_Year_marks x0).bind fun v4 =>
      (gI h1 f_Year_markMany x0).bind fun v5 =>
      (aR h1 v4 v5).bind fun v6 =>
      (gR h1 f_Year_village x0).bind fun v7 =>
      (F_X4_become N v6 v7 h1).bind fun h8 =>
      (gI h8 f_Year_markMany x0).bind fun v9 =>
      (pI h8 f_Year_markMany x0 (v9 + (1 : Int32))).bind fun h10 =>
      (gI h10 f_Year_markMany x0).bind fun v11 =>
      some ((v11 - (1 : Int32)), h10)
theorem mX1_mark (l : Launch) (G : ZG) (N : Nat) (x0 : Option Nat) (h : AH) (r : Int32 × AH) (hr : F_X1_mark N x0 h = some r) : MZ l G yX1_mark cX1_mark 1 (some .int) 4 113 [vr x0] h (eIH r) := by
  unfold F_X1_mark at hr
  refine MZ.of (by decide) [(0, vr x0)] rfl (Nat.le_of_ble_eq_true rfl) (fun K O => ?_)
  have O : ZOk K cX1_mark RX1 "mark" 1 (some .int) 4 113 := O
  refine bs hr (fun _ hck hr => ?_)
  refine z_aload_n O 0 dX1_mark_0 rfl rfl ?_
  refine bs hr (fun h1 hF hr => ?_)
  refine z_callVv O [] fV_X1_anew q528 (fun l G => mX1_anew l G x0 h _ hF) (zck hF) rfl rfl ⟨Nat.le_of_ble_eq_true rfl, Nat.le_of_ble_eq_true rfl⟩ (Nat.le_of_ble_eq_true rfl) dX1_mark_1 ?_
  refine z_aload_n O 0 dX1_mark_4 rfl rfl ?_
  refine z_getR O o_Year_land q463 dX1_mark_5 hr (fun v2 hr => ?_)
  refine z_ifnonnull (tgt := 17) O dX1_mark_8 (by decide) hr (fun hr => ?_) (fun hr => ?_)
  · refine z_aload_n O 0 dX1_mark_11 rfl rfl ?_
    refine z_iconst O dX1_mark_12 kic_1 ?_
    refine b2s hr (fun v15 h14 hF hr => ?_)
    refine z_callV O [vi (1 : Int32)] (vi v15) fV_X1_no q535 (fun l G => mX1_no l G x0 (1 : Int32) h1 _ hF) (zck hF) rfl rfl ⟨Nat.le_of_ble_eq_true rfl, Nat.le_of_ble_eq_true rfl⟩ (Nat.le_of_ble_eq_true rfl) dX1_mark_13 ?_
    exact z_iret O dX1_mark_16 (by cases hr; rfl)
  · refine z_aload_n O 0 dX1_mark_17 rfl rfl ?_
    refine z_getI O o_Year_markMany q467 dX1_mark_18 hr (fun v3 hr => ?_)
    refine z_iconst O dX1_mark_21 kic_3 ?_
    refine z_icmp_ne (tgt := 31) O dX1_mark_22 (by decide) hr (fun hr => ?_) (fun hr => ?_)
    · refine z_aload_n O 0 dX1_mark_25 rfl rfl ?_
      refine z_iconst O dX1_mark_26 kic_3 ?_
      refine b2s hr (fun v13 h12 hF hr => ?_)
      refine z_callV O [vi (3 : Int32)] (vi v13) fV_X1_no q535 (fun l G => mX1_no l G x0 (3 : Int32) h1 _ hF) (zck hF) rfl rfl ⟨Nat.le_of_ble_eq_true rfl, Nat.le_of_ble_eq_true rfl⟩ (Nat.le_of_ble_eq_true rfl) dX1_mark_27 ?_
      exact z_iret O dX1_mark_30 (by cases hr; rfl)
    · refine z_aload_n O 0 dX1_mark_31 rfl rfl ?_
      refine z_getR O o_Year_marks q475 dX1_mark_32 hr (fun v4 hr => ?_)
      refine z_aload_n O 0 dX1_mark_35 rfl rfl ?_
      refine z_getI O o_Year_markMany q467 dX1_mark_36 hr (fun v5 hr => ?_)
      refine z_aaload O dX1_mark_39 hr (fun v6 hr => ?_)
      refine z_aload_n O 0 dX1_mark_40 rfl rfl ?_
      refine z_getR O o_Year_village q469 dX1_mark_41 hr (fun v7 hr => ?_)
      refine bs hr (fun h8 hF hr => ?_)
      refine z_callVv O [vr v7] fV_X4_become q1199 (fun l G => mX4_become l G N v6 v7 h1 _ hF) (zck hF) rfl rfl ⟨Nat.le_of_ble_eq_true rfl, Nat.le_of_ble_eq_true rfl⟩ (Nat.le_of_ble_eq_true rfl) dX1_mark_44 ?_
      refine z_aload_n O 0 dX1_mark_47 rfl rfl ?_
      refine z_dup O dX1_mark_48 rfl ?_
      refine z_getI O o_Year_markMany q467 dX1_mark_49 hr (fun v9 hr => ?_)
      refine z_iconst O dX1_mark_52 kic_1 ?_
      refine z_iadd O dX1_mark_53 ?_
      refine z_putI O o_Year_markMany (w_Year_markMany _) q467 dX1_mark_54 hr (fun h10 hr => ?_)
      refine z_aload_n O 0 dX1_mark_57 rfl rfl ?_
      refine z_getI O o_Year_markMany q467 dX1_mark_58 hr (fun v11 hr => ?_)
      refine z_iconst O dX1_mark_61 kic_1 ?_
      refine z_isub O dX1_mark_62 ?_
      exact z_iret O dX1_mark_63 (by cases hr; rfl)
theorem fV_X4_doMeet : CVf RX4 yX4_doMeet cX4_doMeet 6 (some .boolean) 2 := ⟨q1506, q1507, q132, q1508, ⟨⟨by decide +kernel, by decide +kernel⟩, by decide +kernel⟩⟩
def BX4_doMeet_20 (N : Nat) (rec5 : Int32 → Int32 → Option (Int32)) (x0 : Option Nat) (x1 : Int32) (x2 : Int32) (x4 : Int32) (h : AH) (rec20 : Int32 → Int32 → Option (Int32)) : Int32 → Int32 → Option (Int32) := fun x3 x5 =>
  (gR h f_Village_land x0).bind fun v1 =>
  (gI h f_Land_wide v1).bind fun v2 =>
  if v2 ≤ x5 then
    jlet (x4 + (1 : Int32)) fun v3 =>
    rec5 x3 v3
  else
    (gR h f_Village_houses x0).bind fun v4 =>
    (aR h v4 x1).bind fun v5 =>
    (F_X5_has v5 x5 x4 h).bind fun v6 =>
    if v6 = 0 then
      jlet (x5 + (1 : Int32)) fun v7 =>
      rec20 x3 v7
    else
      if x3 = 0 then
        (gR h f_Village_houses x0).bind fun v9 =>
        (aR h v9 x2).bind fun v10 =>
        (F_X5_has v10 x5 x4 h).bind fun v11 =>
        if v11 = 0 then
          (gR h f_Village_houses x0).bind fun v13 =>
          (aR h v13 x2).bind fun v14 =>
          (F_X5_has v14 (x5 - (1 : Int32)) x4 h).bind fun v15 =>
          if v15 = 0 then
            (gR h f_Village_houses x0).bind fun v17 =>
            (aR h v17 x2).bind fun v18 =>
            (F_X5_has v18 (x5 + (1 : Int32)) x4 h).bind fun v19 =>
            if v19 = 0 then
              (gR h f_Village_houses x0).bind fun v21 =>
              (aR h v21 x2).bind fun v22 =>
              (F_X5_has v22 x5 (x4 - (1 : Int32)) h).bind fun v23 =>
              if v23 = 0 then
                (gR h f_Village_houses x0).bind fun v25 =>
                (aR h v25 x2).bind fun v26 =>
                (F_X5_has v26 x5 (x4 + (1 : Int32)) h).bind fun v27 =>
                if v27 = 0 then
                  jlet (x5 + (1 : Int32)) fun v28 =>
                  rec20 (0 : Int32) v28
                else
                  jlet (x5 + (1 : Int32)) fun v29 =>
                  rec20 (1 : Int32) v29
              else
                jlet (x5 + (1 : Int32)) fun v24 =>
                rec20 (1 : Int32) v24
            else
              jlet (x5 + (1 : Int32)) fun v20 =>
              rec20 (1 : Int32) v20
          else
            jlet (x5 + (1 : Int32)) fun v16 =>
            rec20 (1 : Int32) v16
        else
          jlet (x5 + (1 : Int32)) fun v12 =>
          rec20 (1 : Int32) v12
      else
        jlet (x5 + (1 : Int32)) fun v8 =>
        rec20 (1 : Int32) v8
def LX4_doMeet_20 (N : Nat) (rec5 : Int32 → Int32 → Option (Int32)) (x0 : Option Nat) (x1 : Int32) (x2 : Int32) (x4 : Int32) (h : AH) : Int32 → Int32 → Option (Int32) := lf (fun _ _ => none) (BX4_doMeet_20 N rec5 x0 x1 x2 x4 h) N
theorem wX4_doMeet_20B {K : ZC} (O : ZOk K cX4_doMeet RX4 "doMeet" 6 (some .boolean) 3 92) (N : Nat) (rec5 : Int32 → Int32 → Option (Int32)) (x0 : Option Nat) (x1 : Int32) (x2 : Int32) (x4 : Int32) (h : AH) (rec20 : Int32 → Int32 → Option (Int32)) (hrec5 : ∀ (y3 : Int32) (y4 : Int32) (ry : Int32), rec5 y3 y4 = some ry → Zw K (eI h ry) h 5 [(0, vr x0), (1, vi x1), (2, vi x2), (3, vi y3), (4, vi y4)] []) (hrec20 : ∀ (y3 : Int32) (y5 : Int32) (ry : Int32), rec20 y3 y5 = some ry → Zw K (eI h ry) h 20 [(0, vr x0), (1, vi x1), (2, vi x2), (3, vi y3), (4, vi x4), (5, vi y5)] []) (x3 : Int32) (x5 : Int32) (r : Int32) (hr : BX4_doMeet_20 N rec5 x0 x1 x2 x4 h rec20 x3 x5 = some r) : Zw K (eI h r) h 20 [(0, vr x0), (1, vi x1), (2, vi x2), (3, vi x3), (4, vi x4), (5, vi x5)] [] := by
  unfold BX4_doMeet_20 at hr
  refine z_iload O 5 dX4_doMeet_20 rfl ?_
  refine z_aload_n O 0 dX4_doMeet_22 rfl rfl ?_
  refine z_getR O o_Village_land q344 dX4_doMeet_23 hr (fun v1 hr => ?_)
  refine z_getI O o_Land_wide q582 dX4_doMeet_26 hr (fun v2 hr => ?_)
  refine z_icmp_ge (tgt := 152) O dX4_doMeet_29 (by decide) hr (fun hr => ?_) (fun hr => ?_)
  · refine z_iincL O 4 (fun v3 => [(4, vi v3), (0, vr x0), (1, vi x1), (2, vi x2), (3, vi x3), (5, vi x5)]) dX4_doMeet_152 rfl rfl (by decide) (fun _ => rfl) hr (fun v3 hr => ?_)
    refine z_goto (tgt := 5) O dX4_doMeet_155 (by decide) ?_
    refine z_sub [1, 2, 3, 4, 0] rfl ?_
    exact hrec5 x3 v3 _ hr
  · refine z_aload_n O 0 dX4_doMeet_32 rfl rfl ?_
    refine z_getR O o_Village_houses q337 dX4_doMeet_33 hr (fun v4 hr => ?_)
    refine z_iload_n O 1 dX4_doMeet_36 rfl rfl ?_
    refine z_aaload O dX4_doMeet_37 hr (fun v5 hr => ?_)
    refine z_iload O 5 dX4_doMeet_38 rfl ?_
    refine z_iload O 4 dX4_doMeet_40 rfl ?_
    refine bs hr (fun v6 hF hr => ?_)
    refine z_callV O [vi x5, vi x4] (vi v6) fV_X5_has q1044 (fun l G => mX5_has l G v5 x5 x4 h _ hF) (zck hF) rfl rfl ⟨Nat.le_of_ble_eq_true rfl, Nat.le_of_ble_eq_true rfl⟩ (Nat.le_of_ble_eq_true rfl) dX4_doMeet_42 ?_
    refine z_if_eq (tgt := 146) O dX4_doMeet_45 (by decide) hr (fun hr => ?_) (fun hr => ?_)
    · refine z_iincL O 5 (fun v7 => [(5, vi v7), (0, vr x0), (1, vi x1), (2, vi x2), (3, vi x3), (4, vi x4)]) dX4_doMeet_146 rfl rfl (by decide) (fun _ => rfl) hr (fun v7 hr => ?_)
      refine z_goto (tgt := 20) O dX4_doMeet_149 (by decide) ?_
      refine z_sub [1, 2, 3, 4, 5, 0] rfl ?_
      exact hrec20 x3 v7 _ hr
    · refine z_iload_n O 3 dX4_doMeet_48 rfl rfl ?_
      refine z_if_ne (tgt := 140) O dX4_doMeet_49 (by decide) hr (fun hr => ?_) (fun hr => ?_)
      · refine z_aload_n O 0 dX4_doMeet_52 rfl rfl ?_
        refine z_getR O o_Village_houses q337 dX4_doMeet_53 hr (fun v9 hr => ?_)
        refine z_iload_n O 2 dX4_doMeet_56 rfl rfl ?_
        refine z_aaload O dX4_doMeet_57 hr (fun v10 hr => ?_)
        refine z_iload O 5 dX4_doMeet_58 rfl ?_
        refine z_iload O 4 dX4_doMeet_60 rfl ?_
        refine bs hr (fun v11 hF hr => ?_)
        refine z_callV O [vi x5, vi x4] (vi v11) fV_X5_has q1044 (fun l G => mX5_has l G v10 x5 x4 h _ hF) (zck hF) rfl rfl ⟨Nat.le_of_ble_eq_true rfl, Nat.le_of_ble_eq_true rfl⟩ (Nat.le_of_ble_eq_true rfl) dX4_doMeet_62 ?_
        refine z_if_ne (tgt := 140) O dX4_doMeet_65 (by decide) hr (fun hr => ?_) (fun hr => ?_)
        · refine z_aload_n O 0 dX4_doMeet_68 rfl rfl ?_
          refine z_getR O o_Village_houses q337 dX4_doMeet_69 hr (fun v13 hr => ?_)
          refine z_iload_n O 2 dX4_doMeet_72 rfl rfl ?_
          refine z_aaload O dX4_doMeet_73 hr (fun v14 hr => ?_)
          refine z_iload O 5 dX4_doMeet_74 rfl ?_
          refine z_iconst O dX4_doMeet_76 kic_1 ?_
          refine z_isub O dX4_doMeet_77 ?_
          refine z_iload O 4 dX4_doMeet_78 rfl ?_
          refine bs hr (fun v15 hF hr => ?_)
          refine z_callV O [vi (x5 - (1 : Int32)), vi x4] (vi v15) fV_X5_has q1044 (fun l G => mX5_has l G v14 (x5 - (1 : Int32)) x4 h _ hF) (zck hF) rfl rfl ⟨Nat.le_of_ble_eq_true rfl, Nat.le_of_ble_eq_true rfl⟩ (Nat.le_of_ble_eq_true rfl) dX4_doMeet_80 ?_
          refine z_if_ne (tgt := 140) O dX4_doMeet_83 (by decide) hr (fun hr => ?_) (fun hr => ?_)
          · refine z_aload_n O 0 dX4_doMeet_86 rfl rfl ?_
            refine z_getR O o_Village_houses q337 dX4_doMeet_87 hr (fun v17 hr => ?_)
            refine z_iload_n O 2 dX4_doMeet_90 rfl rfl ?_
            refine z_aaload O dX4_doMeet_91 hr (fun v18 hr => ?_)
            refine z_iload O 5 dX4_doMeet_92 rfl ?_
            refine z_iconst O dX4_doMeet_94 kic_1 ?_
            refine z_iadd O dX4_doMeet_95 ?_
            refine z_iload O 4 dX4_doMeet_96 rfl ?_
            refine bs hr (fun v19 hF hr => ?_)
            refine z_callV O [vi (x5 + (1 : Int32)), vi x4] (vi v19) fV_X5_has q1044 (fun l G => mX5_has l G v18 (x5 + (1 : Int32)) x4 h _ hF) (zck hF) rfl rfl ⟨Nat.le_of_ble_eq_true rfl, Nat.le_of_ble_eq_true rfl⟩ (Nat.le_of_ble_eq_true rfl) dX4_doMeet_98 ?_
            refine z_if_ne (tgt := 140) O dX4_doMeet_101 (by decide) hr (fun hr => ?_) (fun hr => ?_)
            · refine z_aload_n O 0 dX4_doMeet_104 rfl rfl ?_
              refine z_getR O o_Village_houses q337 dX4_doMeet_105 hr (fun v21 hr => ?_)
              refine z_iload_n O 2 dX4_doMeet_108 rfl rfl ?_
              refine z_aaload O dX4_doMeet_109 hr (fun v22 hr => ?_)
              refine z_iload O 5 dX4_doMeet_110 rfl ?_
              refine z_iload O 4 dX4_doMeet_112 rfl ?_
              refine z_iconst O dX4_doMeet_114 kic_1 ?_
              refine z_isub O dX4_doMeet_115 ?_
              refine bs hr (fun v23 hF hr => ?_)
              refine z_callV O [vi x5, vi (x4 - (1 : Int32))] (vi v23) fV_X5_has q1044 (fun l G => mX5_has l G v22 x5 (x4 - (1 : Int32)) h _ hF) (zck hF) rfl rfl ⟨Nat.le_of_ble_eq_true rfl, Nat.le_of_ble_eq_true rfl⟩ (Nat.le_of_ble_eq_true rfl) dX4_doMeet_116 ?_
              refine z_if_ne (tgt := 140) O dX4_doMeet_119 (by decide) hr (fun hr => ?_) (fun hr => ?_)
              · refine z_aload_n O 0 dX4_doMeet_122 rfl rfl ?_
                refine z_getR O o_Village_houses q337 dX4_doMeet_123 hr (fun v25 hr => ?_)
                refine z_iload_n O 2 dX4_doMeet_126 rfl rfl ?_
                refine z_aaload O dX4_doMeet_127 hr (fun v26 hr => ?_)
                refine z_iload O 5 dX4_doMeet_128 rfl ?_
                refine z_iload O 4 dX4_doMeet_130 rfl ?_
                refine z_iconst O dX4_doMeet_132 kic_1 ?_
                refine z_iadd O dX4_doMeet_133 ?_
                refine bs hr (fun v27 hF hr => ?_)
                refine z_callV O [vi x5, vi (x4 + (1 : Int32))] (vi v27) fV_X5_has q1044 (fun l G => mX5_has l G v26 x5 (x4 + (1 : Int32)) h _ hF) (zck hF) rfl rfl ⟨Nat.le_of_ble_eq_true rfl, Nat.le_of_ble_eq_true rfl⟩ (Nat.le_of_ble_eq_true rfl) dX4_doMeet_134 ?_
                refine z_if_eq (tgt := 144) O dX4_doMeet_137 (by decide) hr (fun hr => ?_) (fun hr => ?_)
                · refine z_iconst O dX4_doMeet_144 kic_0 ?_
                  refine z_istore_n O [(3, vi (0 : Int32)), (0, vr x0), (1, vi x1), (2, vi x2), (4, vi x4), (5, vi x5)] dX4_doMeet_145 rfl (by decide) rfl ?_
                  refine z_iincL O 5 (fun v28 => [(5, vi v28), (3, vi (0 : Int32)), (0, vr x0), (1, vi x1), (2, vi x2), (4, vi x4)]) dX4_doMeet_146 rfl rfl (by decide) (fun _ => rfl) hr (fun v28 hr => ?_)
                  refine z_goto (tgt := 20) O dX4_doMeet_149 (by decide) ?_
                  refine z_sub [2, 3, 4, 1, 5, 0] rfl ?_
                  exact hrec20 (0 : Int32) v28 _ hr
                · refine z_iconst O dX4_doMeet_140 kic_1 ?_
                  refine z_goto (tgt := 145) O dX4_doMeet_141 (by decide) ?_
                  refine z_istore_n O [(3, vi (1 : Int32)), (0, vr x0), (1, vi x1), (2, vi x2), (4, vi x4), (5, vi x5)] dX4_doMeet_145 rfl (by decide) rfl ?_
                  refine z_iincL O 5 (fun v29 => [(5, vi v29), (3, vi (1 : Int32)), (0, vr x0), (1, vi x1), (2, vi x2), (4, vi x4)]) dX4_doMeet_146 rfl rfl (by decide) (fun _ => rfl) hr (fun v29 hr => ?_)
                  refine z_goto (tgt := 20) O dX4_doMeet_149 (by decide) ?_
                  refine z_sub [2, 3, 4, 1, 5, 0] rfl ?_
                  exact hrec20 (1 : Int32) v29 _ hr
              · refine z_iconst O dX4_doMeet_140 kic_1 ?_
                refine z_goto (tgt := 145) O dX4_doMeet_141 (by decide) ?_
                refine z_istore_n O [(3, vi (1 : Int32)), (0, vr x0), (1, vi x1), (2, vi x2), (4, vi x4), (5, vi x5)] dX4_doMeet_145 rfl (by decide) rfl ?_
                refine z_iincL O 5 (fun v24 => [(5, vi v24), (3, vi (1 : Int32)), (0, vr x0), (1, vi x1), (2, vi x2), (4, vi x4)]) dX4_doMeet_146 rfl rfl (by decide) (fun _ => rfl) hr (fun v24 hr => ?_)
                refine z_goto (tgt := 20) O dX4_doMeet_149 (by decide) ?_
                refine z_sub [2, 3, 4, 1, 5, 0] rfl ?_
                exact hrec20 (1 : Int32) v24 _ hr
            · refine z_iconst O dX4_doMeet_140 kic_1 ?_
              refine z_goto (tgt := 145) O dX4_doMeet_141 (by decide) ?_
              refine z_istore_n O [(3, vi (1 : Int32)), (0, vr x0), (1, vi x1), (2, vi x2), (4, vi x4), (5, vi x5)] dX4_doMeet_145 rfl (by decide) rfl ?_
              refine z_iincL O 5 (fun v20 => [(5, vi v20), (3, vi (1 : Int32)), (0, vr x0), (1, vi x1), (2, vi x2), (4, vi x4)]) dX4_doMeet_146 rfl rfl (by decide) (fun _ => rfl) hr (fun v20 hr => ?_)
              refine z_goto (tgt := 20) O dX4_doMeet_149 (by decide) ?_
              refine z_sub [2, 3, 4, 1, 5, 0] rfl ?_
              exact hrec20 (1 : Int32) v20 _ hr
          · refine z_iconst O dX4_doMeet_140 kic_1 ?_
            refine z_goto (tgt := 145) O dX4_doMeet_141 (by decide) ?_
            refine z_istore_n O [(3, vi (1 : Int32)), (0, vr x0), (1, vi x1), (2, vi x2), (4, vi x4), (5, vi x5)] dX4_doMeet_145 rfl (by decide) rfl ?_
            refine z_iincL O 5 (fun v16 => [(5, vi v16), (3, vi (1 : Int32)), (0, vr x0), (1, vi x1), (2, vi x2), (4, vi x4)]) dX4_doMeet_146 rfl rfl (by decide) (fun _ => rfl) hr (fun v16 hr => ?_)
            refine z_goto (tgt := 20) O dX4_doMeet_149 (by decide) ?_
            refine z_sub [2, 3, 4, 1, 5, 0] rfl ?_
            exact hrec20 (1 : Int32) v16 _ hr
        · refine z_iconst O dX4_doMeet_140 kic_1 ?_
          refine z_goto (tgt := 145) O dX4_doMeet_141 (by decide) ?_
          refine z_istore_n O [(3, vi (1 : Int32)), (0, vr x0), (1, vi x1), (2, vi x2), (4, vi x4), (5, vi x5)] dX4_doMeet_145 rfl (by decide) rfl ?_
          refine z_iincL O 5 (fun v12 => [(5, vi v12), (3, vi (1 : Int32)), (0, vr x0), (1, vi x1), (2, vi x2), (4, vi x4)]) dX4_doMeet_146 rfl rfl (by decide) (fun _ => rfl) hr (fun v12 hr => ?_)
          refine z_goto (tgt := 20) O dX4_doMeet_149 (by decide) ?_
          refine z_sub [2, 3, 4, 1, 5, 0] rfl ?_
          exact hrec20 (1 : Int32) v12 _ hr
      · refine z_iconst O dX4_doMeet_140 kic_1 ?_
        refine z_goto (tgt := 145) O dX4_doMeet_141 (by decide) ?_
        refine z_istore_n O [(3, vi (1 : Int32)), (0, vr x0), (1, vi x1), (2, vi x2), (4, vi x4), (5, vi x5)] dX4_doMeet_145 rfl (by decide) rfl ?_
        refine z_iincL O 5 (fun v8 => [(5, vi v8), (3, vi (1 : Int32)), (0, vr x0), (1, vi x1), (2, vi x2), (4, vi x4)]) dX4_doMeet_146 rfl rfl (by decide) (fun _ => rfl) hr (fun v8 hr => ?_)
        refine z_goto (tgt := 20) O dX4_doMeet_149 (by decide) ?_
        refine z_sub [2, 3, 4, 1, 5, 0] rfl ?_
        exact hrec20 (1 : Int32) v8 _ hr
theorem wX4_doMeet_20 {K : ZC} (O : ZOk K cX4_doMeet RX4 "doMeet" 6 (some .boolean) 3 92) (N : Nat) (rec5 : Int32 → Int32 → Option (Int32)) (x0 : Option Nat) (x1 : Int32) (x2 : Int32) (x4 : Int32) (h : AH) (hrec5 : ∀ (y3 : Int32) (y4 : Int32) (ry : Int32), rec5 y3 y4 = some ry → Zw K (eI h ry) h 5 [(0, vr x0), (1, vi x1), (2, vi x2), (3, vi y3), (4, vi y4)] []) : ∀ (n : Nat) (x3 : Int32) (x5 : Int32) (r : Int32), lf (fun _ _ => none) (BX4_doMeet_20 N rec5 x0 x1 x2 x4 h) n x3 x5 = some r → Zw K (eI h r) h 20 [(0, vr x0), (1, vi x1), (2, vi x2), (3, vi x3), (4, vi x4), (5, vi x5)] [] := by
  intro n
  induction n with
  | zero => intro x3 x5 r hr; cases hr
  | succ n ih => intro x3 x5 r hr; exact wX4_doMeet_20B O N rec5 x0 x1 x2 x4 h (lf (fun _ _ => none) (BX4_doMeet_20 N rec5 x0 x1 x2 x4 h) n) hrec5 ih x3 x5 r hr
def BX4_doMeet_5 (N : Nat) (x0 : Option Nat) (x1 : Int32) (x2 : Int32) (h : AH) (rec5 : Int32 → Int32 → Option (Int32)) : Int32 → Int32 → Option (Int32) := fun x3 x4 =>
  (gR h f_Village_land x0).bind fun v1 =>
  (gI h f_Land_high v1).bind fun v2 =>
  if v2 ≤ x4 then
    zb x3
  else
    LX4_doMeet_20 N rec5 x0 x1 x2 x4 h x3 (0 : Int32)
def LX4_doMeet_5 (N : Nat) (x0 : Option Nat) (x1 : Int32) (x2 : Int32) (h : AH) : Int32 → Int32 → Option (Int32) := lf (fun _ _ => none) (BX4_doMeet_5 N x0 x1 x2 h) N
theorem wX4_doMeet_5B {K : ZC} (O : ZOk K cX4_doMeet RX4 "doMeet" 6 (some .boolean) 3 92) (N : Nat) (x0 : Option Nat) (x1 : Int32) (x2 : Int32) (h : AH) (rec5 : Int32 → Int32 → Option (Int32)) (hrec5 : ∀ (y3 : Int32) (y4 : Int32) (ry : Int32), rec5 y3 y4 = some ry → Zw K (eI h ry) h 5 [(0, vr x0), (1, vi x1), (2, vi x2), (3, vi y3), (4, vi y4)] []) (x3 : Int32) (x4 : Int32) (r : Int32) (hr : BX4_doMeet_5 N x0 x1 x2 h rec5 x3 x4 = some r) : Zw K (eI h r) h 5 [(0, vr x0), (1, vi x1), (2, vi x2), (3, vi x3), (4, vi x4)] [] := by
  unfold BX4_doMeet_5 at hr
  refine z_iload O 4 dX4_doMeet_5 rfl ?_
  refine z_aload_n O 0 dX4_doMeet_7 rfl rfl ?_
  refine z_getR O o_Village_land q344 dX4_doMeet_8 hr (fun v1 hr => ?_)
  refine z_getI O o_Land_high q585 dX4_doMeet_11 hr (fun v2 hr => ?_)
  refine z_icmp_ge (tgt := 158) O dX4_doMeet_14 (by decide) hr (fun hr => ?_) (fun hr => ?_)
  · refine z_iload_n O 3 dX4_doMeet_158 rfl rfl ?_
    obtain ⟨e1, e2, -⟩ := zb_spec hr
    exact z_zret O e2 dX4_doMeet_159 (by cases e1; rfl)
  · refine z_iconst O dX4_doMeet_17 kic_0 ?_
    refine z_istore O [(5, vi (0 : Int32)), (0, vr x0), (1, vi x1), (2, vi x2), (3, vi x3), (4, vi x4)] dX4_doMeet_18 (by decide) rfl ?_
    refine z_sub [1, 2, 3, 4, 5, 0] rfl ?_
    exact wX4_doMeet_20 O N rec5 x0 x1 x2 x4 h hrec5 _ x3 (0 : Int32) _ hr
theorem wX4_doMeet_5 {K : ZC} (O : ZOk K cX4_doMeet RX4 "doMeet" 6 (some .boolean) 3 92) (N : Nat) (x0 : Option Nat) (x1 : Int32) (x2 : Int32) (h : AH) : ∀ (n : Nat) (x3 : Int32) (x4 : Int32) (r : Int32), lf (fun _ _ => none) (BX4_doMeet_5 N x0 x1 x2 h) n x3 x4 = some r → Zw K (eI h r) h 5 [(0, vr x0), (1, vi x1), (2, vi x2), (3, vi x3), (4, vi x4)] [] := by
  intro n
  induction n with
  | zero => intro x3 x4 r hr; cases hr
  | succ n ih => intro x3 x4 r hr; exact wX4_doMeet_5B O N x0 x1 x2 h (lf (fun _ _ => none) (BX4_doMeet_5 N x0 x1 x2 h) n)  ih x3 x4 r hr
def F_X4_doMeet (N : Nat) (x0 : Option Nat) (x1 : Int32) (x2 : Int32) (h : AH) : Option (Int32) :=
  (ck h [4] x0).bind fun _ =>
  LX4_doMeet_5 N x0 x1 x2 h (0 : Int32) (0 : Int32)
theorem mX4_doMeet (l : Launch) (G : ZG) (N : Nat) (x0 : Option Nat) (x1 : Int32) (x2 : Int32) (h : AH) (r : Int32) (hr : F_X4_doMeet N x0 x1 x2 h = some r) : MZ l G yX4_doMeet cX4_doMeet 6 (some .boolean) 3 92 [vr x0, vi x1, vi x2] h (eI h r) := by
  unfold F_X4_doMeet at hr
  refine MZ.of (by decide) [(0, vr x0), (1, vi x1), (2, vi x2)] rfl (Nat.le_of_ble_eq_true rfl) (fun K O => ?_)
  have O : ZOk K cX4_doMeet RX4 "doMeet" 6 (some .boolean) 3 92 := O
  refine bs hr (fun _ hck hr => ?_)
  refine z_iconst O dX4_doMeet_0 kic_0 ?_
  refine z_istore_n O [(3, vi (0 : Int32)), (0, vr x0), (1, vi x1), (2, vi x2)] dX4_doMeet_1 rfl (by decide) rfl ?_
  refine z_iconst O dX4_doMeet_2 kic_0 ?_
  refine z_istore O [(4, vi (0 : Int32)), (3, vi (0 : Int32)), (0, vr x0), (1, vi x1), (2, vi x2)] dX4_doMeet_3 (by decide) rfl ?_
  refine z_sub [2, 3, 4, 1, 0] rfl ?_
  exact wX4_doMeet_5 O N x0 x1 x2 h _ (0 : Int32) (0 : Int32) _ hr
theorem fV_X1_meet : CVf RX1 yX1_meet cX1_meet 5 (some .int) 3 := ⟨q1502, q1503, q126, q1504, ⟨⟨by decide +kernel, by decide +kernel⟩, by decide +kernel⟩⟩
def BX1_meet_61 (N : Nat) (x0 : Option Nat) (x1 : Int32) (x2 : Int32) (x3 : Int32) (rec61 : Int32 → AH → Option (Int32 × AH)) : Int32 → AH → Option (Int32 × AH) := fun x4 h =>
  if x3 < x4 then
    some ((-2 : Int32), h)
  else
    (gR h f_Year_trial x0).bind fun v1 =>
    (F_X4_doMeet N v1 x1 x2 h).bind fun v2 =>
    if v2 = 0 then
      (gR h f_Year_trial x0).bind fun v3 =>
      (F_X4_goesOn N v3 h).bind fun h4 =>
      jlet (x4 + (1 : Int32)) fun v5 =>
      rec61 v5 h4
    else
      some (x4, h)
def LX1_meet_61 (N : Nat) (x0 : Option Nat) (x1 : Int32) (x2 : Int32) (x3 : Int32) : Int32 → AH → Option (Int32 × AH) := lf (fun _ _ => none) (BX1_meet_61 N x0 x1 x2 x3) N
theorem wX1_meet_61B {K : ZC} (O : ZOk K cX1_meet RX1 "meet" 5 (some .int) 10 257) (N : Nat) (x0 : Option Nat) (x1 : Int32) (x2 : Int32) (x3 : Int32) (rec61 : Int32 → AH → Option (Int32 × AH)) (hrec61 : ∀ (y4 : Int32) (hy : AH) (ry : Int32 × AH), rec61 y4 hy = some ry → Zw K (eIH ry) hy 61 [(0, vr x0), (1, vi x1), (2, vi x2), (3, vi x3), (4, vi y4)] []) (x4 : Int32) (h : AH) (r : Int32 × AH) (hr : BX1_meet_61 N x0 x1 x2 x3 rec61 x4 h = some r) : Zw K (eIH r) h 61 [(0, vr x0), (1, vi x1), (2, vi x2), (3, vi x3), (4, vi x4)] [] := by
  unfold BX1_meet_61 at hr
  refine z_iload O 4 dX1_meet_61 rfl ?_
  refine z_iload_n O 3 dX1_meet_63 rfl rfl ?_
  refine z_icmp_gt (tgt := 95) O dX1_meet_64 (by decide) hr (fun hr => ?_) (fun hr => ?_)
  · refine z_bipush O dX1_meet_95 kbi_m2 ?_
    exact z_iret O dX1_meet_97 (by cases hr; rfl)
  · refine z_aload_n O 0 dX1_meet_67 rfl rfl ?_
    refine z_getR O o_Year_trial q471 dX1_meet_68 hr (fun v1 hr => ?_)
    refine z_iload_n O 1 dX1_meet_71 rfl rfl ?_
    refine z_iload_n O 2 dX1_meet_72 rfl rfl ?_
    refine bs hr (fun v2 hF hr => ?_)
    refine z_callV O [vi x1, vi x2] (vi v2) fV_X4_doMeet q1505 (fun l G => mX4_doMeet l G N v1 x1 x2 h _ hF) (zck hF) rfl rfl ⟨Nat.le_of_ble_eq_true rfl, Nat.le_of_ble_eq_true rfl⟩ (Nat.le_of_ble_eq_true rfl) dX1_meet_73 ?_
    refine z_if_eq (tgt := 82) O dX1_meet_76 (by decide) hr (fun hr => ?_) (fun hr => ?_)
    · refine z_aload_n O 0 dX1_meet_82 rfl rfl ?_
      refine z_getR O o_Year_trial q471 dX1_meet_83 hr (fun v3 hr => ?_)
      refine bs hr (fun h4 hF hr => ?_)
      refine z_callVv O [] fV_X4_goesOn q1509 (fun l G => mX4_goesOn l G N v3 h _ hF) (zck hF) rfl rfl ⟨Nat.le_of_ble_eq_true rfl, Nat.le_of_ble_eq_true rfl⟩ (Nat.le_of_ble_eq_true rfl) dX1_meet_86 ?_
      refine z_iincL O 4 (fun v5 => [(4, vi v5), (0, vr x0), (1, vi x1), (2, vi x2), (3, vi x3)]) dX1_meet_89 rfl rfl (by decide) (fun _ => rfl) hr (fun v5 hr => ?_)
      refine z_goto (tgt := 61) O dX1_meet_92 (by decide) ?_
      refine z_sub [1, 2, 3, 4, 0] rfl ?_
      exact hrec61 v5 h4 _ hr
    · refine z_iload O 4 dX1_meet_79 rfl ?_
      exact z_iret O dX1_meet_81 (by cases hr; rfl)
theorem wX1_meet_61 {K : ZC} (O : ZOk K cX1_meet RX1 "meet" 5 (some .int) 10 257) (N : Nat) (x0 : Option Nat) (x1 : Int32) (x2 : Int32) (x3 : Int32) : ∀ (n : Nat) (x4 : Int32) (h : AH) (r : Int32 × AH), lf (fun _ _ => none) (BX1_meet_61 N x0 x1 x2 x3) n x4 h = some r → Zw K (eIH r) h 61 [(0, vr x0), (1, vi x1), (2, vi x2), (3, vi x3), (4, vi x4)] [] := by
  intro n
  induction n with
  | zero => intro x4 h r hr; cases hr
  | succ n ih => intro x4 h r hr; exact wX1_meet_61B O N x0 x1 x2 x3 (lf (fun _ _ => none) (BX1_meet_61 N x0 x1 x2 x3) n)  ih x4 h r hr
def F_X1_meet (N : Nat) (x0 : Option Nat) (x1 : Int32) (x2 : Int32) (x3 : Int32) (h : AH) : Option (Int32 × AH) :=
  (ck h [1] x0).bind fun _ =>
  (F_X1_anew x0 h).bind fun h1 =>
  (F_X1_isHouse x0 x1 h1).bind fun v2 =>
  if v2 = 0 then
    b2 (F_X1_no x0 (1 : Int32) h1) fun v4 h3 =>
    some (v4, h3)
  else
    (F_X1_isHouse x0 x2 h1).bind fun v5 =>
    if v5 = 0 then
      b2 (F_X1_no x0 (1 : Int32) h1) fun v7 h6 =>
      some (v7, h6)
    else
      if x1 = x2 then
        b2 (F_X1_no x0 (1 : Int32) h1) fun v15 h14 =>
        some (v15, h14)
      else
        (F_X1_within x3 (0 : Int32) (60 : Int32)).bind fun v8 =>
        if v8 = 0 then
          b2 (F_X1_no x0 (2 : Int32) h1) fun v13 h12 =>
          some (v13, h12)
        else
          (gR h1 f_Year_trial x0).bind fun v9 =>
          (gR h1 f_Year_village x0).bind fun v10 =>
          (F_X4_become N v9 v10 h1).bind fun h11 =>
          LX1_meet_61 N x0 x1 x2 x3 (0 : Int32) h11
theorem mX1_meet (l : Launch) (G : ZG) (N : Nat) (x0 : Option Nat) (x1 : Int32) (x2 : Int32) (x3 : Int32) (h : AH) (r : Int32 × AH) (hr : F_X1_meet N x0 x1 x2 x3 h = some r) : MZ l G yX1_meet cX1_meet 5 (some .int) 10 257 [vr x0, vi x1, vi x2, vi x3] h (eIH r) := by
  unfold F_X1_meet at hr
  refine MZ.of (by decide) [(0, vr x0), (1, vi x1), (2, vi x2), (3, vi x3)] rfl (Nat.le_of_ble_eq_true rfl) (fun K O => ?_)
  have O : ZOk K cX1_meet RX1 "meet" 5 (some .int) 10 257 := O
  refine bs hr (fun _ hck hr => ?_)
  refine z_aload_n O 0 dX1_meet_0 rfl rfl ?_
  refine bs hr (fun h1 hF hr => ?_)
  refine z_callVv O [] fV_X1_anew q528 (fun l G => mX1_anew l G x0 h _ hF) (zck hF) rfl rfl ⟨Nat.le_of_ble_eq_true rfl, Nat.le_of_ble_eq_true rfl⟩ (Nat.le_of_ble_eq_true rfl) dX1_meet_1 ?_
  refine z_aload_n O 0 dX1_meet_4 rfl rfl ?_
  refine z_iload_n O 1 dX1_meet_5 rfl rfl ?_
  refine bs hr (fun v2 hF hr => ?_)
  refine z_callV O [vi x1] (vi v2) fV_X1_isHouse q1245 (fun l G => mX1_isHouse l G x0 x1 h1 _ hF) (zck hF) rfl rfl ⟨Nat.le_of_ble_eq_true rfl, Nat.le_of_ble_eq_true rfl⟩ (Nat.le_of_ble_eq_true rfl) dX1_meet_6 ?_
  refine z_if_eq (tgt := 25) O dX1_meet_9 (by decide) hr (fun hr => ?_) (fun hr => ?_)
  · refine z_aload_n O 0 dX1_meet_25 rfl rfl ?_
    refine z_iconst O dX1_meet_26 kic_1 ?_
    refine b2s hr (fun v4 h3 hF hr => ?_)
    refine z_callV O [vi (1 : Int32)] (vi v4) fV_X1_no q535 (fun l G => mX1_no l G x0 (1 : Int32) h1 _ hF) (zck hF) rfl rfl ⟨Nat.le_of_ble_eq_true rfl, Nat.le_of_ble_eq_true rfl⟩ (Nat.le_of_ble_eq_true rfl) dX1_meet_27 ?_
    exact z_iret O dX1_meet_30 (by cases hr; rfl)
  · refine z_aload_n O 0 dX1_meet_12 rfl rfl ?_
    refine z_iload_n O 2 dX1_meet_13 rfl rfl ?_
    refine bs hr (fun v5 hF hr => ?_)
    refine z_callV O [vi x2] (vi v5) fV_X1_isHouse q1245 (fun l G => mX1_isHouse l G x0 x2 h1 _ hF) (zck hF) rfl rfl ⟨Nat.le_of_ble_eq_true rfl, Nat.le_of_ble_eq_true rfl⟩ (Nat.le_of_ble_eq_true rfl) dX1_meet_14 ?_
    refine z_if_eq (tgt := 25) O dX1_meet_17 (by decide) hr (fun hr => ?_) (fun hr => ?_)
    · refine z_aload_n O 0 dX1_meet_25 rfl rfl ?_
      refine z_iconst O dX1_meet_26 kic_1 ?_
      refine b2s hr (fun v7 h6 hF hr => ?_)
      refine z_callV O [vi (1 : Int32)] (vi v7) fV_X1_no q535 (fun l G => mX1_no l G x0 (1 : Int32) h1 _ hF) (zck hF) rfl rfl ⟨Nat.le_of_ble_eq_true rfl, Nat.le_of_ble_eq_true rfl⟩ (Nat.le_of_ble_eq_true rfl) dX1_meet_27 ?_
      exact z_iret O dX1_meet_30 (by cases hr; rfl)
    · refine z_iload_n O 1 dX1_meet_20 rfl rfl ?_
      refine z_iload_n O 2 dX1_meet_21 rfl rfl ?_
      refine z_icmp_ne (tgt := 31) O dX1_meet_22 (by decide) hr (fun hr => ?_) (fun hr => ?_)
      · refine z_aload_n O 0 dX1_meet_25 rfl rfl ?_
        refine z_iconst O dX1_meet_26 kic_1 ?_
        refine b2s hr (fun v15 h14 hF hr => ?_)
        refine z_callV O [vi (1 : Int32)] (vi v15) fV_X1_no q535 (fun l G => mX1_no l G x0 (1 : Int32) h1 _ hF) (zck hF) rfl rfl ⟨Nat.le_of_ble_eq_true rfl, Nat.le_of_ble_eq_true rfl⟩ (Nat.le_of_ble_eq_true rfl) dX1_meet_27 ?_
        exact z_iret O dX1_meet_30 (by cases hr; rfl)
      · refine z_iload_n O 3 dX1_meet_31 rfl rfl ?_
        refine z_iconst O dX1_meet_32 kic_0 ?_
        refine z_bipush O dX1_meet_33 kbi_60 ?_
        refine bs hr (fun v8 hF hr => ?_)
        refine z_callS O [vi x3, vi (0 : Int32), vi (60 : Int32)] (vi v8) fS_X1_within q532 (fun l G => mX1_within l G x3 (0 : Int32) (60 : Int32) h1 _ hF) rfl ⟨Nat.le_of_ble_eq_true rfl, Nat.le_of_ble_eq_true rfl⟩ (Nat.le_of_ble_eq_true rfl) dX1_meet_35 ?_
        refine z_if_ne (tgt := 47) O dX1_meet_38 (by decide) hr (fun hr => ?_) (fun hr => ?_)
        · refine z_aload_n O 0 dX1_meet_41 rfl rfl ?_
          refine z_iconst O dX1_meet_42 kic_2 ?_
          refine b2s hr (fun v13 h12 hF hr => ?_)
          refine z_callV O [vi (2 : Int32)] (vi v13) fV_X1_no q535 (fun l G => mX1_no l G x0 (2 : Int32) h1 _ hF) (zck hF) rfl rfl ⟨Nat.le_of_ble_eq_true rfl, Nat.le_of_ble_eq_true rfl⟩ (Nat.le_of_ble_eq_true rfl) dX1_meet_43 ?_
          exact z_iret O dX1_meet_46 (by cases hr; rfl)
        · refine z_aload_n O 0 dX1_meet_47 rfl rfl ?_
          refine z_getR O o_Year_trial q471 dX1_meet_48 hr (fun v9 hr => ?_)
          refine z_aload_n O 0 dX1_meet_51 rfl rfl ?_
          refine z_getR O o_Year_village q469 dX1_meet_52 hr (fun v10 hr => ?_)
          refine bs hr (fun h11 hF hr => ?_)
          refine z_callVv O [vr v10] fV_X4_become q1199 (fun l G => mX4_become l G N v9 v10 h1 _ hF) (zck hF) rfl rfl ⟨Nat.le_of_ble_eq_true rfl, Nat.le_of_ble_eq_true rfl⟩ (Nat.le_of_ble_eq_true rfl) dX1_meet_55 ?_
          refine z_iconst O dX1_meet_58 kic_0 ?_
          refine z_istore O [(4, vi (0 : Int32)), (0, vr x0), (1, vi x1), (2, vi x2), (3, vi x3)] dX1_meet_59 (by decide) rfl ?_
          refine z_sub [1, 2, 3, 4, 0] rfl ?_
          exact wX1_meet_61 O N x0 x1 x2 x3 _ (0 : Int32) h11 _ hr
theorem fV_X1_move : CVf RX1 yX1_move cX1_move 4 (some .boolean) 2 := ⟨q1680, q1681, q126, q1682, ⟨⟨by decide +kernel, by decide +kernel⟩, by decide +kernel⟩⟩
def bX1_move_83 (N : Nat) (x0 : Option Nat) (x1 : Int32) (x2 : Int32) (s0 : Int32) (h : AH) : Option (Int32 × AH) :=
  b2 (F_X1_yes x0 s0 h) fun v2 h1 =>
  if v2 = 0 then
    (zb (0 : Int32)).bind fun v10 => some (v10, h1)
  else
    (F_X1_note N x0 h1).bind fun h3 =>
    (gR h3 f_Year_village x0).bind fun v4 =>
    (gR h3 f_Village_depth v4).bind fun v5 =>
    (sA h3 0 v5 x1 x2).bind fun h6 =>
    b2 (F_X1_done N x0 h6) fun v8 h7 =>
    (zb v8).bind fun v9 => some (v9, h7)
theorem wX1_move_83 {K : ZC} (O : ZOk K cX1_move RX1 "move" 4 (some .boolean) 5 135) (N : Nat) (x0 : Option Nat) (x1 : Int32) (x2 : Int32) (s0 : Int32) (h : AH) (r : Int32 × AH) (hr : bX1_move_83 N x0 x1 x2 s0 h = some r) : Zw K (eIH r) h 83 [(0, vr x0), (1, vi x1), (2, vi x2)] [vi s0] := by
  unfold bX1_move_83 at hr
  refine z_istore_n O [(3, vi s0), (0, vr x0), (1, vi x1), (2, vi x2)] dX1_move_83 rfl (by decide) rfl ?_
  refine z_aload_n O 1 dX1_move_84 rfl rfl ?_
  refine z_iload_n O 0 dX1_move_85 rfl rfl ?_
  refine b2s hr (fun v2 h1 hF hr => ?_)
  refine z_callV O [vi s0] (vi v2) fV_X1_yes q1666 (fun l G => mX1_yes l G x0 s0 h _ hF) (zck hF) rfl rfl ⟨Nat.le_of_ble_eq_true rfl, Nat.le_of_ble_eq_true rfl⟩ (Nat.le_of_ble_eq_true rfl) dX1_move_86 ?_
  refine z_if_ne (tgt := 94) O dX1_move_89 (by decide) hr (fun hr => ?_) (fun hr => ?_)
  · refine z_iconst O dX1_move_92 kic_0 ?_
    refine bs hr (fun v10 e0 hr => ?_)
    obtain ⟨e1, e2, -⟩ := zb_spec e0
    exact z_zret O e2 dX1_move_93 (by cases hr; cases e1; rfl)
  · refine z_aload_n O 1 dX1_move_94 rfl rfl ?_
    refine bs hr (fun h3 hF hr => ?_)
    refine z_callVv O [] fV_X1_note q1648 (fun l G => mX1_note l G N x0 h1 _ hF) (zck hF) rfl rfl ⟨Nat.le_of_ble_eq_true rfl, Nat.le_of_ble_eq_true rfl⟩ (Nat.le_of_ble_eq_true rfl) dX1_move_95 ?_
    refine z_aload_n O 1 dX1_move_98 rfl rfl ?_
    refine z_getR O o_Year_village q469 dX1_move_99 hr (fun v4 hr => ?_)
    refine z_getR O o_Village_depth q340 dX1_move_102 hr (fun v5 hr => ?_)
    refine z_iload_n O 2 dX1_move_105 rfl rfl ?_
    refine z_iload_n O 3 dX1_move_106 rfl rfl ?_
    refine z_iastore O dX1_move_107 hr (fun h6 hr => ?_)
    refine z_aload_n O 1 dX1_move_108 rfl rfl ?_
    refine b2s hr (fun v8 h7 hF hr => ?_)
    refine z_callV O [] (vi v8) fV_X1_done q1652 (fun l G => mX1_done l G N x0 h6 _ hF) (zck hF) rfl rfl ⟨Nat.le_of_ble_eq_true rfl, Nat.le_of_ble_eq_true rfl⟩ (Nat.le_of_ble_eq_true rfl) dX1_move_109 ?_
    refine bs hr (fun v9 e0 hr => ?_)
    obtain ⟨e1, e2, -⟩ := zb_spec e0
    exact z_zret O e2 dX1_move_112 (by cases hr; cases e1; rfl)
def F_X1_move (N : Nat) (x0 : Option Nat) (x1 : Int32) (x2 : Int32) (h : AH) : Option (Int32 × AH) :=
  (ck h [1] x0).bind fun _ =>
  (F_X1_isHeir x0 x1 h).bind fun v1 =>
  if v1 = 0 then
    bX1_move_83 N x0 x1 x2 (1 : Int32) h
  else
    (gR h f_Year_land x0).bind fun v2 =>
    (gR h f_Land_heirs v2).bind fun v3 =>
    (aR h v3 x1).bind fun v4 =>
    (gI h f_Heir_house v4).bind fun v5 =>
    (F_X1_isDepth x0 v5 x2 h).bind fun v6 =>
    if v6 = 0 then
      bX1_move_83 N x0 x1 x2 (1 : Int32) h
    else
      (gR h f_Year_village x0).bind fun v7 =>
      (gR h f_Village_depth v7).bind fun v8 =>
      (aI h 0 v8 x1).bind fun v9 =>
      if v9 = x2 then
        bX1_move_83 N x0 x1 x2 (5 : Int32) h
      else
        if x2 ≤ 0 then
          bX1_move_83 N x0 x1 x2 (0 : Int32) h
        else
          (gR h f_Year_village x0).bind fun v10 =>
          (gR h f_Year_land x0).bind fun v11 =>
          (gR h f_Land_heirs v11).bind fun v12 =>
          (aR h v12 x1).bind fun v13 =>
          (gI h f_Heir_house v13).bind fun v14 =>
          (F_X4_house v10 v14 h).bind fun v15 =>
          (F_X5_skin v15 x2 h).bind fun v16 =>
          (F_X6_isOpen v16 h).bind fun v17 =>
          if v17 = 0 then
            bX1_move_83 N x0 x1 x2 (5 : Int32) h
          else
            bX1_move_83 N x0 x1 x2 (0 : Int32) h
theorem mX1_move (l : Launch) (G : ZG) (N : Nat) (x0 : Option Nat) (x1 : Int32) (x2 : Int32) (h : AH) (r : Int32 × AH) (hr : F_X1_move N x0 x1 x2 h = some r) : MZ l G yX1_move cX1_move 4 (some .boolean) 5 135 [vr x0, vi x1, vi x2] h (eIH r) := by
  unfold F_X1_move at hr
  refine MZ.of (by decide) [(0, vr x0), (1, vi x1), (2, vi x2)] rfl (Nat.le_of_ble_eq_true rfl) (fun K O => ?_)
  have O : ZOk K cX1_move RX1 "move" 4 (some .boolean) 5 135 := O
  refine bs hr (fun _ hck hr => ?_)
  refine z_aload_n O 0 dX1_move_0 rfl rfl ?_
  refine z_iload_n O 1 dX1_move_1 rfl rfl ?_
  refine bs hr (fun v1 hF hr => ?_)
  refine z_callV O [vi x1] (vi v1) fV_X1_isHeir q1304 (fun l G => mX1_isHeir l G x0 x1 h _ hF) (zck hF) rfl rfl ⟨Nat.le_of_ble_eq_true rfl, Nat.le_of_ble_eq_true rfl⟩ (Nat.le_of_ble_eq_true rfl) dX1_move_2 ?_
  refine z_if_eq (tgt := 28) O dX1_move_5 (by decide) hr (fun hr => ?_) (fun hr => ?_)
  · refine z_iconst O dX1_move_28 kic_1 ?_
    refine z_goto (tgt := 83) O dX1_move_29 (by decide) ?_
    exact wX1_move_83 O N x0 x1 x2 (1 : Int32) h _ hr
  · refine z_aload_n O 0 dX1_move_8 rfl rfl ?_
    refine z_aload_n O 0 dX1_move_9 rfl rfl ?_
    refine z_getR O o_Year_land q463 dX1_move_10 hr (fun v2 hr => ?_)
    refine z_getR O o_Land_heirs q574 dX1_move_13 hr (fun v3 hr => ?_)
    refine z_iload_n O 1 dX1_move_16 rfl rfl ?_
    refine z_aaload O dX1_move_17 hr (fun v4 hr => ?_)
    refine z_getI O o_Heir_house q1143 dX1_move_18 hr (fun v5 hr => ?_)
    refine z_iload_n O 2 dX1_move_21 rfl rfl ?_
    refine bs hr (fun v6 hF hr => ?_)
    refine z_callV O [vi v5, vi x2] (vi v6) fV_X1_isDepth q1282 (fun l G => mX1_isDepth l G x0 v5 x2 h _ hF) (zck hF) rfl rfl ⟨Nat.le_of_ble_eq_true rfl, Nat.le_of_ble_eq_true rfl⟩ (Nat.le_of_ble_eq_true rfl) dX1_move_22 ?_
    refine z_if_ne (tgt := 32) O dX1_move_25 (by decide) hr (fun hr => ?_) (fun hr => ?_)
    · refine z_iconst O dX1_move_28 kic_1 ?_
      refine z_goto (tgt := 83) O dX1_move_29 (by decide) ?_
      exact wX1_move_83 O N x0 x1 x2 (1 : Int32) h _ hr
    · refine z_aload_n O 0 dX1_move_32 rfl rfl ?_
      refine z_getR O o_Year_village q469 dX1_move_33 hr (fun v7 hr => ?_)
      refine z_getR O o_Village_depth q340 dX1_move_36 hr (fun v8 hr => ?_)
      refine z_iload_n O 1 dX1_move_39 rfl rfl ?_
      refine z_iaload O dX1_move_40 hr (fun v9 hr => ?_)
      refine z_iload_n O 2 dX1_move_41 rfl rfl ?_
      refine z_icmp_eq (tgt := 78) O dX1_move_42 (by decide) hr (fun hr => ?_) (fun hr => ?_)
      · refine z_iconst O dX1_move_78 kic_5 ?_
        refine z_goto (tgt := 83) O dX1_move_79 (by decide) ?_
        exact wX1_move_83 O N x0 x1 x2 (5 : Int32) h _ hr
      · refine z_iload_n O 2 dX1_move_45 rfl rfl ?_
        refine z_if_le (tgt := 82) O dX1_move_46 (by decide) hr (fun hr => ?_) (fun hr => ?_)
        · refine z_iconst O dX1_move_82 kic_0 ?_
          exact wX1_move_83 O N x0 x1 x2 (0 : Int32) h _ hr
        · refine z_aload_n O 0 dX1_move_49 rfl rfl ?_
          refine z_getR O o_Year_village q469 dX1_move_50 hr (fun v10 hr => ?_)
          refine z_aload_n O 0 dX1_move_53 rfl rfl ?_
          refine z_getR O o_Year_land q463 dX1_move_54 hr (fun v11 hr => ?_)
          refine z_getR O o_Land_heirs q574 dX1_move_57 hr (fun v12 hr => ?_)
          refine z_iload_n O 1 dX1_move_60 rfl rfl ?_
          refine z_aaload O dX1_move_61 hr (fun v13 hr => ?_)
          refine z_getI O o_Heir_house q1143 dX1_move_62 hr (fun v14 hr => ?_)
          refine bs hr (fun v15 hF hr => ?_)
          refine z_callV O [vi v14] (vr v15) fV_X4_house q1249 (fun l G => mX4_house l G v10 v14 h _ hF) (zck hF) rfl rfl ⟨Nat.le_of_ble_eq_true rfl, Nat.le_of_ble_eq_true rfl⟩ (Nat.le_of_ble_eq_true rfl) dX1_move_65 ?_
          refine z_iload_n O 2 dX1_move_68 rfl rfl ?_
          refine bs hr (fun v16 hF hr => ?_)
          refine z_callV O [vi x2] (vr v16) fV_X5_skin q1286 (fun l G => mX5_skin l G v15 x2 h _ hF) (zck hF) rfl rfl ⟨Nat.le_of_ble_eq_true rfl, Nat.le_of_ble_eq_true rfl⟩ (Nat.le_of_ble_eq_true rfl) dX1_move_69 ?_
          refine bs hr (fun v17 hF hr => ?_)
          refine z_callV O [] (vi v17) fV_X6_isOpen q1665 (fun l G => mX6_isOpen l G v16 h _ hF) (zck hF) rfl rfl ⟨Nat.le_of_ble_eq_true rfl, Nat.le_of_ble_eq_true rfl⟩ (Nat.le_of_ble_eq_true rfl) dX1_move_72 ?_
          refine z_if_ne (tgt := 82) O dX1_move_75 (by decide) hr (fun hr => ?_) (fun hr => ?_)
          · refine z_iconst O dX1_move_78 kic_5 ?_
            refine z_goto (tgt := 83) O dX1_move_79 (by decide) ?_
            exact wX1_move_83 O N x0 x1 x2 (5 : Int32) h _ hr
          · refine z_iconst O dX1_move_82 kic_0 ?_
            exact wX1_move_83 O N x0 x1 x2 (0 : Int32) h _ hr
theorem fV_X8_at : CVf RX8 yX8_at cX8_at 3 (some .int) 2 := ⟨q1612, q1613, q136, q1614, ⟨⟨by decide +kernel, by decide +kernel⟩, by decide +kernel⟩⟩
def F_X8_at (x0 : Option Nat) (x1 : Int32) (x2 : Int32) (h : AH) : Option (Int32) :=
  (ck h [8] x0).bind fun _ =>
  (gR h f_Orders_rows x0).bind fun v1 =>
  (aI h 0 v1 (((6 : Int32) * x1) + x2)).bind fun v2 =>
  some v2
theorem mX8_at (l : Launch) (G : ZG) (x0 : Option Nat) (x1 : Int32) (x2 : Int32) (h : AH) (r : Int32) (hr : F_X8_at x0 x1 x2 h = some r) : MZ l G yX8_at cX8_at 3 (some .int) 1 48 [vr x0, vi x1, vi x2] h (eI h r) := by
  unfold F_X8_at at hr
  refine MZ.of (by decide) [(0, vr x0), (1, vi x1), (2, vi x2)] rfl (Nat.le_of_ble_eq_true rfl) (fun K O => ?_)
  have O : ZOk K cX8_at RX8 "at" 3 (some .int) 1 48 := O
  refine bs hr (fun _ hck hr => ?_)
  refine z_aload_n O 0 dX8_at_0 rfl rfl ?_
  refine z_getR O o_Orders_rows q437 dX8_at_1 hr (fun v1 hr => ?_)
  refine z_bipush O dX8_at_4 kbi_6 ?_
  refine z_iload_n O 1 dX8_at_6 rfl rfl ?_
  refine z_imul O dX8_at_7 ?_
  refine z_iload_n O 2 dX8_at_8 rfl rfl ?_
  refine z_iadd O dX8_at_9 ?_
  refine z_iaload O dX8_at_10 hr (fun v2 hr => ?_)
  exact z_iret O dX8_at_11 (by cases hr; rfl)
theorem fV_X1_order : CVf RX1 yX1_order cX1_order 3 (some .int) 2 := ⟨q1604, q1605, q126, q1606, ⟨⟨by decide +kernel, by decide +kernel⟩, by decide +kernel⟩⟩
def F_X1_order (N : Nat) (x0 : Option Nat) (x1 : Int32) (x2 : Int32) (h : AH) : Option (Int32 × AH) :=
  (ck h [1] x0).bind fun _ =>
  (F_X1_anew x0 h).bind fun h1 =>
  (F_X1_isWall x0 x2 h1).bind fun v2 =>
  if v2 = 0 then
    b2 (F_X1_no x0 (1 : Int32) h1) fun v4 h3 =>
    some (v4, h3)
  else
    if 0 ≤ x1 then
      (F_X1_layOrders N x0 h1).bind fun h5 =>
      (gR h5 f_Year_orders x0).bind fun v6 =>
      (gI h5 f_Orders_many v6).bind fun v7 =>
      if v7 ≤ x1 then
        b2 (F_X1_no x0 (1 : Int32) h5) fun v9 h8 =>
        some (v9, h8)
      else
        (gR h5 f_Year_orders x0).bind fun v10 =>
        (F_X8_at v10 x1 x2 h5).bind fun v11 =>
        some (v11, h5)
    else
      b2 (F_X1_no x0 (1 : Int32) h1) fun v13 h12 =>
      some (v13, h12)
theorem mX1_order (l : Launch) (G : ZG) (N : Nat) (x0 : Option Nat) (x1 : Int32) (x2 : Int32) (h : AH) (r : Int32 × AH) (hr : F_X1_order N x0 x1 x2 h = some r) : MZ l G yX1_order cX1_order 3 (some .int) 15 367 [vr x0, vi x1, vi x2] h (eIH r) := by
  unfold F_X1_order at hr
  refine MZ.of (by decide) [(0, vr x0), (1, vi x1), (2, vi x2)] rfl (Nat.le_of_ble_eq_true rfl) (fun K O => ?_)
  have O : ZOk K cX1_order RX1 "order" 3 (some .int) 15 367 := O
  refine bs hr (fun _ hck hr => ?_)
  refine z_aload_n O 0 dX1_order_0 rfl rfl ?_
  refine bs hr (fun h1 hF hr => ?_)
  refine z_callVv O [] fV_X1_anew q528 (fun l G => mX1_anew l G x0 h _ hF) (zck hF) rfl rfl ⟨Nat.le_of_ble_eq_true rfl, Nat.le_of_ble_eq_true rfl⟩ (Nat.le_of_ble_eq_true rfl) dX1_order_1 ?_
  refine z_aload_n O 0 dX1_order_4 rfl rfl ?_
  refine z_iload_n O 2 dX1_order_5 rfl rfl ?_
  refine bs hr (fun v2 hF hr => ?_)
  refine z_callV O [vi x2] (vi v2) fV_X1_isWall q1607 (fun l G => mX1_isWall l G x0 x2 h1 _ hF) (zck hF) rfl rfl ⟨Nat.le_of_ble_eq_true rfl, Nat.le_of_ble_eq_true rfl⟩ (Nat.le_of_ble_eq_true rfl) dX1_order_6 ?_
  refine z_if_eq (tgt := 16) O dX1_order_9 (by decide) hr (fun hr => ?_) (fun hr => ?_)
  · refine z_aload_n O 0 dX1_order_16 rfl rfl ?_
    refine z_iconst O dX1_order_17 kic_1 ?_
    refine b2s hr (fun v4 h3 hF hr => ?_)
    refine z_callV O [vi (1 : Int32)] (vi v4) fV_X1_no q535 (fun l G => mX1_no l G x0 (1 : Int32) h1 _ hF) (zck hF) rfl rfl ⟨Nat.le_of_ble_eq_true rfl, Nat.le_of_ble_eq_true rfl⟩ (Nat.le_of_ble_eq_true rfl) dX1_order_18 ?_
    exact z_iret O dX1_order_21 (by cases hr; rfl)
  · refine z_iload_n O 1 dX1_order_12 rfl rfl ?_
    refine z_if_ge (tgt := 22) O dX1_order_13 (by decide) hr (fun hr => ?_) (fun hr => ?_)
    · refine z_aload_n O 0 dX1_order_22 rfl rfl ?_
      refine bs hr (fun h5 hF hr => ?_)
      refine z_callVv O [] fV_X1_layOrders q1569 (fun l G => mX1_layOrders l G N x0 h1 _ hF) (zck hF) rfl rfl ⟨Nat.le_of_ble_eq_true rfl, Nat.le_of_ble_eq_true rfl⟩ (Nat.le_of_ble_eq_true rfl) dX1_order_23 ?_
      refine z_iload_n O 1 dX1_order_26 rfl rfl ?_
      refine z_aload_n O 0 dX1_order_27 rfl rfl ?_
      refine z_getR O o_Year_orders q473 dX1_order_28 hr (fun v6 hr => ?_)
      refine z_getI O o_Orders_many q443 dX1_order_31 hr (fun v7 hr => ?_)
      refine z_icmp_ge (tgt := 49) O dX1_order_34 (by decide) hr (fun hr => ?_) (fun hr => ?_)
      · refine z_aload_n O 0 dX1_order_49 rfl rfl ?_
        refine z_iconst O dX1_order_50 kic_1 ?_
        refine b2s hr (fun v9 h8 hF hr => ?_)
        refine z_callV O [vi (1 : Int32)] (vi v9) fV_X1_no q535 (fun l G => mX1_no l G x0 (1 : Int32) h5 _ hF) (zck hF) rfl rfl ⟨Nat.le_of_ble_eq_true rfl, Nat.le_of_ble_eq_true rfl⟩ (Nat.le_of_ble_eq_true rfl) dX1_order_51 ?_
        exact z_iret O dX1_order_54 (by cases hr; rfl)
      · refine z_aload_n O 0 dX1_order_37 rfl rfl ?_
        refine z_getR O o_Year_orders q473 dX1_order_38 hr (fun v10 hr => ?_)
        refine z_iload_n O 1 dX1_order_41 rfl rfl ?_
        refine z_iload_n O 2 dX1_order_42 rfl rfl ?_
        refine bs hr (fun v11 hF hr => ?_)
        refine z_callV O [vi x1, vi x2] (vi v11) fV_X8_at q1611 (fun l G => mX8_at l G v10 x1 x2 h5 _ hF) (zck hF) rfl rfl ⟨Nat.le_of_ble_eq_true rfl, Nat.le_of_ble_eq_true rfl⟩ (Nat.le_of_ble_eq_true rfl) dX1_order_43 ?_
        refine z_goto (tgt := 54) O dX1_order_46 (by decide) ?_
        exact z_iret O dX1_order_54 (by cases hr; rfl)
    · refine z_aload_n O 0 dX1_order_16 rfl rfl ?_
      refine z_iconst O dX1_order_17 kic_1 ?_
      refine b2s hr (fun v13 h12 hF hr => ?_)
      refine z_callV O [vi (1 : Int32)] (vi v13) fV_X1_no q535 (fun l G => mX1_no l G x0 (1 : Int32) h1 _ hF) (zck hF) rfl rfl ⟨Nat.le_of_ble_eq_true rfl, Nat.le_of_ble_eq_true rfl⟩ (Nat.le_of_ble_eq_true rfl) dX1_order_18 ?_
      exact z_iret O dX1_order_21 (by cases hr; rfl)
theorem fV_X1_orders : CVf RX1 yX1_orders cX1_orders 1 (some .int) 0 := ⟨q1566, q1567, q126, q1568, ⟨⟨by decide +kernel, by decide +kernel⟩, by decide +kernel⟩⟩
def F_X1_orders (N : Nat) (x0 : Option Nat) (h : AH) : Option (Int32 × AH) :=
  (ck h [1] x0).bind fun _ =>
  (F_X1_anew x0 h).bind fun h1 =>
  (gR h1 f_Year_land x0).bind fun v2 =>
  if v2 = none then
    b2 (F_X1_no x0 (1 : Int32) h1) fun v7 h6 =>
    some (v7, h6)
  else
    (F_X1_layOrders N x0 h1).bind fun h3 =>
    (gR h3 f_Year_orders x0).bind fun v4 =>
    (gI h3 f_Orders_many v4).bind fun v5 =>
    some (v5, h3)
theorem mX1_orders (l : Launch) (G : ZG) (N : Nat) (x0 : Option Nat) (h : AH) (r : Int32 × AH) (hr : F_X1_orders N x0 h = some r) : MZ l G yX1_orders cX1_orders 1 (some .int) 15 367 [vr x0] h (eIH r) := by
  unfold F_X1_orders at hr
  refine MZ.of (by decide) [(0, vr x0)] rfl (Nat.le_of_ble_eq_true rfl) (fun K O => ?_)
  have O : ZOk K cX1_orders RX1 "orders" 1 (some .int) 15 367 := O
  refine bs hr (fun _ hck hr => ?_)
  refine z_aload_n O 0 dX1_orders_0 rfl rfl ?_
  refine bs hr (fun h1 hF hr => ?_)
  refine z_callVv O [] fV_X1_anew q528 (fun l G => mX1_anew l G x0 h _ hF) (zck hF) rfl rfl ⟨Nat.le_of_ble_eq_true rfl, Nat.le_of_ble_eq_true rfl⟩ (Nat.le_of_ble_eq_true rfl) dX1_orders_1 ?_
  refine z_aload_n O 0 dX1_orders_4 rfl rfl ?_
  refine z_getR O o_Year_land q463 dX1_orders_5 hr (fun v2 hr => ?_)
  refine z_ifnonnull (tgt := 17) O dX1_orders_8 (by decide) hr (fun hr => ?_) (fun hr => ?_)
  · refine z_aload_n O 0 dX1_orders_11 rfl rfl ?_
    refine z_iconst O dX1_orders_12 kic_1 ?_
    refine b2s hr (fun v7 h6 hF hr => ?_)
    refine z_callV O [vi (1 : Int32)] (vi v7) fV_X1_no q535 (fun l G => mX1_no l G x0 (1 : Int32) h1 _ hF) (zck hF) rfl rfl ⟨Nat.le_of_ble_eq_true rfl, Nat.le_of_ble_eq_true rfl⟩ (Nat.le_of_ble_eq_true rfl) dX1_orders_13 ?_
    exact z_iret O dX1_orders_16 (by cases hr; rfl)
  · refine z_aload_n O 0 dX1_orders_17 rfl rfl ?_
    refine bs hr (fun h3 hF hr => ?_)
    refine z_callVv O [] fV_X1_layOrders q1569 (fun l G => mX1_layOrders l G N x0 h1 _ hF) (zck hF) rfl rfl ⟨Nat.le_of_ble_eq_true rfl, Nat.le_of_ble_eq_true rfl⟩ (Nat.le_of_ble_eq_true rfl) dX1_orders_18 ?_
    refine z_aload_n O 0 dX1_orders_21 rfl rfl ?_
    refine z_getR O o_Year_orders q473 dX1_orders_22 hr (fun v4 hr => ?_)
    refine z_getI O o_Orders_many q443 dX1_orders_25 hr (fun v5 hr => ?_)
    exact z_iret O dX1_orders_28 (by cases hr; rfl)
theorem fV_X1_room : CVf RX1 yX1_room cX1_room 3 (some .int) 1 := ⟨q1515, q1516, q126, q1517, ⟨⟨by decide +kernel, by decide +kernel⟩, by decide +kernel⟩⟩
def BX1_room_31 (N : Nat) (x0 : Option Nat) (x1 : Int32) (rec31 : Int32 → AH → Option (Int32 × AH)) : Int32 → AH → Option (Int32 × AH) := fun x2 h =>
  (gR h f_Year_trial x0).bind fun v1 =>
  b2 (F_X4_finds N v1 x1 h) fun v3 h2 =>
  if v3 = 0 then
    some (x2, h2)
  else
    (gR h2 f_Year_trial x0).bind fun v4 =>
    (F_X4_house v4 x1 h2).bind fun v5 =>
    (gR h2 f_Year_trial x0).bind fun v6 =>
    (F_X4_house v6 x1 h2).bind fun v7 =>
    (gR h2 f_House_site v7).bind fun v8 =>
    (gR h2 f_Site_stone v8).bind fun v9 =>
    (gR h2 f_Year_trial x0).bind fun v10 =>
    (gI h2 f_Village_doorSide v10).bind fun v11 =>
    (gR h2 f_Year_trial x0).bind fun v12 =>
    (gI h2 f_Village_doorOn v12).bind fun v13 =>
    (F_X5_build v5 v9 v11 v13 (0 : Int32) (0 : Int32) h2).bind fun h14 =>
    jlet (x2 + (1 : Int32)) fun v15 =>
    rec31 v15 h14
def LX1_room_31 (N : Nat) (x0 : Option Nat) (x1 : Int32) : Int32 → AH → Option (Int32 × AH) := lf (fun _ _ => none) (BX1_room_31 N x0 x1) N
theorem wX1_room_31B {K : ZC} (O : ZOk K cX1_room RX1 "room" 3 (some .int) 7 192) (N : Nat) (x0 : Option Nat) (x1 : Int32) (rec31 : Int32 → AH → Option (Int32 × AH)) (hrec31 : ∀ (y2 : Int32) (hy : AH) (ry : Int32 × AH), rec31 y2 hy = some ry → Zw K (eIH ry) hy 31 [(0, vr x0), (1, vi x1), (2, vi y2)] []) (x2 : Int32) (h : AH) (r : Int32 × AH) (hr : BX1_room_31 N x0 x1 rec31 x2 h = some r) : Zw K (eIH r) h 31 [(0, vr x0), (1, vi x1), (2, vi x2)] [] := by
  unfold BX1_room_31 at hr
  refine z_aload_n O 0 dX1_room_31 rfl rfl ?_
  refine z_getR O o_Year_trial q471 dX1_room_32 hr (fun v1 hr => ?_)
  refine z_iload_n O 1 dX1_room_35 rfl rfl ?_
  refine b2s hr (fun v3 h2 hF hr => ?_)
  refine z_callV O [vi x1] (vi v3) fV_X4_finds q1317 (fun l G => mX4_finds l G N v1 x1 h _ hF) (zck hF) rfl rfl ⟨Nat.le_of_ble_eq_true rfl, Nat.le_of_ble_eq_true rfl⟩ (Nat.le_of_ble_eq_true rfl) dX1_room_36 ?_
  refine z_if_eq (tgt := 89) O dX1_room_39 (by decide) hr (fun hr => ?_) (fun hr => ?_)
  · refine z_iload_n O 2 dX1_room_89 rfl rfl ?_
    exact z_iret O dX1_room_90 (by cases hr; rfl)
  · refine z_aload_n O 0 dX1_room_42 rfl rfl ?_
    refine z_getR O o_Year_trial q471 dX1_room_43 hr (fun v4 hr => ?_)
    refine z_iload_n O 1 dX1_room_46 rfl rfl ?_
    refine bs hr (fun v5 hF hr => ?_)
    refine z_callV O [vi x1] (vr v5) fV_X4_house q1249 (fun l G => mX4_house l G v4 x1 h2 _ hF) (zck hF) rfl rfl ⟨Nat.le_of_ble_eq_true rfl, Nat.le_of_ble_eq_true rfl⟩ (Nat.le_of_ble_eq_true rfl) dX1_room_47 ?_
    refine z_aload_n O 0 dX1_room_50 rfl rfl ?_
    refine z_getR O o_Year_trial q471 dX1_room_51 hr (fun v6 hr => ?_)
    refine z_iload_n O 1 dX1_room_54 rfl rfl ?_
    refine bs hr (fun v7 hF hr => ?_)
    refine z_callV O [vi x1] (vr v7) fV_X4_house q1249 (fun l G => mX4_house l G v6 x1 h2 _ hF) (zck hF) rfl rfl ⟨Nat.le_of_ble_eq_true rfl, Nat.le_of_ble_eq_true rfl⟩ (Nat.le_of_ble_eq_true rfl) dX1_room_55 ?_
    refine z_getR O o_House_site q310 dX1_room_58 hr (fun v8 hr => ?_)
    refine z_getR O o_Site_stone q1028 dX1_room_61 hr (fun v9 hr => ?_)
    refine z_aload_n O 0 dX1_room_64 rfl rfl ?_
    refine z_getR O o_Year_trial q471 dX1_room_65 hr (fun v10 hr => ?_)
    refine z_getI O o_Village_doorSide q353 dX1_room_68 hr (fun v11 hr => ?_)
    refine z_aload_n O 0 dX1_room_71 rfl rfl ?_
    refine z_getR O o_Year_trial q471 dX1_room_72 hr (fun v12 hr => ?_)
    refine z_getI O o_Village_doorOn q355 dX1_room_75 hr (fun v13 hr => ?_)
    refine z_iconst O dX1_room_78 kic_0 ?_
    refine z_iconst O dX1_room_79 kic_0 ?_
    refine bs hr (fun h14 hF hr => ?_)
    refine z_callVv O [vr v9, vi v11, vi v13, vi (0 : Int32), vi (0 : Int32)] fV_X5_build q1518 (fun l G => mX5_build l G v5 v9 v11 v13 (0 : Int32) (0 : Int32) h2 _ hF) (zck hF) rfl rfl ⟨Nat.le_of_ble_eq_true rfl, Nat.le_of_ble_eq_true rfl⟩ (Nat.le_of_ble_eq_true rfl) dX1_room_80 ?_
    refine z_iincL O 2 (fun v15 => [(2, vi v15), (0, vr x0), (1, vi x1)]) dX1_room_83 rfl rfl (by decide) (fun _ => rfl) hr (fun v15 hr => ?_)
    refine z_goto (tgt := 31) O dX1_room_86 (by decide) ?_
    refine z_sub [1, 2, 0] rfl ?_
    exact hrec31 v15 h14 _ hr
theorem wX1_room_31 {K : ZC} (O : ZOk K cX1_room RX1 "room" 3 (some .int) 7 192) (N : Nat) (x0 : Option Nat) (x1 : Int32) : ∀ (n : Nat) (x2 : Int32) (h : AH) (r : Int32 × AH), lf (fun _ _ => none) (BX1_room_31 N x0 x1) n x2 h = some r → Zw K (eIH r) h 31 [(0, vr x0), (1, vi x1), (2, vi x2)] [] := by
  intro n
  induction n with
  | zero => intro x2 h r hr; cases hr
  | succ n ih => intro x2 h r hr; exact wX1_room_31B O N x0 x1 (lf (fun _ _ => none) (BX1_room_31 N x0 x1) n)  ih x2 h r hr
def F_X1_room (N : Nat) (x0 : Option Nat) (x1 : Int32) (h : AH) : Option (Int32 × AH) :=
  (ck h [1] x0).bind fun _ =>
  (F_X1_anew x0 h).bind fun h1 =>
  (F_X1_isHouse x0 x1 h1).bind fun v2 =>
  if v2 = 0 then
    b2 (F_X1_no x0 (1 : Int32) h1) fun v7 h6 =>
    some (v7, h6)
  else
    (gR h1 f_Year_trial x0).bind fun v3 =>
    (gR h1 f_Year_village x0).bind fun v4 =>
    (F_X4_become N v3 v4 h1).bind fun h5 =>
    LX1_room_31 N x0 x1 (0 : Int32) h5
theorem mX1_room (l : Launch) (G : ZG) (N : Nat) (x0 : Option Nat) (x1 : Int32) (h : AH) (r : Int32 × AH) (hr : F_X1_room N x0 x1 h = some r) : MZ l G yX1_room cX1_room 3 (some .int) 7 192 [vr x0, vi x1] h (eIH r) := by
  unfold F_X1_room at hr
  refine MZ.of (by decide) [(0, vr x0), (1, vi x1)] rfl (Nat.le_of_ble_eq_true rfl) (fun K O => ?_)
  have O : ZOk K cX1_room RX1 "room" 3 (some .int) 7 192 := O
  refine bs hr (fun _ hck hr => ?_)
  refine z_aload_n O 0 dX1_room_0 rfl rfl ?_
  refine bs hr (fun h1 hF hr => ?_)
  refine z_callVv O [] fV_X1_anew q528 (fun l G => mX1_anew l G x0 h _ hF) (zck hF) rfl rfl ⟨Nat.le_of_ble_eq_true rfl, Nat.le_of_ble_eq_true rfl⟩ (Nat.le_of_ble_eq_true rfl) dX1_room_1 ?_
  refine z_aload_n O 0 dX1_room_4 rfl rfl ?_
  refine z_iload_n O 1 dX1_room_5 rfl rfl ?_
  refine bs hr (fun v2 hF hr => ?_)
  refine z_callV O [vi x1] (vi v2) fV_X1_isHouse q1245 (fun l G => mX1_isHouse l G x0 x1 h1 _ hF) (zck hF) rfl rfl ⟨Nat.le_of_ble_eq_true rfl, Nat.le_of_ble_eq_true rfl⟩ (Nat.le_of_ble_eq_true rfl) dX1_room_6 ?_
  refine z_if_ne (tgt := 18) O dX1_room_9 (by decide) hr (fun hr => ?_) (fun hr => ?_)
  · refine z_aload_n O 0 dX1_room_12 rfl rfl ?_
    refine z_iconst O dX1_room_13 kic_1 ?_
    refine b2s hr (fun v7 h6 hF hr => ?_)
    refine z_callV O [vi (1 : Int32)] (vi v7) fV_X1_no q535 (fun l G => mX1_no l G x0 (1 : Int32) h1 _ hF) (zck hF) rfl rfl ⟨Nat.le_of_ble_eq_true rfl, Nat.le_of_ble_eq_true rfl⟩ (Nat.le_of_ble_eq_true rfl) dX1_room_14 ?_
    exact z_iret O dX1_room_17 (by cases hr; rfl)
  · refine z_aload_n O 0 dX1_room_18 rfl rfl ?_
    refine z_getR O o_Year_trial q471 dX1_room_19 hr (fun v3 hr => ?_)
    refine z_aload_n O 0 dX1_room_22 rfl rfl ?_
    refine z_getR O o_Year_village q469 dX1_room_23 hr (fun v4 hr => ?_)
    refine bs hr (fun h5 hF hr => ?_)
    refine z_callVv O [vr v4] fV_X4_become q1199 (fun l G => mX4_become l G N v3 v4 h1 _ hF) (zck hF) rfl rfl ⟨Nat.le_of_ble_eq_true rfl, Nat.le_of_ble_eq_true rfl⟩ (Nat.le_of_ble_eq_true rfl) dX1_room_26 ?_
    refine z_iconst O dX1_room_29 kic_0 ?_
    refine z_istore_n O [(2, vi (0 : Int32)), (0, vr x0), (1, vi x1)] dX1_room_30 rfl (by decide) rfl ?_
    refine z_sub [1, 2, 0] rfl ?_
    exact wX1_room_31 O N x0 x1 _ (0 : Int32) h5 _ hr
theorem fV_X1_round : CVf RX1 yX1_round cX1_round 3 (some .int) 2 := ⟨q1427, q1428, q126, q1429, ⟨⟨by decide +kernel, by decide +kernel⟩, by decide +kernel⟩⟩
def F_X1_round (x0 : Option Nat) (x1 : Int32) (x2 : Int32) (h : AH) : Option (Int32 × AH) :=
  (ck h [1] x0).bind fun _ =>
  (F_X1_anew x0 h).bind fun h1 =>
  (F_X1_isSkin x0 x1 x2 h1).bind fun v2 =>
  if v2 = 0 then
    b2 (F_X1_no x0 (1 : Int32) h1) fun v4 h3 =>
    some (v4, h3)
  else
    if x2 ≤ (1 : Int32) then
      b2 (F_X1_no x0 (1 : Int32) h1) fun v6 h5 =>
      some (v6, h5)
    else
      (gR h1 f_Year_village x0).bind fun v7 =>
      (F_X4_house v7 x1 h1).bind fun v8 =>
      (F_X5_round v8 x2 h1).bind fun v9 =>
      some (v9, h1)
theorem mX1_round (l : Launch) (G : ZG) (x0 : Option Nat) (x1 : Int32) (x2 : Int32) (h : AH) (r : Int32 × AH) (hr : F_X1_round x0 x1 x2 h = some r) : MZ l G yX1_round cX1_round 3 (some .int) 5 135 [vr x0, vi x1, vi x2] h (eIH r) := by
  unfold F_X1_round at hr
  refine MZ.of (by decide) [(0, vr x0), (1, vi x1), (2, vi x2)] rfl (Nat.le_of_ble_eq_true rfl) (fun K O => ?_)
  have O : ZOk K cX1_round RX1 "round" 3 (some .int) 5 135 := O
  refine bs hr (fun _ hck hr => ?_)
  refine z_aload_n O 0 dX1_round_0 rfl rfl ?_
  refine bs hr (fun h1 hF hr => ?_)
  refine z_callVv O [] fV_X1_anew q528 (fun l G => mX1_anew l G x0 h _ hF) (zck hF) rfl rfl ⟨Nat.le_of_ble_eq_true rfl, Nat.le_of_ble_eq_true rfl⟩ (Nat.le_of_ble_eq_true rfl) dX1_round_1 ?_
  refine z_aload_n O 0 dX1_round_4 rfl rfl ?_
  refine z_iload_n O 1 dX1_round_5 rfl rfl ?_
  refine z_iload_n O 2 dX1_round_6 rfl rfl ?_
  refine bs hr (fun v2 hF hr => ?_)
  refine z_callV O [vi x1, vi x2] (vi v2) fV_X1_isSkin q1278 (fun l G => mX1_isSkin l G x0 x1 x2 h1 _ hF) (zck hF) rfl rfl ⟨Nat.le_of_ble_eq_true rfl, Nat.le_of_ble_eq_true rfl⟩ (Nat.le_of_ble_eq_true rfl) dX1_round_7 ?_
  refine z_if_eq (tgt := 33) O dX1_round_10 (by decide) hr (fun hr => ?_) (fun hr => ?_)
  · refine z_aload_n O 0 dX1_round_33 rfl rfl ?_
    refine z_iconst O dX1_round_34 kic_1 ?_
    refine b2s hr (fun v4 h3 hF hr => ?_)
    refine z_callV O [vi (1 : Int32)] (vi v4) fV_X1_no q535 (fun l G => mX1_no l G x0 (1 : Int32) h1 _ hF) (zck hF) rfl rfl ⟨Nat.le_of_ble_eq_true rfl, Nat.le_of_ble_eq_true rfl⟩ (Nat.le_of_ble_eq_true rfl) dX1_round_35 ?_
    exact z_iret O dX1_round_38 (by cases hr; rfl)
  · refine z_iload_n O 2 dX1_round_13 rfl rfl ?_
    refine z_iconst O dX1_round_14 kic_1 ?_
    refine z_icmp_le (tgt := 33) O dX1_round_15 (by decide) hr (fun hr => ?_) (fun hr => ?_)
    · refine z_aload_n O 0 dX1_round_33 rfl rfl ?_
      refine z_iconst O dX1_round_34 kic_1 ?_
      refine b2s hr (fun v6 h5 hF hr => ?_)
      refine z_callV O [vi (1 : Int32)] (vi v6) fV_X1_no q535 (fun l G => mX1_no l G x0 (1 : Int32) h1 _ hF) (zck hF) rfl rfl ⟨Nat.le_of_ble_eq_true rfl, Nat.le_of_ble_eq_true rfl⟩ (Nat.le_of_ble_eq_true rfl) dX1_round_35 ?_
      exact z_iret O dX1_round_38 (by cases hr; rfl)
    · refine z_aload_n O 0 dX1_round_18 rfl rfl ?_
      refine z_getR O o_Year_village q469 dX1_round_19 hr (fun v7 hr => ?_)
      refine z_iload_n O 1 dX1_round_22 rfl rfl ?_
      refine bs hr (fun v8 hF hr => ?_)
      refine z_callV O [vi x1] (vr v8) fV_X4_house q1249 (fun l G => mX4_house l G v7 x1 h1 _ hF) (zck hF) rfl rfl ⟨Nat.le_of_ble_eq_true rfl, Nat.le_of_ble_eq_true rfl⟩ (Nat.le_of_ble_eq_true rfl) dX1_round_23 ?_
      refine z_iload_n O 2 dX1_round_26 rfl rfl ?_
      refine bs hr (fun v9 hF hr => ?_)
      refine z_callV O [vi x2] (vi v9) fV_X5_round q1430 (fun l G => mX5_round l G v8 x2 h1 _ hF) (zck hF) rfl rfl ⟨Nat.le_of_ble_eq_true rfl, Nat.le_of_ble_eq_true rfl⟩ (Nat.le_of_ble_eq_true rfl) dX1_round_27 ?_
      refine z_goto (tgt := 38) O dX1_round_30 (by decide) ?_
      exact z_iret O dX1_round_38 (by cases hr; rfl)
theorem fV_X1_seed : CVf RX1 yX1_seed cX1_seed 2 (some .boolean) 1 := ⟨q1688, q1689, q126, q1690, ⟨⟨by decide +kernel, by decide +kernel⟩, by decide +kernel⟩⟩
def bX1_seed_28 (x0 : Option Nat) (x1 : Int32) (s0 : Option Nat) (s1 : Int32) (h : AH) : Option (Int32 × AH) :=
  b2 (F_X1_yes s0 s1 h) fun v2 h1 =>
  if v2 = 0 then
    (zb (0 : Int32)).bind fun v6 => some (v6, h1)
  else
    (gR h1 f_Year_village x0).bind fun v3 =>
    (pI h1 f_Village_seed v3 x1).bind fun h4 =>
    (zb (1 : Int32)).bind fun v5 => some (v5, h4)
theorem wX1_seed_28 {K : ZC} (O : ZOk K cX1_seed RX1 "seed" 2 (some .boolean) 3 89) (x0 : Option Nat) (x1 : Int32) (s0 : Option Nat) (s1 : Int32) (h : AH) (r : Int32 × AH) (hr : bX1_seed_28 x0 x1 s0 s1 h = some r) : Zw K (eIH r) h 28 [(0, vr x0), (1, vi x1)] [vi s1, vr s0] := by
  unfold bX1_seed_28 at hr
  refine b2s hr (fun v2 h1 hF hr => ?_)
  refine z_callV O [vi s1] (vi v2) fV_X1_yes q1666 (fun l G => mX1_yes l G s0 s1 h _ hF) (zck hF) rfl rfl ⟨Nat.le_of_ble_eq_true rfl, Nat.le_of_ble_eq_true rfl⟩ (Nat.le_of_ble_eq_true rfl) dX1_seed_28 ?_
  refine z_if_ne (tgt := 36) O dX1_seed_31 (by decide) hr (fun hr => ?_) (fun hr => ?_)
  · refine z_iconst O dX1_seed_34 kic_0 ?_
    refine bs hr (fun v6 e0 hr => ?_)
    obtain ⟨e1, e2, -⟩ := zb_spec e0
    exact z_zret O e2 dX1_seed_35 (by cases hr; cases e1; rfl)
  · refine z_aload_n O 0 dX1_seed_36 rfl rfl ?_
    refine z_getR O o_Year_village q469 dX1_seed_37 hr (fun v3 hr => ?_)
    refine z_iload_n O 1 dX1_seed_40 rfl rfl ?_
    refine z_putI O o_Village_seed (w_Village_seed _) q351 dX1_seed_41 hr (fun h4 hr => ?_)
    refine z_iconst O dX1_seed_44 kic_1 ?_
    refine bs hr (fun v5 e0 hr => ?_)
    obtain ⟨e1, e2, -⟩ := zb_spec e0
    exact z_zret O e2 dX1_seed_45 (by cases hr; cases e1; rfl)
def F_X1_seed (x0 : Option Nat) (x1 : Int32) (h : AH) : Option (Int32 × AH) :=
  (ck h [1] x0).bind fun _ =>
  (gR h f_Year_land x0).bind fun v1 =>
  if v1 = none then
    bX1_seed_28 x0 x1 x0 (1 : Int32) h
  else
    (F_X1_within x1 (0 : Int32) (65536 : Int32)).bind fun v2 =>
    if v2 = 0 then
      bX1_seed_28 x0 x1 x0 (2 : Int32) h
    else
      bX1_seed_28 x0 x1 x0 (0 : Int32) h
theorem mX1_seed (l : Launch) (G : ZG) (x0 : Option Nat) (x1 : Int32) (h : AH) (r : Int32 × AH) (hr : F_X1_seed x0 x1 h = some r) : MZ l G yX1_seed cX1_seed 2 (some .boolean) 3 89 [vr x0, vi x1] h (eIH r) := by
  unfold F_X1_seed at hr
  refine MZ.of (by decide) [(0, vr x0), (1, vi x1)] rfl (Nat.le_of_ble_eq_true rfl) (fun K O => ?_)
  have O : ZOk K cX1_seed RX1 "seed" 2 (some .boolean) 3 89 := O
  refine bs hr (fun _ hck hr => ?_)
  refine z_aload_n O 0 dX1_seed_0 rfl rfl ?_
  refine z_aload_n O 0 dX1_seed_1 rfl rfl ?_
  refine z_getR O o_Year_land q463 dX1_seed_2 hr (fun v1 hr => ?_)
  refine z_ifnonnull (tgt := 12) O dX1_seed_5 (by decide) hr (fun hr => ?_) (fun hr => ?_)
  · refine z_iconst O dX1_seed_8 kic_1 ?_
    refine z_goto (tgt := 28) O dX1_seed_9 (by decide) ?_
    exact wX1_seed_28 O x0 x1 x0 (1 : Int32) h _ hr
  · refine z_iload_n O 1 dX1_seed_12 rfl rfl ?_
    refine z_iconst O dX1_seed_13 kic_0 ?_
    refine z_ldcw O q1541 dX1_seed_14 ?_
    refine bs hr (fun v2 hF hr => ?_)
    refine z_callS O [vi x1, vi (0 : Int32), vi (65536 : Int32)] (vi v2) fS_X1_within q532 (fun l G => mX1_within l G x1 (0 : Int32) (65536 : Int32) h _ hF) rfl ⟨Nat.le_of_ble_eq_true rfl, Nat.le_of_ble_eq_true rfl⟩ (Nat.le_of_ble_eq_true rfl) dX1_seed_17 ?_
    refine z_if_eq (tgt := 27) O dX1_seed_20 (by decide) hr (fun hr => ?_) (fun hr => ?_)
    · refine z_iconst O dX1_seed_27 kic_2 ?_
      exact wX1_seed_28 O x0 x1 x0 (2 : Int32) h _ hr
    · refine z_iconst O dX1_seed_23 kic_0 ?_
      refine z_goto (tgt := 28) O dX1_seed_24 (by decide) ?_
      exact wX1_seed_28 O x0 x1 x0 (0 : Int32) h _ hr
theorem fV_X1_shared : CVf RX1 yX1_shared cX1_shared 1 (some .int) 0 := ⟨q1229, q1230, q126, q1231, ⟨⟨by decide +kernel, by decide +kernel⟩, by decide +kernel⟩⟩
def F_X1_shared (N : Nat) (x0 : Option Nat) (h : AH) : Option (Int32 × AH) :=
  (ck h [1] x0).bind fun _ =>
  (F_X1_anew x0 h).bind fun h1 =>
  (gR h1 f_Year_land x0).bind fun v2 =>
  if v2 = none then
    b2 (F_X1_no x0 (1 : Int32) h1) fun v5 h4 =>
    some (v5, h4)
  else
    (F_X1_cellsOf N x0 (2 : Int32) h1).bind fun v3 =>
    some (v3, h1)
theorem mX1_shared (l : Launch) (G : ZG) (N : Nat) (x0 : Option Nat) (h : AH) (r : Int32 × AH) (hr : F_X1_shared N x0 h = some r) : MZ l G yX1_shared cX1_shared 1 (some .int) 5 141 [vr x0] h (eIH r) := by
  unfold F_X1_shared at hr
  refine MZ.of (by decide) [(0, vr x0)] rfl (Nat.le_of_ble_eq_true rfl) (fun K O => ?_)
  have O : ZOk K cX1_shared RX1 "shared" 1 (some .int) 5 141 := O
  refine bs hr (fun _ hck hr => ?_)
  refine z_aload_n O 0 dX1_shared_0 rfl rfl ?_
  refine bs hr (fun h1 hF hr => ?_)
  refine z_callVv O [] fV_X1_anew q528 (fun l G => mX1_anew l G x0 h _ hF) (zck hF) rfl rfl ⟨Nat.le_of_ble_eq_true rfl, Nat.le_of_ble_eq_true rfl⟩ (Nat.le_of_ble_eq_true rfl) dX1_shared_1 ?_
  refine z_aload_n O 0 dX1_shared_4 rfl rfl ?_
  refine z_getR O o_Year_land q463 dX1_shared_5 hr (fun v2 hr => ?_)
  refine z_ifnonnull (tgt := 19) O dX1_shared_8 (by decide) hr (fun hr => ?_) (fun hr => ?_)
  · refine z_aload_n O 0 dX1_shared_11 rfl rfl ?_
    refine z_iconst O dX1_shared_12 kic_1 ?_
    refine b2s hr (fun v5 h4 hF hr => ?_)
    refine z_callV O [vi (1 : Int32)] (vi v5) fV_X1_no q535 (fun l G => mX1_no l G x0 (1 : Int32) h1 _ hF) (zck hF) rfl rfl ⟨Nat.le_of_ble_eq_true rfl, Nat.le_of_ble_eq_true rfl⟩ (Nat.le_of_ble_eq_true rfl) dX1_shared_13 ?_
    refine z_goto (tgt := 24) O dX1_shared_16 (by decide) ?_
    exact z_iret O dX1_shared_24 (by cases hr; rfl)
  · refine z_aload_n O 0 dX1_shared_19 rfl rfl ?_
    refine z_iconst O dX1_shared_20 kic_2 ?_
    refine bs hr (fun v3 hF hr => ?_)
    refine z_callV O [vi (2 : Int32)] (vi v3) fV_X1_cellsOf q1232 (fun l G => mX1_cellsOf l G N x0 (2 : Int32) h1 _ hF) (zck hF) rfl rfl ⟨Nat.le_of_ble_eq_true rfl, Nat.le_of_ble_eq_true rfl⟩ (Nat.le_of_ble_eq_true rfl) dX1_shared_21 ?_
    exact z_iret O dX1_shared_24 (by cases hr; rfl)
theorem fV_X1_size : CVf RX1 yX1_size cX1_size 2 (some .int) 1 := ⟨q1720, q1721, q126, q1722, ⟨⟨by decide +kernel, by decide +kernel⟩, by decide +kernel⟩⟩
def F_X1_size (x0 : Option Nat) (x1 : Int32) (h : AH) : Option (Int32) :=
  (ck h [1] x0).bind fun _ =>
  if x1 = (12 : Int32) then
    (gI h f_Year_taped x0).bind fun v37 =>
    some v37
  else
    (gR h f_Year_land x0).bind fun v1 =>
    if v1 = none then
      (F_X1_within x1 (0 : Int32) (11 : Int32)).bind fun v36 =>
      if v36 = 0 then
        some (-1 : Int32)
      else
        some (0 : Int32)
    else
      if x1 = (0 : Int32) then
        (gR h f_Year_land x0).bind fun v14 =>
        (gI h f_Land_wide v14).bind fun v15 =>
        some v15
      else if x1 = (1 : Int32) then
        (gR h f_Year_land x0).bind fun v16 =>
        (gI h f_Land_high v16).bind fun v17 =>
        some v17
      else if x1 = (2 : Int32) then
        (gR h f_Year_land x0).bind fun v18 =>
        (gI h f_Land_far v18).bind fun v19 =>
        if v19 = 0 then
          some (0 : Int32)
        else
          some (1 : Int32)
      else if x1 = (3 : Int32) then
        (gR h f_Year_land x0).bind fun v20 =>
        (gI h f_Land_share v20).bind fun v21 =>
        if v21 = 0 then
          some (0 : Int32)
        else
          some (1 : Int32)
      else if x1 = (4 : Int32) then
        (gR h f_Year_land x0).bind fun v22 =>
        (gI h f_Land_stoneMany v22).bind fun v23 =>
        some v23
      else if x1 = (5 : Int32) then
        (gR h f_Year_land x0).bind fun v24 =>
        (gI h f_Land_siteMany v24).bind fun v25 =>
        some v25
      else if x1 = (6 : Int32) then
        (gR h f_Year_land x0).bind fun v26 =>
        (gI h f_Land_heirMany v26).bind fun v27 =>
        some v27
      else if x1 = (7 : Int32) then
        (gR h f_Year_land x0).bind fun v28 =>
        (gI h f_Land_wallMany v28).bind fun v29 =>
        some v29
      else if x1 = (8 : Int32) then
        (gR h f_Year_village x0).bind fun v30 =>
        (gI h f_Village_year v30).bind fun v31 =>
        some v31
      else if x1 = (9 : Int32) then
        (gR h f_Year_village x0).bind fun v32 =>
        (gI h f_Village_seed v32).bind fun v33 =>
        some v33
      else if x1 = (10 : Int32) then
        (gI h f_Year_undoMany x0).bind fun v34 =>
        some v34
      else if x1 = (11 : Int32) then
        (gI h f_Year_markMany x0).bind fun v35 =>
        some v35
      else 
        some (-1 : Int32)
theorem mX1_size (l : Launch) (G : ZG) (x0 : Option Nat) (x1 : Int32) (h : AH) (r : Int32) (hr : F_X1_size x0 x1 h = some r) : MZ l G yX1_size cX1_size 2 (some .int) 2 70 [vr x0, vi x1] h (eI h r) := by
  unfold F_X1_size at hr
  refine MZ.of (by decide) [(0, vr x0), (1, vi x1)] rfl (Nat.le_of_ble_eq_true rfl) (fun K O => ?_)
  have O : ZOk K cX1_size RX1 "size" 2 (some .int) 2 70 := O
  refine bs hr (fun _ hck hr => ?_)
  refine z_iload_n O 1 dX1_size_0 rfl rfl ?_
  refine z_bipush O dX1_size_1 kbi_12 ?_
  refine z_icmp_ne (tgt := 11) O dX1_size_3 (by decide) hr (fun hr => ?_) (fun hr => ?_)
  · refine z_aload_n O 0 dX1_size_6 rfl rfl ?_
    refine z_getI O o_Year_taped q461 dX1_size_7 hr (fun v37 hr => ?_)
    exact z_iret O dX1_size_10 (by cases hr; rfl)
  · refine z_aload_n O 0 dX1_size_11 rfl rfl ?_
    refine z_getR O o_Year_land q463 dX1_size_12 hr (fun v1 hr => ?_)
    refine z_ifnonnull (tgt := 34) O dX1_size_15 (by decide) hr (fun hr => ?_) (fun hr => ?_)
    · refine z_iload_n O 1 dX1_size_18 rfl rfl ?_
      refine z_iconst O dX1_size_19 kic_0 ?_
      refine z_bipush O dX1_size_20 kbi_11 ?_
      refine bs hr (fun v36 hF hr => ?_)
      refine z_callS O [vi x1, vi (0 : Int32), vi (11 : Int32)] (vi v36) fS_X1_within q532 (fun l G => mX1_within l G x1 (0 : Int32) (11 : Int32) h _ hF) rfl ⟨Nat.le_of_ble_eq_true rfl, Nat.le_of_ble_eq_true rfl⟩ (Nat.le_of_ble_eq_true rfl) dX1_size_22 ?_
      refine z_if_eq (tgt := 32) O dX1_size_25 (by decide) hr (fun hr => ?_) (fun hr => ?_)
      · refine z_iconst O dX1_size_32 kic_m1 ?_
        exact z_iret O dX1_size_33 (by cases hr; rfl)
      · refine z_iconst O dX1_size_28 kic_0 ?_
        refine z_goto (tgt := 33) O dX1_size_29 (by decide) ?_
        exact z_iret O dX1_size_33 (by cases hr; rfl)
    · refine z_iload_n O 1 dX1_size_34 rfl rfl ?_
      refine zite hr (fun c2 hr => ?_) (fun c2 hr => ?_)
      · refine z_tabIn (v := (0 : Int32)) (off := 61) (tgt := 96) O dX1_size_35 c2 (by decide) (by decide +kernel) (by decide) ?_
        refine z_aload_n O 0 dX1_size_96 rfl rfl ?_
        refine z_getR O o_Year_land q463 dX1_size_97 hr (fun v14 hr => ?_)
        refine z_getI O o_Land_wide q580 dX1_size_100 hr (fun v15 hr => ?_)
        exact z_iret O dX1_size_103 (by cases hr; rfl)
      refine zite hr (fun c3 hr => ?_) (fun c3 hr => ?_)
      · refine z_tabIn (v := (1 : Int32)) (off := 69) (tgt := 104) O dX1_size_35 c3 (by decide) (by decide +kernel) (by decide) ?_
        refine z_aload_n O 0 dX1_size_104 rfl rfl ?_
        refine z_getR O o_Year_land q463 dX1_size_105 hr (fun v16 hr => ?_)
        refine z_getI O o_Land_high q584 dX1_size_108 hr (fun v17 hr => ?_)
        exact z_iret O dX1_size_111 (by cases hr; rfl)
      refine zite hr (fun c4 hr => ?_) (fun c4 hr => ?_)
      · refine z_tabIn (v := (2 : Int32)) (off := 77) (tgt := 112) O dX1_size_35 c4 (by decide) (by decide +kernel) (by decide) ?_
        refine z_aload_n O 0 dX1_size_112 rfl rfl ?_
        refine z_getR O o_Year_land q463 dX1_size_113 hr (fun v18 hr => ?_)
        refine z_getI O o_Land_far q614 dX1_size_116 hr (fun v19 hr => ?_)
        refine z_if_eq (tgt := 126) O dX1_size_119 (by decide) hr (fun hr => ?_) (fun hr => ?_)
        · refine z_iconst O dX1_size_126 kic_0 ?_
          exact z_iret O dX1_size_127 (by cases hr; rfl)
        · refine z_iconst O dX1_size_122 kic_1 ?_
          refine z_goto (tgt := 127) O dX1_size_123 (by decide) ?_
          exact z_iret O dX1_size_127 (by cases hr; rfl)
      refine zite hr (fun c5 hr => ?_) (fun c5 hr => ?_)
      · refine z_tabIn (v := (3 : Int32)) (off := 93) (tgt := 128) O dX1_size_35 c5 (by decide) (by decide +kernel) (by decide) ?_
        refine z_aload_n O 0 dX1_size_128 rfl rfl ?_
        refine z_getR O o_Year_land q463 dX1_size_129 hr (fun v20 hr => ?_)
        refine z_getI O o_Land_share q617 dX1_size_132 hr (fun v21 hr => ?_)
        refine z_if_eq (tgt := 142) O dX1_size_135 (by decide) hr (fun hr => ?_) (fun hr => ?_)
        · refine z_iconst O dX1_size_142 kic_0 ?_
          exact z_iret O dX1_size_143 (by cases hr; rfl)
        · refine z_iconst O dX1_size_138 kic_1 ?_
          refine z_goto (tgt := 143) O dX1_size_139 (by decide) ?_
          exact z_iret O dX1_size_143 (by cases hr; rfl)
      refine zite hr (fun c6 hr => ?_) (fun c6 hr => ?_)
      · refine z_tabIn (v := (4 : Int32)) (off := 109) (tgt := 144) O dX1_size_35 c6 (by decide) (by decide +kernel) (by decide) ?_
        refine z_aload_n O 0 dX1_size_144 rfl rfl ?_
        refine z_getR O o_Year_land q463 dX1_size_145 hr (fun v22 hr => ?_)
        refine z_getI O o_Land_stoneMany q596 dX1_size_148 hr (fun v23 hr => ?_)
        exact z_iret O dX1_size_151 (by cases hr; rfl)
      refine zite hr (fun c7 hr => ?_) (fun c7 hr => ?_)
      · refine z_tabIn (v := (5 : Int32)) (off := 117) (tgt := 152) O dX1_size_35 c7 (by decide) (by decide +kernel) (by decide) ?_
        refine z_aload_n O 0 dX1_size_152 rfl rfl ?_
        refine z_getR O o_Year_land q463 dX1_size_153 hr (fun v24 hr => ?_)
        refine z_getI O o_Land_siteMany q600 dX1_size_156 hr (fun v25 hr => ?_)
        exact z_iret O dX1_size_159 (by cases hr; rfl)
      refine zite hr (fun c8 hr => ?_) (fun c8 hr => ?_)
      · refine z_tabIn (v := (6 : Int32)) (off := 125) (tgt := 160) O dX1_size_35 c8 (by decide) (by decide +kernel) (by decide) ?_
        refine z_aload_n O 0 dX1_size_160 rfl rfl ?_
        refine z_getR O o_Year_land q463 dX1_size_161 hr (fun v26 hr => ?_)
        refine z_getI O o_Land_heirMany q602 dX1_size_164 hr (fun v27 hr => ?_)
        exact z_iret O dX1_size_167 (by cases hr; rfl)
      refine zite hr (fun c9 hr => ?_) (fun c9 hr => ?_)
      · refine z_tabIn (v := (7 : Int32)) (off := 133) (tgt := 168) O dX1_size_35 c9 (by decide) (by decide +kernel) (by decide) ?_
        refine z_aload_n O 0 dX1_size_168 rfl rfl ?_
        refine z_getR O o_Year_land q463 dX1_size_169 hr (fun v28 hr => ?_)
        refine z_getI O o_Land_wallMany q607 dX1_size_172 hr (fun v29 hr => ?_)
        exact z_iret O dX1_size_175 (by cases hr; rfl)
      refine zite hr (fun c10 hr => ?_) (fun c10 hr => ?_)
      · refine z_tabIn (v := (8 : Int32)) (off := 141) (tgt := 176) O dX1_size_35 c10 (by decide) (by decide +kernel) (by decide) ?_
        refine z_aload_n O 0 dX1_size_176 rfl rfl ?_
        refine z_getR O o_Year_village q469 dX1_size_177 hr (fun v30 hr => ?_)
        refine z_getI O o_Village_year q349 dX1_size_180 hr (fun v31 hr => ?_)
        exact z_iret O dX1_size_183 (by cases hr; rfl)
      refine zite hr (fun c11 hr => ?_) (fun c11 hr => ?_)
      · refine z_tabIn (v := (9 : Int32)) (off := 149) (tgt := 184) O dX1_size_35 c11 (by decide) (by decide +kernel) (by decide) ?_
        refine z_aload_n O 0 dX1_size_184 rfl rfl ?_
        refine z_getR O o_Year_village q469 dX1_size_185 hr (fun v32 hr => ?_)
        refine z_getI O o_Village_seed q351 dX1_size_188 hr (fun v33 hr => ?_)
        exact z_iret O dX1_size_191 (by cases hr; rfl)
      refine zite hr (fun c12 hr => ?_) (fun c12 hr => ?_)
      · refine z_tabIn (v := (10 : Int32)) (off := 157) (tgt := 192) O dX1_size_35 c12 (by decide) (by decide +kernel) (by decide) ?_
        refine z_aload_n O 0 dX1_size_192 rfl rfl ?_
        refine z_getI O o_Year_undoMany q468 dX1_size_193 hr (fun v34 hr => ?_)
        exact z_iret O dX1_size_196 (by cases hr; rfl)
      refine zite hr (fun c13 hr => ?_) (fun c13 hr => ?_)
      · refine z_tabIn (v := (11 : Int32)) (off := 162) (tgt := 197) O dX1_size_35 c13 (by decide) (by decide +kernel) (by decide) ?_
        refine z_aload_n O 0 dX1_size_197 rfl rfl ?_
        refine z_getI O o_Year_markMany q467 dX1_size_198 hr (fun v35 hr => ?_)
        exact z_iret O dX1_size_201 (by cases hr; rfl)
      refine z_tabOut (tgt := 202) O dX1_size_35 (zt_out 12 (by decide) (lt_s (p := fun j : Nat => ¬ x1.toInt = (0 : Int) + (j : Int)) (lt_s (p := fun j : Nat => ¬ x1.toInt = (0 : Int) + (j : Int)) (lt_s (p := fun j : Nat => ¬ x1.toInt = (0 : Int) + (j : Int)) (lt_s (p := fun j : Nat => ¬ x1.toInt = (0 : Int) + (j : Int)) (lt_s (p := fun j : Nat => ¬ x1.toInt = (0 : Int) + (j : Int)) (lt_s (p := fun j : Nat => ¬ x1.toInt = (0 : Int) + (j : Int)) (lt_s (p := fun j : Nat => ¬ x1.toInt = (0 : Int) + (j : Int)) (lt_s (p := fun j : Nat => ¬ x1.toInt = (0 : Int) + (j : Int)) (lt_s (p := fun j : Nat => ¬ x1.toInt = (0 : Int) + (j : Int)) (lt_s (p := fun j : Nat => ¬ x1.toInt = (0 : Int) + (j : Int)) (lt_s (p := fun j : Nat => ¬ x1.toInt = (0 : Int) + (j : Int)) (lt_s (p := fun j : Nat => ¬ x1.toInt = (0 : Int) + (j : Int)) lt_0 (lv_neT c2 (by decide))) (lv_neT c3 (by decide))) (lv_neT c4 (by decide))) (lv_neT c5 (by decide))) (lv_neT c6 (by decide))) (lv_neT c7 (by decide))) (lv_neT c8 (by decide))) (lv_neT c9 (by decide))) (lv_neT c10 (by decide))) (lv_neT c11 (by decide))) (lv_neT c12 (by decide))) (lv_neT c13 (by decide)))) (by decide) ?_
      refine z_iconst O dX1_size_202 kic_m1 ?_
      exact z_iret O dX1_size_203 (by cases hr; rfl)
