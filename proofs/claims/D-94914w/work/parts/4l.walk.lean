set_option maxRecDepth 100000
set_option maxHeartbeats 4000000
theorem fV_X9_goesOn : CVf RX9 yX9_goesOn cX9_goesOn 3 (none : Option Jvm.ClassFile.FieldType) 0 := ⟨q2014, qs62, q137, q2015, ⟨⟨by decide +kernel, by decide +kernel⟩, by decide +kernel⟩⟩
def bX9_goesOn_136 (N : Nat) (rec89 : Int32 → AH → Option (AH)) (x0 : Option Nat) (x2 : Int32) (h : AH) : Option (AH) :=
  jlet (x2 + (1 : Int32)) fun v1 =>
  (gI h f_Model_spot x0).bind fun v2 =>
  (pI h f_Model_spot x0 (v2 + (1 : Int32))).bind fun h3 =>
  rec89 v1 h3
theorem wX9_goesOn_136 {K : ZC} (O : ZOk K cX9_goesOn RX9 "goesOn" 3 (none : Option Jvm.ClassFile.FieldType) 2 69) (N : Nat) (rec89 : Int32 → AH → Option (AH)) (x0 : Option Nat) (x2 : Int32) (h : AH) (hrec89 : ∀ (y2 : Int32) (hy : AH) (ry : AH), rec89 y2 hy = some ry → Zw K (eH ry) hy 89 [(0, vr x0), (2, vi y2)] []) (r : AH) (hr : bX9_goesOn_136 N rec89 x0 x2 h = some r) : Zw K (eH r) h 136 [(0, vr x0), (2, vi x2)] [] := by
  unfold bX9_goesOn_136 at hr
  refine z_iincL O 1 (fun v1 => [(2, vi v1), (0, vr x0)]) dX9_goesOn_136 rfl rfl (by decide) (fun _ => rfl) hr (fun v1 hr => ?_)
  refine z_aload_n O 1 dX9_goesOn_139 rfl rfl ?_
  refine z_dup O dX9_goesOn_140 rfl ?_
  refine z_getI O o_Model_spot q1770 dX9_goesOn_141 hr (fun v2 hr => ?_)
  refine z_iconst O dX9_goesOn_144 kic_1 ?_
  refine z_iadd O dX9_goesOn_145 ?_
  refine z_putI O o_Model_spot (w_Model_spot _) q1770 dX9_goesOn_146 hr (fun h3 hr => ?_)
  refine z_goto (tgt := 89) O dX9_goesOn_149 (by decide) ?_
  refine z_sub [1, 0] rfl ?_
  exact hrec89 v1 h3 _ hr
def BX9_goesOn_89 (N : Nat) (x0 : Option Nat) (rec89 : Int32 → AH → Option (AH)) : Int32 → AH → Option (AH) := fun x2 h =>
  (gI h f_Model_spot x0).bind fun v1 =>
  (F_X9_byteAt x0 v1 h).bind fun v2 =>
  (F_X9_isLetter v2).bind fun v3 =>
  if v3 = 0 then
    if (8 : Int32) < x2 then
      some h
    else
      (pI h f_Model_sort x0 (2 : Int32)).bind fun h4 =>
      some h4
  else
    if (8 : Int32) ≤ x2 then
      bX9_goesOn_136 N rec89 x0 x2 h
    else
      (gJ h f_Model_word x0).bind fun v5 =>
      (gI h f_Model_spot x0).bind fun v6 =>
      (F_X9_byteAt x0 v6 h).bind fun v7 =>
      (pJ h f_Model_word x0 (((32 : Int64) * v5) + (((v7 - (97 : Int32)) + (1 : Int32)).toInt64))).bind fun h8 =>
      bX9_goesOn_136 N rec89 x0 x2 h8
def LX9_goesOn_89 (N : Nat) (x0 : Option Nat) : Int32 → AH → Option (AH) := lf (fun _ _ => none) (BX9_goesOn_89 N x0) N
theorem wX9_goesOn_89B {K : ZC} (O : ZOk K cX9_goesOn RX9 "goesOn" 3 (none : Option Jvm.ClassFile.FieldType) 2 69) (N : Nat) (x0 : Option Nat) (rec89 : Int32 → AH → Option (AH)) (hrec89 : ∀ (y2 : Int32) (hy : AH) (ry : AH), rec89 y2 hy = some ry → Zw K (eH ry) hy 89 [(0, vr x0), (2, vi y2)] []) (x2 : Int32) (h : AH) (r : AH) (hr : BX9_goesOn_89 N x0 rec89 x2 h = some r) : Zw K (eH r) h 89 [(0, vr x0), (2, vi x2)] [] := by
  unfold BX9_goesOn_89 at hr
  refine z_aload_n O 0 dX9_goesOn_89 rfl rfl ?_
  refine z_aload_n O 0 dX9_goesOn_90 rfl rfl ?_
  refine z_getI O o_Model_spot q1770 dX9_goesOn_91 hr (fun v1 hr => ?_)
  refine bs hr (fun v2 hF hr => ?_)
  refine z_callV O [vi v1] (vi v2) fV_X9_byteAt q2016 (fun l G => mX9_byteAt l G x0 v1 h _ hF) (zck hF) rfl rfl ⟨Nat.le_of_ble_eq_true rfl, Nat.le_of_ble_eq_true rfl⟩ (Nat.le_of_ble_eq_true rfl) dX9_goesOn_94 ?_
  refine bs hr (fun v3 hF hr => ?_)
  refine z_callS O [vi v2] (vi v3) fS_X9_isLetter q2020 (fun l G => mX9_isLetter l G v2 h _ hF) rfl ⟨Nat.le_of_ble_eq_true rfl, Nat.le_of_ble_eq_true rfl⟩ (Nat.le_of_ble_eq_true rfl) dX9_goesOn_97 ?_
  refine z_if_eq (tgt := 152) O dX9_goesOn_100 (by decide) hr (fun hr => ?_) (fun hr => ?_)
  · refine z_iload_n O 1 dX9_goesOn_152 rfl rfl ?_
    refine z_bipush O dX9_goesOn_153 kbi_8 ?_
    refine z_icmp_gt (tgt := 281) O dX9_goesOn_155 (by decide) hr (fun hr => ?_) (fun hr => ?_)
    · exact z_vret O dX9_goesOn_281 (by cases hr; rfl)
    · refine z_aload_n O 0 dX9_goesOn_158 rfl rfl ?_
      refine z_iconst O dX9_goesOn_159 kic_2 ?_
      refine z_putI O o_Model_sort (w_Model_sort _) q1771 dX9_goesOn_160 hr (fun h4 hr => ?_)
      refine z_goto (tgt := 281) O dX9_goesOn_163 (by decide) ?_
      exact z_vret O dX9_goesOn_281 (by cases hr; rfl)
  · refine z_iload_n O 1 dX9_goesOn_103 rfl rfl ?_
    refine z_bipush O dX9_goesOn_104 kbi_8 ?_
    refine z_icmp_ge (tgt := 136) O dX9_goesOn_106 (by decide) hr (fun hr => ?_) (fun hr => ?_)
    · exact wX9_goesOn_136 O N rec89 x0 x2 h hrec89 _ hr
    · refine z_aload_n O 0 dX9_goesOn_109 rfl rfl ?_
      refine z_ldc2 O q2023 dX9_goesOn_110 ?_
      refine z_aload_n O 0 dX9_goesOn_113 rfl rfl ?_
      refine z_getJ O o_Model_word q1777 dX9_goesOn_114 hr (fun v5 hr => ?_)
      refine z_lmul O dX9_goesOn_117 ?_
      refine z_aload_n O 0 dX9_goesOn_118 rfl rfl ?_
      refine z_aload_n O 0 dX9_goesOn_119 rfl rfl ?_
      refine z_getI O o_Model_spot q1770 dX9_goesOn_120 hr (fun v6 hr => ?_)
      refine bs hr (fun v7 hF hr => ?_)
      refine z_callV O [vi v6] (vi v7) fV_X9_byteAt q2016 (fun l G => mX9_byteAt l G x0 v6 h _ hF) (zck hF) rfl rfl ⟨Nat.le_of_ble_eq_true rfl, Nat.le_of_ble_eq_true rfl⟩ (Nat.le_of_ble_eq_true rfl) dX9_goesOn_123 ?_
      refine z_bipush O dX9_goesOn_126 kbi_97 ?_
      refine z_isub O dX9_goesOn_128 ?_
      refine z_iconst O dX9_goesOn_129 kic_1 ?_
      refine z_iadd O dX9_goesOn_130 ?_
      refine z_i2l O dX9_goesOn_131 ?_
      refine z_ladd O dX9_goesOn_132 ?_
      refine z_putJ O o_Model_word (w_Model_word _) q1777 dX9_goesOn_133 hr (fun h8 hr => ?_)
      exact wX9_goesOn_136 O N rec89 x0 x2 h8 hrec89 _ hr
theorem wX9_goesOn_89 {K : ZC} (O : ZOk K cX9_goesOn RX9 "goesOn" 3 (none : Option Jvm.ClassFile.FieldType) 2 69) (N : Nat) (x0 : Option Nat) : ∀ (n : Nat) (x2 : Int32) (h : AH) (r : AH), lf (fun _ _ => none) (BX9_goesOn_89 N x0) n x2 h = some r → Zw K (eH r) h 89 [(0, vr x0), (2, vi x2)] [] := by
  intro n
  induction n with
  | zero => intro x2 h r hr; cases hr
  | succ n ih => intro x2 h r hr; exact wX9_goesOn_89B O N x0 (lf (fun _ _ => none) (BX9_goesOn_89 N x0) n)  ih x2 h r hr
def bX9_goesOn_220 (N : Nat) (rec178 : Int32 → AH → Option (AH)) (x0 : Option Nat) (x2 : Int32) (h : AH) : Option (AH) :=
  jlet (x2 + (1 : Int32)) fun v1 =>
  (gI h f_Model_spot x0).bind fun v2 =>
  (pI h f_Model_spot x0 (v2 + (1 : Int32))).bind fun h3 =>
  rec178 v1 h3
theorem wX9_goesOn_220 {K : ZC} (O : ZOk K cX9_goesOn RX9 "goesOn" 3 (none : Option Jvm.ClassFile.FieldType) 2 69) (N : Nat) (rec178 : Int32 → AH → Option (AH)) (x0 : Option Nat) (x2 : Int32) (h : AH) (hrec178 : ∀ (y2 : Int32) (hy : AH) (ry : AH), rec178 y2 hy = some ry → Zw K (eH ry) hy 178 [(0, vr x0), (2, vi y2)] []) (r : AH) (hr : bX9_goesOn_220 N rec178 x0 x2 h = some r) : Zw K (eH r) h 220 [(0, vr x0), (2, vi x2)] [] := by
  unfold bX9_goesOn_220 at hr
  refine z_iincL O 1 (fun v1 => [(2, vi v1), (0, vr x0)]) dX9_goesOn_220 rfl rfl (by decide) (fun _ => rfl) hr (fun v1 hr => ?_)
  refine z_aload_n O 1 dX9_goesOn_223 rfl rfl ?_
  refine z_dup O dX9_goesOn_224 rfl ?_
  refine z_getI O o_Model_spot q1770 dX9_goesOn_225 hr (fun v2 hr => ?_)
  refine z_iconst O dX9_goesOn_228 kic_1 ?_
  refine z_iadd O dX9_goesOn_229 ?_
  refine z_putI O o_Model_spot (w_Model_spot _) q1770 dX9_goesOn_230 hr (fun h3 hr => ?_)
  refine z_goto (tgt := 178) O dX9_goesOn_233 (by decide) ?_
  refine z_sub [1, 0] rfl ?_
  exact hrec178 v1 h3 _ hr
def BX9_goesOn_178 (N : Nat) (x0 : Option Nat) (rec178 : Int32 → AH → Option (AH)) : Int32 → AH → Option (AH) := fun x2 h =>
  (gI h f_Model_spot x0).bind fun v1 =>
  (F_X9_byteAt x0 v1 h).bind fun v2 =>
  (F_X9_isDigit v2).bind fun v3 =>
  if v3 = 0 then
    if (3 : Int32) < x2 then
      some h
    else
      (pI h f_Model_sort x0 (3 : Int32)).bind fun h4 =>
      some h4
  else
    if (3 : Int32) ≤ x2 then
      bX9_goesOn_220 N rec178 x0 x2 h
    else
      (gI h f_Model_number x0).bind fun v5 =>
      (gI h f_Model_spot x0).bind fun v6 =>
      (F_X9_byteAt x0 v6 h).bind fun v7 =>
      (pI h f_Model_number x0 ((((10 : Int32) * v5) + v7) - (48 : Int32))).bind fun h8 =>
      bX9_goesOn_220 N rec178 x0 x2 h8
def LX9_goesOn_178 (N : Nat) (x0 : Option Nat) : Int32 → AH → Option (AH) := lf (fun _ _ => none) (BX9_goesOn_178 N x0) N
theorem wX9_goesOn_178B {K : ZC} (O : ZOk K cX9_goesOn RX9 "goesOn" 3 (none : Option Jvm.ClassFile.FieldType) 2 69) (N : Nat) (x0 : Option Nat) (rec178 : Int32 → AH → Option (AH)) (hrec178 : ∀ (y2 : Int32) (hy : AH) (ry : AH), rec178 y2 hy = some ry → Zw K (eH ry) hy 178 [(0, vr x0), (2, vi y2)] []) (x2 : Int32) (h : AH) (r : AH) (hr : BX9_goesOn_178 N x0 rec178 x2 h = some r) : Zw K (eH r) h 178 [(0, vr x0), (2, vi x2)] [] := by
  unfold BX9_goesOn_178 at hr
  refine z_aload_n O 0 dX9_goesOn_178 rfl rfl ?_
  refine z_aload_n O 0 dX9_goesOn_179 rfl rfl ?_
  refine z_getI O o_Model_spot q1770 dX9_goesOn_180 hr (fun v1 hr => ?_)
  refine bs hr (fun v2 hF hr => ?_)
  refine z_callV O [vi v1] (vi v2) fV_X9_byteAt q2016 (fun l G => mX9_byteAt l G x0 v1 h _ hF) (zck hF) rfl rfl ⟨Nat.le_of_ble_eq_true rfl, Nat.le_of_ble_eq_true rfl⟩ (Nat.le_of_ble_eq_true rfl) dX9_goesOn_183 ?_
  refine bs hr (fun v3 hF hr => ?_)
  refine z_callS O [vi v2] (vi v3) fS_X9_isDigit q2024 (fun l G => mX9_isDigit l G v2 h _ hF) rfl ⟨Nat.le_of_ble_eq_true rfl, Nat.le_of_ble_eq_true rfl⟩ (Nat.le_of_ble_eq_true rfl) dX9_goesOn_186 ?_
  refine z_if_eq (tgt := 236) O dX9_goesOn_189 (by decide) hr (fun hr => ?_) (fun hr => ?_)
  · refine z_iload_n O 1 dX9_goesOn_236 rfl rfl ?_
    refine z_iconst O dX9_goesOn_237 kic_3 ?_
    refine z_icmp_gt (tgt := 281) O dX9_goesOn_238 (by decide) hr (fun hr => ?_) (fun hr => ?_)
    · exact z_vret O dX9_goesOn_281 (by cases hr; rfl)
    · refine z_aload_n O 0 dX9_goesOn_241 rfl rfl ?_
      refine z_iconst O dX9_goesOn_242 kic_3 ?_
      refine z_putI O o_Model_sort (w_Model_sort _) q1771 dX9_goesOn_243 hr (fun h4 hr => ?_)
      refine z_goto (tgt := 281) O dX9_goesOn_246 (by decide) ?_
      exact z_vret O dX9_goesOn_281 (by cases hr; rfl)
  · refine z_iload_n O 1 dX9_goesOn_192 rfl rfl ?_
    refine z_iconst O dX9_goesOn_193 kic_3 ?_
    refine z_icmp_ge (tgt := 220) O dX9_goesOn_194 (by decide) hr (fun hr => ?_) (fun hr => ?_)
    · exact wX9_goesOn_220 O N rec178 x0 x2 h hrec178 _ hr
    · refine z_aload_n O 0 dX9_goesOn_197 rfl rfl ?_
      refine z_bipush O dX9_goesOn_198 kbi_10 ?_
      refine z_aload_n O 0 dX9_goesOn_200 rfl rfl ?_
      refine z_getI O o_Model_number q1774 dX9_goesOn_201 hr (fun v5 hr => ?_)
      refine z_imul O dX9_goesOn_204 ?_
      refine z_aload_n O 0 dX9_goesOn_205 rfl rfl ?_
      refine z_aload_n O 0 dX9_goesOn_206 rfl rfl ?_
      refine z_getI O o_Model_spot q1770 dX9_goesOn_207 hr (fun v6 hr => ?_)
      refine bs hr (fun v7 hF hr => ?_)
      refine z_callV O [vi v6] (vi v7) fV_X9_byteAt q2016 (fun l G => mX9_byteAt l G x0 v6 h _ hF) (zck hF) rfl rfl ⟨Nat.le_of_ble_eq_true rfl, Nat.le_of_ble_eq_true rfl⟩ (Nat.le_of_ble_eq_true rfl) dX9_goesOn_210 ?_
      refine z_iadd O dX9_goesOn_213 ?_
      refine z_bipush O dX9_goesOn_214 kbi_48 ?_
      refine z_isub O dX9_goesOn_216 ?_
      refine z_putI O o_Model_number (w_Model_number _) q1774 dX9_goesOn_217 hr (fun h8 hr => ?_)
      exact wX9_goesOn_220 O N rec178 x0 x2 h8 hrec178 _ hr
theorem wX9_goesOn_178 {K : ZC} (O : ZOk K cX9_goesOn RX9 "goesOn" 3 (none : Option Jvm.ClassFile.FieldType) 2 69) (N : Nat) (x0 : Option Nat) : ∀ (n : Nat) (x2 : Int32) (h : AH) (r : AH), lf (fun _ _ => none) (BX9_goesOn_178 N x0) n x2 h = some r → Zw K (eH r) h 178 [(0, vr x0), (2, vi x2)] [] := by
  intro n
  induction n with
  | zero => intro x2 h r hr; cases hr
  | succ n ih => intro x2 h r hr; exact wX9_goesOn_178B O N x0 (lf (fun _ _ => none) (BX9_goesOn_178 N x0) n)  ih x2 h r hr
def bX9_goesOn_261 (N : Nat) (x0 : Option Nat) (x1 : Int32) (h : AH) : Option (AH) :=
  (pI h f_Model_sort x0 (4 : Int32)).bind fun h1 =>
  (pI h1 f_Model_sign x0 x1).bind fun h2 =>
  (gI h2 f_Model_spot x0).bind fun v3 =>
  (pI h2 f_Model_spot x0 (v3 + (1 : Int32))).bind fun h4 =>
  some h4
theorem wX9_goesOn_261 {K : ZC} (O : ZOk K cX9_goesOn RX9 "goesOn" 3 (none : Option Jvm.ClassFile.FieldType) 2 69) (N : Nat) (x0 : Option Nat) (x1 : Int32) (h : AH) (r : AH) (hr : bX9_goesOn_261 N x0 x1 h = some r) : Zw K (eH r) h 261 [(0, vr x0), (1, vi x1)] [] := by
  unfold bX9_goesOn_261 at hr
  refine z_aload_n O 0 dX9_goesOn_261 rfl rfl ?_
  refine z_iconst O dX9_goesOn_262 kic_4 ?_
  refine z_putI O o_Model_sort (w_Model_sort _) q1771 dX9_goesOn_263 hr (fun h1 hr => ?_)
  refine z_aload_n O 0 dX9_goesOn_266 rfl rfl ?_
  refine z_iload_n O 1 dX9_goesOn_267 rfl rfl ?_
  refine z_putI O o_Model_sign (w_Model_sign _) q1773 dX9_goesOn_268 hr (fun h2 hr => ?_)
  refine z_aload_n O 0 dX9_goesOn_271 rfl rfl ?_
  refine z_dup O dX9_goesOn_272 rfl ?_
  refine z_getI O o_Model_spot q1770 dX9_goesOn_273 hr (fun v3 hr => ?_)
  refine z_iconst O dX9_goesOn_276 kic_1 ?_
  refine z_iadd O dX9_goesOn_277 ?_
  refine z_putI O o_Model_spot (w_Model_spot _) q1770 dX9_goesOn_278 hr (fun h4 hr => ?_)
  exact z_vret O dX9_goesOn_281 (by cases hr; rfl)
def BX9_goesOn_9 (N : Nat) (x0 : Option Nat) (rec9 : AH → Option (AH)) : AH → Option (AH) := fun h =>
  (gI h f_Model_spot x0).bind fun v1 =>
  (F_X9_byteAt x0 v1 h).bind fun v2 =>
  if v2 = (32 : Int32) then
    (gI h f_Model_spot x0).bind fun v14 =>
    (pI h f_Model_spot x0 (v14 + (1 : Int32))).bind fun h15 =>
    rec9  h15
  else
    (gI h f_Model_spot x0).bind fun v3 =>
    (pI h f_Model_place x0 v3).bind fun h4 =>
    (pI h4 f_Model_sort x0 (0 : Int32)).bind fun h5 =>
    (pI h5 f_Model_sign x0 (0 : Int32)).bind fun h6 =>
    (gI h6 f_Model_spot x0).bind fun v7 =>
    (F_X9_byteAt x0 v7 h6).bind fun v8 =>
    if v8 = (-1 : Int32) then
      (pI h6 f_Model_sort x0 (1 : Int32)).bind fun h13 =>
      some h13
    else
      (F_X9_isLetter v8).bind fun v9 =>
      if v9 = 0 then
        (F_X9_isDigit v8).bind fun v10 =>
        if v10 = 0 then
          if v8 = (59 : Int32) then
            bX9_goesOn_261 N x0 v8 h6
          else
            if v8 = (44 : Int32) then
              bX9_goesOn_261 N x0 v8 h6
            else
              some h6
        else
          (pI h6 f_Model_number x0 (0 : Int32)).bind fun h11 =>
          LX9_goesOn_178 N x0 (0 : Int32) h11
      else
        (pJ h6 f_Model_word x0 (0 : Int64)).bind fun h12 =>
        LX9_goesOn_89 N x0 (0 : Int32) h12
def LX9_goesOn_9 (N : Nat) (x0 : Option Nat) : AH → Option (AH) := lf (fun _ => none) (BX9_goesOn_9 N x0) N
theorem wX9_goesOn_9B {K : ZC} (O : ZOk K cX9_goesOn RX9 "goesOn" 3 (none : Option Jvm.ClassFile.FieldType) 2 69) (N : Nat) (x0 : Option Nat) (rec9 : AH → Option (AH)) (hrec9 : ∀  (hy : AH) (ry : AH), rec9  hy = some ry → Zw K (eH ry) hy 9 [(0, vr x0)] []) (h : AH) (r : AH) (hr : BX9_goesOn_9 N x0 rec9 h = some r) : Zw K (eH r) h 9 [(0, vr x0)] [] := by
  unfold BX9_goesOn_9 at hr
  refine z_aload_n O 0 dX9_goesOn_9 rfl rfl ?_
  refine z_aload_n O 0 dX9_goesOn_10 rfl rfl ?_
  refine z_getI O o_Model_spot q1770 dX9_goesOn_11 hr (fun v1 hr => ?_)
  refine bs hr (fun v2 hF hr => ?_)
  refine z_callV O [vi v1] (vi v2) fV_X9_byteAt q2016 (fun l G => mX9_byteAt l G x0 v1 h _ hF) (zck hF) rfl rfl ⟨Nat.le_of_ble_eq_true rfl, Nat.le_of_ble_eq_true rfl⟩ (Nat.le_of_ble_eq_true rfl) dX9_goesOn_14 ?_
  refine z_bipush O dX9_goesOn_17 kbi_32 ?_
  refine z_icmp_ne (tgt := 35) O dX9_goesOn_19 (by decide) hr (fun hr => ?_) (fun hr => ?_)
  · refine z_aload_n O 0 dX9_goesOn_22 rfl rfl ?_
    refine z_dup O dX9_goesOn_23 rfl ?_
    refine z_getI O o_Model_spot q1770 dX9_goesOn_24 hr (fun v14 hr => ?_)
    refine z_iconst O dX9_goesOn_27 kic_1 ?_
    refine z_iadd O dX9_goesOn_28 ?_
    refine z_putI O o_Model_spot (w_Model_spot _) q1770 dX9_goesOn_29 hr (fun h15 hr => ?_)
    refine z_goto (tgt := 9) O dX9_goesOn_32 (by decide) ?_
    exact hrec9  h15 _ hr
  · refine z_aload_n O 0 dX9_goesOn_35 rfl rfl ?_
    refine z_aload_n O 0 dX9_goesOn_36 rfl rfl ?_
    refine z_getI O o_Model_spot q1770 dX9_goesOn_37 hr (fun v3 hr => ?_)
    refine z_putI O o_Model_place (w_Model_place _) q1772 dX9_goesOn_40 hr (fun h4 hr => ?_)
    refine z_aload_n O 0 dX9_goesOn_43 rfl rfl ?_
    refine z_iconst O dX9_goesOn_44 kic_0 ?_
    refine z_putI O o_Model_sort (w_Model_sort _) q1771 dX9_goesOn_45 hr (fun h5 hr => ?_)
    refine z_aload_n O 0 dX9_goesOn_48 rfl rfl ?_
    refine z_iconst O dX9_goesOn_49 kic_0 ?_
    refine z_putI O o_Model_sign (w_Model_sign _) q1773 dX9_goesOn_50 hr (fun h6 hr => ?_)
    refine z_aload_n O 0 dX9_goesOn_53 rfl rfl ?_
    refine z_aload_n O 0 dX9_goesOn_54 rfl rfl ?_
    refine z_getI O o_Model_spot q1770 dX9_goesOn_55 hr (fun v7 hr => ?_)
    refine bs hr (fun v8 hF hr => ?_)
    refine z_callV O [vi v7] (vi v8) fV_X9_byteAt q2016 (fun l G => mX9_byteAt l G x0 v7 h6 _ hF) (zck hF) rfl rfl ⟨Nat.le_of_ble_eq_true rfl, Nat.le_of_ble_eq_true rfl⟩ (Nat.le_of_ble_eq_true rfl) dX9_goesOn_58 ?_
    refine z_istore_n O [(1, vi v8), (0, vr x0)] dX9_goesOn_61 rfl (by decide) rfl ?_
    refine z_iconst O dX9_goesOn_62 kic_0 ?_
    refine z_istore_n O [(2, vi (0 : Int32)), (1, vi v8), (0, vr x0)] dX9_goesOn_63 rfl (by decide) rfl ?_
    refine z_iload_n O 1 dX9_goesOn_64 rfl rfl ?_
    refine z_iconst O dX9_goesOn_65 kic_m1 ?_
    refine z_icmp_ne (tgt := 77) O dX9_goesOn_66 (by decide) hr (fun hr => ?_) (fun hr => ?_)
    · refine z_aload_n O 2 dX9_goesOn_69 rfl rfl ?_
      refine z_iconst O dX9_goesOn_70 kic_1 ?_
      refine z_putI O o_Model_sort (w_Model_sort _) q1771 dX9_goesOn_71 hr (fun h13 hr => ?_)
      refine z_goto (tgt := 281) O dX9_goesOn_74 (by decide) ?_
      exact z_vret O dX9_goesOn_281 (by cases hr; rfl)
    · refine z_iload_n O 1 dX9_goesOn_77 rfl rfl ?_
      refine bs hr (fun v9 hF hr => ?_)
      refine z_callS O [vi v8] (vi v9) fS_X9_isLetter q2020 (fun l G => mX9_isLetter l G v8 h6 _ hF) rfl ⟨Nat.le_of_ble_eq_true rfl, Nat.le_of_ble_eq_true rfl⟩ (Nat.le_of_ble_eq_true rfl) dX9_goesOn_78 ?_
      refine z_if_eq (tgt := 166) O dX9_goesOn_81 (by decide) hr (fun hr => ?_) (fun hr => ?_)
      · refine z_iload_n O 1 dX9_goesOn_166 rfl rfl ?_
        refine bs hr (fun v10 hF hr => ?_)
        refine z_callS O [vi v8] (vi v10) fS_X9_isDigit q2024 (fun l G => mX9_isDigit l G v8 h6 _ hF) rfl ⟨Nat.le_of_ble_eq_true rfl, Nat.le_of_ble_eq_true rfl⟩ (Nat.le_of_ble_eq_true rfl) dX9_goesOn_167 ?_
        refine z_if_eq (tgt := 249) O dX9_goesOn_170 (by decide) hr (fun hr => ?_) (fun hr => ?_)
        · refine z_iload_n O 1 dX9_goesOn_249 rfl rfl ?_
          refine z_bipush O dX9_goesOn_250 kbi_59 ?_
          refine z_icmp_eq (tgt := 261) O dX9_goesOn_252 (by decide) hr (fun hr => ?_) (fun hr => ?_)
          · refine z_sub [2, 1] rfl ?_
            exact wX9_goesOn_261 O N x0 v8 h6 _ hr
          · refine z_iload_n O 1 dX9_goesOn_255 rfl rfl ?_
            refine z_bipush O dX9_goesOn_256 kbi_44 ?_
            refine z_icmp_ne (tgt := 281) O dX9_goesOn_258 (by decide) hr (fun hr => ?_) (fun hr => ?_)
            · refine z_sub [2, 1] rfl ?_
              exact wX9_goesOn_261 O N x0 v8 h6 _ hr
            · exact z_vret O dX9_goesOn_281 (by cases hr; rfl)
        · refine z_aload_n O 2 dX9_goesOn_173 rfl rfl ?_
          refine z_iconst O dX9_goesOn_174 kic_0 ?_
          refine z_putI O o_Model_number (w_Model_number _) q1774 dX9_goesOn_175 hr (fun h11 hr => ?_)
          refine z_sub [2, 0] rfl ?_
          exact wX9_goesOn_178 O N x0 _ (0 : Int32) h11 _ hr
      · refine z_aload_n O 2 dX9_goesOn_84 rfl rfl ?_
        refine z_lconst (v := (0 : Int64)) O dX9_goesOn_85 (by decide) ?_
        refine z_putJ O o_Model_word (w_Model_word _) q1777 dX9_goesOn_86 hr (fun h12 hr => ?_)
        refine z_sub [2, 0] rfl ?_
        exact wX9_goesOn_89 O N x0 _ (0 : Int32) h12 _ hr
theorem wX9_goesOn_9 {K : ZC} (O : ZOk K cX9_goesOn RX9 "goesOn" 3 (none : Option Jvm.ClassFile.FieldType) 2 69) (N : Nat) (x0 : Option Nat) : ∀ (n : Nat) (h : AH) (r : AH), lf (fun _ => none) (BX9_goesOn_9 N x0) n h = some r → Zw K (eH r) h 9 [(0, vr x0)] [] := by
  intro n
  induction n with
  | zero => intro h r hr; cases hr
  | succ n ih => intro h r hr; exact wX9_goesOn_9B O N x0 (lf (fun _ => none) (BX9_goesOn_9 N x0) n)  ih h r hr
def F_X9_goesOn (N : Nat) (x0 : Option Nat) (h : AH) : Option (AH) :=
  (ck h [9] x0).bind fun _ =>
  (gI h f_Model_sort x0).bind fun v1 =>
  if v1 = (5 : Int32) then
    some h
  else
    LX9_goesOn_9 N x0 h
theorem mX9_goesOn (l : Launch) (G : ZG) (N : Nat) (x0 : Option Nat) (h : AH) (r : AH) (hr : F_X9_goesOn N x0 h = some r) : MZ l G yX9_goesOn cX9_goesOn 3 (none : Option Jvm.ClassFile.FieldType) 2 69 [vr x0] h (eH r) := by
  unfold F_X9_goesOn at hr
  refine MZ.of (by decide) [(0, vr x0)] rfl (Nat.le_of_ble_eq_true rfl) (fun K O => ?_)
  have O : ZOk K cX9_goesOn RX9 "goesOn" 3 (none : Option Jvm.ClassFile.FieldType) 2 69 := O
  refine bs hr (fun _ hck hr => ?_)
  refine z_aload_n O 0 dX9_goesOn_0 rfl rfl ?_
  refine z_getI O o_Model_sort q1771 dX9_goesOn_1 hr (fun v1 hr => ?_)
  refine z_iconst O dX9_goesOn_4 kic_5 ?_
  refine z_icmp_ne (tgt := 9) O dX9_goesOn_5 (by decide) hr (fun hr => ?_) (fun hr => ?_)
  · exact z_vret O dX9_goesOn_8 (by cases hr; rfl)
  · exact wX9_goesOn_9 O N x0 _ h _ hr
theorem fV_X9_eatsSign : CVf RX9 yX9_eatsSign cX9_eatsSign 3 (some .boolean) 1 := ⟨q2247, qs91, q137, q2248, ⟨⟨by decide +kernel, by decide +kernel⟩, by decide +kernel⟩⟩
def bX9_eatsSign_21 (N : Nat) (x0 : Option Nat) (s0 : Int32) (h : AH) : Option (Int32 × AH) :=
  if s0 = 0 then
    (zb s0).bind fun v1 => some (v1, h)
  else
    (F_X9_goesOn N x0 h).bind fun h2 =>
    (zb s0).bind fun v3 => some (v3, h2)
theorem wX9_eatsSign_21 {K : ZC} (O : ZOk K cX9_eatsSign RX9 "eatsSign" 3 (some .boolean) 3 91) (N : Nat) (x0 : Option Nat) (s0 : Int32) (h : AH) (r : Int32 × AH) (hr : bX9_eatsSign_21 N x0 s0 h = some r) : Zw K (eIH r) h 21 [(0, vr x0)] [vi s0] := by
  unfold bX9_eatsSign_21 at hr
  refine z_istore_n O [(2, vi s0), (0, vr x0)] dX9_eatsSign_21 rfl (by decide) rfl ?_
  refine z_iload_n O 0 dX9_eatsSign_22 rfl rfl ?_
  refine z_if_eq (tgt := 30) O dX9_eatsSign_23 (by decide) hr (fun hr => ?_) (fun hr => ?_)
  · refine z_iload_n O 0 dX9_eatsSign_30 rfl rfl ?_
    refine bs hr (fun v1 e0 hr => ?_)
    obtain ⟨e1, e2, -⟩ := zb_spec e0
    exact z_zret O e2 dX9_eatsSign_31 (by cases hr; cases e1; rfl)
  · refine z_aload_n O 1 dX9_eatsSign_26 rfl rfl ?_
    refine bs hr (fun h2 hF hr => ?_)
    refine z_callVv O [] fV_X9_goesOn q2012 (fun l G => mX9_goesOn l G N x0 h _ hF) (zck hF) rfl rfl ⟨Nat.le_of_ble_eq_true rfl, Nat.le_of_ble_eq_true rfl⟩ (Nat.le_of_ble_eq_true rfl) dX9_eatsSign_27 ?_
    refine z_iload_n O 0 dX9_eatsSign_30 rfl rfl ?_
    refine bs hr (fun v3 e0 hr => ?_)
    obtain ⟨e1, e2, -⟩ := zb_spec e0
    exact z_zret O e2 dX9_eatsSign_31 (by cases hr; cases e1; rfl)
def F_X9_eatsSign (N : Nat) (x0 : Option Nat) (x1 : Int32) (h : AH) : Option (Int32 × AH) :=
  (ck h [9] x0).bind fun _ =>
  (gI h f_Model_sort x0).bind fun v1 =>
  if v1 = (4 : Int32) then
    (gI h f_Model_sign x0).bind fun v2 =>
    if v2 = x1 then
      bX9_eatsSign_21 N x0 (1 : Int32) h
    else
      bX9_eatsSign_21 N x0 (0 : Int32) h
  else
    bX9_eatsSign_21 N x0 (0 : Int32) h
theorem mX9_eatsSign (l : Launch) (G : ZG) (N : Nat) (x0 : Option Nat) (x1 : Int32) (h : AH) (r : Int32 × AH) (hr : F_X9_eatsSign N x0 x1 h = some r) : MZ l G yX9_eatsSign cX9_eatsSign 3 (some .boolean) 3 91 [vr x0, vi x1] h (eIH r) := by
  unfold F_X9_eatsSign at hr
  refine MZ.of (by decide) [(0, vr x0), (1, vi x1)] rfl (Nat.le_of_ble_eq_true rfl) (fun K O => ?_)
  have O : ZOk K cX9_eatsSign RX9 "eatsSign" 3 (some .boolean) 3 91 := O
  refine bs hr (fun _ hck hr => ?_)
  refine z_aload_n O 0 dX9_eatsSign_0 rfl rfl ?_
  refine z_getI O o_Model_sort q1771 dX9_eatsSign_1 hr (fun v1 hr => ?_)
  refine z_iconst O dX9_eatsSign_4 kic_4 ?_
  refine z_icmp_ne (tgt := 20) O dX9_eatsSign_5 (by decide) hr (fun hr => ?_) (fun hr => ?_)
  · refine z_aload_n O 0 dX9_eatsSign_8 rfl rfl ?_
    refine z_getI O o_Model_sign q1773 dX9_eatsSign_9 hr (fun v2 hr => ?_)
    refine z_iload_n O 1 dX9_eatsSign_12 rfl rfl ?_
    refine z_icmp_ne (tgt := 20) O dX9_eatsSign_13 (by decide) hr (fun hr => ?_) (fun hr => ?_)
    · refine z_iconst O dX9_eatsSign_16 kic_1 ?_
      refine z_goto (tgt := 21) O dX9_eatsSign_17 (by decide) ?_
      refine z_sub [0] rfl ?_
      exact wX9_eatsSign_21 O N x0 (1 : Int32) h _ hr
    · refine z_iconst O dX9_eatsSign_20 kic_0 ?_
      refine z_sub [0] rfl ?_
      exact wX9_eatsSign_21 O N x0 (0 : Int32) h _ hr
  · refine z_iconst O dX9_eatsSign_20 kic_0 ?_
    refine z_sub [0] rfl ?_
    exact wX9_eatsSign_21 O N x0 (0 : Int32) h _ hr
theorem fV_X9_flaw : CVf RX9 yX9_flaw cX9_flaw 2 (none : Option Jvm.ClassFile.FieldType) 1 := ⟨q2077, qs68, q137, q2078, ⟨⟨by decide +kernel, by decide +kernel⟩, by decide +kernel⟩⟩
def F_X9_flaw (x0 : Option Nat) (x1 : Int32) (h : AH) : Option (AH) :=
  (ck h [9] x0).bind fun _ =>
  (gI h f_Model_sort x0).bind fun v1 =>
  if v1 = (5 : Int32) then
    some h
  else
    (pI h f_Model_fault x0 x1).bind fun h2 =>
    (gI h2 f_Model_place x0).bind fun v3 =>
    (pI h2 f_Model_wrongAt x0 v3).bind fun h4 =>
    (pI h4 f_Model_sort x0 (5 : Int32)).bind fun h5 =>
    some h5
theorem mX9_flaw (l : Launch) (G : ZG) (x0 : Option Nat) (x1 : Int32) (h : AH) (r : AH) (hr : F_X9_flaw x0 x1 h = some r) : MZ l G yX9_flaw cX9_flaw 2 (none : Option Jvm.ClassFile.FieldType) 1 48 [vr x0, vi x1] h (eH r) := by
  unfold F_X9_flaw at hr
  refine MZ.of (by decide) [(0, vr x0), (1, vi x1)] rfl (Nat.le_of_ble_eq_true rfl) (fun K O => ?_)
  have O : ZOk K cX9_flaw RX9 "flaw" 2 (none : Option Jvm.ClassFile.FieldType) 1 48 := O
  refine bs hr (fun _ hck hr => ?_)
  refine z_aload_n O 0 dX9_flaw_0 rfl rfl ?_
  refine z_getI O o_Model_sort q1771 dX9_flaw_1 hr (fun v1 hr => ?_)
  refine z_iconst O dX9_flaw_4 kic_5 ?_
  refine z_icmp_ne (tgt := 9) O dX9_flaw_5 (by decide) hr (fun hr => ?_) (fun hr => ?_)
  · exact z_vret O dX9_flaw_8 (by cases hr; rfl)
  · refine z_aload_n O 0 dX9_flaw_9 rfl rfl ?_
    refine z_iload_n O 1 dX9_flaw_10 rfl rfl ?_
    refine z_putI O o_Model_fault (w_Model_fault _) q1775 dX9_flaw_11 hr (fun h2 hr => ?_)
    refine z_aload_n O 0 dX9_flaw_14 rfl rfl ?_
    refine z_aload_n O 0 dX9_flaw_15 rfl rfl ?_
    refine z_getI O o_Model_place q1772 dX9_flaw_16 hr (fun v3 hr => ?_)
    refine z_putI O o_Model_wrongAt (w_Model_wrongAt _) q1776 dX9_flaw_19 hr (fun h4 hr => ?_)
    refine z_aload_n O 0 dX9_flaw_22 rfl rfl ?_
    refine z_iconst O dX9_flaw_23 kic_5 ?_
    refine z_putI O o_Model_sort (w_Model_sort _) q1771 dX9_flaw_24 hr (fun h5 hr => ?_)
    exact z_vret O dX9_flaw_27 (by cases hr; rfl)
theorem fS_J4_checkIndex : CSf yJ4_checkIndex cJ4_checkIndex 3 (some .int) 3 := ⟨q2062, q140, q2063, ⟨⟨by decide +kernel, by decide +kernel⟩, by decide +kernel⟩⟩
def F_J4_checkIndex (x0 : Int32) (x1 : Int32) (x2 : Option Nat) : Option (Int32) :=
  if x0 < 0 then
    none
  else
    if x0 < x1 then
      some x0
    else
      none
theorem mJ4_checkIndex (l : Launch) (G : ZG) (x0 : Int32) (x1 : Int32) (x2 : Option Nat) (h : AH) (r : Int32) (hr : F_J4_checkIndex x0 x1 x2 = some r) : MZ l G yJ4_checkIndex cJ4_checkIndex 3 (some .int) 1 48 [vi x0, vi x1, vr x2] h (eI h r) := by
  unfold F_J4_checkIndex at hr
  refine MZ.of (by decide) [(0, vi x0), (1, vi x1), (2, vr x2)] rfl (Nat.le_of_ble_eq_true rfl) (fun K O => ?_)
  have O : ZOk K cJ4_checkIndex RJ4 "checkIndex" 3 (some .int) 1 48 := O
  refine z_iload_n O 0 dJ4_checkIndex_0 rfl rfl ?_
  refine z_if_lt (tgt := 9) O dJ4_checkIndex_1 (by decide) hr (fun hr => ?_) (fun hr => ?_)
  · cases hr
  · refine z_iload_n O 0 dJ4_checkIndex_4 rfl rfl ?_
    refine z_iload_n O 1 dJ4_checkIndex_5 rfl rfl ?_
    refine z_icmp_lt (tgt := 16) O dJ4_checkIndex_6 (by decide) hr (fun hr => ?_) (fun hr => ?_)
    · refine z_iload_n O 0 dJ4_checkIndex_16 rfl rfl ?_
      exact z_iret O dJ4_checkIndex_17 (by cases hr; rfl)
    · cases hr
theorem fS_J3_checkIndex : CSf yJ3_checkIndex cJ3_checkIndex 2 (none : Option Jvm.ClassFile.FieldType) 2 := ⟨q2059, q139, q2060, ⟨⟨by decide +kernel, by decide +kernel⟩, by decide +kernel⟩⟩
def F_J3_checkIndex (x0 : Int32) (x1 : Int32) (h : AH) : Option (Unit) :=
  (F_J4_checkIndex x0 x1 (h.1.2.2.2.2 0)).bind fun v1 =>
  some ()
theorem mJ3_checkIndex (l : Launch) (G : ZG) (x0 : Int32) (x1 : Int32) (h : AH) (r : Unit) (hr : F_J3_checkIndex x0 x1 h = some r) : MZ l G yJ3_checkIndex cJ3_checkIndex 2 (none : Option Jvm.ClassFile.FieldType) 2 70 [vi x0, vi x1] h (eU h r) := by
  unfold F_J3_checkIndex at hr
  refine MZ.of (by decide) [(0, vi x0), (1, vi x1)] rfl (Nat.le_of_ble_eq_true rfl) (fun K O => ?_)
  have O : ZOk K cJ3_checkIndex RJ3 "checkIndex" 2 (none : Option Jvm.ClassFile.FieldType) 2 70 := O
  refine z_iload_n O 0 dJ3_checkIndex_0 rfl rfl ?_
  refine z_iload_n O 1 dJ3_checkIndex_1 rfl rfl ?_
  refine z_getsR O ztR0 rfl q691 dJ3_checkIndex_2 ?_
  refine bs hr (fun v1 hF hr => ?_)
  refine z_callS O [vi x0, vi x1, vr (h.1.2.2.2.2 0)] (vi v1) fS_J4_checkIndex q2061 (fun l G => mJ4_checkIndex l G x0 x1 (h.1.2.2.2.2 0) h _ hF) rfl ⟨Nat.le_of_ble_eq_true rfl, Nat.le_of_ble_eq_true rfl⟩ (Nat.le_of_ble_eq_true rfl) dJ3_checkIndex_5 ?_
  refine z_pop O dJ3_checkIndex_8 rfl ?_
  exact z_vret O dJ3_checkIndex_9 (by cases hr; rfl)
theorem fS_J6_charAt : CSf yJ6_charAt cJ6_charAt 2 (some .char) 2 := ⟨q2056, q142, q2057, ⟨⟨by decide +kernel, by decide +kernel⟩, by decide +kernel⟩⟩
def F_J6_charAt (x0 : Option Nat) (x1 : Int32) (h : AH) : Option (Int32) :=
  (aL h x0).bind fun v1 =>
  (F_J3_checkIndex x1 v1 h).bind fun _ =>
  (aI h 1 x0 x1).bind fun v2 =>
  zch (((v2 &&& (255 : Int32)).toUInt32 % 65536).toInt32)
theorem mJ6_charAt (l : Launch) (G : ZG) (x0 : Option Nat) (x1 : Int32) (h : AH) (r : Int32) (hr : F_J6_charAt x0 x1 h = some r) : MZ l G yJ6_charAt cJ6_charAt 2 (some .char) 3 91 [vr x0, vi x1] h (eI h r) := by
  unfold F_J6_charAt at hr
  refine MZ.of (by decide) [(0, vr x0), (1, vi x1)] rfl (Nat.le_of_ble_eq_true rfl) (fun K O => ?_)
  have O : ZOk K cJ6_charAt RJ6 "charAt" 2 (some .char) 3 91 := O
  refine z_iload_n O 1 dJ6_charAt_0 rfl rfl ?_
  refine z_aload_n O 0 dJ6_charAt_1 rfl rfl ?_
  refine z_arraylength O dJ6_charAt_2 hr (fun v1 hr => ?_)
  refine bs hr (fun _ hF hr => ?_)
  refine z_callSv O [vi x1, vi v1] fS_J3_checkIndex q2058 (fun l G => mJ3_checkIndex l G x1 v1 h _ hF) rfl ⟨Nat.le_of_ble_eq_true rfl, Nat.le_of_ble_eq_true rfl⟩ (Nat.le_of_ble_eq_true rfl) dJ6_charAt_3 ?_
  refine z_aload_n O 0 dJ6_charAt_6 rfl rfl ?_
  refine z_iload_n O 1 dJ6_charAt_7 rfl rfl ?_
  refine z_baload O dJ6_charAt_8 hr (fun v2 hr => ?_)
  refine z_sipush O dJ6_charAt_9 ksi_255 ?_
  refine z_iand O dJ6_charAt_12 ?_
  refine z_i2c O dJ6_charAt_13 ?_
  obtain ⟨e1, e2⟩ := zch_spec hr
  exact z_zret O e2 dJ6_charAt_14 (by cases e1; rfl)
theorem fV_J3_charAt : CVf RJ3 yJ3_charAt cJ3_charAt 2 (some .char) 1 := ⟨q2052, q2053, q139, q2054, ⟨⟨by decide +kernel, by decide +kernel⟩, by decide +kernel⟩⟩
def F_J3_charAt (x0 : Option Nat) (x1 : Int32) (h : AH) : Option (Int32) :=
  (ck h [21] x0).bind fun _ =>
  (F_J3_isLatin1 x0 h).bind fun v1 =>
  if v1 = 0 then
    none
  else
    (gR h f_String_value x0).bind fun v2 =>
    (F_J6_charAt v2 x1 h).bind fun v3 =>
    zch v3
theorem mJ3_charAt (l : Launch) (G : ZG) (x0 : Option Nat) (x1 : Int32) (h : AH) (r : Int32) (hr : F_J3_charAt x0 x1 h = some r) : MZ l G yJ3_charAt cJ3_charAt 2 (some .char) 4 112 [vr x0, vi x1] h (eI h r) := by
  unfold F_J3_charAt at hr
  refine MZ.of (by decide) [(0, vr x0), (1, vi x1)] rfl (Nat.le_of_ble_eq_true rfl) (fun K O => ?_)
  have O : ZOk K cJ3_charAt RJ3 "charAt" 2 (some .char) 4 112 := O
  refine bs hr (fun _ hck hr => ?_)
  refine z_aload_n O 0 dJ3_charAt_0 rfl rfl ?_
  refine bs hr (fun v1 hF hr => ?_)
  refine z_callV O [] (vi v1) fV_J3_isLatin1 q778 (fun l G => mJ3_isLatin1 l G x0 h _ hF) (zck hF) rfl rfl ⟨Nat.le_of_ble_eq_true rfl, Nat.le_of_ble_eq_true rfl⟩ (Nat.le_of_ble_eq_true rfl) dJ3_charAt_1 ?_
  refine z_if_eq (tgt := 16) O dJ3_charAt_4 (by decide) hr (fun hr => ?_) (fun hr => ?_)
  · cases hr
  · refine z_aload_n O 0 dJ3_charAt_7 rfl rfl ?_
    refine z_getR O o_String_value q745 dJ3_charAt_8 hr (fun v2 hr => ?_)
    refine z_iload_n O 1 dJ3_charAt_11 rfl rfl ?_
    refine bs hr (fun v3 hF hr => ?_)
    refine z_callS O [vr v2, vi x1] (vi v3) fS_J6_charAt q2055 (fun l G => mJ6_charAt l G v2 x1 h _ hF) rfl ⟨Nat.le_of_ble_eq_true rfl, Nat.le_of_ble_eq_true rfl⟩ (Nat.le_of_ble_eq_true rfl) dJ3_charAt_12 ?_
    obtain ⟨e1, e2⟩ := zch_spec hr
    exact z_zret O e2 dJ3_charAt_15 (by cases e1; rfl)
theorem fV_J3_coder : CVf RJ3 yJ3_coder cJ3_coder 1 (some .byte) 0 := ⟨q2048, q2049, q139, q2050, ⟨⟨by decide +kernel, by decide +kernel⟩, by decide +kernel⟩⟩
def F_J3_coder (x0 : Option Nat) (h : AH) : Option (Int32) :=
  (ck h [21] x0).bind fun _ =>
  if (1 : Int32) = 0 then
    none
  else
    (gI h f_String_coder x0).bind fun v1 =>
    zby v1
theorem mJ3_coder (l : Launch) (G : ZG) (x0 : Option Nat) (h : AH) (r : Int32) (hr : F_J3_coder x0 h = some r) : MZ l G yJ3_coder cJ3_coder 1 (some .byte) 1 48 [vr x0] h (eI h r) := by
  unfold F_J3_coder at hr
  refine MZ.of (by decide) [(0, vr x0)] rfl (Nat.le_of_ble_eq_true rfl) (fun K O => ?_)
  have O : ZOk K cJ3_coder RJ3 "coder" 1 (some .byte) 1 48 := O
  refine bs hr (fun _ hck hr => ?_)
  refine z_getsI O zt0 rfl q701 dJ3_coder_0 ?_
  refine z_if_eq (tgt := 13) O dJ3_coder_3 (by decide) hr (fun hr => ?_) (fun hr => ?_)
  · cases hr
  · refine z_aload_n O 0 dJ3_coder_6 rfl rfl ?_
    refine z_getI O o_String_coder q746 dJ3_coder_7 hr (fun v1 hr => ?_)
    refine z_goto (tgt := 14) O dJ3_coder_10 (by decide) ?_
    obtain ⟨e1, e2, -⟩ := zby_spec hr
    exact z_zret O e2 dJ3_coder_14 (by cases e1; rfl)
theorem fV_J3_length : CVf RJ3 yJ3_length cJ3_length 1 (some .int) 0 := ⟨q2044, q2045, q139, q2046, ⟨⟨by decide +kernel, by decide +kernel⟩, by decide +kernel⟩⟩
def F_J3_length (x0 : Option Nat) (h : AH) : Option (Int32) :=
  (ck h [21] x0).bind fun _ =>
  (gR h f_String_value x0).bind fun v1 =>
  (aL h v1).bind fun v2 =>
  (F_J3_coder x0 h).bind fun v3 =>
  some (v2 >>> (v3 &&& 31))
theorem mJ3_length (l : Launch) (G : ZG) (x0 : Option Nat) (h : AH) (r : Int32) (hr : F_J3_length x0 h = some r) : MZ l G yJ3_length cJ3_length 1 (some .int) 2 68 [vr x0] h (eI h r) := by
  unfold F_J3_length at hr
  refine MZ.of (by decide) [(0, vr x0)] rfl (Nat.le_of_ble_eq_true rfl) (fun K O => ?_)
  have O : ZOk K cJ3_length RJ3 "length" 1 (some .int) 2 68 := O
  refine bs hr (fun _ hck hr => ?_)
  refine z_aload_n O 0 dJ3_length_0 rfl rfl ?_
  refine z_getR O o_String_value q745 dJ3_length_1 hr (fun v1 hr => ?_)
  refine z_arraylength O dJ3_length_4 hr (fun v2 hr => ?_)
  refine z_aload_n O 0 dJ3_length_5 rfl rfl ?_
  refine bs hr (fun v3 hF hr => ?_)
  refine z_callV O [] (vi v3) fV_J3_coder q2047 (fun l G => mJ3_coder l G x0 h _ hF) (zck hF) rfl rfl ⟨Nat.le_of_ble_eq_true rfl, Nat.le_of_ble_eq_true rfl⟩ (Nat.le_of_ble_eq_true rfl) dJ3_length_6 ?_
  refine z_ishr O dJ3_length_9 ?_
  exact z_iret O dJ3_length_10 (by cases hr; rfl)
theorem fS_X9_wordOf : CSf yX9_wordOf cX9_wordOf 4 (some .long) 1 := ⟨q2041, q137, q2042, ⟨⟨by decide +kernel, by decide +kernel⟩, by decide +kernel⟩⟩
def BX9_wordOf_4 (N : Nat) (x0 : Option Nat) (h : AH) (rec4 : Int64 → Int32 → Option (Int64)) : Int64 → Int32 → Option (Int64) := fun x1 x3 =>
  (F_J3_length x0 h).bind fun v1 =>
  if v1 ≤ x3 then
    some x1
  else
    (F_J3_charAt x0 x3 h).bind fun v2 =>
    jlet (((32 : Int64) * x1) + (((v2 - (97 : Int32)) + (1 : Int32)).toInt64)) fun v3 =>
    jlet (x3 + (1 : Int32)) fun v4 =>
    rec4 v3 v4
def LX9_wordOf_4 (N : Nat) (x0 : Option Nat) (h : AH) : Int64 → Int32 → Option (Int64) := lf (fun _ _ => none) (BX9_wordOf_4 N x0 h) N
theorem wX9_wordOf_4B {K : ZC} (O : ZOk K cX9_wordOf RX9 "wordOf" 4 (some .long) 5 133) (N : Nat) (x0 : Option Nat) (h : AH) (rec4 : Int64 → Int32 → Option (Int64)) (hrec4 : ∀ (y1 : Int64) (y3 : Int32) (ry : Int64), rec4 y1 y3 = some ry → Zw K (eJ h ry) h 4 [(0, vr x0), (1, vj y1), (3, vi y3)] []) (x1 : Int64) (x3 : Int32) (r : Int64) (hr : BX9_wordOf_4 N x0 h rec4 x1 x3 = some r) : Zw K (eJ h r) h 4 [(0, vr x0), (1, vj x1), (3, vi x3)] [] := by
  unfold BX9_wordOf_4 at hr
  refine z_iload_n O 2 dX9_wordOf_4 rfl rfl ?_
  refine z_aload_n O 0 dX9_wordOf_5 rfl rfl ?_
  refine bs hr (fun v1 hF hr => ?_)
  refine z_callV O [] (vi v1) fV_J3_length q2043 (fun l G => mJ3_length l G x0 h _ hF) (zck hF) rfl rfl ⟨Nat.le_of_ble_eq_true rfl, Nat.le_of_ble_eq_true rfl⟩ (Nat.le_of_ble_eq_true rfl) dX9_wordOf_6 ?_
  refine z_icmp_ge (tgt := 36) O dX9_wordOf_9 (by decide) hr (fun hr => ?_) (fun hr => ?_)
  · refine z_lload_n O 1 dX9_wordOf_36 rfl rfl ?_
    exact z_lret O dX9_wordOf_37 (by cases hr; rfl)
  · refine z_ldc2 O q2023 dX9_wordOf_12 ?_
    refine z_lload_n O 1 dX9_wordOf_15 rfl rfl ?_
    refine z_lmul O dX9_wordOf_16 ?_
    refine z_aload_n O 0 dX9_wordOf_17 rfl rfl ?_
    refine z_iload_n O 2 dX9_wordOf_18 rfl rfl ?_
    refine bs hr (fun v2 hF hr => ?_)
    refine z_callV O [vi x3] (vi v2) fV_J3_charAt q2051 (fun l G => mJ3_charAt l G x0 x3 h _ hF) (zck hF) rfl rfl ⟨Nat.le_of_ble_eq_true rfl, Nat.le_of_ble_eq_true rfl⟩ (Nat.le_of_ble_eq_true rfl) dX9_wordOf_19 ?_
    refine z_bipush O dX9_wordOf_22 kbi_97 ?_
    refine z_isub O dX9_wordOf_24 ?_
    refine z_iconst O dX9_wordOf_25 kic_1 ?_
    refine z_iadd O dX9_wordOf_26 ?_
    refine z_i2l O dX9_wordOf_27 ?_
    refine z_ladd O dX9_wordOf_28 ?_
    refine z_letJ hr (fun v3 hr => ?_)
    refine z_lstore_n O [(1, vj v3), (0, vr x0), (3, vi x3)] dX9_wordOf_29 rfl (by decide) rfl ?_
    refine z_iincL O 2 (fun v4 => [(3, vi v4), (1, vj v3), (0, vr x0)]) dX9_wordOf_30 rfl rfl (by decide) (fun _ => rfl) hr (fun v4 hr => ?_)
    refine z_goto (tgt := 4) O dX9_wordOf_33 (by decide) ?_
    refine z_sub [2, 1, 0] rfl ?_
    exact hrec4 v3 v4 _ hr
theorem wX9_wordOf_4 {K : ZC} (O : ZOk K cX9_wordOf RX9 "wordOf" 4 (some .long) 5 133) (N : Nat) (x0 : Option Nat) (h : AH) : ∀ (n : Nat) (x1 : Int64) (x3 : Int32) (r : Int64), lf (fun _ _ => none) (BX9_wordOf_4 N x0 h) n x1 x3 = some r → Zw K (eJ h r) h 4 [(0, vr x0), (1, vj x1), (3, vi x3)] [] := by
  intro n
  induction n with
  | zero => intro x1 x3 r hr; cases hr
  | succ n ih => intro x1 x3 r hr; exact wX9_wordOf_4B O N x0 h (lf (fun _ _ => none) (BX9_wordOf_4 N x0 h) n)  ih x1 x3 r hr
def F_X9_wordOf (N : Nat) (x0 : Option Nat) (h : AH) : Option (Int64) :=
  LX9_wordOf_4 N x0 h (0 : Int64) (0 : Int32)
theorem mX9_wordOf (l : Launch) (G : ZG) (N : Nat) (x0 : Option Nat) (h : AH) (r : Int64) (hr : F_X9_wordOf N x0 h = some r) : MZ l G yX9_wordOf cX9_wordOf 4 (some .long) 5 133 [vr x0] h (eJ h r) := by
  unfold F_X9_wordOf at hr
  refine MZ.of (by decide) [(0, vr x0)] rfl (Nat.le_of_ble_eq_true rfl) (fun K O => ?_)
  have O : ZOk K cX9_wordOf RX9 "wordOf" 4 (some .long) 5 133 := O
  refine z_lconst (v := (0 : Int64)) O dX9_wordOf_0 (by decide) ?_
  refine z_lstore_n O [(1, vj (0 : Int64)), (0, vr x0)] dX9_wordOf_1 rfl (by decide) rfl ?_
  refine z_iconst O dX9_wordOf_2 kic_0 ?_
  refine z_istore_n O [(3, vi (0 : Int32)), (1, vj (0 : Int64)), (0, vr x0)] dX9_wordOf_3 rfl (by decide) rfl ?_
  refine z_sub [2, 1, 0] rfl ?_
  exact wX9_wordOf_4 O N x0 h _ (0 : Int64) (0 : Int32) _ hr
theorem fV_X9_isWord : CVf RX9 yX9_isWord cX9_isWord 2 (some .boolean) 1 := ⟨q2038, qs66, q137, q2039, ⟨⟨by decide +kernel, by decide +kernel⟩, by decide +kernel⟩⟩
def F_X9_isWord (N : Nat) (x0 : Option Nat) (x1 : Option Nat) (h : AH) : Option (Int32) :=
  (ck h [9] x0).bind fun _ =>
  (gI h f_Model_sort x0).bind fun v1 =>
  if v1 = (2 : Int32) then
    (gJ h f_Model_word x0).bind fun v2 =>
    (F_X9_wordOf N x1 h).bind fun v3 =>
    if (lg_cmp v2 v3) = 0 then
      zb (1 : Int32)
    else
      zb (0 : Int32)
  else
    zb (0 : Int32)
theorem mX9_isWord (l : Launch) (G : ZG) (N : Nat) (x0 : Option Nat) (x1 : Option Nat) (h : AH) (r : Int32) (hr : F_X9_isWord N x0 x1 h = some r) : MZ l G yX9_isWord cX9_isWord 2 (some .boolean) 6 156 [vr x0, vr x1] h (eI h r) := by
  unfold F_X9_isWord at hr
  refine MZ.of (by decide) [(0, vr x0), (1, vr x1)] rfl (Nat.le_of_ble_eq_true rfl) (fun K O => ?_)
  have O : ZOk K cX9_isWord RX9 "isWord" 2 (some .boolean) 6 156 := O
  refine bs hr (fun _ hck hr => ?_)
  refine z_aload_n O 0 dX9_isWord_0 rfl rfl ?_
  refine z_getI O o_Model_sort q1771 dX9_isWord_1 hr (fun v1 hr => ?_)
  refine z_iconst O dX9_isWord_4 kic_2 ?_
  refine z_icmp_ne (tgt := 24) O dX9_isWord_5 (by decide) hr (fun hr => ?_) (fun hr => ?_)
  · refine z_aload_n O 0 dX9_isWord_8 rfl rfl ?_
    refine z_getJ O o_Model_word q1777 dX9_isWord_9 hr (fun v2 hr => ?_)
    refine z_aload_n O 1 dX9_isWord_12 rfl rfl ?_
    refine bs hr (fun v3 hF hr => ?_)
    refine z_callS O [vr x1] (vj v3) fS_X9_wordOf q2040 (fun l G => mX9_wordOf l G N x1 h _ hF) rfl ⟨Nat.le_of_ble_eq_true rfl, Nat.le_of_ble_eq_true rfl⟩ (Nat.le_of_ble_eq_true rfl) dX9_isWord_13 ?_
    refine z_lcmp O dX9_isWord_16 ?_
    refine z_if_ne (tgt := 24) O dX9_isWord_17 (by decide) hr (fun hr => ?_) (fun hr => ?_)
    · refine z_iconst O dX9_isWord_20 kic_1 ?_
      refine z_goto (tgt := 25) O dX9_isWord_21 (by decide) ?_
      obtain ⟨e1, e2, -⟩ := zb_spec hr
      exact z_zret O e2 dX9_isWord_25 (by cases e1; rfl)
    · refine z_iconst O dX9_isWord_24 kic_0 ?_
      obtain ⟨e1, e2, -⟩ := zb_spec hr
      exact z_zret O e2 dX9_isWord_25 (by cases e1; rfl)
  · refine z_iconst O dX9_isWord_24 kic_0 ?_
    obtain ⟨e1, e2, -⟩ := zb_spec hr
    exact z_zret O e2 dX9_isWord_25 (by cases e1; rfl)
theorem fV_X9_begins : CVf RX9 yX9_begins cX9_begins 3 (none : Option Jvm.ClassFile.FieldType) 2 := ⟨q2113, qs74, q137, q2114, ⟨⟨by decide +kernel, by decide +kernel⟩, by decide +kernel⟩⟩
def bX9_begins_10 (N : Nat) (x0 : Option Nat) (h : AH) : Option (AH) :=
  (gR h f_Model_read x0).bind fun v1 =>
  (gI h f_MLand_wide v1).bind fun v2 =>
  if v2 = 0 then
    (F_X9_flaw x0 (6 : Int32) h).bind fun h4 =>
    (F_X9_goesOn N x0 h4).bind fun h5 =>
    some h5
  else
    (F_X9_goesOn N x0 h).bind fun h3 =>
    some h3
theorem wX9_begins_10 {K : ZC} (O : ZOk K cX9_begins RX9 "begins" 3 (none : Option Jvm.ClassFile.FieldType) 3 91) (N : Nat) (x0 : Option Nat) (h : AH) (r : AH) (hr : bX9_begins_10 N x0 h = some r) : Zw K (eH r) h 10 [(0, vr x0)] [] := by
  unfold bX9_begins_10 at hr
  refine z_aload_n O 0 dX9_begins_10 rfl rfl ?_
  refine z_getR O o_Model_read q1766 dX9_begins_11 hr (fun v1 hr => ?_)
  refine z_getIN O o_MLand_wide zn1897 dX9_begins_14 hr (fun v2 hr => ?_)
  refine z_if_ne (tgt := 26) O dX9_begins_17 (by decide) hr (fun hr => ?_) (fun hr => ?_)
  · refine z_aload_n O 0 dX9_begins_20 rfl rfl ?_
    refine z_bipush O dX9_begins_21 kbi_6 ?_
    refine bs hr (fun h4 hF hr => ?_)
    refine z_callVv O [vi (6 : Int32)] fV_X9_flaw q2075 (fun l G => mX9_flaw l G x0 (6 : Int32) h _ hF) (zck hF) rfl rfl ⟨Nat.le_of_ble_eq_true rfl, Nat.le_of_ble_eq_true rfl⟩ (Nat.le_of_ble_eq_true rfl) dX9_begins_23 ?_
    refine z_aload_n O 0 dX9_begins_26 rfl rfl ?_
    refine bs hr (fun h5 hF hr => ?_)
    refine z_callVv O [] fV_X9_goesOn q2012 (fun l G => mX9_goesOn l G N x0 h4 _ hF) (zck hF) rfl rfl ⟨Nat.le_of_ble_eq_true rfl, Nat.le_of_ble_eq_true rfl⟩ (Nat.le_of_ble_eq_true rfl) dX9_begins_27 ?_
    exact z_vret O dX9_begins_30 (by cases hr; rfl)
  · refine z_aload_n O 0 dX9_begins_26 rfl rfl ?_
    refine bs hr (fun h3 hF hr => ?_)
    refine z_callVv O [] fV_X9_goesOn q2012 (fun l G => mX9_goesOn l G N x0 h _ hF) (zck hF) rfl rfl ⟨Nat.le_of_ble_eq_true rfl, Nat.le_of_ble_eq_true rfl⟩ (Nat.le_of_ble_eq_true rfl) dX9_begins_27 ?_
    exact z_vret O dX9_begins_30 (by cases hr; rfl)
def F_X9_begins (N : Nat) (x0 : Option Nat) (x1 : Int32) (x2 : Int32) (h : AH) : Option (AH) :=
  (ck h [9] x0).bind fun _ =>
  if x1 = x2 then
    (F_X9_flaw x0 (5 : Int32) h).bind fun h1 =>
    bX9_begins_10 N x0 h1
  else
    bX9_begins_10 N x0 h
theorem mX9_begins (l : Launch) (G : ZG) (N : Nat) (x0 : Option Nat) (x1 : Int32) (x2 : Int32) (h : AH) (r : AH) (hr : F_X9_begins N x0 x1 x2 h = some r) : MZ l G yX9_begins cX9_begins 3 (none : Option Jvm.ClassFile.FieldType) 3 91 [vr x0, vi x1, vi x2] h (eH r) := by
  unfold F_X9_begins at hr
  refine MZ.of (by decide) [(0, vr x0), (1, vi x1), (2, vi x2)] rfl (Nat.le_of_ble_eq_true rfl) (fun K O => ?_)
  have O : ZOk K cX9_begins RX9 "begins" 3 (none : Option Jvm.ClassFile.FieldType) 3 91 := O
  refine bs hr (fun _ hck hr => ?_)
  refine z_iload_n O 1 dX9_begins_0 rfl rfl ?_
  refine z_iload_n O 2 dX9_begins_1 rfl rfl ?_
  refine z_icmp_ne (tgt := 10) O dX9_begins_2 (by decide) hr (fun hr => ?_) (fun hr => ?_)
  · refine z_aload_n O 0 dX9_begins_5 rfl rfl ?_
    refine z_iconst O dX9_begins_6 kic_5 ?_
    refine bs hr (fun h1 hF hr => ?_)
    refine z_callVv O [vi (5 : Int32)] fV_X9_flaw q2075 (fun l G => mX9_flaw l G x0 (5 : Int32) h _ hF) (zck hF) rfl rfl ⟨Nat.le_of_ble_eq_true rfl, Nat.le_of_ble_eq_true rfl⟩ (Nat.le_of_ble_eq_true rfl) dX9_begins_7 ?_
    refine z_sub [0] rfl ?_
    exact wX9_begins_10 O N x0 h1 _ hr
  · refine z_sub [0] rfl ?_
    exact wX9_begins_10 O N x0 h _ hr
theorem fV_X9_names : CVf RX9 yX9_names cX9_names 5 (none : Option Jvm.ClassFile.FieldType) 3 := ⟨q2164, qs81, q137, q2165, ⟨⟨by decide +kernel, by decide +kernel⟩, by decide +kernel⟩⟩
def F_X9_names (x0 : Option Nat) (x1 : Int64) (x3 : Int32) (x4 : Int32) (h : AH) : Option (AH) :=
  (ck h [9] x0).bind fun _ =>
  (gR h f_Model_read x0).bind fun v1 =>
  (gR h f_MLand_name v1).bind fun v2 =>
  (gR h f_Model_read x0).bind fun v3 =>
  (gI h f_MLand_names v3).bind fun v4 =>
  (sJ h v2 v4 x1).bind fun h5 =>
  (gR h5 f_Model_read x0).bind fun v6 =>
  (gR h5 f_MLand_nameSort v6).bind fun v7 =>
  (gR h5 f_Model_read x0).bind fun v8 =>
  (gI h5 f_MLand_names v8).bind fun v9 =>
  (sA h5 0 v7 v9 x3).bind fun h10 =>
  (gR h10 f_Model_read x0).bind fun v11 =>
  (gR h10 f_MLand_nameNumber v11).bind fun v12 =>
  (gR h10 f_Model_read x0).bind fun v13 =>
  (gI h10 f_MLand_names v13).bind fun v14 =>
  (sA h10 0 v12 v14 x4).bind fun h15 =>
  (gR h15 f_Model_read x0).bind fun v16 =>
  (gI h15 f_MLand_names v16).bind fun v17 =>
  (pI h15 f_MLand_names v16 (v17 + (1 : Int32))).bind fun h18 =>
  some h18
theorem mX9_names (l : Launch) (G : ZG) (x0 : Option Nat) (x1 : Int64) (x3 : Int32) (x4 : Int32) (h : AH) (r : AH) (hr : F_X9_names x0 x1 x3 x4 h = some r) : MZ l G yX9_names cX9_names 5 (none : Option Jvm.ClassFile.FieldType) 1 48 [vr x0, vj x1, vi x3, vi x4] h (eH r) := by
  unfold F_X9_names at hr
  refine MZ.of (by decide) [(0, vr x0), (1, vj x1), (3, vi x3), (4, vi x4)] rfl (Nat.le_of_ble_eq_true rfl) (fun K O => ?_)
  have O : ZOk K cX9_names RX9 "names" 5 (none : Option Jvm.ClassFile.FieldType) 1 48 := O
  refine bs hr (fun _ hck hr => ?_)
  refine z_aload_n O 0 dX9_names_0 rfl rfl ?_
  refine z_getR O o_Model_read q1766 dX9_names_1 hr (fun v1 hr => ?_)
  refine z_getRN O o_MLand_name zn1940 dX9_names_4 hr (fun v2 hr => ?_)
  refine z_aload_n O 0 dX9_names_7 rfl rfl ?_
  refine z_getR O o_Model_read q1766 dX9_names_8 hr (fun v3 hr => ?_)
  refine z_getIN O o_MLand_names zn1912 dX9_names_11 hr (fun v4 hr => ?_)
  refine z_lload_n O 1 dX9_names_14 rfl rfl ?_
  refine z_lastore O dX9_names_15 hr (fun h5 hr => ?_)
  refine z_aload_n O 0 dX9_names_16 rfl rfl ?_
  refine z_getR O o_Model_read q1766 dX9_names_17 hr (fun v6 hr => ?_)
  refine z_getRN O o_MLand_nameSort zn1942 dX9_names_20 hr (fun v7 hr => ?_)
  refine z_aload_n O 0 dX9_names_23 rfl rfl ?_
  refine z_getR O o_Model_read q1766 dX9_names_24 hr (fun v8 hr => ?_)
  refine z_getIN O o_MLand_names zn1912 dX9_names_27 hr (fun v9 hr => ?_)
  refine z_iload_n O 2 dX9_names_30 rfl rfl ?_
  refine z_iastore O dX9_names_31 hr (fun h10 hr => ?_)
  refine z_aload_n O 0 dX9_names_32 rfl rfl ?_
  refine z_getR O o_Model_read q1766 dX9_names_33 hr (fun v11 hr => ?_)
  refine z_getRN O o_MLand_nameNumber zn1944 dX9_names_36 hr (fun v12 hr => ?_)
  refine z_aload_n O 0 dX9_names_39 rfl rfl ?_
  refine z_getR O o_Model_read q1766 dX9_names_40 hr (fun v13 hr => ?_)
  refine z_getIN O o_MLand_names zn1912 dX9_names_43 hr (fun v14 hr => ?_)
  refine z_iload O 3 dX9_names_46 rfl ?_
  refine z_iastore O dX9_names_48 hr (fun h15 hr => ?_)
  refine z_aload_n O 0 dX9_names_49 rfl rfl ?_
  refine z_getR O o_Model_read q1766 dX9_names_50 hr (fun v16 hr => ?_)
  refine z_dup O dX9_names_53 rfl ?_
  refine z_getIN O o_MLand_names zn1912 dX9_names_54 hr (fun v17 hr => ?_)
  refine z_iconst O dX9_names_57 kic_1 ?_
  refine z_iadd O dX9_names_58 ?_
  refine z_putIN O o_MLand_names (w_MLand_names _) zn1912 dX9_names_59 hr (fun h18 hr => ?_)
  exact z_vret O dX9_names_62 (by cases hr; rfl)
theorem fV_X20_find : CVf RX20 yX20_find cX20_find 4 (some .int) 1 := ⟨q2152, q2153, q155, q2154, ⟨⟨by decide +kernel, by decide +kernel⟩, by decide +kernel⟩⟩
def BX20_find_2 (N : Nat) (x0 : Option Nat) (x1 : Int64) (h : AH) (rec2 : Int32 → Option (Int32)) : Int32 → Option (Int32) := fun x3 =>
  (gI h f_MLand_names x0).bind fun v1 =>
  if v1 ≤ x3 then
    some (-1 : Int32)
  else
    (gR h f_MLand_name x0).bind fun v2 =>
    (aJ h v2 x3).bind fun v3 =>
    if (lg_cmp v3 x1) = 0 then
      some x3
    else
      jlet (x3 + (1 : Int32)) fun v4 =>
      rec2 v4
def LX20_find_2 (N : Nat) (x0 : Option Nat) (x1 : Int64) (h : AH) : Int32 → Option (Int32) := lf (fun _ => none) (BX20_find_2 N x0 x1 h) N
theorem wX20_find_2B {K : ZC} (O : ZOk K cX20_find RX20 "find" 4 (some .int) 1 48) (N : Nat) (x0 : Option Nat) (x1 : Int64) (h : AH) (rec2 : Int32 → Option (Int32)) (hrec2 : ∀ (y3 : Int32) (ry : Int32), rec2 y3 = some ry → Zw K (eI h ry) h 2 [(0, vr x0), (1, vj x1), (3, vi y3)] []) (x3 : Int32) (r : Int32) (hr : BX20_find_2 N x0 x1 h rec2 x3 = some r) : Zw K (eI h r) h 2 [(0, vr x0), (1, vj x1), (3, vi x3)] [] := by
  unfold BX20_find_2 at hr
  refine z_iload_n O 2 dX20_find_2 rfl rfl ?_
  refine z_aload_n O 0 dX20_find_3 rfl rfl ?_
  refine z_getI O o_MLand_names q1911 dX20_find_4 hr (fun v1 hr => ?_)
  refine z_icmp_ge (tgt := 29) O dX20_find_7 (by decide) hr (fun hr => ?_) (fun hr => ?_)
  · refine z_iconst O dX20_find_29 kic_m1 ?_
    exact z_iret O dX20_find_30 (by cases hr; rfl)
  · refine z_aload_n O 0 dX20_find_10 rfl rfl ?_
    refine z_getR O o_MLand_name q1939 dX20_find_11 hr (fun v2 hr => ?_)
    refine z_iload_n O 2 dX20_find_14 rfl rfl ?_
    refine z_laload O dX20_find_15 hr (fun v3 hr => ?_)
    refine z_lload_n O 1 dX20_find_16 rfl rfl ?_
    refine z_lcmp O dX20_find_17 ?_
    refine z_if_ne (tgt := 23) O dX20_find_18 (by decide) hr (fun hr => ?_) (fun hr => ?_)
    · refine z_iload_n O 2 dX20_find_21 rfl rfl ?_
      exact z_iret O dX20_find_22 (by cases hr; rfl)
    · refine z_iincL O 2 (fun v4 => [(3, vi v4), (0, vr x0), (1, vj x1)]) dX20_find_23 rfl rfl (by decide) (fun _ => rfl) hr (fun v4 hr => ?_)
      refine z_goto (tgt := 2) O dX20_find_26 (by decide) ?_
      refine z_sub [1, 2, 0] rfl ?_
      exact hrec2 v4 _ hr
theorem wX20_find_2 {K : ZC} (O : ZOk K cX20_find RX20 "find" 4 (some .int) 1 48) (N : Nat) (x0 : Option Nat) (x1 : Int64) (h : AH) : ∀ (n : Nat) (x3 : Int32) (r : Int32), lf (fun _ => none) (BX20_find_2 N x0 x1 h) n x3 = some r → Zw K (eI h r) h 2 [(0, vr x0), (1, vj x1), (3, vi x3)] [] := by
  intro n
  induction n with
  | zero => intro x3 r hr; cases hr
  | succ n ih => intro x3 r hr; exact wX20_find_2B O N x0 x1 h (lf (fun _ => none) (BX20_find_2 N x0 x1 h) n)  ih x3 r hr
def F_X20_find (N : Nat) (x0 : Option Nat) (x1 : Int64) (h : AH) : Option (Int32) :=
  (ck h [20] x0).bind fun _ =>
  LX20_find_2 N x0 x1 h (0 : Int32)
theorem mX20_find (l : Launch) (G : ZG) (N : Nat) (x0 : Option Nat) (x1 : Int64) (h : AH) (r : Int32) (hr : F_X20_find N x0 x1 h = some r) : MZ l G yX20_find cX20_find 4 (some .int) 1 48 [vr x0, vj x1] h (eI h r) := by
  unfold F_X20_find at hr
  refine MZ.of (by decide) [(0, vr x0), (1, vj x1)] rfl (Nat.le_of_ble_eq_true rfl) (fun K O => ?_)
  have O : ZOk K cX20_find RX20 "find" 4 (some .int) 1 48 := O
  refine bs hr (fun _ hck hr => ?_)
  refine z_iconst O dX20_find_0 kic_0 ?_
  refine z_istore_n O [(3, vi (0 : Int32)), (0, vr x0), (1, vj x1)] dX20_find_1 rfl (by decide) rfl ?_
  refine z_sub [1, 2, 0] rfl ?_
  exact wX20_find_2 O N x0 x1 h _ (0 : Int32) _ hr
theorem fV_X9_isName : CVf RX9 yX9_isName cX9_isName 1 (some .boolean) 0 := ⟨q2142, qs80, q137, q2143, ⟨⟨by decide +kernel, by decide +kernel⟩, by decide +kernel⟩⟩
def F_X9_isName (N : Nat) (x0 : Option Nat) (h : AH) : Option (Int32) :=
  (ck h [9] x0).bind fun _ =>
  (gI h f_Model_sort x0).bind fun v1 =>
  if v1 = (2 : Int32) then
    (F_X9_isWord N x0 (some (h.1.2.2.2.1 1)) h).bind fun v2 =>
    if v2 = 0 then
      (F_X9_isWord N x0 (some (h.1.2.2.2.1 2)) h).bind fun v3 =>
      if v3 = 0 then
        (F_X9_isWord N x0 (some (h.1.2.2.2.1 3)) h).bind fun v4 =>
        if v4 = 0 then
          (F_X9_isWord N x0 (some (h.1.2.2.2.1 4)) h).bind fun v5 =>
          if v5 = 0 then
            (F_X9_isWord N x0 (some (h.1.2.2.2.1 5)) h).bind fun v6 =>
            if v6 = 0 then
              (F_X9_isWord N x0 (some (h.1.2.2.2.1 6)) h).bind fun v7 =>
              if v7 = 0 then
                (F_X9_isWord N x0 (some (h.1.2.2.2.1 7)) h).bind fun v8 =>
                if v8 = 0 then
                  (F_X9_isWord N x0 (some (h.1.2.2.2.1 8)) h).bind fun v9 =>
                  if v9 = 0 then
                    (F_X9_isWord N x0 (some (h.1.2.2.2.1 9)) h).bind fun v10 =>
                    if v10 = 0 then
                      (F_X9_isWord N x0 (some (h.1.2.2.2.1 10)) h).bind fun v11 =>
                      if v11 = 0 then
                        (F_X9_isWord N x0 (some (h.1.2.2.2.1 11)) h).bind fun v12 =>
                        if v12 = 0 then
                          zb (1 : Int32)
                        else
                          zb (0 : Int32)
                      else
                        zb (0 : Int32)
                    else
                      zb (0 : Int32)
                  else
                    zb (0 : Int32)
                else
                  zb (0 : Int32)
              else
                zb (0 : Int32)
            else
              zb (0 : Int32)
          else
            zb (0 : Int32)
        else
          zb (0 : Int32)
      else
        zb (0 : Int32)
    else
      zb (0 : Int32)
  else
    zb (0 : Int32)
theorem mX9_isName (l : Launch) (G : ZG) (N : Nat) (x0 : Option Nat) (h : AH) (r : Int32) (hr : F_X9_isName N x0 h = some r) : MZ l G yX9_isName cX9_isName 1 (some .boolean) 7 177 [vr x0] h (eI h r) := by
  unfold F_X9_isName at hr
  refine MZ.of (by decide) [(0, vr x0)] rfl (Nat.le_of_ble_eq_true rfl) (fun K O => ?_)
  have O : ZOk K cX9_isName RX9 "isName" 1 (some .boolean) 7 177 := O
  refine bs hr (fun _ hck hr => ?_)
  refine z_aload_n O 0 dX9_isName_0 rfl rfl ?_
  refine z_getI O o_Model_sort q1771 dX9_isName_1 hr (fun v1 hr => ?_)
  refine z_iconst O dX9_isName_4 kic_2 ?_
  refine z_icmp_ne (tgt := 62) O dX9_isName_5 (by decide) hr (fun hr => ?_) (fun hr => ?_)
  · refine z_aload_n O 0 dX9_isName_8 rfl rfl ?_
    refine z_ldcS O zs2035 dX9_isName_9 ?_
    refine bs hr (fun v2 hF hr => ?_)
    refine z_callV O [vr (some (h.1.2.2.2.1 1))] (vi v2) fV_X9_isWord q2036 (fun l G => mX9_isWord l G N x0 (some (h.1.2.2.2.1 1)) h _ hF) (zck hF) rfl rfl ⟨Nat.le_of_ble_eq_true rfl, Nat.le_of_ble_eq_true rfl⟩ (Nat.le_of_ble_eq_true rfl) dX9_isName_11 ?_
    refine z_if_ne (tgt := 62) O dX9_isName_14 (by decide) hr (fun hr => ?_) (fun hr => ?_)
    · refine z_aload_n O 0 dX9_isName_17 rfl rfl ?_
      refine z_ldcS O zs2106 dX9_isName_18 ?_
      refine bs hr (fun v3 hF hr => ?_)
      refine z_callV O [vr (some (h.1.2.2.2.1 2))] (vi v3) fV_X9_isWord q2036 (fun l G => mX9_isWord l G N x0 (some (h.1.2.2.2.1 2)) h _ hF) (zck hF) rfl rfl ⟨Nat.le_of_ble_eq_true rfl, Nat.le_of_ble_eq_true rfl⟩ (Nat.le_of_ble_eq_true rfl) dX9_isName_20 ?_
      refine z_if_ne (tgt := 62) O dX9_isName_23 (by decide) hr (fun hr => ?_) (fun hr => ?_)
      · refine z_aload_n O 0 dX9_isName_26 rfl rfl ?_
        refine z_ldcS O zs2118 dX9_isName_27 ?_
        refine bs hr (fun v4 hF hr => ?_)
        refine z_callV O [vr (some (h.1.2.2.2.1 3))] (vi v4) fV_X9_isWord q2036 (fun l G => mX9_isWord l G N x0 (some (h.1.2.2.2.1 3)) h _ hF) (zck hF) rfl rfl ⟨Nat.le_of_ble_eq_true rfl, Nat.le_of_ble_eq_true rfl⟩ (Nat.le_of_ble_eq_true rfl) dX9_isName_29 ?_
        refine z_if_ne (tgt := 62) O dX9_isName_32 (by decide) hr (fun hr => ?_) (fun hr => ?_)
        · refine z_aload_n O 0 dX9_isName_35 rfl rfl ?_
          refine z_ldcS O zs2131 dX9_isName_36 ?_
          refine bs hr (fun v5 hF hr => ?_)
          refine z_callV O [vr (some (h.1.2.2.2.1 4))] (vi v5) fV_X9_isWord q2036 (fun l G => mX9_isWord l G N x0 (some (h.1.2.2.2.1 4)) h _ hF) (zck hF) rfl rfl ⟨Nat.le_of_ble_eq_true rfl, Nat.le_of_ble_eq_true rfl⟩ (Nat.le_of_ble_eq_true rfl) dX9_isName_38 ?_
          refine z_if_ne (tgt := 62) O dX9_isName_41 (by decide) hr (fun hr => ?_) (fun hr => ?_)
          · refine z_aload_n O 0 dX9_isName_44 rfl rfl ?_
            refine z_ldcS O zs2144 dX9_isName_45 ?_
            refine bs hr (fun v6 hF hr => ?_)
            refine z_callV O [vr (some (h.1.2.2.2.1 5))] (vi v6) fV_X9_isWord q2036 (fun l G => mX9_isWord l G N x0 (some (h.1.2.2.2.1 5)) h _ hF) (zck hF) rfl rfl ⟨Nat.le_of_ble_eq_true rfl, Nat.le_of_ble_eq_true rfl⟩ (Nat.le_of_ble_eq_true rfl) dX9_isName_47 ?_
            refine z_if_ne (tgt := 62) O dX9_isName_50 (by decide) hr (fun hr => ?_) (fun hr => ?_)
            · refine z_aload_n O 0 dX9_isName_53 rfl rfl ?_
              refine z_ldcS O zs2145 dX9_isName_54 ?_
              refine bs hr (fun v7 hF hr => ?_)
              refine z_callV O [vr (some (h.1.2.2.2.1 6))] (vi v7) fV_X9_isWord q2036 (fun l G => mX9_isWord l G N x0 (some (h.1.2.2.2.1 6)) h _ hF) (zck hF) rfl rfl ⟨Nat.le_of_ble_eq_true rfl, Nat.le_of_ble_eq_true rfl⟩ (Nat.le_of_ble_eq_true rfl) dX9_isName_56 ?_
              refine z_if_eq (tgt := 64) O dX9_isName_59 (by decide) hr (fun hr => ?_) (fun hr => ?_)
              · refine z_aload_n O 0 dX9_isName_64 rfl rfl ?_
                refine z_ldcS O zs2146 dX9_isName_65 ?_
                refine bs hr (fun v8 hF hr => ?_)
                refine z_callV O [vr (some (h.1.2.2.2.1 7))] (vi v8) fV_X9_isWord q2036 (fun l G => mX9_isWord l G N x0 (some (h.1.2.2.2.1 7)) h _ hF) (zck hF) rfl rfl ⟨Nat.le_of_ble_eq_true rfl, Nat.le_of_ble_eq_true rfl⟩ (Nat.le_of_ble_eq_true rfl) dX9_isName_67 ?_
                refine z_if_ne (tgt := 113) O dX9_isName_70 (by decide) hr (fun hr => ?_) (fun hr => ?_)
                · refine z_aload_n O 0 dX9_isName_73 rfl rfl ?_
                  refine z_ldcS O zs2147 dX9_isName_74 ?_
                  refine bs hr (fun v9 hF hr => ?_)
                  refine z_callV O [vr (some (h.1.2.2.2.1 8))] (vi v9) fV_X9_isWord q2036 (fun l G => mX9_isWord l G N x0 (some (h.1.2.2.2.1 8)) h _ hF) (zck hF) rfl rfl ⟨Nat.le_of_ble_eq_true rfl, Nat.le_of_ble_eq_true rfl⟩ (Nat.le_of_ble_eq_true rfl) dX9_isName_76 ?_
                  refine z_if_ne (tgt := 113) O dX9_isName_79 (by decide) hr (fun hr => ?_) (fun hr => ?_)
                  · refine z_aload_n O 0 dX9_isName_82 rfl rfl ?_
                    refine z_ldcS O zs2148 dX9_isName_83 ?_
                    refine bs hr (fun v10 hF hr => ?_)
                    refine z_callV O [vr (some (h.1.2.2.2.1 9))] (vi v10) fV_X9_isWord q2036 (fun l G => mX9_isWord l G N x0 (some (h.1.2.2.2.1 9)) h _ hF) (zck hF) rfl rfl ⟨Nat.le_of_ble_eq_true rfl, Nat.le_of_ble_eq_true rfl⟩ (Nat.le_of_ble_eq_true rfl) dX9_isName_85 ?_
                    refine z_if_ne (tgt := 113) O dX9_isName_88 (by decide) hr (fun hr => ?_) (fun hr => ?_)
                    · refine z_aload_n O 0 dX9_isName_91 rfl rfl ?_
                      refine z_ldcS O zs2149 dX9_isName_92 ?_
                      refine bs hr (fun v11 hF hr => ?_)
                      refine z_callV O [vr (some (h.1.2.2.2.1 10))] (vi v11) fV_X9_isWord q2036 (fun l G => mX9_isWord l G N x0 (some (h.1.2.2.2.1 10)) h _ hF) (zck hF) rfl rfl ⟨Nat.le_of_ble_eq_true rfl, Nat.le_of_ble_eq_true rfl⟩ (Nat.le_of_ble_eq_true rfl) dX9_isName_94 ?_
                      refine z_if_ne (tgt := 113) O dX9_isName_97 (by decide) hr (fun hr => ?_) (fun hr => ?_)
                      · refine z_aload_n O 0 dX9_isName_100 rfl rfl ?_
                        refine z_ldcS O zs2150 dX9_isName_101 ?_
                        refine bs hr (fun v12 hF hr => ?_)
                        refine z_callV O [vr (some (h.1.2.2.2.1 11))] (vi v12) fV_X9_isWord q2036 (fun l G => mX9_isWord l G N x0 (some (h.1.2.2.2.1 11)) h _ hF) (zck hF) rfl rfl ⟨Nat.le_of_ble_eq_true rfl, Nat.le_of_ble_eq_true rfl⟩ (Nat.le_of_ble_eq_true rfl) dX9_isName_103 ?_
                        refine z_if_ne (tgt := 113) O dX9_isName_106 (by decide) hr (fun hr => ?_) (fun hr => ?_)
                        · refine z_iconst O dX9_isName_109 kic_1 ?_
                          refine z_goto (tgt := 114) O dX9_isName_110 (by decide) ?_
                          obtain ⟨e1, e2, -⟩ := zb_spec hr
                          exact z_zret O e2 dX9_isName_114 (by cases e1; rfl)
                        · refine z_iconst O dX9_isName_113 kic_0 ?_
                          obtain ⟨e1, e2, -⟩ := zb_spec hr
                          exact z_zret O e2 dX9_isName_114 (by cases e1; rfl)
                      · refine z_iconst O dX9_isName_113 kic_0 ?_
                        obtain ⟨e1, e2, -⟩ := zb_spec hr
                        exact z_zret O e2 dX9_isName_114 (by cases e1; rfl)
                    · refine z_iconst O dX9_isName_113 kic_0 ?_
                      obtain ⟨e1, e2, -⟩ := zb_spec hr
                      exact z_zret O e2 dX9_isName_114 (by cases e1; rfl)
                  · refine z_iconst O dX9_isName_113 kic_0 ?_
                    obtain ⟨e1, e2, -⟩ := zb_spec hr
                    exact z_zret O e2 dX9_isName_114 (by cases e1; rfl)
                · refine z_iconst O dX9_isName_113 kic_0 ?_
                  obtain ⟨e1, e2, -⟩ := zb_spec hr
                  exact z_zret O e2 dX9_isName_114 (by cases e1; rfl)
              · refine z_iconst O dX9_isName_62 kic_0 ?_
                obtain ⟨e1, e2, -⟩ := zb_spec hr
                exact z_zret O e2 dX9_isName_63 (by cases e1; rfl)
            · refine z_iconst O dX9_isName_62 kic_0 ?_
              obtain ⟨e1, e2, -⟩ := zb_spec hr
              exact z_zret O e2 dX9_isName_63 (by cases e1; rfl)
          · refine z_iconst O dX9_isName_62 kic_0 ?_
            obtain ⟨e1, e2, -⟩ := zb_spec hr
            exact z_zret O e2 dX9_isName_63 (by cases e1; rfl)
        · refine z_iconst O dX9_isName_62 kic_0 ?_
          obtain ⟨e1, e2, -⟩ := zb_spec hr
          exact z_zret O e2 dX9_isName_63 (by cases e1; rfl)
      · refine z_iconst O dX9_isName_62 kic_0 ?_
        obtain ⟨e1, e2, -⟩ := zb_spec hr
        exact z_zret O e2 dX9_isName_63 (by cases e1; rfl)
    · refine z_iconst O dX9_isName_62 kic_0 ?_
      obtain ⟨e1, e2, -⟩ := zb_spec hr
      exact z_zret O e2 dX9_isName_63 (by cases e1; rfl)
  · refine z_iconst O dX9_isName_62 kic_0 ?_
    obtain ⟨e1, e2, -⟩ := zb_spec hr
    exact z_zret O e2 dX9_isName_63 (by cases e1; rfl)
theorem fV_X9_readFresh : CVf RX9 yX9_readFresh cX9_readFresh 3 (some .long) 0 := ⟨q2138, qs79, q137, q2139, ⟨⟨by decide +kernel, by decide +kernel⟩, by decide +kernel⟩⟩
def bX9_readFresh_12 (N : Nat) (x0 : Option Nat) (h : AH) : Option (Int64 × AH) :=
  (gR h f_Model_read x0).bind fun v1 =>
  (gJ h f_Model_word x0).bind fun v2 =>
  (F_X20_find N v1 v2 h).bind fun v3 =>
  if v3 = (-1 : Int32) then
    (gJ h f_Model_word x0).bind fun v4 =>
    (F_X9_goesOn N x0 h).bind fun h5 =>
    some (v4, h5)
  else
    (F_X9_flaw x0 (3 : Int32) h).bind fun h6 =>
    (gJ h6 f_Model_word x0).bind fun v7 =>
    (F_X9_goesOn N x0 h6).bind fun h8 =>
    some (v7, h8)
theorem wX9_readFresh_12 {K : ZC} (O : ZOk K cX9_readFresh RX9 "readFresh" 3 (some .long) 8 197) (N : Nat) (x0 : Option Nat) (h : AH) (r : Int64 × AH) (hr : bX9_readFresh_12 N x0 h = some r) : Zw K (eJH r) h 12 [(0, vr x0)] [] := by
  unfold bX9_readFresh_12 at hr
  refine z_aload_n O 0 dX9_readFresh_12 rfl rfl ?_
  refine z_getR O o_Model_read q1766 dX9_readFresh_13 hr (fun v1 hr => ?_)
  refine z_aload_n O 0 dX9_readFresh_16 rfl rfl ?_
  refine z_getJ O o_Model_word q1777 dX9_readFresh_17 hr (fun v2 hr => ?_)
  refine bs hr (fun v3 hF hr => ?_)
  refine z_callV O [vj v2] (vi v3) fV_X20_find q2151 (fun l G => mX20_find l G N v1 v2 h _ hF) (zck hF) rfl rfl ⟨Nat.le_of_ble_eq_true rfl, Nat.le_of_ble_eq_true rfl⟩ (Nat.le_of_ble_eq_true rfl) dX9_readFresh_20 ?_
  refine z_iconst O dX9_readFresh_23 kic_m1 ?_
  refine z_icmp_eq (tgt := 32) O dX9_readFresh_24 (by decide) hr (fun hr => ?_) (fun hr => ?_)
  · refine z_aload_n O 0 dX9_readFresh_32 rfl rfl ?_
    refine z_getJ O o_Model_word q1777 dX9_readFresh_33 hr (fun v4 hr => ?_)
    refine z_lstore_n O [(1, vj v4), (0, vr x0)] dX9_readFresh_36 rfl (by decide) rfl ?_
    refine z_aload_n O 1 dX9_readFresh_37 rfl rfl ?_
    refine bs hr (fun h5 hF hr => ?_)
    refine z_callVv O [] fV_X9_goesOn q2012 (fun l G => mX9_goesOn l G N x0 h _ hF) (zck hF) rfl rfl ⟨Nat.le_of_ble_eq_true rfl, Nat.le_of_ble_eq_true rfl⟩ (Nat.le_of_ble_eq_true rfl) dX9_readFresh_38 ?_
    refine z_lload_n O 0 dX9_readFresh_41 rfl rfl ?_
    exact z_lret O dX9_readFresh_42 (by cases hr; rfl)
  · refine z_aload_n O 0 dX9_readFresh_27 rfl rfl ?_
    refine z_iconst O dX9_readFresh_28 kic_3 ?_
    refine bs hr (fun h6 hF hr => ?_)
    refine z_callVv O [vi (3 : Int32)] fV_X9_flaw q2075 (fun l G => mX9_flaw l G x0 (3 : Int32) h _ hF) (zck hF) rfl rfl ⟨Nat.le_of_ble_eq_true rfl, Nat.le_of_ble_eq_true rfl⟩ (Nat.le_of_ble_eq_true rfl) dX9_readFresh_29 ?_
    refine z_aload_n O 0 dX9_readFresh_32 rfl rfl ?_
    refine z_getJ O o_Model_word q1777 dX9_readFresh_33 hr (fun v7 hr => ?_)
    refine z_lstore_n O [(1, vj v7), (0, vr x0)] dX9_readFresh_36 rfl (by decide) rfl ?_
    refine z_aload_n O 1 dX9_readFresh_37 rfl rfl ?_
    refine bs hr (fun h8 hF hr => ?_)
    refine z_callVv O [] fV_X9_goesOn q2012 (fun l G => mX9_goesOn l G N x0 h6 _ hF) (zck hF) rfl rfl ⟨Nat.le_of_ble_eq_true rfl, Nat.le_of_ble_eq_true rfl⟩ (Nat.le_of_ble_eq_true rfl) dX9_readFresh_38 ?_
    refine z_lload_n O 0 dX9_readFresh_41 rfl rfl ?_
    exact z_lret O dX9_readFresh_42 (by cases hr; rfl)
def F_X9_readFresh (N : Nat) (x0 : Option Nat) (h : AH) : Option (Int64 × AH) :=
  (ck h [9] x0).bind fun _ =>
  (F_X9_isName N x0 h).bind fun v1 =>
  if v1 = 0 then
    (F_X9_flaw x0 (1 : Int32) h).bind fun h2 =>
    bX9_readFresh_12 N x0 h2
  else
    bX9_readFresh_12 N x0 h
theorem mX9_readFresh (l : Launch) (G : ZG) (N : Nat) (x0 : Option Nat) (h : AH) (r : Int64 × AH) (hr : F_X9_readFresh N x0 h = some r) : MZ l G yX9_readFresh cX9_readFresh 3 (some .long) 8 197 [vr x0] h (eJH r) := by
  unfold F_X9_readFresh at hr
  refine MZ.of (by decide) [(0, vr x0)] rfl (Nat.le_of_ble_eq_true rfl) (fun K O => ?_)
  have O : ZOk K cX9_readFresh RX9 "readFresh" 3 (some .long) 8 197 := O
  refine bs hr (fun _ hck hr => ?_)
  refine z_aload_n O 0 dX9_readFresh_0 rfl rfl ?_
  refine bs hr (fun v1 hF hr => ?_)
  refine z_callV O [] (vi v1) fV_X9_isName q2140 (fun l G => mX9_isName l G N x0 h _ hF) (zck hF) rfl rfl ⟨Nat.le_of_ble_eq_true rfl, Nat.le_of_ble_eq_true rfl⟩ (Nat.le_of_ble_eq_true rfl) dX9_readFresh_1 ?_
  refine z_if_ne (tgt := 12) O dX9_readFresh_4 (by decide) hr (fun hr => ?_) (fun hr => ?_)
  · refine z_aload_n O 0 dX9_readFresh_7 rfl rfl ?_
    refine z_iconst O dX9_readFresh_8 kic_1 ?_
    refine bs hr (fun h2 hF hr => ?_)
    refine z_callVv O [vi (1 : Int32)] fV_X9_flaw q2075 (fun l G => mX9_flaw l G x0 (1 : Int32) h _ hF) (zck hF) rfl rfl ⟨Nat.le_of_ble_eq_true rfl, Nat.le_of_ble_eq_true rfl⟩ (Nat.le_of_ble_eq_true rfl) dX9_readFresh_9 ?_
    exact wX9_readFresh_12 O N x0 h2 _ hr
  · exact wX9_readFresh_12 O N x0 h _ hr
theorem fV_X9_known : CVf RX9 yX9_known cX9_known 3 (some .int) 1 := ⟨q2193, qs84, q137, q2194, ⟨⟨by decide +kernel, by decide +kernel⟩, by decide +kernel⟩⟩
def bX9_known_47 (N : Nat) (x0 : Option Nat) (x2 : Int32) (h : AH) : Option (Int32 × AH) :=
  (gI h f_Model_sort x0).bind fun v1 =>
  if v1 = (5 : Int32) then
    some ((0 : Int32), h)
  else
    (gR h f_Model_read x0).bind fun v2 =>
    (gR h f_MLand_nameNumber v2).bind fun v3 =>
    (aI h 0 v3 x2).bind fun v4 =>
    some (v4, h)
theorem wX9_known_47 {K : ZC} (O : ZOk K cX9_known RX9 "known" 3 (some .int) 8 197) (N : Nat) (x0 : Option Nat) (x2 : Int32) (h : AH) (r : Int32 × AH) (hr : bX9_known_47 N x0 x2 h = some r) : Zw K (eIH r) h 47 [(0, vr x0), (2, vi x2)] [] := by
  unfold bX9_known_47 at hr
  refine z_aload_n O 0 dX9_known_47 rfl rfl ?_
  refine z_getI O o_Model_sort q1771 dX9_known_48 hr (fun v1 hr => ?_)
  refine z_iconst O dX9_known_51 kic_5 ?_
  refine z_icmp_ne (tgt := 59) O dX9_known_52 (by decide) hr (fun hr => ?_) (fun hr => ?_)
  · refine z_iconst O dX9_known_55 kic_0 ?_
    refine z_goto (tgt := 68) O dX9_known_56 (by decide) ?_
    exact z_iret O dX9_known_68 (by cases hr; rfl)
  · refine z_aload_n O 0 dX9_known_59 rfl rfl ?_
    refine z_getR O o_Model_read q1766 dX9_known_60 hr (fun v2 hr => ?_)
    refine z_getRN O o_MLand_nameNumber zn1944 dX9_known_63 hr (fun v3 hr => ?_)
    refine z_iload_n O 1 dX9_known_66 rfl rfl ?_
    refine z_iaload O dX9_known_67 hr (fun v4 hr => ?_)
    exact z_iret O dX9_known_68 (by cases hr; rfl)
def bX9_known_12 (N : Nat) (x0 : Option Nat) (x1 : Int32) (h : AH) : Option (Int32 × AH) :=
  (gR h f_Model_read x0).bind fun v1 =>
  (gJ h f_Model_word x0).bind fun v2 =>
  (F_X20_find N v1 v2 h).bind fun v3 =>
  if v3 = (-1 : Int32) then
    (F_X9_flaw x0 (2 : Int32) h).bind fun h4 =>
    bX9_known_47 N x0 v3 h4
  else
    (gR h f_Model_read x0).bind fun v5 =>
    (gR h f_MLand_nameSort v5).bind fun v6 =>
    (aI h 0 v6 v3).bind fun v7 =>
    if v7 = x1 then
      bX9_known_47 N x0 v3 h
    else
      (F_X9_flaw x0 (2 : Int32) h).bind fun h8 =>
      bX9_known_47 N x0 v3 h8
theorem wX9_known_12 {K : ZC} (O : ZOk K cX9_known RX9 "known" 3 (some .int) 8 197) (N : Nat) (x0 : Option Nat) (x1 : Int32) (h : AH) (r : Int32 × AH) (hr : bX9_known_12 N x0 x1 h = some r) : Zw K (eIH r) h 12 [(0, vr x0), (1, vi x1)] [] := by
  unfold bX9_known_12 at hr
  refine z_aload_n O 0 dX9_known_12 rfl rfl ?_
  refine z_getR O o_Model_read q1766 dX9_known_13 hr (fun v1 hr => ?_)
  refine z_aload_n O 0 dX9_known_16 rfl rfl ?_
  refine z_getJ O o_Model_word q1777 dX9_known_17 hr (fun v2 hr => ?_)
  refine bs hr (fun v3 hF hr => ?_)
  refine z_callV O [vj v2] (vi v3) fV_X20_find q2151 (fun l G => mX20_find l G N v1 v2 h _ hF) (zck hF) rfl rfl ⟨Nat.le_of_ble_eq_true rfl, Nat.le_of_ble_eq_true rfl⟩ (Nat.le_of_ble_eq_true rfl) dX9_known_20 ?_
  refine z_istore_n O [(2, vi v3), (0, vr x0), (1, vi x1)] dX9_known_23 rfl (by decide) rfl ?_
  refine z_iload_n O 0 dX9_known_24 rfl rfl ?_
  refine z_iconst O dX9_known_25 kic_m1 ?_
  refine z_icmp_eq (tgt := 42) O dX9_known_26 (by decide) hr (fun hr => ?_) (fun hr => ?_)
  · refine z_aload_n O 1 dX9_known_42 rfl rfl ?_
    refine z_iconst O dX9_known_43 kic_2 ?_
    refine bs hr (fun h4 hF hr => ?_)
    refine z_callVv O [vi (2 : Int32)] fV_X9_flaw q2075 (fun l G => mX9_flaw l G x0 (2 : Int32) h _ hF) (zck hF) rfl rfl ⟨Nat.le_of_ble_eq_true rfl, Nat.le_of_ble_eq_true rfl⟩ (Nat.le_of_ble_eq_true rfl) dX9_known_44 ?_
    refine z_sub [1, 0] rfl ?_
    exact wX9_known_47 O N x0 v3 h4 _ hr
  · refine z_aload_n O 1 dX9_known_29 rfl rfl ?_
    refine z_getR O o_Model_read q1766 dX9_known_30 hr (fun v5 hr => ?_)
    refine z_getRN O o_MLand_nameSort zn1942 dX9_known_33 hr (fun v6 hr => ?_)
    refine z_iload_n O 0 dX9_known_36 rfl rfl ?_
    refine z_iaload O dX9_known_37 hr (fun v7 hr => ?_)
    refine z_iload_n O 2 dX9_known_38 rfl rfl ?_
    refine z_icmp_eq (tgt := 47) O dX9_known_39 (by decide) hr (fun hr => ?_) (fun hr => ?_)
    · refine z_sub [1, 0] rfl ?_
      exact wX9_known_47 O N x0 v3 h _ hr
    · refine z_aload_n O 1 dX9_known_42 rfl rfl ?_
      refine z_iconst O dX9_known_43 kic_2 ?_
      refine bs hr (fun h8 hF hr => ?_)
      refine z_callVv O [vi (2 : Int32)] fV_X9_flaw q2075 (fun l G => mX9_flaw l G x0 (2 : Int32) h _ hF) (zck hF) rfl rfl ⟨Nat.le_of_ble_eq_true rfl, Nat.le_of_ble_eq_true rfl⟩ (Nat.le_of_ble_eq_true rfl) dX9_known_44 ?_
      refine z_sub [1, 0] rfl ?_
      exact wX9_known_47 O N x0 v3 h8 _ hr
def F_X9_known (N : Nat) (x0 : Option Nat) (x1 : Int32) (h : AH) : Option (Int32 × AH) :=
  (ck h [9] x0).bind fun _ =>
  (F_X9_isName N x0 h).bind fun v1 =>
  if v1 = 0 then
    (F_X9_flaw x0 (1 : Int32) h).bind fun h2 =>
    bX9_known_12 N x0 x1 h2
  else
    bX9_known_12 N x0 x1 h
theorem mX9_known (l : Launch) (G : ZG) (N : Nat) (x0 : Option Nat) (x1 : Int32) (h : AH) (r : Int32 × AH) (hr : F_X9_known N x0 x1 h = some r) : MZ l G yX9_known cX9_known 3 (some .int) 8 197 [vr x0, vi x1] h (eIH r) := by
  unfold F_X9_known at hr
  refine MZ.of (by decide) [(0, vr x0), (1, vi x1)] rfl (Nat.le_of_ble_eq_true rfl) (fun K O => ?_)
  have O : ZOk K cX9_known RX9 "known" 3 (some .int) 8 197 := O
  refine bs hr (fun _ hck hr => ?_)
  refine z_aload_n O 0 dX9_known_0 rfl rfl ?_
  refine bs hr (fun v1 hF hr => ?_)
  refine z_callV O [] (vi v1) fV_X9_isName q2140 (fun l G => mX9_isName l G N x0 h _ hF) (zck hF) rfl rfl ⟨Nat.le_of_ble_eq_true rfl, Nat.le_of_ble_eq_true rfl⟩ (Nat.le_of_ble_eq_true rfl) dX9_known_1 ?_
  refine z_if_ne (tgt := 12) O dX9_known_4 (by decide) hr (fun hr => ?_) (fun hr => ?_)
  · refine z_aload_n O 0 dX9_known_7 rfl rfl ?_
    refine z_iconst O dX9_known_8 kic_1 ?_
    refine bs hr (fun h2 hF hr => ?_)
    refine z_callVv O [vi (1 : Int32)] fV_X9_flaw q2075 (fun l G => mX9_flaw l G x0 (1 : Int32) h _ hF) (zck hF) rfl rfl ⟨Nat.le_of_ble_eq_true rfl, Nat.le_of_ble_eq_true rfl⟩ (Nat.le_of_ble_eq_true rfl) dX9_known_9 ?_
    exact wX9_known_12 O N x0 x1 h2 _ hr
  · exact wX9_known_12 O N x0 x1 h _ hr
theorem fV_X9_readKnown : CVf RX9 yX9_readKnown cX9_readKnown 3 (some .int) 1 := ⟨q2189, qs83, q137, q2190, ⟨⟨by decide +kernel, by decide +kernel⟩, by decide +kernel⟩⟩
def F_X9_readKnown (N : Nat) (x0 : Option Nat) (x1 : Int32) (h : AH) : Option (Int32 × AH) :=
  (ck h [9] x0).bind fun _ =>
  b2 (F_X9_known N x0 x1 h) fun v2 h1 =>
  (F_X9_goesOn N x0 h1).bind fun h3 =>
  some (v2, h3)
theorem mX9_readKnown (l : Launch) (G : ZG) (N : Nat) (x0 : Option Nat) (x1 : Int32) (h : AH) (r : Int32 × AH) (hr : F_X9_readKnown N x0 x1 h = some r) : MZ l G yX9_readKnown cX9_readKnown 3 (some .int) 9 219 [vr x0, vi x1] h (eIH r) := by
  unfold F_X9_readKnown at hr
  refine MZ.of (by decide) [(0, vr x0), (1, vi x1)] rfl (Nat.le_of_ble_eq_true rfl) (fun K O => ?_)
  have O : ZOk K cX9_readKnown RX9 "readKnown" 3 (some .int) 9 219 := O
  refine bs hr (fun _ hck hr => ?_)
  refine z_aload_n O 0 dX9_readKnown_0 rfl rfl ?_
  refine z_iload_n O 1 dX9_readKnown_1 rfl rfl ?_
  refine b2s hr (fun v2 h1 hF hr => ?_)
  refine z_callV O [vi x1] (vi v2) fV_X9_known q2191 (fun l G => mX9_known l G N x0 x1 h _ hF) (zck hF) rfl rfl ⟨Nat.le_of_ble_eq_true rfl, Nat.le_of_ble_eq_true rfl⟩ (Nat.le_of_ble_eq_true rfl) dX9_readKnown_2 ?_
  refine z_istore_n O [(2, vi v2), (0, vr x0), (1, vi x1)] dX9_readKnown_5 rfl (by decide) rfl ?_
  refine z_aload_n O 1 dX9_readKnown_6 rfl rfl ?_
  refine bs hr (fun h3 hF hr => ?_)
  refine z_callVv O [] fV_X9_goesOn q2012 (fun l G => mX9_goesOn l G N x0 h1 _ hF) (zck hF) rfl rfl ⟨Nat.le_of_ble_eq_true rfl, Nat.le_of_ble_eq_true rfl⟩ (Nat.le_of_ble_eq_true rfl) dX9_readKnown_7 ?_
  refine z_iload_n O 0 dX9_readKnown_10 rfl rfl ?_
  exact z_iret O dX9_readKnown_11 (by cases hr; rfl)
theorem fV_X9_bounded : CVf RX9 yX9_bounded cX9_bounded 3 (some .int) 2 := ⟨q2094, qs72, q137, q2095, ⟨⟨by decide +kernel, by decide +kernel⟩, by decide +kernel⟩⟩
def bX9_bounded_33 (x0 : Option Nat) (x1 : Int32) (h : AH) : Option (Int32 × AH) :=
  (gI h f_Model_sort x0).bind fun v1 =>
  if v1 = (5 : Int32) then
    some (x1, h)
  else
    (gI h f_Model_number x0).bind fun v2 =>
    some (v2, h)
theorem wX9_bounded_33 {K : ZC} (O : ZOk K cX9_bounded RX9 "bounded" 3 (some .int) 2 70) (x0 : Option Nat) (x1 : Int32) (h : AH) (r : Int32 × AH) (hr : bX9_bounded_33 x0 x1 h = some r) : Zw K (eIH r) h 33 [(0, vr x0), (1, vi x1)] [] := by
  unfold bX9_bounded_33 at hr
  refine z_aload_n O 0 dX9_bounded_33 rfl rfl ?_
  refine z_getI O o_Model_sort q1771 dX9_bounded_34 hr (fun v1 hr => ?_)
  refine z_iconst O dX9_bounded_37 kic_5 ?_
  refine z_icmp_ne (tgt := 45) O dX9_bounded_38 (by decide) hr (fun hr => ?_) (fun hr => ?_)
  · refine z_iload_n O 1 dX9_bounded_41 rfl rfl ?_
    refine z_goto (tgt := 49) O dX9_bounded_42 (by decide) ?_
    exact z_iret O dX9_bounded_49 (by cases hr; rfl)
  · refine z_aload_n O 0 dX9_bounded_45 rfl rfl ?_
    refine z_getI O o_Model_number q1774 dX9_bounded_46 hr (fun v2 hr => ?_)
    exact z_iret O dX9_bounded_49 (by cases hr; rfl)
def F_X9_bounded (x0 : Option Nat) (x1 : Int32) (x2 : Int32) (h : AH) : Option (Int32 × AH) :=
  (ck h [9] x0).bind fun _ =>
  (gI h f_Model_sort x0).bind fun v1 =>
  if v1 = (3 : Int32) then
    (gI h f_Model_number x0).bind fun v2 =>
    (F_X9_within v2 x1 x2).bind fun v3 =>
    if v3 = 0 then
      (F_X9_flaw x0 (4 : Int32) h).bind fun h4 =>
      bX9_bounded_33 x0 x1 h4
    else
      bX9_bounded_33 x0 x1 h
  else
    (F_X9_flaw x0 (1 : Int32) h).bind fun h5 =>
    bX9_bounded_33 x0 x1 h5
theorem mX9_bounded (l : Launch) (G : ZG) (x0 : Option Nat) (x1 : Int32) (x2 : Int32) (h : AH) (r : Int32 × AH) (hr : F_X9_bounded x0 x1 x2 h = some r) : MZ l G yX9_bounded cX9_bounded 3 (some .int) 2 70 [vr x0, vi x1, vi x2] h (eIH r) := by
  unfold F_X9_bounded at hr
  refine MZ.of (by decide) [(0, vr x0), (1, vi x1), (2, vi x2)] rfl (Nat.le_of_ble_eq_true rfl) (fun K O => ?_)
  have O : ZOk K cX9_bounded RX9 "bounded" 3 (some .int) 2 70 := O
  refine bs hr (fun _ hck hr => ?_)
  refine z_aload_n O 0 dX9_bounded_0 rfl rfl ?_
  refine z_getI O o_Model_sort q1771 dX9_bounded_1 hr (fun v1 hr => ?_)
  refine z_iconst O dX9_bounded_4 kic_3 ?_
  refine z_icmp_eq (tgt := 16) O dX9_bounded_5 (by decide) hr (fun hr => ?_) (fun hr => ?_)
  · refine z_aload_n O 0 dX9_bounded_16 rfl rfl ?_
    refine z_getI O o_Model_number q1774 dX9_bounded_17 hr (fun v2 hr => ?_)
    refine z_iload_n O 1 dX9_bounded_20 rfl rfl ?_
    refine z_iload_n O 2 dX9_bounded_21 rfl rfl ?_
    refine bs hr (fun v3 hF hr => ?_)
    refine z_callS O [vi v2, vi x1, vi x2] (vi v3) fS_X9_within q2096 (fun l G => mX9_within l G v2 x1 x2 h _ hF) rfl ⟨Nat.le_of_ble_eq_true rfl, Nat.le_of_ble_eq_true rfl⟩ (Nat.le_of_ble_eq_true rfl) dX9_bounded_22 ?_
    refine z_if_ne (tgt := 33) O dX9_bounded_25 (by decide) hr (fun hr => ?_) (fun hr => ?_)
    · refine z_aload_n O 0 dX9_bounded_28 rfl rfl ?_
      refine z_iconst O dX9_bounded_29 kic_4 ?_
      refine bs hr (fun h4 hF hr => ?_)
      refine z_callVv O [vi (4 : Int32)] fV_X9_flaw q2075 (fun l G => mX9_flaw l G x0 (4 : Int32) h _ hF) (zck hF) rfl rfl ⟨Nat.le_of_ble_eq_true rfl, Nat.le_of_ble_eq_true rfl⟩ (Nat.le_of_ble_eq_true rfl) dX9_bounded_30 ?_
      refine z_sub [0, 1] rfl ?_
      exact wX9_bounded_33 O x0 x1 h4 _ hr
    · refine z_sub [0, 1] rfl ?_
      exact wX9_bounded_33 O x0 x1 h _ hr
  · refine z_aload_n O 0 dX9_bounded_8 rfl rfl ?_
    refine z_iconst O dX9_bounded_9 kic_1 ?_
    refine bs hr (fun h5 hF hr => ?_)
    refine z_callVv O [vi (1 : Int32)] fV_X9_flaw q2075 (fun l G => mX9_flaw l G x0 (1 : Int32) h _ hF) (zck hF) rfl rfl ⟨Nat.le_of_ble_eq_true rfl, Nat.le_of_ble_eq_true rfl⟩ (Nat.le_of_ble_eq_true rfl) dX9_bounded_10 ?_
    refine z_goto (tgt := 33) O dX9_bounded_13 (by decide) ?_
    refine z_sub [0, 1] rfl ?_
    exact wX9_bounded_33 O x0 x1 h5 _ hr
theorem fV_X9_readWhole : CVf RX9 yX9_readWhole cX9_readWhole 4 (some .int) 2 := ⟨q2090, qs71, q137, q2091, ⟨⟨by decide +kernel, by decide +kernel⟩, by decide +kernel⟩⟩
def F_X9_readWhole (N : Nat) (x0 : Option Nat) (x1 : Int32) (x2 : Int32) (h : AH) : Option (Int32 × AH) :=
  (ck h [9] x0).bind fun _ =>
  b2 (F_X9_bounded x0 x1 x2 h) fun v2 h1 =>
  (F_X9_goesOn N x0 h1).bind fun h3 =>
  some (v2, h3)
theorem mX9_readWhole (l : Launch) (G : ZG) (N : Nat) (x0 : Option Nat) (x1 : Int32) (x2 : Int32) (h : AH) (r : Int32 × AH) (hr : F_X9_readWhole N x0 x1 x2 h = some r) : MZ l G yX9_readWhole cX9_readWhole 4 (some .int) 3 92 [vr x0, vi x1, vi x2] h (eIH r) := by
  unfold F_X9_readWhole at hr
  refine MZ.of (by decide) [(0, vr x0), (1, vi x1), (2, vi x2)] rfl (Nat.le_of_ble_eq_true rfl) (fun K O => ?_)
  have O : ZOk K cX9_readWhole RX9 "readWhole" 4 (some .int) 3 92 := O
  refine bs hr (fun _ hck hr => ?_)
  refine z_aload_n O 0 dX9_readWhole_0 rfl rfl ?_
  refine z_iload_n O 1 dX9_readWhole_1 rfl rfl ?_
  refine z_iload_n O 2 dX9_readWhole_2 rfl rfl ?_
  refine b2s hr (fun v2 h1 hF hr => ?_)
  refine z_callV O [vi x1, vi x2] (vi v2) fV_X9_bounded q2092 (fun l G => mX9_bounded l G x0 x1 x2 h _ hF) (zck hF) rfl rfl ⟨Nat.le_of_ble_eq_true rfl, Nat.le_of_ble_eq_true rfl⟩ (Nat.le_of_ble_eq_true rfl) dX9_readWhole_3 ?_
  refine z_istore_n O [(3, vi v2), (0, vr x0), (1, vi x1), (2, vi x2)] dX9_readWhole_6 rfl (by decide) rfl ?_
  refine z_aload_n O 1 dX9_readWhole_7 rfl rfl ?_
  refine bs hr (fun h3 hF hr => ?_)
  refine z_callVv O [] fV_X9_goesOn q2012 (fun l G => mX9_goesOn l G N x0 h1 _ hF) (zck hF) rfl rfl ⟨Nat.le_of_ble_eq_true rfl, Nat.le_of_ble_eq_true rfl⟩ (Nat.le_of_ble_eq_true rfl) dX9_readWhole_8 ?_
  refine z_iload_n O 0 dX9_readWhole_11 rfl rfl ?_
  exact z_iret O dX9_readWhole_12 (by cases hr; rfl)
theorem fV_X9_readHeir : CVf RX9 yX9_readHeir cX9_readHeir 5 (none : Option Jvm.ClassFile.FieldType) 0 := ⟨q2228, qs87, q137, q2229, ⟨⟨by decide +kernel, by decide +kernel⟩, by decide +kernel⟩⟩
def bX9_readHeir_49 (N : Nat) (x0 : Option Nat) (x1 : Int64) (x3 : Int32) (s0 : Option Nat) (s1 : Int32) (s2 : Int32) (h : AH) : Option (AH) :=
  b2 (F_X9_readWhole N s0 s1 s2 h) fun v2 h1 =>
  (gI h1 f_Model_sort x0).bind fun v3 =>
  if v3 = (5 : Int32) then
    some h1
  else
    (gR h1 f_Model_read x0).bind fun v4 =>
    (gI h1 f_MLand_heirs v4).bind fun v5 =>
    (F_X9_names x0 x1 (2 : Int32) v5 h1).bind fun h6 =>
    (gR h6 f_Model_read x0).bind fun v7 =>
    (gR h6 f_MLand_heirHouse v7).bind fun v8 =>
    (gR h6 f_Model_read x0).bind fun v9 =>
    (gI h6 f_MLand_heirs v9).bind fun v10 =>
    (sA h6 0 v8 v10 x3).bind fun h11 =>
    (gR h11 f_Model_read x0).bind fun v12 =>
    (gR h11 f_MLand_first v12).bind fun v13 =>
    (gR h11 f_Model_read x0).bind fun v14 =>
    (gI h11 f_MLand_heirs v14).bind fun v15 =>
    (sA h11 0 v13 ((204 : Int32) + v15) v2).bind fun h16 =>
    (gR h16 f_Model_read x0).bind fun v17 =>
    (gI h16 f_MLand_heirs v17).bind fun v18 =>
    (pI h16 f_MLand_heirs v17 (v18 + (1 : Int32))).bind fun h19 =>
    some h19
theorem wX9_readHeir_49 {K : ZC} (O : ZOk K cX9_readHeir RX9 "readHeir" 5 (none : Option Jvm.ClassFile.FieldType) 10 241) (N : Nat) (x0 : Option Nat) (x1 : Int64) (x3 : Int32) (s0 : Option Nat) (s1 : Int32) (s2 : Int32) (h : AH) (r : AH) (hr : bX9_readHeir_49 N x0 x1 x3 s0 s1 s2 h = some r) : Zw K (eH r) h 49 [(0, vr x0), (1, vj x1), (3, vi x3)] [vi s2, vi s1, vr s0] := by
  unfold bX9_readHeir_49 at hr
  refine b2s hr (fun v2 h1 hF hr => ?_)
  refine z_callV O [vi s1, vi s2] (vi v2) fV_X9_readWhole q2088 (fun l G => mX9_readWhole l G N s0 s1 s2 h _ hF) (zck hF) rfl rfl ⟨Nat.le_of_ble_eq_true rfl, Nat.le_of_ble_eq_true rfl⟩ (Nat.le_of_ble_eq_true rfl) dX9_readHeir_49 ?_
  refine z_istore O [(4, vi v2), (0, vr x0), (1, vj x1), (3, vi x3)] dX9_readHeir_52 (by decide) rfl ?_
  refine z_aload_n O 1 dX9_readHeir_54 rfl rfl ?_
  refine z_getI O o_Model_sort q1771 dX9_readHeir_55 hr (fun v3 hr => ?_)
  refine z_iconst O dX9_readHeir_58 kic_5 ?_
  refine z_icmp_ne (tgt := 63) O dX9_readHeir_59 (by decide) hr (fun hr => ?_) (fun hr => ?_)
  · exact z_vret O dX9_readHeir_62 (by cases hr; rfl)
  · refine z_aload_n O 1 dX9_readHeir_63 rfl rfl ?_
    refine z_lload_n O 2 dX9_readHeir_64 rfl rfl ?_
    refine z_iconst O dX9_readHeir_65 kic_2 ?_
    refine z_aload_n O 1 dX9_readHeir_66 rfl rfl ?_
    refine z_getR O o_Model_read q1766 dX9_readHeir_67 hr (fun v4 hr => ?_)
    refine z_getIN O o_MLand_heirs zn1908 dX9_readHeir_70 hr (fun v5 hr => ?_)
    refine bs hr (fun h6 hF hr => ?_)
    refine z_callVv O [vj x1, vi (2 : Int32), vi v5] fV_X9_names q2162 (fun l G => mX9_names l G x0 x1 (2 : Int32) v5 h1 _ hF) (zck hF) rfl rfl ⟨Nat.le_of_ble_eq_true rfl, Nat.le_of_ble_eq_true rfl⟩ (Nat.le_of_ble_eq_true rfl) dX9_readHeir_73 ?_
    refine z_aload_n O 1 dX9_readHeir_76 rfl rfl ?_
    refine z_getR O o_Model_read q1766 dX9_readHeir_77 hr (fun v7 hr => ?_)
    refine z_getRN O o_MLand_heirHouse zn1932 dX9_readHeir_80 hr (fun v8 hr => ?_)
    refine z_aload_n O 1 dX9_readHeir_83 rfl rfl ?_
    refine z_getR O o_Model_read q1766 dX9_readHeir_84 hr (fun v9 hr => ?_)
    refine z_getIN O o_MLand_heirs zn1908 dX9_readHeir_87 hr (fun v10 hr => ?_)
    refine z_iload_n O 3 dX9_readHeir_90 rfl rfl ?_
    refine z_iastore O dX9_readHeir_91 hr (fun h11 hr => ?_)
    refine z_aload_n O 1 dX9_readHeir_92 rfl rfl ?_
    refine z_getR O o_Model_read q1766 dX9_readHeir_93 hr (fun v12 hr => ?_)
    refine z_getRN O o_MLand_first zn1946 dX9_readHeir_96 hr (fun v13 hr => ?_)
    refine z_sipush O dX9_readHeir_99 ksi_204 ?_
    refine z_aload_n O 1 dX9_readHeir_102 rfl rfl ?_
    refine z_getR O o_Model_read q1766 dX9_readHeir_103 hr (fun v14 hr => ?_)
    refine z_getIN O o_MLand_heirs zn1908 dX9_readHeir_106 hr (fun v15 hr => ?_)
    refine z_iadd O dX9_readHeir_109 ?_
    refine z_iload O 0 dX9_readHeir_110 rfl ?_
    refine z_iastore O dX9_readHeir_112 hr (fun h16 hr => ?_)
    refine z_aload_n O 1 dX9_readHeir_113 rfl rfl ?_
    refine z_getR O o_Model_read q1766 dX9_readHeir_114 hr (fun v17 hr => ?_)
    refine z_dup O dX9_readHeir_117 rfl ?_
    refine z_getIN O o_MLand_heirs zn1908 dX9_readHeir_118 hr (fun v18 hr => ?_)
    refine z_iconst O dX9_readHeir_121 kic_1 ?_
    refine z_iadd O dX9_readHeir_122 ?_
    refine z_putIN O o_MLand_heirs (w_MLand_heirs _) zn1908 dX9_readHeir_123 hr (fun h19 hr => ?_)
    exact z_vret O dX9_readHeir_126 (by cases hr; rfl)
def F_X9_readHeir (N : Nat) (x0 : Option Nat) (h : AH) : Option (AH) :=
  (ck h [9] x0).bind fun _ =>
  (gR h f_Model_read x0).bind fun v1 =>
  (gI h f_MLand_heirs v1).bind fun v2 =>
  (F_X9_begins N x0 v2 (6 : Int32) h).bind fun h3 =>
  b2 (F_X9_readFresh N x0 h3) fun v5 h4 =>
  b2 (F_X9_readKnown N x0 (1 : Int32) h4) fun v7 h6 =>
  (gI h6 f_Model_sort x0).bind fun v8 =>
  if v8 = (5 : Int32) then
    bX9_readHeir_49 N x0 v5 v7 x0 (0 : Int32) (0 : Int32) h6
  else
    (gR h6 f_Model_read x0).bind fun v9 =>
    (gR h6 f_MLand_first v9).bind fun v10 =>
    (aI h6 0 v10 ((0 : Int32) + v7)).bind fun v11 =>
    bX9_readHeir_49 N x0 v5 v7 x0 (0 : Int32) v11 h6
theorem mX9_readHeir (l : Launch) (G : ZG) (N : Nat) (x0 : Option Nat) (h : AH) (r : AH) (hr : F_X9_readHeir N x0 h = some r) : MZ l G yX9_readHeir cX9_readHeir 5 (none : Option Jvm.ClassFile.FieldType) 10 241 [vr x0] h (eH r) := by
  unfold F_X9_readHeir at hr
  refine MZ.of (by decide) [(0, vr x0)] rfl (Nat.le_of_ble_eq_true rfl) (fun K O => ?_)
  have O : ZOk K cX9_readHeir RX9 "readHeir" 5 (none : Option Jvm.ClassFile.FieldType) 10 241 := O
  refine bs hr (fun _ hck hr => ?_)
  refine z_aload_n O 0 dX9_readHeir_0 rfl rfl ?_
  refine z_aload_n O 0 dX9_readHeir_1 rfl rfl ?_
  refine z_getR O o_Model_read q1766 dX9_readHeir_2 hr (fun v1 hr => ?_)
  refine z_getIN O o_MLand_heirs zn1908 dX9_readHeir_5 hr (fun v2 hr => ?_)
  refine z_bipush O dX9_readHeir_8 kbi_6 ?_
  refine bs hr (fun h3 hF hr => ?_)
  refine z_callVv O [vi v2, vi (6 : Int32)] fV_X9_begins q2111 (fun l G => mX9_begins l G N x0 v2 (6 : Int32) h _ hF) (zck hF) rfl rfl ⟨Nat.le_of_ble_eq_true rfl, Nat.le_of_ble_eq_true rfl⟩ (Nat.le_of_ble_eq_true rfl) dX9_readHeir_10 ?_
  refine z_aload_n O 0 dX9_readHeir_13 rfl rfl ?_
  refine b2s hr (fun v5 h4 hF hr => ?_)
  refine z_callV O [] (vj v5) fV_X9_readFresh q2136 (fun l G => mX9_readFresh l G N x0 h3 _ hF) (zck hF) rfl rfl ⟨Nat.le_of_ble_eq_true rfl, Nat.le_of_ble_eq_true rfl⟩ (Nat.le_of_ble_eq_true rfl) dX9_readHeir_14 ?_
  refine z_lstore_n O [(1, vj v5), (0, vr x0)] dX9_readHeir_17 rfl (by decide) rfl ?_
  refine z_aload_n O 1 dX9_readHeir_18 rfl rfl ?_
  refine z_iconst O dX9_readHeir_19 kic_1 ?_
  refine b2s hr (fun v7 h6 hF hr => ?_)
  refine z_callV O [vi (1 : Int32)] (vi v7) fV_X9_readKnown q2187 (fun l G => mX9_readKnown l G N x0 (1 : Int32) h4 _ hF) (zck hF) rfl rfl ⟨Nat.le_of_ble_eq_true rfl, Nat.le_of_ble_eq_true rfl⟩ (Nat.le_of_ble_eq_true rfl) dX9_readHeir_20 ?_
  refine z_istore_n O [(3, vi v7), (1, vj v5), (0, vr x0)] dX9_readHeir_23 rfl (by decide) rfl ?_
  refine z_aload_n O 2 dX9_readHeir_24 rfl rfl ?_
  refine z_iconst O dX9_readHeir_25 kic_0 ?_
  refine z_aload_n O 2 dX9_readHeir_26 rfl rfl ?_
  refine z_getI O o_Model_sort q1771 dX9_readHeir_27 hr (fun v8 hr => ?_)
  refine z_iconst O dX9_readHeir_30 kic_5 ?_
  refine z_icmp_ne (tgt := 38) O dX9_readHeir_31 (by decide) hr (fun hr => ?_) (fun hr => ?_)
  · refine z_iconst O dX9_readHeir_34 kic_0 ?_
    refine z_goto (tgt := 49) O dX9_readHeir_35 (by decide) ?_
    refine z_sub [2, 1, 0] rfl ?_
    exact wX9_readHeir_49 O N x0 v5 v7 x0 (0 : Int32) (0 : Int32) h6 _ hr
  · refine z_aload_n O 2 dX9_readHeir_38 rfl rfl ?_
    refine z_getR O o_Model_read q1766 dX9_readHeir_39 hr (fun v9 hr => ?_)
    refine z_getRN O o_MLand_first zn1946 dX9_readHeir_42 hr (fun v10 hr => ?_)
    refine z_iconst O dX9_readHeir_45 kic_0 ?_
    refine z_iload_n O 0 dX9_readHeir_46 rfl rfl ?_
    refine z_iadd O dX9_readHeir_47 ?_
    refine z_iaload O dX9_readHeir_48 hr (fun v11 hr => ?_)
    refine z_sub [2, 1, 0] rfl ?_
    exact wX9_readHeir_49 O N x0 v5 v7 x0 (0 : Int32) v11 h6 _ hr
theorem fV_X9_needsSign : CVf RX9 yX9_needsSign cX9_needsSign 2 (none : Option Jvm.ClassFile.FieldType) 1 := ⟨q2129, qs77, q137, q2130, ⟨⟨by decide +kernel, by decide +kernel⟩, by decide +kernel⟩⟩
def F_X9_needsSign (N : Nat) (x0 : Option Nat) (x1 : Int32) (h : AH) : Option (AH) :=
  (ck h [9] x0).bind fun _ =>
  (gI h f_Model_sort x0).bind fun v1 =>
  if v1 = (4 : Int32) then
    (gI h f_Model_sign x0).bind fun v4 =>
    if v4 = x1 then
      (F_X9_goesOn N x0 h).bind fun h5 =>
      some h5
    else
      (F_X9_flaw x0 (1 : Int32) h).bind fun h6 =>
      (F_X9_goesOn N x0 h6).bind fun h7 =>
      some h7
  else
    (F_X9_flaw x0 (1 : Int32) h).bind fun h2 =>
    (F_X9_goesOn N x0 h2).bind fun h3 =>
    some h3
theorem mX9_needsSign (l : Launch) (G : ZG) (N : Nat) (x0 : Option Nat) (x1 : Int32) (h : AH) (r : AH) (hr : F_X9_needsSign N x0 x1 h = some r) : MZ l G yX9_needsSign cX9_needsSign 2 (none : Option Jvm.ClassFile.FieldType) 3 91 [vr x0, vi x1] h (eH r) := by
  unfold F_X9_needsSign at hr
  refine MZ.of (by decide) [(0, vr x0), (1, vi x1)] rfl (Nat.le_of_ble_eq_true rfl) (fun K O => ?_)
  have O : ZOk K cX9_needsSign RX9 "needsSign" 2 (none : Option Jvm.ClassFile.FieldType) 3 91 := O
  refine bs hr (fun _ hck hr => ?_)
  refine z_aload_n O 0 dX9_needsSign_0 rfl rfl ?_
  refine z_getI O o_Model_sort q1771 dX9_needsSign_1 hr (fun v1 hr => ?_)
  refine z_iconst O dX9_needsSign_4 kic_4 ?_
  refine z_icmp_ne (tgt := 16) O dX9_needsSign_5 (by decide) hr (fun hr => ?_) (fun hr => ?_)
  · refine z_aload_n O 0 dX9_needsSign_8 rfl rfl ?_
    refine z_getI O o_Model_sign q1773 dX9_needsSign_9 hr (fun v4 hr => ?_)
    refine z_iload_n O 1 dX9_needsSign_12 rfl rfl ?_
    refine z_icmp_eq (tgt := 21) O dX9_needsSign_13 (by decide) hr (fun hr => ?_) (fun hr => ?_)
    · refine z_aload_n O 0 dX9_needsSign_21 rfl rfl ?_
      refine bs hr (fun h5 hF hr => ?_)
      refine z_callVv O [] fV_X9_goesOn q2012 (fun l G => mX9_goesOn l G N x0 h _ hF) (zck hF) rfl rfl ⟨Nat.le_of_ble_eq_true rfl, Nat.le_of_ble_eq_true rfl⟩ (Nat.le_of_ble_eq_true rfl) dX9_needsSign_22 ?_
      exact z_vret O dX9_needsSign_25 (by cases hr; rfl)
    · refine z_aload_n O 0 dX9_needsSign_16 rfl rfl ?_
      refine z_iconst O dX9_needsSign_17 kic_1 ?_
      refine bs hr (fun h6 hF hr => ?_)
      refine z_callVv O [vi (1 : Int32)] fV_X9_flaw q2075 (fun l G => mX9_flaw l G x0 (1 : Int32) h _ hF) (zck hF) rfl rfl ⟨Nat.le_of_ble_eq_true rfl, Nat.le_of_ble_eq_true rfl⟩ (Nat.le_of_ble_eq_true rfl) dX9_needsSign_18 ?_
      refine z_aload_n O 0 dX9_needsSign_21 rfl rfl ?_
      refine bs hr (fun h7 hF hr => ?_)
      refine z_callVv O [] fV_X9_goesOn q2012 (fun l G => mX9_goesOn l G N x0 h6 _ hF) (zck hF) rfl rfl ⟨Nat.le_of_ble_eq_true rfl, Nat.le_of_ble_eq_true rfl⟩ (Nat.le_of_ble_eq_true rfl) dX9_needsSign_22 ?_
      exact z_vret O dX9_needsSign_25 (by cases hr; rfl)
  · refine z_aload_n O 0 dX9_needsSign_16 rfl rfl ?_
    refine z_iconst O dX9_needsSign_17 kic_1 ?_
    refine bs hr (fun h2 hF hr => ?_)
    refine z_callVv O [vi (1 : Int32)] fV_X9_flaw q2075 (fun l G => mX9_flaw l G x0 (1 : Int32) h _ hF) (zck hF) rfl rfl ⟨Nat.le_of_ble_eq_true rfl, Nat.le_of_ble_eq_true rfl⟩ (Nat.le_of_ble_eq_true rfl) dX9_needsSign_18 ?_
    refine z_aload_n O 0 dX9_needsSign_21 rfl rfl ?_
    refine bs hr (fun h3 hF hr => ?_)
    refine z_callVv O [] fV_X9_goesOn q2012 (fun l G => mX9_goesOn l G N x0 h2 _ hF) (zck hF) rfl rfl ⟨Nat.le_of_ble_eq_true rfl, Nat.le_of_ble_eq_true rfl⟩ (Nat.le_of_ble_eq_true rfl) dX9_needsSign_22 ?_
    exact z_vret O dX9_needsSign_25 (by cases hr; rfl)
theorem fV_X9_knownCell : CVf RX9 yX9_knownCell cX9_knownCell 2 (some .int) 0 := ⟨q2125, qs76, q137, q2126, ⟨⟨by decide +kernel, by decide +kernel⟩, by decide +kernel⟩⟩
def F_X9_knownCell (N : Nat) (x0 : Option Nat) (h : AH) : Option (Int32 × AH) :=
  (ck h [9] x0).bind fun _ =>
  (gR h f_Model_read x0).bind fun v1 =>
  (gI h f_MLand_wide v1).bind fun v2 =>
  b2 (F_X9_readWhole N x0 (0 : Int32) (v2 - (1 : Int32)) h) fun v4 h3 =>
  (F_X9_needsSign N x0 (44 : Int32) h3).bind fun h5 =>
  (gR h5 f_Model_read x0).bind fun v6 =>
  (gI h5 f_MLand_wide v6).bind fun v7 =>
  (gR h5 f_Model_read x0).bind fun v8 =>
  (gI h5 f_MLand_high v8).bind fun v9 =>
  b2 (F_X9_bounded x0 (0 : Int32) (v9 - (1 : Int32)) h5) fun v11 h10 =>
  some (((v7 * v11) + v4), h10)
theorem mX9_knownCell (l : Launch) (G : ZG) (N : Nat) (x0 : Option Nat) (h : AH) (r : Int32 × AH) (hr : F_X9_knownCell N x0 h = some r) : MZ l G yX9_knownCell cX9_knownCell 2 (some .int) 4 115 [vr x0] h (eIH r) := by
  unfold F_X9_knownCell at hr
  refine MZ.of (by decide) [(0, vr x0)] rfl (Nat.le_of_ble_eq_true rfl) (fun K O => ?_)
  have O : ZOk K cX9_knownCell RX9 "knownCell" 2 (some .int) 4 115 := O
  refine bs hr (fun _ hck hr => ?_)
  refine z_aload_n O 0 dX9_knownCell_0 rfl rfl ?_
  refine z_iconst O dX9_knownCell_1 kic_0 ?_
  refine z_aload_n O 0 dX9_knownCell_2 rfl rfl ?_
  refine z_getR O o_Model_read q1766 dX9_knownCell_3 hr (fun v1 hr => ?_)
  refine z_getIN O o_MLand_wide zn1897 dX9_knownCell_6 hr (fun v2 hr => ?_)
  refine z_iconst O dX9_knownCell_9 kic_1 ?_
  refine z_isub O dX9_knownCell_10 ?_
  refine b2s hr (fun v4 h3 hF hr => ?_)
  refine z_callV O [vi (0 : Int32), vi (v2 - (1 : Int32))] (vi v4) fV_X9_readWhole q2088 (fun l G => mX9_readWhole l G N x0 (0 : Int32) (v2 - (1 : Int32)) h _ hF) (zck hF) rfl rfl ⟨Nat.le_of_ble_eq_true rfl, Nat.le_of_ble_eq_true rfl⟩ (Nat.le_of_ble_eq_true rfl) dX9_knownCell_11 ?_
  refine z_istore_n O [(1, vi v4), (0, vr x0)] dX9_knownCell_14 rfl (by decide) rfl ?_
  refine z_aload_n O 1 dX9_knownCell_15 rfl rfl ?_
  refine z_bipush O dX9_knownCell_16 kbi_44 ?_
  refine bs hr (fun h5 hF hr => ?_)
  refine z_callVv O [vi (44 : Int32)] fV_X9_needsSign q2127 (fun l G => mX9_needsSign l G N x0 (44 : Int32) h3 _ hF) (zck hF) rfl rfl ⟨Nat.le_of_ble_eq_true rfl, Nat.le_of_ble_eq_true rfl⟩ (Nat.le_of_ble_eq_true rfl) dX9_knownCell_18 ?_
  refine z_aload_n O 1 dX9_knownCell_21 rfl rfl ?_
  refine z_getR O o_Model_read q1766 dX9_knownCell_22 hr (fun v6 hr => ?_)
  refine z_getIN O o_MLand_wide zn1897 dX9_knownCell_25 hr (fun v7 hr => ?_)
  refine z_aload_n O 1 dX9_knownCell_28 rfl rfl ?_
  refine z_iconst O dX9_knownCell_29 kic_0 ?_
  refine z_aload_n O 1 dX9_knownCell_30 rfl rfl ?_
  refine z_getR O o_Model_read q1766 dX9_knownCell_31 hr (fun v8 hr => ?_)
  refine z_getIN O o_MLand_high zn1899 dX9_knownCell_34 hr (fun v9 hr => ?_)
  refine z_iconst O dX9_knownCell_37 kic_1 ?_
  refine z_isub O dX9_knownCell_38 ?_
  refine b2s hr (fun v11 h10 hF hr => ?_)
  refine z_callV O [vi (0 : Int32), vi (v9 - (1 : Int32))] (vi v11) fV_X9_bounded q2092 (fun l G => mX9_bounded l G x0 (0 : Int32) (v9 - (1 : Int32)) h5 _ hF) (zck hF) rfl rfl ⟨Nat.le_of_ble_eq_true rfl, Nat.le_of_ble_eq_true rfl⟩ (Nat.le_of_ble_eq_true rfl) dX9_knownCell_39 ?_
  refine z_imul O dX9_knownCell_42 ?_
  refine z_iload_n O 0 dX9_knownCell_43 rfl rfl ?_
  refine z_iadd O dX9_knownCell_44 ?_
  exact z_iret O dX9_knownCell_45 (by cases hr; rfl)
theorem fV_X9_needs : CVf RX9 yX9_needs cX9_needs 2 (none : Option Jvm.ClassFile.FieldType) 1 := ⟨q2086, qs70, q137, q2087, ⟨⟨by decide +kernel, by decide +kernel⟩, by decide +kernel⟩⟩
def F_X9_needs (N : Nat) (x0 : Option Nat) (x1 : Option Nat) (h : AH) : Option (AH) :=
  (ck h [9] x0).bind fun _ =>
  (F_X9_isWord N x0 x1 h).bind fun v1 =>
  if v1 = 0 then
    (F_X9_flaw x0 (1 : Int32) h).bind fun h3 =>
    (F_X9_goesOn N x0 h3).bind fun h4 =>
    some h4
  else
    (F_X9_goesOn N x0 h).bind fun h2 =>
    some h2
theorem mX9_needs (l : Launch) (G : ZG) (N : Nat) (x0 : Option Nat) (x1 : Option Nat) (h : AH) (r : AH) (hr : F_X9_needs N x0 x1 h = some r) : MZ l G yX9_needs cX9_needs 2 (none : Option Jvm.ClassFile.FieldType) 7 177 [vr x0, vr x1] h (eH r) := by
  unfold F_X9_needs at hr
  refine MZ.of (by decide) [(0, vr x0), (1, vr x1)] rfl (Nat.le_of_ble_eq_true rfl) (fun K O => ?_)
  have O : ZOk K cX9_needs RX9 "needs" 2 (none : Option Jvm.ClassFile.FieldType) 7 177 := O
  refine bs hr (fun _ hck hr => ?_)
  refine z_aload_n O 0 dX9_needs_0 rfl rfl ?_
  refine z_aload_n O 1 dX9_needs_1 rfl rfl ?_
  refine bs hr (fun v1 hF hr => ?_)
  refine z_callV O [vr x1] (vi v1) fV_X9_isWord q2036 (fun l G => mX9_isWord l G N x0 x1 h _ hF) (zck hF) rfl rfl ⟨Nat.le_of_ble_eq_true rfl, Nat.le_of_ble_eq_true rfl⟩ (Nat.le_of_ble_eq_true rfl) dX9_needs_2 ?_
  refine z_if_ne (tgt := 13) O dX9_needs_5 (by decide) hr (fun hr => ?_) (fun hr => ?_)
  · refine z_aload_n O 0 dX9_needs_8 rfl rfl ?_
    refine z_iconst O dX9_needs_9 kic_1 ?_
    refine bs hr (fun h3 hF hr => ?_)
    refine z_callVv O [vi (1 : Int32)] fV_X9_flaw q2075 (fun l G => mX9_flaw l G x0 (1 : Int32) h _ hF) (zck hF) rfl rfl ⟨Nat.le_of_ble_eq_true rfl, Nat.le_of_ble_eq_true rfl⟩ (Nat.le_of_ble_eq_true rfl) dX9_needs_10 ?_
    refine z_aload_n O 0 dX9_needs_13 rfl rfl ?_
    refine bs hr (fun h4 hF hr => ?_)
    refine z_callVv O [] fV_X9_goesOn q2012 (fun l G => mX9_goesOn l G N x0 h3 _ hF) (zck hF) rfl rfl ⟨Nat.le_of_ble_eq_true rfl, Nat.le_of_ble_eq_true rfl⟩ (Nat.le_of_ble_eq_true rfl) dX9_needs_14 ?_
    exact z_vret O dX9_needs_17 (by cases hr; rfl)
  · refine z_aload_n O 0 dX9_needs_13 rfl rfl ?_
    refine bs hr (fun h2 hF hr => ?_)
    refine z_callVv O [] fV_X9_goesOn q2012 (fun l G => mX9_goesOn l G N x0 h _ hF) (zck hF) rfl rfl ⟨Nat.le_of_ble_eq_true rfl, Nat.le_of_ble_eq_true rfl⟩ (Nat.le_of_ble_eq_true rfl) dX9_needs_14 ?_
    exact z_vret O dX9_needs_17 (by cases hr; rfl)
theorem fV_X9_readPart : CVf RX9 yX9_readPart cX9_readPart 4 (some .int) 3 := ⟨q2082, qs69, q137, q2083, ⟨⟨by decide +kernel, by decide +kernel⟩, by decide +kernel⟩⟩
def F_X9_readPart (N : Nat) (x0 : Option Nat) (x1 : Option Nat) (x2 : Int32) (x3 : Int32) (h : AH) : Option (Int32 × AH) :=
  (ck h [9] x0).bind fun _ =>
  (F_X9_needs N x0 x1 h).bind fun h1 =>
  b2 (F_X9_readWhole N x0 x2 x3 h1) fun v3 h2 =>
  some (v3, h2)
theorem mX9_readPart (l : Launch) (G : ZG) (N : Nat) (x0 : Option Nat) (x1 : Option Nat) (x2 : Int32) (x3 : Int32) (h : AH) (r : Int32 × AH) (hr : F_X9_readPart N x0 x1 x2 x3 h = some r) : MZ l G yX9_readPart cX9_readPart 4 (some .int) 8 198 [vr x0, vr x1, vi x2, vi x3] h (eIH r) := by
  unfold F_X9_readPart at hr
  refine MZ.of (by decide) [(0, vr x0), (1, vr x1), (2, vi x2), (3, vi x3)] rfl (Nat.le_of_ble_eq_true rfl) (fun K O => ?_)
  have O : ZOk K cX9_readPart RX9 "readPart" 4 (some .int) 8 198 := O
  refine bs hr (fun _ hck hr => ?_)
  refine z_aload_n O 0 dX9_readPart_0 rfl rfl ?_
  refine z_aload_n O 1 dX9_readPart_1 rfl rfl ?_
  refine bs hr (fun h1 hF hr => ?_)
  refine z_callVv O [vr x1] fV_X9_needs q2084 (fun l G => mX9_needs l G N x0 x1 h _ hF) (zck hF) rfl rfl ⟨Nat.le_of_ble_eq_true rfl, Nat.le_of_ble_eq_true rfl⟩ (Nat.le_of_ble_eq_true rfl) dX9_readPart_2 ?_
  refine z_aload_n O 0 dX9_readPart_5 rfl rfl ?_
  refine z_iload_n O 2 dX9_readPart_6 rfl rfl ?_
  refine z_iload_n O 3 dX9_readPart_7 rfl rfl ?_
  refine b2s hr (fun v3 h2 hF hr => ?_)
  refine z_callV O [vi x2, vi x3] (vi v3) fV_X9_readWhole q2088 (fun l G => mX9_readWhole l G N x0 x2 x3 h1 _ hF) (zck hF) rfl rfl ⟨Nat.le_of_ble_eq_true rfl, Nat.le_of_ble_eq_true rfl⟩ (Nat.le_of_ble_eq_true rfl) dX9_readPart_8 ?_
  exact z_iret O dX9_readPart_11 (by cases hr; rfl)
theorem fV_X9_readHouse : CVf RX9 yX9_readHouse cX9_readHouse 8 (none : Option Jvm.ClassFile.FieldType) 0 := ⟨q2168, qs82, q137, q2169, ⟨⟨by decide +kernel, by decide +kernel⟩, by decide +kernel⟩⟩
def bX9_readHouse_90 (N : Nat) (x0 : Option Nat) (x1 : Int64) (x3 : Int32) (h : AH) : Option (AH) :=
  (F_X9_goesOn N x0 h).bind fun h1 =>
  (F_X9_needs N x0 (some (h1.1.2.2.2.1 31)) h1).bind fun h2 =>
  b2 (F_X9_readKnown N x0 (0 : Int32) h2) fun v4 h3 =>
  b2 (F_X9_readPart N x0 (some (h3.1.2.2.2.1 32)) (0 : Int32) (99 : Int32) h3) fun v6 h5 =>
  b2 (F_X9_readPart N x0 (some (h5.1.2.2.2.1 33)) (0 : Int32) (999 : Int32) h5) fun v8 h7 =>
  (gI h7 f_Model_sort x0).bind fun v9 =>
  if v9 = (5 : Int32) then
    some h7
  else
    (gR h7 f_Model_read x0).bind fun v10 =>
    (gI h7 f_MLand_houses v10).bind fun v11 =>
    (F_X9_names x0 x1 (1 : Int32) v11 h7).bind fun h12 =>
    (gR h12 f_Model_read x0).bind fun v13 =>
    (gR h12 f_MLand_core v13).bind fun v14 =>
    (sA h12 0 v14 v11 x3).bind fun h15 =>
    (gR h15 f_Model_read x0).bind fun v16 =>
    (gR h15 f_MLand_stoneOf v16).bind fun v17 =>
    (sA h15 0 v17 v11 v4).bind fun h18 =>
    (gR h18 f_Model_read x0).bind fun v19 =>
    (gR h18 f_MLand_first v19).bind fun v20 =>
    (sA h18 0 v20 ((4 : Int32) + v11) v6).bind fun h21 =>
    (gR h21 f_Model_read x0).bind fun v22 =>
    (gR h21 f_MLand_first v22).bind fun v23 =>
    (sA h21 0 v23 ((8 : Int32) + v11) v8).bind fun h24 =>
    (gR h24 f_Model_read x0).bind fun v25 =>
    (gI h24 f_MLand_houses v25).bind fun v26 =>
    (pI h24 f_MLand_houses v25 (v26 + (1 : Int32))).bind fun h27 =>
    some h27
theorem wX9_readHouse_90 {K : ZC} (O : ZOk K cX9_readHouse RX9 "readHouse" 8 (none : Option Jvm.ClassFile.FieldType) 10 241) (N : Nat) (x0 : Option Nat) (x1 : Int64) (x3 : Int32) (h : AH) (r : AH) (hr : bX9_readHouse_90 N x0 x1 x3 h = some r) : Zw K (eH r) h 90 [(0, vr x0), (1, vj x1), (3, vi x3)] [] := by
  unfold bX9_readHouse_90 at hr
  refine z_aload_n O 0 dX9_readHouse_90 rfl rfl ?_
  refine bs hr (fun h1 hF hr => ?_)
  refine z_callVv O [] fV_X9_goesOn q2012 (fun l G => mX9_goesOn l G N x0 h _ hF) (zck hF) rfl rfl ⟨Nat.le_of_ble_eq_true rfl, Nat.le_of_ble_eq_true rfl⟩ (Nat.le_of_ble_eq_true rfl) dX9_readHouse_91 ?_
  refine z_aload_n O 0 dX9_readHouse_94 rfl rfl ?_
  refine z_ldcSw O zs2186 dX9_readHouse_95 ?_
  refine bs hr (fun h2 hF hr => ?_)
  refine z_callVv O [vr (some (h1.1.2.2.2.1 31))] fV_X9_needs q2084 (fun l G => mX9_needs l G N x0 (some (h1.1.2.2.2.1 31)) h1 _ hF) (zck hF) rfl rfl ⟨Nat.le_of_ble_eq_true rfl, Nat.le_of_ble_eq_true rfl⟩ (Nat.le_of_ble_eq_true rfl) dX9_readHouse_98 ?_
  refine z_aload_n O 0 dX9_readHouse_101 rfl rfl ?_
  refine z_iconst O dX9_readHouse_102 kic_0 ?_
  refine b2s hr (fun v4 h3 hF hr => ?_)
  refine z_callV O [vi (0 : Int32)] (vi v4) fV_X9_readKnown q2187 (fun l G => mX9_readKnown l G N x0 (0 : Int32) h2 _ hF) (zck hF) rfl rfl ⟨Nat.le_of_ble_eq_true rfl, Nat.le_of_ble_eq_true rfl⟩ (Nat.le_of_ble_eq_true rfl) dX9_readHouse_103 ?_
  refine z_istore O [(4, vi v4), (0, vr x0), (1, vj x1), (3, vi x3)] dX9_readHouse_106 (by decide) rfl ?_
  refine z_aload_n O 1 dX9_readHouse_108 rfl rfl ?_
  refine z_ldcSw O zs2195 dX9_readHouse_109 ?_
  refine z_iconst O dX9_readHouse_112 kic_0 ?_
  refine z_bipush O dX9_readHouse_113 kbi_99 ?_
  refine b2s hr (fun v6 h5 hF hr => ?_)
  refine z_callV O [vr (some (h3.1.2.2.2.1 32)), vi (0 : Int32), vi (99 : Int32)] (vi v6) fV_X9_readPart q2080 (fun l G => mX9_readPart l G N x0 (some (h3.1.2.2.2.1 32)) (0 : Int32) (99 : Int32) h3 _ hF) (zck hF) rfl rfl ⟨Nat.le_of_ble_eq_true rfl, Nat.le_of_ble_eq_true rfl⟩ (Nat.le_of_ble_eq_true rfl) dX9_readHouse_115 ?_
  refine z_istore O [(5, vi v6), (4, vi v4), (0, vr x0), (1, vj x1), (3, vi x3)] dX9_readHouse_118 (by decide) rfl ?_
  refine z_aload_n O 2 dX9_readHouse_120 rfl rfl ?_
  refine z_ldcSw O zs2196 dX9_readHouse_121 ?_
  refine z_iconst O dX9_readHouse_124 kic_0 ?_
  refine z_sipush O dX9_readHouse_125 ksi_999 ?_
  refine b2s hr (fun v8 h7 hF hr => ?_)
  refine z_callV O [vr (some (h5.1.2.2.2.1 33)), vi (0 : Int32), vi (999 : Int32)] (vi v8) fV_X9_readPart q2080 (fun l G => mX9_readPart l G N x0 (some (h5.1.2.2.2.1 33)) (0 : Int32) (999 : Int32) h5 _ hF) (zck hF) rfl rfl ⟨Nat.le_of_ble_eq_true rfl, Nat.le_of_ble_eq_true rfl⟩ (Nat.le_of_ble_eq_true rfl) dX9_readHouse_128 ?_
  refine z_istore O [(6, vi v8), (5, vi v6), (4, vi v4), (0, vr x0), (1, vj x1), (3, vi x3)] dX9_readHouse_131 (by decide) rfl ?_
  refine z_aload_n O 3 dX9_readHouse_133 rfl rfl ?_
  refine z_getI O o_Model_sort q1771 dX9_readHouse_134 hr (fun v9 hr => ?_)
  refine z_iconst O dX9_readHouse_137 kic_5 ?_
  refine z_icmp_ne (tgt := 142) O dX9_readHouse_138 (by decide) hr (fun hr => ?_) (fun hr => ?_)
  · exact z_vret O dX9_readHouse_141 (by cases hr; rfl)
  · refine z_aload_n O 3 dX9_readHouse_142 rfl rfl ?_
    refine z_getR O o_Model_read q1766 dX9_readHouse_143 hr (fun v10 hr => ?_)
    refine z_getIN O o_MLand_houses zn1907 dX9_readHouse_146 hr (fun v11 hr => ?_)
    refine z_istore O [(7, vi v11), (6, vi v8), (5, vi v6), (4, vi v4), (0, vr x0), (1, vj x1), (3, vi x3)] dX9_readHouse_149 (by decide) rfl ?_
    refine z_aload_n O 4 dX9_readHouse_151 rfl rfl ?_
    refine z_lload_n O 5 dX9_readHouse_152 rfl rfl ?_
    refine z_iconst O dX9_readHouse_153 kic_1 ?_
    refine z_iload O 0 dX9_readHouse_154 rfl ?_
    refine bs hr (fun h12 hF hr => ?_)
    refine z_callVv O [vj x1, vi (1 : Int32), vi v11] fV_X9_names q2162 (fun l G => mX9_names l G x0 x1 (1 : Int32) v11 h7 _ hF) (zck hF) rfl rfl ⟨Nat.le_of_ble_eq_true rfl, Nat.le_of_ble_eq_true rfl⟩ (Nat.le_of_ble_eq_true rfl) dX9_readHouse_156 ?_
    refine z_aload_n O 4 dX9_readHouse_159 rfl rfl ?_
    refine z_getR O o_Model_read q1766 dX9_readHouse_160 hr (fun v13 hr => ?_)
    refine z_getRN O o_MLand_core zn1928 dX9_readHouse_163 hr (fun v14 hr => ?_)
    refine z_iload O 0 dX9_readHouse_166 rfl ?_
    refine z_iload_n O 6 dX9_readHouse_168 rfl rfl ?_
    refine z_iastore O dX9_readHouse_169 hr (fun h15 hr => ?_)
    refine z_aload_n O 4 dX9_readHouse_170 rfl rfl ?_
    refine z_getR O o_Model_read q1766 dX9_readHouse_171 hr (fun v16 hr => ?_)
    refine z_getRN O o_MLand_stoneOf zn1930 dX9_readHouse_174 hr (fun v17 hr => ?_)
    refine z_iload O 0 dX9_readHouse_177 rfl ?_
    refine z_iload O 3 dX9_readHouse_179 rfl ?_
    refine z_iastore O dX9_readHouse_181 hr (fun h18 hr => ?_)
    refine z_aload_n O 4 dX9_readHouse_182 rfl rfl ?_
    refine z_getR O o_Model_read q1766 dX9_readHouse_183 hr (fun v19 hr => ?_)
    refine z_getRN O o_MLand_first zn1946 dX9_readHouse_186 hr (fun v20 hr => ?_)
    refine z_iconst O dX9_readHouse_189 kic_4 ?_
    refine z_iload O 0 dX9_readHouse_190 rfl ?_
    refine z_iadd O dX9_readHouse_192 ?_
    refine z_iload O 2 dX9_readHouse_193 rfl ?_
    refine z_iastore O dX9_readHouse_195 hr (fun h21 hr => ?_)
    refine z_aload_n O 4 dX9_readHouse_196 rfl rfl ?_
    refine z_getR O o_Model_read q1766 dX9_readHouse_197 hr (fun v22 hr => ?_)
    refine z_getRN O o_MLand_first zn1946 dX9_readHouse_200 hr (fun v23 hr => ?_)
    refine z_bipush O dX9_readHouse_203 kbi_8 ?_
    refine z_iload O 0 dX9_readHouse_205 rfl ?_
    refine z_iadd O dX9_readHouse_207 ?_
    refine z_iload O 1 dX9_readHouse_208 rfl ?_
    refine z_iastore O dX9_readHouse_210 hr (fun h24 hr => ?_)
    refine z_aload_n O 4 dX9_readHouse_211 rfl rfl ?_
    refine z_getR O o_Model_read q1766 dX9_readHouse_212 hr (fun v25 hr => ?_)
    refine z_dup O dX9_readHouse_215 rfl ?_
    refine z_getIN O o_MLand_houses zn1907 dX9_readHouse_216 hr (fun v26 hr => ?_)
    refine z_iconst O dX9_readHouse_219 kic_1 ?_
    refine z_iadd O dX9_readHouse_220 ?_
    refine z_putIN O o_MLand_houses (w_MLand_houses _) zn1907 dX9_readHouse_221 hr (fun h27 hr => ?_)
    exact z_vret O dX9_readHouse_224 (by cases hr; rfl)
def F_X9_readHouse (N : Nat) (x0 : Option Nat) (h : AH) : Option (AH) :=
  (ck h [9] x0).bind fun _ =>
  (gR h f_Model_read x0).bind fun v1 =>
  (gI h f_MLand_houses v1).bind fun v2 =>
  (F_X9_begins N x0 v2 (4 : Int32) h).bind fun h3 =>
  b2 (F_X9_readFresh N x0 h3) fun v5 h4 =>
  (F_X9_needs N x0 (some (h4.1.2.2.2.1 30)) h4).bind fun h6 =>
  b2 (F_X9_knownCell N x0 h6) fun v8 h7 =>
  (gI h7 f_Model_sort x0).bind fun v9 =>
  if v9 = (5 : Int32) then
    bX9_readHouse_90 N x0 v5 v8 h7
  else
    (gR h7 f_Model_read x0).bind fun v10 =>
    (gR h7 f_MLand_water v10).bind fun v11 =>
    (aI h7 3 v11 v8).bind fun v12 =>
    if v12 = 0 then
      (gR h7 f_Model_read x0).bind fun v14 =>
      (gR h7 f_Model_read x0).bind fun v15 =>
      (gR h7 f_MLand_first v15).bind fun v16 =>
      (gR h7 f_Model_read x0).bind fun v17 =>
      (gI h7 f_MLand_wide v17).bind fun v18 =>
      (rm v8 v18).bind fun v19 =>
      (gR h7 f_Model_read x0).bind fun v20 =>
      (gI h7 f_MLand_wide v20).bind fun v21 =>
      (dv v8 v21).bind fun v22 =>
      (F_X9_ownersOf N v14 v16 v19 v22 h7).bind fun v23 =>
      if v23 = 0 then
        bX9_readHouse_90 N x0 v5 v8 h7
      else
        (F_X9_flaw x0 (7 : Int32) h7).bind fun h24 =>
        bX9_readHouse_90 N x0 v5 v8 h24
    else
      (F_X9_flaw x0 (7 : Int32) h7).bind fun h13 =>
      bX9_readHouse_90 N x0 v5 v8 h13
theorem mX9_readHouse (l : Launch) (G : ZG) (N : Nat) (x0 : Option Nat) (h : AH) (r : AH) (hr : F_X9_readHouse N x0 h = some r) : MZ l G yX9_readHouse cX9_readHouse 8 (none : Option Jvm.ClassFile.FieldType) 10 241 [vr x0] h (eH r) := by
  unfold F_X9_readHouse at hr
  refine MZ.of (by decide) [(0, vr x0)] rfl (Nat.le_of_ble_eq_true rfl) (fun K O => ?_)
  have O : ZOk K cX9_readHouse RX9 "readHouse" 8 (none : Option Jvm.ClassFile.FieldType) 10 241 := O
  refine bs hr (fun _ hck hr => ?_)
  refine z_aload_n O 0 dX9_readHouse_0 rfl rfl ?_
  refine z_aload_n O 0 dX9_readHouse_1 rfl rfl ?_
  refine z_getR O o_Model_read q1766 dX9_readHouse_2 hr (fun v1 hr => ?_)
  refine z_getIN O o_MLand_houses zn1907 dX9_readHouse_5 hr (fun v2 hr => ?_)
  refine z_iconst O dX9_readHouse_8 kic_4 ?_
  refine bs hr (fun h3 hF hr => ?_)
  refine z_callVv O [vi v2, vi (4 : Int32)] fV_X9_begins q2111 (fun l G => mX9_begins l G N x0 v2 (4 : Int32) h _ hF) (zck hF) rfl rfl ⟨Nat.le_of_ble_eq_true rfl, Nat.le_of_ble_eq_true rfl⟩ (Nat.le_of_ble_eq_true rfl) dX9_readHouse_9 ?_
  refine z_aload_n O 0 dX9_readHouse_12 rfl rfl ?_
  refine b2s hr (fun v5 h4 hF hr => ?_)
  refine z_callV O [] (vj v5) fV_X9_readFresh q2136 (fun l G => mX9_readFresh l G N x0 h3 _ hF) (zck hF) rfl rfl ⟨Nat.le_of_ble_eq_true rfl, Nat.le_of_ble_eq_true rfl⟩ (Nat.le_of_ble_eq_true rfl) dX9_readHouse_13 ?_
  refine z_lstore_n O [(1, vj v5), (0, vr x0)] dX9_readHouse_16 rfl (by decide) rfl ?_
  refine z_aload_n O 1 dX9_readHouse_17 rfl rfl ?_
  refine z_ldcSw O zs2170 dX9_readHouse_18 ?_
  refine bs hr (fun h6 hF hr => ?_)
  refine z_callVv O [vr (some (h4.1.2.2.2.1 30))] fV_X9_needs q2084 (fun l G => mX9_needs l G N x0 (some (h4.1.2.2.2.1 30)) h4 _ hF) (zck hF) rfl rfl ⟨Nat.le_of_ble_eq_true rfl, Nat.le_of_ble_eq_true rfl⟩ (Nat.le_of_ble_eq_true rfl) dX9_readHouse_21 ?_
  refine z_aload_n O 1 dX9_readHouse_24 rfl rfl ?_
  refine b2s hr (fun v8 h7 hF hr => ?_)
  refine z_callV O [] (vi v8) fV_X9_knownCell q2123 (fun l G => mX9_knownCell l G N x0 h6 _ hF) (zck hF) rfl rfl ⟨Nat.le_of_ble_eq_true rfl, Nat.le_of_ble_eq_true rfl⟩ (Nat.le_of_ble_eq_true rfl) dX9_readHouse_25 ?_
  refine z_istore_n O [(3, vi v8), (1, vj v5), (0, vr x0)] dX9_readHouse_28 rfl (by decide) rfl ?_
  refine z_aload_n O 2 dX9_readHouse_29 rfl rfl ?_
  refine z_getI O o_Model_sort q1771 dX9_readHouse_30 hr (fun v9 hr => ?_)
  refine z_iconst O dX9_readHouse_33 kic_5 ?_
  refine z_icmp_eq (tgt := 90) O dX9_readHouse_34 (by decide) hr (fun hr => ?_) (fun hr => ?_)
  · refine z_sub [2, 1, 0] rfl ?_
    exact wX9_readHouse_90 O N x0 v5 v8 h7 _ hr
  · refine z_aload_n O 2 dX9_readHouse_37 rfl rfl ?_
    refine z_getR O o_Model_read q1766 dX9_readHouse_38 hr (fun v10 hr => ?_)
    refine z_getRN O o_MLand_water zn1916 dX9_readHouse_41 hr (fun v11 hr => ?_)
    refine z_iload_n O 0 dX9_readHouse_44 rfl rfl ?_
    refine z_zaload O dX9_readHouse_45 hr (fun v12 hr => ?_)
    refine z_if_ne (tgt := 84) O dX9_readHouse_46 (by decide) hr (fun hr => ?_) (fun hr => ?_)
    · refine z_aload_n O 2 dX9_readHouse_49 rfl rfl ?_
      refine z_getR O o_Model_read q1766 dX9_readHouse_50 hr (fun v14 hr => ?_)
      refine z_aload_n O 2 dX9_readHouse_53 rfl rfl ?_
      refine z_getR O o_Model_read q1766 dX9_readHouse_54 hr (fun v15 hr => ?_)
      refine z_getRN O o_MLand_first zn1946 dX9_readHouse_57 hr (fun v16 hr => ?_)
      refine z_iload_n O 0 dX9_readHouse_60 rfl rfl ?_
      refine z_aload_n O 2 dX9_readHouse_61 rfl rfl ?_
      refine z_getR O o_Model_read q1766 dX9_readHouse_62 hr (fun v17 hr => ?_)
      refine z_getIN O o_MLand_wide zn1897 dX9_readHouse_65 hr (fun v18 hr => ?_)
      refine z_irem O dX9_readHouse_68 hr (fun v19 hr => ?_)
      refine z_iload_n O 0 dX9_readHouse_69 rfl rfl ?_
      refine z_aload_n O 2 dX9_readHouse_70 rfl rfl ?_
      refine z_getR O o_Model_read q1766 dX9_readHouse_71 hr (fun v20 hr => ?_)
      refine z_getIN O o_MLand_wide zn1897 dX9_readHouse_74 hr (fun v21 hr => ?_)
      refine z_idiv O dX9_readHouse_77 hr (fun v22 hr => ?_)
      refine bs hr (fun v23 hF hr => ?_)
      refine z_callS O [vr v14, vr v16, vi v19, vi v22] (vi v23) fS_X9_ownersOf q2171 (fun l G => mX9_ownersOf l G N v14 v16 v19 v22 h7 _ hF) rfl ⟨Nat.le_of_ble_eq_true rfl, Nat.le_of_ble_eq_true rfl⟩ (Nat.le_of_ble_eq_true rfl) dX9_readHouse_78 ?_
      refine z_if_eq (tgt := 90) O dX9_readHouse_81 (by decide) hr (fun hr => ?_) (fun hr => ?_)
      · refine z_sub [2, 1, 0] rfl ?_
        exact wX9_readHouse_90 O N x0 v5 v8 h7 _ hr
      · refine z_aload_n O 2 dX9_readHouse_84 rfl rfl ?_
        refine z_bipush O dX9_readHouse_85 kbi_7 ?_
        refine bs hr (fun h24 hF hr => ?_)
        refine z_callVv O [vi (7 : Int32)] fV_X9_flaw q2075 (fun l G => mX9_flaw l G x0 (7 : Int32) h7 _ hF) (zck hF) rfl rfl ⟨Nat.le_of_ble_eq_true rfl, Nat.le_of_ble_eq_true rfl⟩ (Nat.le_of_ble_eq_true rfl) dX9_readHouse_87 ?_
        refine z_sub [2, 1, 0] rfl ?_
        exact wX9_readHouse_90 O N x0 v5 v8 h24 _ hr
    · refine z_aload_n O 2 dX9_readHouse_84 rfl rfl ?_
      refine z_bipush O dX9_readHouse_85 kbi_7 ?_
      refine bs hr (fun h13 hF hr => ?_)
      refine z_callVv O [vi (7 : Int32)] fV_X9_flaw q2075 (fun l G => mX9_flaw l G x0 (7 : Int32) h7 _ hF) (zck hF) rfl rfl ⟨Nat.le_of_ble_eq_true rfl, Nat.le_of_ble_eq_true rfl⟩ (Nat.le_of_ble_eq_true rfl) dX9_readHouse_87 ?_
      refine z_sub [2, 1, 0] rfl ?_
      exact wX9_readHouse_90 O N x0 v5 v8 h13 _ hr
theorem fV_X9_readLand : CVf RX9 yX9_readLand cX9_readLand 5 (none : Option Jvm.ClassFile.FieldType) 0 := ⟨q2073, qs67, q137, q2074, ⟨⟨by decide +kernel, by decide +kernel⟩, by decide +kernel⟩⟩
def bX9_readLand_115 (N : Nat) (x0 : Option Nat) (x1 : Int32) (x2 : Int32) (x3 : Int32) (x4 : Int32) (h : AH) : Option (AH) :=
  (F_X9_goesOn N x0 h).bind fun h1 =>
  (gI h1 f_Model_sort x0).bind fun v2 =>
  if v2 = (5 : Int32) then
    some h1
  else
    (gR h1 f_Model_read x0).bind fun v3 =>
    (pI h1 f_MLand_wide v3 x1).bind fun h4 =>
    (gR h4 f_Model_read x0).bind fun v5 =>
    (pI h4 f_MLand_high v5 x2).bind fun h6 =>
    (gR h6 f_Model_read x0).bind fun v7 =>
    (pZ h6 f_MLand_far v7 x3).bind fun h8 =>
    (gR h8 f_Model_read x0).bind fun v9 =>
    (pZ h8 f_MLand_share v9 x4).bind fun h10 =>
    some h10
theorem wX9_readLand_115 {K : ZC} (O : ZOk K cX9_readLand RX9 "readLand" 5 (none : Option Jvm.ClassFile.FieldType) 9 221) (N : Nat) (x0 : Option Nat) (x1 : Int32) (x2 : Int32) (x3 : Int32) (x4 : Int32) (h : AH) (r : AH) (hr : bX9_readLand_115 N x0 x1 x2 x3 x4 h = some r) : Zw K (eH r) h 115 [(0, vr x0), (1, vi x1), (2, vi x2), (3, vi x3), (4, vi x4)] [] := by
  unfold bX9_readLand_115 at hr
  refine z_aload_n O 0 dX9_readLand_115 rfl rfl ?_
  refine bs hr (fun h1 hF hr => ?_)
  refine z_callVv O [] fV_X9_goesOn q2012 (fun l G => mX9_goesOn l G N x0 h _ hF) (zck hF) rfl rfl ⟨Nat.le_of_ble_eq_true rfl, Nat.le_of_ble_eq_true rfl⟩ (Nat.le_of_ble_eq_true rfl) dX9_readLand_116 ?_
  refine z_aload_n O 0 dX9_readLand_119 rfl rfl ?_
  refine z_getI O o_Model_sort q1771 dX9_readLand_120 hr (fun v2 hr => ?_)
  refine z_iconst O dX9_readLand_123 kic_5 ?_
  refine z_icmp_ne (tgt := 128) O dX9_readLand_124 (by decide) hr (fun hr => ?_) (fun hr => ?_)
  · exact z_vret O dX9_readLand_127 (by cases hr; rfl)
  · refine z_aload_n O 0 dX9_readLand_128 rfl rfl ?_
    refine z_getR O o_Model_read q1766 dX9_readLand_129 hr (fun v3 hr => ?_)
    refine z_iload_n O 1 dX9_readLand_132 rfl rfl ?_
    refine z_putIN O o_MLand_wide (w_MLand_wide _) zn1897 dX9_readLand_133 hr (fun h4 hr => ?_)
    refine z_aload_n O 0 dX9_readLand_136 rfl rfl ?_
    refine z_getR O o_Model_read q1766 dX9_readLand_137 hr (fun v5 hr => ?_)
    refine z_iload_n O 2 dX9_readLand_140 rfl rfl ?_
    refine z_putIN O o_MLand_high (w_MLand_high _) zn1899 dX9_readLand_141 hr (fun h6 hr => ?_)
    refine z_aload_n O 0 dX9_readLand_144 rfl rfl ?_
    refine z_getR O o_Model_read q1766 dX9_readLand_145 hr (fun v7 hr => ?_)
    refine z_iload_n O 3 dX9_readLand_148 rfl rfl ?_
    refine z_putZN O o_MLand_far (w_MLand_far _) zn1913 dX9_readLand_149 hr (fun h8 hr => ?_)
    refine z_aload_n O 0 dX9_readLand_152 rfl rfl ?_
    refine z_getR O o_Model_read q1766 dX9_readLand_153 hr (fun v9 hr => ?_)
    refine z_iload O 4 dX9_readLand_156 rfl ?_
    refine z_putZN O o_MLand_share (w_MLand_share _) zn1914 dX9_readLand_158 hr (fun h10 hr => ?_)
    exact z_vret O dX9_readLand_161 (by cases hr; rfl)
def bX9_readLand_75 (N : Nat) (x0 : Option Nat) (x1 : Int32) (x2 : Int32) (x3 : Int32) (h : AH) : Option (AH) :=
  (F_X9_goesOn N x0 h).bind fun h1 =>
  (F_X9_needs N x0 (some (h1.1.2.2.2.1 17)) h1).bind fun h2 =>
  (F_X9_isWord N x0 (some (h2.1.2.2.2.1 18)) h2).bind fun v3 =>
  if v3 = 0 then
    (F_X9_isWord N x0 (some (h2.1.2.2.2.1 19)) h2).bind fun v4 =>
    if v4 = 0 then
      (F_X9_flaw x0 (1 : Int32) h2).bind fun h5 =>
      bX9_readLand_115 N x0 x1 x2 x3 v3 h5
    else
      bX9_readLand_115 N x0 x1 x2 x3 v3 h2
  else
    bX9_readLand_115 N x0 x1 x2 x3 v3 h2
theorem wX9_readLand_75 {K : ZC} (O : ZOk K cX9_readLand RX9 "readLand" 5 (none : Option Jvm.ClassFile.FieldType) 9 221) (N : Nat) (x0 : Option Nat) (x1 : Int32) (x2 : Int32) (x3 : Int32) (h : AH) (r : AH) (hr : bX9_readLand_75 N x0 x1 x2 x3 h = some r) : Zw K (eH r) h 75 [(0, vr x0), (1, vi x1), (2, vi x2), (3, vi x3)] [] := by
  unfold bX9_readLand_75 at hr
  refine z_aload_n O 0 dX9_readLand_75 rfl rfl ?_
  refine bs hr (fun h1 hF hr => ?_)
  refine z_callVv O [] fV_X9_goesOn q2012 (fun l G => mX9_goesOn l G N x0 h _ hF) (zck hF) rfl rfl ⟨Nat.le_of_ble_eq_true rfl, Nat.le_of_ble_eq_true rfl⟩ (Nat.le_of_ble_eq_true rfl) dX9_readLand_76 ?_
  refine z_aload_n O 0 dX9_readLand_79 rfl rfl ?_
  refine z_ldcSw O zs2103 dX9_readLand_80 ?_
  refine bs hr (fun h2 hF hr => ?_)
  refine z_callVv O [vr (some (h1.1.2.2.2.1 17))] fV_X9_needs q2084 (fun l G => mX9_needs l G N x0 (some (h1.1.2.2.2.1 17)) h1 _ hF) (zck hF) rfl rfl ⟨Nat.le_of_ble_eq_true rfl, Nat.le_of_ble_eq_true rfl⟩ (Nat.le_of_ble_eq_true rfl) dX9_readLand_83 ?_
  refine z_aload_n O 0 dX9_readLand_86 rfl rfl ?_
  refine z_ldcSw O zs2104 dX9_readLand_87 ?_
  refine bs hr (fun v3 hF hr => ?_)
  refine z_callV O [vr (some (h2.1.2.2.2.1 18))] (vi v3) fV_X9_isWord q2036 (fun l G => mX9_isWord l G N x0 (some (h2.1.2.2.2.1 18)) h2 _ hF) (zck hF) rfl rfl ⟨Nat.le_of_ble_eq_true rfl, Nat.le_of_ble_eq_true rfl⟩ (Nat.le_of_ble_eq_true rfl) dX9_readLand_90 ?_
  refine z_istore O [(4, vi v3), (0, vr x0), (1, vi x1), (2, vi x2), (3, vi x3)] dX9_readLand_93 (by decide) rfl ?_
  refine z_iload O 0 dX9_readLand_95 rfl ?_
  refine z_if_ne (tgt := 115) O dX9_readLand_97 (by decide) hr (fun hr => ?_) (fun hr => ?_)
  · refine z_aload_n O 1 dX9_readLand_100 rfl rfl ?_
    refine z_ldcSw O zs2105 dX9_readLand_101 ?_
    refine bs hr (fun v4 hF hr => ?_)
    refine z_callV O [vr (some (h2.1.2.2.2.1 19))] (vi v4) fV_X9_isWord q2036 (fun l G => mX9_isWord l G N x0 (some (h2.1.2.2.2.1 19)) h2 _ hF) (zck hF) rfl rfl ⟨Nat.le_of_ble_eq_true rfl, Nat.le_of_ble_eq_true rfl⟩ (Nat.le_of_ble_eq_true rfl) dX9_readLand_104 ?_
    refine z_if_ne (tgt := 115) O dX9_readLand_107 (by decide) hr (fun hr => ?_) (fun hr => ?_)
    · refine z_aload_n O 1 dX9_readLand_110 rfl rfl ?_
      refine z_iconst O dX9_readLand_111 kic_1 ?_
      refine bs hr (fun h5 hF hr => ?_)
      refine z_callVv O [vi (1 : Int32)] fV_X9_flaw q2075 (fun l G => mX9_flaw l G x0 (1 : Int32) h2 _ hF) (zck hF) rfl rfl ⟨Nat.le_of_ble_eq_true rfl, Nat.le_of_ble_eq_true rfl⟩ (Nat.le_of_ble_eq_true rfl) dX9_readLand_112 ?_
      refine z_sub [1, 2, 3, 4, 0] rfl ?_
      exact wX9_readLand_115 O N x0 x1 x2 x3 v3 h5 _ hr
    · refine z_sub [1, 2, 3, 4, 0] rfl ?_
      exact wX9_readLand_115 O N x0 x1 x2 x3 v3 h2 _ hr
  · refine z_sub [1, 2, 3, 4, 0] rfl ?_
    exact wX9_readLand_115 O N x0 x1 x2 x3 v3 h2 _ hr
def bX9_readLand_15 (N : Nat) (x0 : Option Nat) (h : AH) : Option (AH) :=
  (F_X9_goesOn N x0 h).bind fun h1 =>
  b2 (F_X9_readPart N x0 (some (h1.1.2.2.2.1 12)) (3 : Int32) (12 : Int32) h1) fun v3 h2 =>
  b2 (F_X9_readPart N x0 (some (h2.1.2.2.2.1 13)) (3 : Int32) (12 : Int32) h2) fun v5 h4 =>
  (F_X9_needs N x0 (some (h4.1.2.2.2.1 14)) h4).bind fun h6 =>
  (F_X9_isWord N x0 (some (h6.1.2.2.2.1 15)) h6).bind fun v7 =>
  if v7 = 0 then
    (F_X9_isWord N x0 (some (h6.1.2.2.2.1 16)) h6).bind fun v8 =>
    if v8 = 0 then
      (F_X9_flaw x0 (1 : Int32) h6).bind fun h9 =>
      bX9_readLand_75 N x0 v3 v5 v7 h9
    else
      bX9_readLand_75 N x0 v3 v5 v7 h6
  else
    bX9_readLand_75 N x0 v3 v5 v7 h6
theorem wX9_readLand_15 {K : ZC} (O : ZOk K cX9_readLand RX9 "readLand" 5 (none : Option Jvm.ClassFile.FieldType) 9 221) (N : Nat) (x0 : Option Nat) (h : AH) (r : AH) (hr : bX9_readLand_15 N x0 h = some r) : Zw K (eH r) h 15 [(0, vr x0)] [] := by
  unfold bX9_readLand_15 at hr
  refine z_aload_n O 0 dX9_readLand_15 rfl rfl ?_
  refine bs hr (fun h1 hF hr => ?_)
  refine z_callVv O [] fV_X9_goesOn q2012 (fun l G => mX9_goesOn l G N x0 h _ hF) (zck hF) rfl rfl ⟨Nat.le_of_ble_eq_true rfl, Nat.le_of_ble_eq_true rfl⟩ (Nat.le_of_ble_eq_true rfl) dX9_readLand_16 ?_
  refine z_aload_n O 0 dX9_readLand_19 rfl rfl ?_
  refine z_ldcSw O zs2079 dX9_readLand_20 ?_
  refine z_iconst O dX9_readLand_23 kic_3 ?_
  refine z_bipush O dX9_readLand_24 kbi_12 ?_
  refine b2s hr (fun v3 h2 hF hr => ?_)
  refine z_callV O [vr (some (h1.1.2.2.2.1 12)), vi (3 : Int32), vi (12 : Int32)] (vi v3) fV_X9_readPart q2080 (fun l G => mX9_readPart l G N x0 (some (h1.1.2.2.2.1 12)) (3 : Int32) (12 : Int32) h1 _ hF) (zck hF) rfl rfl ⟨Nat.le_of_ble_eq_true rfl, Nat.le_of_ble_eq_true rfl⟩ (Nat.le_of_ble_eq_true rfl) dX9_readLand_26 ?_
  refine z_istore_n O [(1, vi v3), (0, vr x0)] dX9_readLand_29 rfl (by decide) rfl ?_
  refine z_aload_n O 1 dX9_readLand_30 rfl rfl ?_
  refine z_ldcSw O zs2099 dX9_readLand_31 ?_
  refine z_iconst O dX9_readLand_34 kic_3 ?_
  refine z_bipush O dX9_readLand_35 kbi_12 ?_
  refine b2s hr (fun v5 h4 hF hr => ?_)
  refine z_callV O [vr (some (h2.1.2.2.2.1 13)), vi (3 : Int32), vi (12 : Int32)] (vi v5) fV_X9_readPart q2080 (fun l G => mX9_readPart l G N x0 (some (h2.1.2.2.2.1 13)) (3 : Int32) (12 : Int32) h2 _ hF) (zck hF) rfl rfl ⟨Nat.le_of_ble_eq_true rfl, Nat.le_of_ble_eq_true rfl⟩ (Nat.le_of_ble_eq_true rfl) dX9_readLand_37 ?_
  refine z_istore_n O [(2, vi v5), (1, vi v3), (0, vr x0)] dX9_readLand_40 rfl (by decide) rfl ?_
  refine z_aload_n O 2 dX9_readLand_41 rfl rfl ?_
  refine z_ldcSw O zs2100 dX9_readLand_42 ?_
  refine bs hr (fun h6 hF hr => ?_)
  refine z_callVv O [vr (some (h4.1.2.2.2.1 14))] fV_X9_needs q2084 (fun l G => mX9_needs l G N x0 (some (h4.1.2.2.2.1 14)) h4 _ hF) (zck hF) rfl rfl ⟨Nat.le_of_ble_eq_true rfl, Nat.le_of_ble_eq_true rfl⟩ (Nat.le_of_ble_eq_true rfl) dX9_readLand_45 ?_
  refine z_aload_n O 2 dX9_readLand_48 rfl rfl ?_
  refine z_ldcSw O zs2101 dX9_readLand_49 ?_
  refine bs hr (fun v7 hF hr => ?_)
  refine z_callV O [vr (some (h6.1.2.2.2.1 15))] (vi v7) fV_X9_isWord q2036 (fun l G => mX9_isWord l G N x0 (some (h6.1.2.2.2.1 15)) h6 _ hF) (zck hF) rfl rfl ⟨Nat.le_of_ble_eq_true rfl, Nat.le_of_ble_eq_true rfl⟩ (Nat.le_of_ble_eq_true rfl) dX9_readLand_52 ?_
  refine z_istore_n O [(3, vi v7), (2, vi v5), (1, vi v3), (0, vr x0)] dX9_readLand_55 rfl (by decide) rfl ?_
  refine z_iload_n O 0 dX9_readLand_56 rfl rfl ?_
  refine z_if_ne (tgt := 75) O dX9_readLand_57 (by decide) hr (fun hr => ?_) (fun hr => ?_)
  · refine z_aload_n O 3 dX9_readLand_60 rfl rfl ?_
    refine z_ldcSw O zs2102 dX9_readLand_61 ?_
    refine bs hr (fun v8 hF hr => ?_)
    refine z_callV O [vr (some (h6.1.2.2.2.1 16))] (vi v8) fV_X9_isWord q2036 (fun l G => mX9_isWord l G N x0 (some (h6.1.2.2.2.1 16)) h6 _ hF) (zck hF) rfl rfl ⟨Nat.le_of_ble_eq_true rfl, Nat.le_of_ble_eq_true rfl⟩ (Nat.le_of_ble_eq_true rfl) dX9_readLand_64 ?_
    refine z_if_ne (tgt := 75) O dX9_readLand_67 (by decide) hr (fun hr => ?_) (fun hr => ?_)
    · refine z_aload_n O 3 dX9_readLand_70 rfl rfl ?_
      refine z_iconst O dX9_readLand_71 kic_1 ?_
      refine bs hr (fun h9 hF hr => ?_)
      refine z_callVv O [vi (1 : Int32)] fV_X9_flaw q2075 (fun l G => mX9_flaw l G x0 (1 : Int32) h6 _ hF) (zck hF) rfl rfl ⟨Nat.le_of_ble_eq_true rfl, Nat.le_of_ble_eq_true rfl⟩ (Nat.le_of_ble_eq_true rfl) dX9_readLand_72 ?_
      refine z_sub [3, 2, 1, 0] rfl ?_
      exact wX9_readLand_75 O N x0 v3 v5 v7 h9 _ hr
    · refine z_sub [3, 2, 1, 0] rfl ?_
      exact wX9_readLand_75 O N x0 v3 v5 v7 h6 _ hr
  · refine z_sub [3, 2, 1, 0] rfl ?_
    exact wX9_readLand_75 O N x0 v3 v5 v7 h6 _ hr
def F_X9_readLand (N : Nat) (x0 : Option Nat) (h : AH) : Option (AH) :=
  (ck h [9] x0).bind fun _ =>
  (gR h f_Model_read x0).bind fun v1 =>
  (gI h f_MLand_wide v1).bind fun v2 =>
  if v2 ≤ 0 then
    bX9_readLand_15 N x0 h
  else
    (F_X9_flaw x0 (3 : Int32) h).bind fun h3 =>
    bX9_readLand_15 N x0 h3
theorem mX9_readLand (l : Launch) (G : ZG) (N : Nat) (x0 : Option Nat) (h : AH) (r : AH) (hr : F_X9_readLand N x0 h = some r) : MZ l G yX9_readLand cX9_readLand 5 (none : Option Jvm.ClassFile.FieldType) 9 221 [vr x0] h (eH r) := by
  unfold F_X9_readLand at hr
  refine MZ.of (by decide) [(0, vr x0)] rfl (Nat.le_of_ble_eq_true rfl) (fun K O => ?_)
  have O : ZOk K cX9_readLand RX9 "readLand" 5 (none : Option Jvm.ClassFile.FieldType) 9 221 := O
  refine bs hr (fun _ hck hr => ?_)
  refine z_aload_n O 0 dX9_readLand_0 rfl rfl ?_
  refine z_getR O o_Model_read q1766 dX9_readLand_1 hr (fun v1 hr => ?_)
  refine z_getIN O o_MLand_wide zn1897 dX9_readLand_4 hr (fun v2 hr => ?_)
  refine z_if_le (tgt := 15) O dX9_readLand_7 (by decide) hr (fun hr => ?_) (fun hr => ?_)
  · exact wX9_readLand_15 O N x0 h _ hr
  · refine z_aload_n O 0 dX9_readLand_10 rfl rfl ?_
    refine z_iconst O dX9_readLand_11 kic_3 ?_
    refine bs hr (fun h3 hF hr => ?_)
    refine z_callVv O [vi (3 : Int32)] fV_X9_flaw q2075 (fun l G => mX9_flaw l G x0 (3 : Int32) h _ hF) (zck hF) rfl rfl ⟨Nat.le_of_ble_eq_true rfl, Nat.le_of_ble_eq_true rfl⟩ (Nat.le_of_ble_eq_true rfl) dX9_readLand_12 ?_
    exact wX9_readLand_15 O N x0 h3 _ hr
theorem fS_X9_bit : CSf yX9_bit cX9_bit 2 (some .boolean) 2 := ⟨q2239, q137, q2240, ⟨⟨by decide +kernel, by decide +kernel⟩, by decide +kernel⟩⟩
def F_X9_bit (x0 : Int32) (x1 : Int32) : Option (Int32) :=
  if ((x0 >>> (x1 &&& 31)) &&& (1 : Int32)) = (1 : Int32) then
    zb (1 : Int32)
  else
    zb (0 : Int32)
theorem mX9_bit (l : Launch) (G : ZG) (x0 : Int32) (x1 : Int32) (h : AH) (r : Int32) (hr : F_X9_bit x0 x1 = some r) : MZ l G yX9_bit cX9_bit 2 (some .boolean) 1 48 [vi x0, vi x1] h (eI h r) := by
  unfold F_X9_bit at hr
  refine MZ.of (by decide) [(0, vi x0), (1, vi x1)] rfl (Nat.le_of_ble_eq_true rfl) (fun K O => ?_)
  have O : ZOk K cX9_bit RX9 "bit" 2 (some .boolean) 1 48 := O
  refine z_iload_n O 0 dX9_bit_0 rfl rfl ?_
  refine z_iload_n O 1 dX9_bit_1 rfl rfl ?_
  refine z_ishr O dX9_bit_2 ?_
  refine z_iconst O dX9_bit_3 kic_1 ?_
  refine z_iand O dX9_bit_4 ?_
  refine z_iconst O dX9_bit_5 kic_1 ?_
  refine z_icmp_ne (tgt := 13) O dX9_bit_6 (by decide) hr (fun hr => ?_) (fun hr => ?_)
  · refine z_iconst O dX9_bit_9 kic_1 ?_
    refine z_goto (tgt := 14) O dX9_bit_10 (by decide) ?_
    obtain ⟨e1, e2, -⟩ := zb_spec hr
    exact z_zret O e2 dX9_bit_14 (by cases e1; rfl)
  · refine z_iconst O dX9_bit_13 kic_0 ?_
    obtain ⟨e1, e2, -⟩ := zb_spec hr
    exact z_zret O e2 dX9_bit_14 (by cases e1; rfl)
theorem fV_X9_readOlder : CVf RX9 yX9_readOlder cX9_readOlder 3 (none : Option Jvm.ClassFile.FieldType) 0 := ⟨q2236, qs89, q137, q2237, ⟨⟨by decide +kernel, by decide +kernel⟩, by decide +kernel⟩⟩
def bX9_readOlder_75 (N : Nat) (x0 : Option Nat) (x1 : Int32) (x2 : Int32) (h : AH) : Option (AH) :=
  (F_X9_goesOn N x0 h).bind fun h1 =>
  (gI h1 f_Model_sort x0).bind fun v2 =>
  if v2 = (5 : Int32) then
    some h1
  else
    (gR h1 f_Model_read x0).bind fun v3 =>
    (gR h1 f_MLand_older v3).bind fun v4 =>
    (aI h1 0 v4 x1).bind fun v5 =>
    (sA h1 0 v4 x1 (v5 ||| ((1 : Int32) <<< (x2 &&& 31)))).bind fun h6 =>
    (gR h6 f_Model_read x0).bind fun v7 =>
    (gI h6 f_MLand_olders v7).bind fun v8 =>
    (pI h6 f_MLand_olders v7 (v8 + (1 : Int32))).bind fun h9 =>
    some h9
theorem wX9_readOlder_75 {K : ZC} (O : ZOk K cX9_readOlder RX9 "readOlder" 3 (none : Option Jvm.ClassFile.FieldType) 10 241) (N : Nat) (x0 : Option Nat) (x1 : Int32) (x2 : Int32) (h : AH) (r : AH) (hr : bX9_readOlder_75 N x0 x1 x2 h = some r) : Zw K (eH r) h 75 [(0, vr x0), (1, vi x1), (2, vi x2)] [] := by
  unfold bX9_readOlder_75 at hr
  refine z_aload_n O 0 dX9_readOlder_75 rfl rfl ?_
  refine bs hr (fun h1 hF hr => ?_)
  refine z_callVv O [] fV_X9_goesOn q2012 (fun l G => mX9_goesOn l G N x0 h _ hF) (zck hF) rfl rfl ⟨Nat.le_of_ble_eq_true rfl, Nat.le_of_ble_eq_true rfl⟩ (Nat.le_of_ble_eq_true rfl) dX9_readOlder_76 ?_
  refine z_aload_n O 0 dX9_readOlder_79 rfl rfl ?_
  refine z_getI O o_Model_sort q1771 dX9_readOlder_80 hr (fun v2 hr => ?_)
  refine z_iconst O dX9_readOlder_83 kic_5 ?_
  refine z_icmp_ne (tgt := 88) O dX9_readOlder_84 (by decide) hr (fun hr => ?_) (fun hr => ?_)
  · exact z_vret O dX9_readOlder_87 (by cases hr; rfl)
  · refine z_aload_n O 0 dX9_readOlder_88 rfl rfl ?_
    refine z_getR O o_Model_read q1766 dX9_readOlder_89 hr (fun v3 hr => ?_)
    refine z_getRN O o_MLand_older zn1934 dX9_readOlder_92 hr (fun v4 hr => ?_)
    refine z_iload_n O 1 dX9_readOlder_95 rfl rfl ?_
    refine z_dup2 O dX9_readOlder_96 rfl rfl ?_
    refine z_iaload O dX9_readOlder_97 hr (fun v5 hr => ?_)
    refine z_iconst O dX9_readOlder_98 kic_1 ?_
    refine z_iload_n O 2 dX9_readOlder_99 rfl rfl ?_
    refine z_ishl O dX9_readOlder_100 ?_
    refine z_ior O dX9_readOlder_101 ?_
    refine z_iastore O dX9_readOlder_102 hr (fun h6 hr => ?_)
    refine z_aload_n O 0 dX9_readOlder_103 rfl rfl ?_
    refine z_getR O o_Model_read q1766 dX9_readOlder_104 hr (fun v7 hr => ?_)
    refine z_dup O dX9_readOlder_107 rfl ?_
    refine z_getIN O o_MLand_olders zn1910 dX9_readOlder_108 hr (fun v8 hr => ?_)
    refine z_iconst O dX9_readOlder_111 kic_1 ?_
    refine z_iadd O dX9_readOlder_112 ?_
    refine z_putIN O o_MLand_olders (w_MLand_olders _) zn1910 dX9_readOlder_113 hr (fun h9 hr => ?_)
    exact z_vret O dX9_readOlder_116 (by cases hr; rfl)
def F_X9_readOlder (N : Nat) (x0 : Option Nat) (h : AH) : Option (AH) :=
  (ck h [9] x0).bind fun _ =>
  (gR h f_Model_read x0).bind fun v1 =>
  (gI h f_MLand_olders v1).bind fun v2 =>
  (F_X9_begins N x0 v2 (8 : Int32) h).bind fun h3 =>
  b2 (F_X9_readKnown N x0 (3 : Int32) h3) fun v5 h4 =>
  b2 (F_X9_known N x0 (3 : Int32) h4) fun v7 h6 =>
  (gI h6 f_Model_sort x0).bind fun v8 =>
  if v8 = (5 : Int32) then
    bX9_readOlder_75 N x0 v5 v7 h6
  else
    if v5 = v7 then
      (F_X9_flaw x0 (3 : Int32) h6).bind fun h9 =>
      bX9_readOlder_75 N x0 v5 v7 h9
    else
      (gR h6 f_Model_read x0).bind fun v10 =>
      (gR h6 f_MLand_older v10).bind fun v11 =>
      (aI h6 0 v11 v5).bind fun v12 =>
      (F_X9_bit v12 v7).bind fun v13 =>
      if v13 = 0 then
        (gR h6 f_Model_read x0).bind fun v15 =>
        (gR h6 f_MLand_older v15).bind fun v16 =>
        (aI h6 0 v16 v7).bind fun v17 =>
        (F_X9_bit v17 v5).bind fun v18 =>
        if v18 = 0 then
          bX9_readOlder_75 N x0 v5 v7 h6
        else
          (F_X9_flaw x0 (3 : Int32) h6).bind fun h19 =>
          bX9_readOlder_75 N x0 v5 v7 h19
      else
        (F_X9_flaw x0 (3 : Int32) h6).bind fun h14 =>
        bX9_readOlder_75 N x0 v5 v7 h14
theorem mX9_readOlder (l : Launch) (G : ZG) (N : Nat) (x0 : Option Nat) (h : AH) (r : AH) (hr : F_X9_readOlder N x0 h = some r) : MZ l G yX9_readOlder cX9_readOlder 3 (none : Option Jvm.ClassFile.FieldType) 10 241 [vr x0] h (eH r) := by
  unfold F_X9_readOlder at hr
  refine MZ.of (by decide) [(0, vr x0)] rfl (Nat.le_of_ble_eq_true rfl) (fun K O => ?_)
  have O : ZOk K cX9_readOlder RX9 "readOlder" 3 (none : Option Jvm.ClassFile.FieldType) 10 241 := O
  refine bs hr (fun _ hck hr => ?_)
  refine z_aload_n O 0 dX9_readOlder_0 rfl rfl ?_
  refine z_aload_n O 0 dX9_readOlder_1 rfl rfl ?_
  refine z_getR O o_Model_read q1766 dX9_readOlder_2 hr (fun v1 hr => ?_)
  refine z_getIN O o_MLand_olders zn1910 dX9_readOlder_5 hr (fun v2 hr => ?_)
  refine z_bipush O dX9_readOlder_8 kbi_8 ?_
  refine bs hr (fun h3 hF hr => ?_)
  refine z_callVv O [vi v2, vi (8 : Int32)] fV_X9_begins q2111 (fun l G => mX9_begins l G N x0 v2 (8 : Int32) h _ hF) (zck hF) rfl rfl ⟨Nat.le_of_ble_eq_true rfl, Nat.le_of_ble_eq_true rfl⟩ (Nat.le_of_ble_eq_true rfl) dX9_readOlder_10 ?_
  refine z_aload_n O 0 dX9_readOlder_13 rfl rfl ?_
  refine z_iconst O dX9_readOlder_14 kic_3 ?_
  refine b2s hr (fun v5 h4 hF hr => ?_)
  refine z_callV O [vi (3 : Int32)] (vi v5) fV_X9_readKnown q2187 (fun l G => mX9_readKnown l G N x0 (3 : Int32) h3 _ hF) (zck hF) rfl rfl ⟨Nat.le_of_ble_eq_true rfl, Nat.le_of_ble_eq_true rfl⟩ (Nat.le_of_ble_eq_true rfl) dX9_readOlder_15 ?_
  refine z_istore_n O [(1, vi v5), (0, vr x0)] dX9_readOlder_18 rfl (by decide) rfl ?_
  refine z_aload_n O 1 dX9_readOlder_19 rfl rfl ?_
  refine z_iconst O dX9_readOlder_20 kic_3 ?_
  refine b2s hr (fun v7 h6 hF hr => ?_)
  refine z_callV O [vi (3 : Int32)] (vi v7) fV_X9_known q2191 (fun l G => mX9_known l G N x0 (3 : Int32) h4 _ hF) (zck hF) rfl rfl ⟨Nat.le_of_ble_eq_true rfl, Nat.le_of_ble_eq_true rfl⟩ (Nat.le_of_ble_eq_true rfl) dX9_readOlder_21 ?_
  refine z_istore_n O [(2, vi v7), (1, vi v5), (0, vr x0)] dX9_readOlder_24 rfl (by decide) rfl ?_
  refine z_aload_n O 2 dX9_readOlder_25 rfl rfl ?_
  refine z_getI O o_Model_sort q1771 dX9_readOlder_26 hr (fun v8 hr => ?_)
  refine z_iconst O dX9_readOlder_29 kic_5 ?_
  refine z_icmp_eq (tgt := 75) O dX9_readOlder_30 (by decide) hr (fun hr => ?_) (fun hr => ?_)
  · refine z_sub [2, 1, 0] rfl ?_
    exact wX9_readOlder_75 O N x0 v5 v7 h6 _ hr
  · refine z_iload_n O 1 dX9_readOlder_33 rfl rfl ?_
    refine z_iload_n O 0 dX9_readOlder_34 rfl rfl ?_
    refine z_icmp_eq (tgt := 70) O dX9_readOlder_35 (by decide) hr (fun hr => ?_) (fun hr => ?_)
    · refine z_aload_n O 2 dX9_readOlder_70 rfl rfl ?_
      refine z_iconst O dX9_readOlder_71 kic_3 ?_
      refine bs hr (fun h9 hF hr => ?_)
      refine z_callVv O [vi (3 : Int32)] fV_X9_flaw q2075 (fun l G => mX9_flaw l G x0 (3 : Int32) h6 _ hF) (zck hF) rfl rfl ⟨Nat.le_of_ble_eq_true rfl, Nat.le_of_ble_eq_true rfl⟩ (Nat.le_of_ble_eq_true rfl) dX9_readOlder_72 ?_
      refine z_sub [2, 1, 0] rfl ?_
      exact wX9_readOlder_75 O N x0 v5 v7 h9 _ hr
    · refine z_aload_n O 2 dX9_readOlder_38 rfl rfl ?_
      refine z_getR O o_Model_read q1766 dX9_readOlder_39 hr (fun v10 hr => ?_)
      refine z_getRN O o_MLand_older zn1934 dX9_readOlder_42 hr (fun v11 hr => ?_)
      refine z_iload_n O 1 dX9_readOlder_45 rfl rfl ?_
      refine z_iaload O dX9_readOlder_46 hr (fun v12 hr => ?_)
      refine z_iload_n O 0 dX9_readOlder_47 rfl rfl ?_
      refine bs hr (fun v13 hF hr => ?_)
      refine z_callS O [vi v12, vi v7] (vi v13) fS_X9_bit q2238 (fun l G => mX9_bit l G v12 v7 h6 _ hF) rfl ⟨Nat.le_of_ble_eq_true rfl, Nat.le_of_ble_eq_true rfl⟩ (Nat.le_of_ble_eq_true rfl) dX9_readOlder_48 ?_
      refine z_if_ne (tgt := 70) O dX9_readOlder_51 (by decide) hr (fun hr => ?_) (fun hr => ?_)
      · refine z_aload_n O 2 dX9_readOlder_54 rfl rfl ?_
        refine z_getR O o_Model_read q1766 dX9_readOlder_55 hr (fun v15 hr => ?_)
        refine z_getRN O o_MLand_older zn1934 dX9_readOlder_58 hr (fun v16 hr => ?_)
        refine z_iload_n O 0 dX9_readOlder_61 rfl rfl ?_
        refine z_iaload O dX9_readOlder_62 hr (fun v17 hr => ?_)
        refine z_iload_n O 1 dX9_readOlder_63 rfl rfl ?_
        refine bs hr (fun v18 hF hr => ?_)
        refine z_callS O [vi v17, vi v5] (vi v18) fS_X9_bit q2238 (fun l G => mX9_bit l G v17 v5 h6 _ hF) rfl ⟨Nat.le_of_ble_eq_true rfl, Nat.le_of_ble_eq_true rfl⟩ (Nat.le_of_ble_eq_true rfl) dX9_readOlder_64 ?_
        refine z_if_eq (tgt := 75) O dX9_readOlder_67 (by decide) hr (fun hr => ?_) (fun hr => ?_)
        · refine z_sub [2, 1, 0] rfl ?_
          exact wX9_readOlder_75 O N x0 v5 v7 h6 _ hr
        · refine z_aload_n O 2 dX9_readOlder_70 rfl rfl ?_
          refine z_iconst O dX9_readOlder_71 kic_3 ?_
          refine bs hr (fun h19 hF hr => ?_)
          refine z_callVv O [vi (3 : Int32)] fV_X9_flaw q2075 (fun l G => mX9_flaw l G x0 (3 : Int32) h6 _ hF) (zck hF) rfl rfl ⟨Nat.le_of_ble_eq_true rfl, Nat.le_of_ble_eq_true rfl⟩ (Nat.le_of_ble_eq_true rfl) dX9_readOlder_72 ?_
          refine z_sub [2, 1, 0] rfl ?_
          exact wX9_readOlder_75 O N x0 v5 v7 h19 _ hr
      · refine z_aload_n O 2 dX9_readOlder_70 rfl rfl ?_
        refine z_iconst O dX9_readOlder_71 kic_3 ?_
        refine bs hr (fun h14 hF hr => ?_)
        refine z_callVv O [vi (3 : Int32)] fV_X9_flaw q2075 (fun l G => mX9_flaw l G x0 (3 : Int32) h6 _ hF) (zck hF) rfl rfl ⟨Nat.le_of_ble_eq_true rfl, Nat.le_of_ble_eq_true rfl⟩ (Nat.le_of_ble_eq_true rfl) dX9_readOlder_72 ?_
        refine z_sub [2, 1, 0] rfl ?_
        exact wX9_readOlder_75 O N x0 v5 v7 h14 _ hr
