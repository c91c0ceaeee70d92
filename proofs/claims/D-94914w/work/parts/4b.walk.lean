set_option maxRecDepth 100000
set_option maxHeartbeats 4000000
theorem fV_X7_to : CVf RX7 yX7_to cX7_to 4 (some .int) 1 := ⟨q1419, q1420, q135, q1421, ⟨⟨by decide +kernel, by decide +kernel⟩, by decide +kernel⟩⟩
def BX7_to_5 (N : Nat) (x0 : Option Nat) (x1 : Int32) (h : AH) (rec5 : Int32 → Int32 → Option (Int32)) : Int32 → Int32 → Option (Int32) := fun x2 x3 =>
  if ((8 : Int32) * x1) ≤ x3 then
    some x2
  else
    (gR h f_Through_best x0).bind fun v1 =>
    (F_X7_first x1).bind fun v2 =>
    (aI h 0 v1 (v2 + x3)).bind fun v3 =>
    jlet (jmin x2 v3) fun v4 =>
    jlet (x3 + (1 : Int32)) fun v5 =>
    rec5 v4 v5
def LX7_to_5 (N : Nat) (x0 : Option Nat) (x1 : Int32) (h : AH) : Int32 → Int32 → Option (Int32) := lf (fun _ _ => none) (BX7_to_5 N x0 x1 h) N
theorem wX7_to_5B {K : ZC} (O : ZOk K cX7_to RX7 "to" 4 (some .int) 2 68) (N : Nat) (x0 : Option Nat) (x1 : Int32) (h : AH) (rec5 : Int32 → Int32 → Option (Int32)) (hrec5 : ∀ (y2 : Int32) (y3 : Int32) (ry : Int32), rec5 y2 y3 = some ry → Zw K (eI h ry) h 5 [(0, vr x0), (1, vi x1), (2, vi y2), (3, vi y3)] []) (x2 : Int32) (x3 : Int32) (r : Int32) (hr : BX7_to_5 N x0 x1 h rec5 x2 x3 = some r) : Zw K (eI h r) h 5 [(0, vr x0), (1, vi x1), (2, vi x2), (3, vi x3)] [] := by
  unfold BX7_to_5 at hr
  refine z_iload_n O 3 dX7_to_5 rfl rfl ?_
  refine z_bipush O dX7_to_6 kbi_8 ?_
  refine z_iload_n O 1 dX7_to_8 rfl rfl ?_
  refine z_imul O dX7_to_9 ?_
  refine z_icmp_ge (tgt := 35) O dX7_to_10 (by decide) hr (fun hr => ?_) (fun hr => ?_)
  · refine z_iload_n O 2 dX7_to_35 rfl rfl ?_
    exact z_iret O dX7_to_36 (by cases hr; rfl)
  · refine z_iload_n O 2 dX7_to_13 rfl rfl ?_
    refine z_aload_n O 0 dX7_to_14 rfl rfl ?_
    refine z_getR O o_Through_best q423 dX7_to_15 hr (fun v1 hr => ?_)
    refine z_iload_n O 1 dX7_to_18 rfl rfl ?_
    refine bs hr (fun v2 hF hr => ?_)
    refine z_callS O [vi x1] (vi v2) fS_X7_first q1388 (fun l G => mX7_first l G x1 h _ hF) rfl ⟨Nat.le_of_ble_eq_true rfl, Nat.le_of_ble_eq_true rfl⟩ (Nat.le_of_ble_eq_true rfl) dX7_to_19 ?_
    refine z_iload_n O 3 dX7_to_22 rfl rfl ?_
    refine z_iadd O dX7_to_23 ?_
    refine z_iaload O dX7_to_24 hr (fun v3 hr => ?_)
    refine z_mmin O q1401 ⟨Nat.le_of_ble_eq_true rfl, Nat.le_of_ble_eq_true rfl⟩ (Nat.le_of_ble_eq_true rfl) dX7_to_25 ?_
    refine z_letI hr (fun v4 hr => ?_)
    refine z_istore_n O [(2, vi v4), (0, vr x0), (1, vi x1), (3, vi x3)] dX7_to_28 rfl (by decide) rfl ?_
    refine z_iincL O 3 (fun v5 => [(3, vi v5), (2, vi v4), (0, vr x0), (1, vi x1)]) dX7_to_29 rfl rfl (by decide) (fun _ => rfl) hr (fun v5 hr => ?_)
    refine z_goto (tgt := 5) O dX7_to_32 (by decide) ?_
    refine z_sub [2, 3, 1, 0] rfl ?_
    exact hrec5 v4 v5 _ hr
theorem wX7_to_5 {K : ZC} (O : ZOk K cX7_to RX7 "to" 4 (some .int) 2 68) (N : Nat) (x0 : Option Nat) (x1 : Int32) (h : AH) : ∀ (n : Nat) (x2 : Int32) (x3 : Int32) (r : Int32), lf (fun _ _ => none) (BX7_to_5 N x0 x1 h) n x2 x3 = some r → Zw K (eI h r) h 5 [(0, vr x0), (1, vi x1), (2, vi x2), (3, vi x3)] [] := by
  intro n
  induction n with
  | zero => intro x2 x3 r hr; cases hr
  | succ n ih => intro x2 x3 r hr; exact wX7_to_5B O N x0 x1 h (lf (fun _ _ => none) (BX7_to_5 N x0 x1 h) n)  ih x2 x3 r hr
def F_X7_to (N : Nat) (x0 : Option Nat) (x1 : Int32) (h : AH) : Option (Int32) :=
  (ck h [7] x0).bind fun _ =>
  LX7_to_5 N x0 x1 h (100000000 : Int32) (0 : Int32)
theorem mX7_to (l : Launch) (G : ZG) (N : Nat) (x0 : Option Nat) (x1 : Int32) (h : AH) (r : Int32) (hr : F_X7_to N x0 x1 h = some r) : MZ l G yX7_to cX7_to 4 (some .int) 2 68 [vr x0, vi x1] h (eI h r) := by
  unfold F_X7_to at hr
  refine MZ.of (by decide) [(0, vr x0), (1, vi x1)] rfl (Nat.le_of_ble_eq_true rfl) (fun K O => ?_)
  have O : ZOk K cX7_to RX7 "to" 4 (some .int) 2 68 := O
  refine bs hr (fun _ hck hr => ?_)
  refine z_ldc O q1386 dX7_to_0 ?_
  refine z_istore_n O [(2, vi (100000000 : Int32)), (0, vr x0), (1, vi x1)] dX7_to_2 rfl (by decide) rfl ?_
  refine z_iconst O dX7_to_3 kic_0 ?_
  refine z_istore_n O [(3, vi (0 : Int32)), (2, vi (100000000 : Int32)), (0, vr x0), (1, vi x1)] dX7_to_4 rfl (by decide) rfl ?_
  refine z_sub [2, 3, 1, 0] rfl ?_
  exact wX7_to_5 O N x0 x1 h _ (100000000 : Int32) (0 : Int32) _ hr
theorem fV_X1_throughTo : CVf RX1 yX1_throughTo cX1_throughTo 3 (some .int) 2 := ⟨q1380, qs42, q126, q1381, ⟨⟨by decide +kernel, by decide +kernel⟩, by decide +kernel⟩⟩
def F_X1_throughTo (N : Nat) (x0 : Option Nat) (x1 : Int32) (x2 : Int32) (h : AH) : Option (Int32 × AH) :=
  (ck h [1] x0).bind fun _ =>
  (gR h f_Year_village x0).bind fun v1 =>
  (F_X4_house v1 x1 h).bind fun v2 =>
  (gI h f_House_many v2).bind fun v3 =>
  if v3 = 0 then
    some ((0 : Int32), h)
  else
    (gR h f_Year_through x0).bind fun v4 =>
    (gR h f_Year_village x0).bind fun v5 =>
    (F_X4_house v5 x1 h).bind fun v6 =>
    (F_X7_lay N v4 v6 h).bind fun h7 =>
    if x2 = 0 then
      (gR h7 f_Year_through x0).bind fun v10 =>
      (F_X7_to N v10 (1 : Int32) h7).bind fun v11 =>
      some ((v11 + (1000 : Int32)), h7)
    else
      (gR h7 f_Year_through x0).bind fun v8 =>
      (F_X7_to N v8 x2 h7).bind fun v9 =>
      some (v9, h7)
theorem mX1_throughTo (l : Launch) (G : ZG) (N : Nat) (x0 : Option Nat) (x1 : Int32) (x2 : Int32) (h : AH) (r : Int32 × AH) (hr : F_X1_throughTo N x0 x1 x2 h = some r) : MZ l G yX1_throughTo cX1_throughTo 3 (some .int) 7 186 [vr x0, vi x1, vi x2] h (eIH r) := by
  unfold F_X1_throughTo at hr
  refine MZ.of (by decide) [(0, vr x0), (1, vi x1), (2, vi x2)] rfl (Nat.le_of_ble_eq_true rfl) (fun K O => ?_)
  have O : ZOk K cX1_throughTo RX1 "throughTo" 3 (some .int) 7 186 := O
  refine bs hr (fun _ hck hr => ?_)
  refine z_aload_n O 0 dX1_throughTo_0 rfl rfl ?_
  refine z_getR O o_Year_village q469 dX1_throughTo_1 hr (fun v1 hr => ?_)
  refine z_iload_n O 1 dX1_throughTo_4 rfl rfl ?_
  refine bs hr (fun v2 hF hr => ?_)
  refine z_callV O [vi x1] (vr v2) fV_X4_house q1249 (fun l G => mX4_house l G v1 x1 h _ hF) (zck hF) rfl rfl ⟨Nat.le_of_ble_eq_true rfl, Nat.le_of_ble_eq_true rfl⟩ (Nat.le_of_ble_eq_true rfl) dX1_throughTo_5 ?_
  refine z_getI O o_House_many q314 dX1_throughTo_8 hr (fun v3 hr => ?_)
  refine z_if_ne (tgt := 16) O dX1_throughTo_11 (by decide) hr (fun hr => ?_) (fun hr => ?_)
  · refine z_iconst O dX1_throughTo_14 kic_0 ?_
    exact z_iret O dX1_throughTo_15 (by cases hr; rfl)
  · refine z_aload_n O 0 dX1_throughTo_16 rfl rfl ?_
    refine z_getR O o_Year_through q472 dX1_throughTo_17 hr (fun v4 hr => ?_)
    refine z_aload_n O 0 dX1_throughTo_20 rfl rfl ?_
    refine z_getR O o_Year_village q469 dX1_throughTo_21 hr (fun v5 hr => ?_)
    refine z_iload_n O 1 dX1_throughTo_24 rfl rfl ?_
    refine bs hr (fun v6 hF hr => ?_)
    refine z_callV O [vi x1] (vr v6) fV_X4_house q1249 (fun l G => mX4_house l G v5 x1 h _ hF) (zck hF) rfl rfl ⟨Nat.le_of_ble_eq_true rfl, Nat.le_of_ble_eq_true rfl⟩ (Nat.le_of_ble_eq_true rfl) dX1_throughTo_25 ?_
    refine bs hr (fun h7 hF hr => ?_)
    refine z_callVv O [vr v6] fV_X7_lay q1382 (fun l G => mX7_lay l G N v4 v6 h _ hF) (zck hF) rfl rfl ⟨Nat.le_of_ble_eq_true rfl, Nat.le_of_ble_eq_true rfl⟩ (Nat.le_of_ble_eq_true rfl) dX1_throughTo_28 ?_
    refine z_iload_n O 2 dX1_throughTo_31 rfl rfl ?_
    refine z_if_ne (tgt := 50) O dX1_throughTo_32 (by decide) hr (fun hr => ?_) (fun hr => ?_)
    · refine z_aload_n O 0 dX1_throughTo_35 rfl rfl ?_
      refine z_getR O o_Year_through q472 dX1_throughTo_36 hr (fun v10 hr => ?_)
      refine z_iconst O dX1_throughTo_39 kic_1 ?_
      refine bs hr (fun v11 hF hr => ?_)
      refine z_callV O [vi (1 : Int32)] (vi v11) fV_X7_to q1418 (fun l G => mX7_to l G N v10 (1 : Int32) h7 _ hF) (zck hF) rfl rfl ⟨Nat.le_of_ble_eq_true rfl, Nat.le_of_ble_eq_true rfl⟩ (Nat.le_of_ble_eq_true rfl) dX1_throughTo_40 ?_
      refine z_sipush O dX1_throughTo_43 ksi_1000 ?_
      refine z_iadd O dX1_throughTo_46 ?_
      refine z_goto (tgt := 58) O dX1_throughTo_47 (by decide) ?_
      exact z_iret O dX1_throughTo_58 (by cases hr; rfl)
    · refine z_aload_n O 0 dX1_throughTo_50 rfl rfl ?_
      refine z_getR O o_Year_through q472 dX1_throughTo_51 hr (fun v8 hr => ?_)
      refine z_iload_n O 2 dX1_throughTo_54 rfl rfl ?_
      refine bs hr (fun v9 hF hr => ?_)
      refine z_callV O [vi x2] (vi v9) fV_X7_to q1418 (fun l G => mX7_to l G N v8 x2 h7 _ hF) (zck hF) rfl rfl ⟨Nat.le_of_ble_eq_true rfl, Nat.le_of_ble_eq_true rfl⟩ (Nat.le_of_ble_eq_true rfl) dX1_throughTo_55 ?_
      exact z_iret O dX1_throughTo_58 (by cases hr; rfl)
theorem fV_X1_breaks : CVf RX1 yX1_breaks cX1_breaks 3 (some .int) 2 := ⟨q1423, q1424, q126, q1425, ⟨⟨by decide +kernel, by decide +kernel⟩, by decide +kernel⟩⟩
def F_X1_breaks (N : Nat) (x0 : Option Nat) (x1 : Int32) (x2 : Int32) (h : AH) : Option (Int32 × AH) :=
  (ck h [1] x0).bind fun _ =>
  (F_X1_anew x0 h).bind fun h1 =>
  (F_X1_isDepth x0 x1 x2 h1).bind fun v2 =>
  if v2 = 0 then
    b2 (F_X1_no x0 (1 : Int32) h1) fun v4 h3 =>
    some (v4, h3)
  else
    b2 (F_X1_throughTo N x0 x1 x2 h1) fun v6 h5 =>
    (rm v6 (1000 : Int32)).bind fun v7 =>
    some (v7, h5)
theorem mX1_breaks (l : Launch) (G : ZG) (N : Nat) (x0 : Option Nat) (x1 : Int32) (x2 : Int32) (h : AH) (r : Int32 × AH) (hr : F_X1_breaks N x0 x1 x2 h = some r) : MZ l G yX1_breaks cX1_breaks 3 (some .int) 8 208 [vr x0, vi x1, vi x2] h (eIH r) := by
  unfold F_X1_breaks at hr
  refine MZ.of (by decide) [(0, vr x0), (1, vi x1), (2, vi x2)] rfl (Nat.le_of_ble_eq_true rfl) (fun K O => ?_)
  have O : ZOk K cX1_breaks RX1 "breaks" 3 (some .int) 8 208 := O
  refine bs hr (fun _ hck hr => ?_)
  refine z_aload_n O 0 dX1_breaks_0 rfl rfl ?_
  refine bs hr (fun h1 hF hr => ?_)
  refine z_callVv O [] fV_X1_anew q528 (fun l G => mX1_anew l G x0 h _ hF) (zck hF) rfl rfl ⟨Nat.le_of_ble_eq_true rfl, Nat.le_of_ble_eq_true rfl⟩ (Nat.le_of_ble_eq_true rfl) dX1_breaks_1 ?_
  refine z_aload_n O 0 dX1_breaks_4 rfl rfl ?_
  refine z_iload_n O 1 dX1_breaks_5 rfl rfl ?_
  refine z_iload_n O 2 dX1_breaks_6 rfl rfl ?_
  refine bs hr (fun v2 hF hr => ?_)
  refine z_callV O [vi x1, vi x2] (vi v2) fV_X1_isDepth q1282 (fun l G => mX1_isDepth l G x0 x1 x2 h1 _ hF) (zck hF) rfl rfl ⟨Nat.le_of_ble_eq_true rfl, Nat.le_of_ble_eq_true rfl⟩ (Nat.le_of_ble_eq_true rfl) dX1_breaks_7 ?_
  refine z_if_eq (tgt := 26) O dX1_breaks_10 (by decide) hr (fun hr => ?_) (fun hr => ?_)
  · refine z_aload_n O 0 dX1_breaks_26 rfl rfl ?_
    refine z_iconst O dX1_breaks_27 kic_1 ?_
    refine b2s hr (fun v4 h3 hF hr => ?_)
    refine z_callV O [vi (1 : Int32)] (vi v4) fV_X1_no q535 (fun l G => mX1_no l G x0 (1 : Int32) h1 _ hF) (zck hF) rfl rfl ⟨Nat.le_of_ble_eq_true rfl, Nat.le_of_ble_eq_true rfl⟩ (Nat.le_of_ble_eq_true rfl) dX1_breaks_28 ?_
    exact z_iret O dX1_breaks_31 (by cases hr; rfl)
  · refine z_aload_n O 0 dX1_breaks_13 rfl rfl ?_
    refine z_iload_n O 1 dX1_breaks_14 rfl rfl ?_
    refine z_iload_n O 2 dX1_breaks_15 rfl rfl ?_
    refine b2s hr (fun v6 h5 hF hr => ?_)
    refine z_callV O [vi x1, vi x2] (vi v6) fV_X1_throughTo q1378 (fun l G => mX1_throughTo l G N x0 x1 x2 h1 _ hF) (zck hF) rfl rfl ⟨Nat.le_of_ble_eq_true rfl, Nat.le_of_ble_eq_true rfl⟩ (Nat.le_of_ble_eq_true rfl) dX1_breaks_16 ?_
    refine z_sipush O dX1_breaks_19 ksi_1000 ?_
    refine z_irem O dX1_breaks_22 hr (fun v7 hr => ?_)
    refine z_goto (tgt := 31) O dX1_breaks_23 (by decide) ?_
    exact z_iret O dX1_breaks_31 (by cases hr; rfl)
theorem fV_X1_done : CVf RX1 yX1_done cX1_done 3 (some .boolean) 0 := ⟨q1654, qs59, q126, q1655, ⟨⟨by decide +kernel, by decide +kernel⟩, by decide +kernel⟩⟩
def bX1_done_62 (N : Nat) (x0 : Option Nat) (h : AH) : Option (Int32 × AH) :=
  (gR h f_Year_undone x0).bind fun v1 =>
  (gI h f_Year_undoMany x0).bind fun v2 =>
  (aR h v1 v2).bind fun v3 =>
  (gR h f_Year_was x0).bind fun v4 =>
  (F_X4_become N v3 v4 h).bind fun h5 =>
  (gI h5 f_Year_undoMany x0).bind fun v6 =>
  (pI h5 f_Year_undoMany x0 (v6 + (1 : Int32))).bind fun h7 =>
  (zb (1 : Int32)).bind fun v8 => some (v8, h7)
theorem wX1_done_62 {K : ZC} (O : ZOk K cX1_done RX1 "done" 3 (some .boolean) 4 113) (N : Nat) (x0 : Option Nat) (h : AH) (r : Int32 × AH) (hr : bX1_done_62 N x0 h = some r) : Zw K (eIH r) h 62 [(0, vr x0)] [] := by
  unfold bX1_done_62 at hr
  refine z_aload_n O 0 dX1_done_62 rfl rfl ?_
  refine z_getR O o_Year_undone q474 dX1_done_63 hr (fun v1 hr => ?_)
  refine z_aload_n O 0 dX1_done_66 rfl rfl ?_
  refine z_getI O o_Year_undoMany q468 dX1_done_67 hr (fun v2 hr => ?_)
  refine z_aaload O dX1_done_70 hr (fun v3 hr => ?_)
  refine z_aload_n O 0 dX1_done_71 rfl rfl ?_
  refine z_getR O o_Year_was q470 dX1_done_72 hr (fun v4 hr => ?_)
  refine bs hr (fun h5 hF hr => ?_)
  refine z_callVv O [vr v4] fV_X4_become q1199 (fun l G => mX4_become l G N v3 v4 h _ hF) (zck hF) rfl rfl ⟨Nat.le_of_ble_eq_true rfl, Nat.le_of_ble_eq_true rfl⟩ (Nat.le_of_ble_eq_true rfl) dX1_done_75 ?_
  refine z_aload_n O 0 dX1_done_78 rfl rfl ?_
  refine z_dup O dX1_done_79 rfl ?_
  refine z_getI O o_Year_undoMany q468 dX1_done_80 hr (fun v6 hr => ?_)
  refine z_iconst O dX1_done_83 kic_1 ?_
  refine z_iadd O dX1_done_84 ?_
  refine z_putI O o_Year_undoMany (w_Year_undoMany _) q468 dX1_done_85 hr (fun h7 hr => ?_)
  refine z_iconst O dX1_done_88 kic_1 ?_
  refine bs hr (fun v8 e0 hr => ?_)
  obtain ⟨e1, e2, -⟩ := zb_spec e0
  exact z_zret O e2 dX1_done_89 (by cases hr; cases e1; rfl)
def BX1_done_18 (N : Nat) (x0 : Option Nat) (x1 : Option Nat) (rec18 : Int32 → AH → Option (Int32 × AH)) : Int32 → AH → Option (Int32 × AH) := fun x2 h =>
  if (10 : Int32) ≤ x2 then
    (gR h f_Year_undone x0).bind fun v1 =>
    (sR h v1 (9 : Int32) x1).bind fun h2 =>
    (gI h2 f_Year_undoMany x0).bind fun v3 =>
    (pI h2 f_Year_undoMany x0 (v3 - (1 : Int32))).bind fun h4 =>
    bX1_done_62 N x0 h4
  else
    (gR h f_Year_undone x0).bind fun v5 =>
    (gR h f_Year_undone x0).bind fun v6 =>
    (aR h v6 x2).bind fun v7 =>
    (sR h v5 (x2 - (1 : Int32)) v7).bind fun h8 =>
    jlet (x2 + (1 : Int32)) fun v9 =>
    rec18 v9 h8
def LX1_done_18 (N : Nat) (x0 : Option Nat) (x1 : Option Nat) : Int32 → AH → Option (Int32 × AH) := lf (fun _ _ => none) (BX1_done_18 N x0 x1) N
theorem wX1_done_18B {K : ZC} (O : ZOk K cX1_done RX1 "done" 3 (some .boolean) 4 113) (N : Nat) (x0 : Option Nat) (x1 : Option Nat) (rec18 : Int32 → AH → Option (Int32 × AH)) (hrec18 : ∀ (y2 : Int32) (hy : AH) (ry : Int32 × AH), rec18 y2 hy = some ry → Zw K (eIH ry) hy 18 [(0, vr x0), (1, vr x1), (2, vi y2)] []) (x2 : Int32) (h : AH) (r : Int32 × AH) (hr : BX1_done_18 N x0 x1 rec18 x2 h = some r) : Zw K (eIH r) h 18 [(0, vr x0), (1, vr x1), (2, vi x2)] [] := by
  unfold BX1_done_18 at hr
  refine z_iload_n O 2 dX1_done_18 rfl rfl ?_
  refine z_bipush O dX1_done_19 kbi_10 ?_
  refine z_icmp_ge (tgt := 44) O dX1_done_21 (by decide) hr (fun hr => ?_) (fun hr => ?_)
  · refine z_aload_n O 0 dX1_done_44 rfl rfl ?_
    refine z_getR O o_Year_undone q474 dX1_done_45 hr (fun v1 hr => ?_)
    refine z_bipush O dX1_done_48 kbi_9 ?_
    refine z_aload_n O 1 dX1_done_50 rfl rfl ?_
    refine z_aastore O dX1_done_51 hr (fun h2 hr => ?_)
    refine z_aload_n O 0 dX1_done_52 rfl rfl ?_
    refine z_dup O dX1_done_53 rfl ?_
    refine z_getI O o_Year_undoMany q468 dX1_done_54 hr (fun v3 hr => ?_)
    refine z_iconst O dX1_done_57 kic_1 ?_
    refine z_isub O dX1_done_58 ?_
    refine z_putI O o_Year_undoMany (w_Year_undoMany _) q468 dX1_done_59 hr (fun h4 hr => ?_)
    refine z_sub [0] rfl ?_
    exact wX1_done_62 O N x0 h4 _ hr
  · refine z_aload_n O 0 dX1_done_24 rfl rfl ?_
    refine z_getR O o_Year_undone q474 dX1_done_25 hr (fun v5 hr => ?_)
    refine z_iload_n O 2 dX1_done_28 rfl rfl ?_
    refine z_iconst O dX1_done_29 kic_1 ?_
    refine z_isub O dX1_done_30 ?_
    refine z_aload_n O 0 dX1_done_31 rfl rfl ?_
    refine z_getR O o_Year_undone q474 dX1_done_32 hr (fun v6 hr => ?_)
    refine z_iload_n O 2 dX1_done_35 rfl rfl ?_
    refine z_aaload O dX1_done_36 hr (fun v7 hr => ?_)
    refine z_aastore O dX1_done_37 hr (fun h8 hr => ?_)
    refine z_iincL O 2 (fun v9 => [(2, vi v9), (0, vr x0), (1, vr x1)]) dX1_done_38 rfl rfl (by decide) (fun _ => rfl) hr (fun v9 hr => ?_)
    refine z_goto (tgt := 18) O dX1_done_41 (by decide) ?_
    refine z_sub [1, 2, 0] rfl ?_
    exact hrec18 v9 h8 _ hr
theorem wX1_done_18 {K : ZC} (O : ZOk K cX1_done RX1 "done" 3 (some .boolean) 4 113) (N : Nat) (x0 : Option Nat) (x1 : Option Nat) : ∀ (n : Nat) (x2 : Int32) (h : AH) (r : Int32 × AH), lf (fun _ _ => none) (BX1_done_18 N x0 x1) n x2 h = some r → Zw K (eIH r) h 18 [(0, vr x0), (1, vr x1), (2, vi x2)] [] := by
  intro n
  induction n with
  | zero => intro x2 h r hr; cases hr
  | succ n ih => intro x2 h r hr; exact wX1_done_18B O N x0 x1 (lf (fun _ _ => none) (BX1_done_18 N x0 x1) n)  ih x2 h r hr
def F_X1_done (N : Nat) (x0 : Option Nat) (h : AH) : Option (Int32 × AH) :=
  (ck h [1] x0).bind fun _ =>
  (gI h f_Year_undoMany x0).bind fun v1 =>
  if v1 = (10 : Int32) then
    (gR h f_Year_undone x0).bind fun v2 =>
    (aR h v2 (0 : Int32)).bind fun v3 =>
    LX1_done_18 N x0 v3 (1 : Int32) h
  else
    bX1_done_62 N x0 h
theorem mX1_done (l : Launch) (G : ZG) (N : Nat) (x0 : Option Nat) (h : AH) (r : Int32 × AH) (hr : F_X1_done N x0 h = some r) : MZ l G yX1_done cX1_done 3 (some .boolean) 4 113 [vr x0] h (eIH r) := by
  unfold F_X1_done at hr
  refine MZ.of (by decide) [(0, vr x0)] rfl (Nat.le_of_ble_eq_true rfl) (fun K O => ?_)
  have O : ZOk K cX1_done RX1 "done" 3 (some .boolean) 4 113 := O
  refine bs hr (fun _ hck hr => ?_)
  refine z_aload_n O 0 dX1_done_0 rfl rfl ?_
  refine z_getI O o_Year_undoMany q468 dX1_done_1 hr (fun v1 hr => ?_)
  refine z_bipush O dX1_done_4 kbi_10 ?_
  refine z_icmp_ne (tgt := 62) O dX1_done_6 (by decide) hr (fun hr => ?_) (fun hr => ?_)
  · refine z_aload_n O 0 dX1_done_9 rfl rfl ?_
    refine z_getR O o_Year_undone q474 dX1_done_10 hr (fun v2 hr => ?_)
    refine z_iconst O dX1_done_13 kic_0 ?_
    refine z_aaload O dX1_done_14 hr (fun v3 hr => ?_)
    refine z_astore_n O [(1, vr v3), (0, vr x0)] dX1_done_15 rfl (by decide) rfl ?_
    refine z_iconst O dX1_done_16 kic_1 ?_
    refine z_istore_n O [(2, vi (1 : Int32)), (1, vr v3), (0, vr x0)] dX1_done_17 rfl (by decide) rfl ?_
    refine z_sub [2, 1, 0] rfl ?_
    exact wX1_done_18 O N x0 v3 _ (1 : Int32) h _ hr
  · exact wX1_done_62 O N x0 h _ hr
theorem fV_X1_isStone : CVf RX1 yX1_isStone cX1_isStone 2 (some .boolean) 1 := ⟨q1355, qs41, q126, q1356, ⟨⟨by decide +kernel, by decide +kernel⟩, by decide +kernel⟩⟩
def F_X1_isStone (x0 : Option Nat) (x1 : Int32) (h : AH) : Option (Int32) :=
  (ck h [1] x0).bind fun _ =>
  (gR h f_Year_land x0).bind fun v1 =>
  if v1 = none then
    zb (0 : Int32)
  else
    (gR h f_Year_land x0).bind fun v2 =>
    (gI h f_Land_stoneMany v2).bind fun v3 =>
    (F_X1_within x1 (0 : Int32) (v3 - (1 : Int32))).bind fun v4 =>
    if v4 = 0 then
      zb (0 : Int32)
    else
      zb (1 : Int32)
theorem mX1_isStone (l : Launch) (G : ZG) (x0 : Option Nat) (x1 : Int32) (h : AH) (r : Int32) (hr : F_X1_isStone x0 x1 h = some r) : MZ l G yX1_isStone cX1_isStone 2 (some .boolean) 2 70 [vr x0, vi x1] h (eI h r) := by
  unfold F_X1_isStone at hr
  refine MZ.of (by decide) [(0, vr x0), (1, vi x1)] rfl (Nat.le_of_ble_eq_true rfl) (fun K O => ?_)
  have O : ZOk K cX1_isStone RX1 "isStone" 2 (some .boolean) 2 70 := O
  refine bs hr (fun _ hck hr => ?_)
  refine z_aload_n O 0 dX1_isStone_0 rfl rfl ?_
  refine z_getR O o_Year_land q463 dX1_isStone_1 hr (fun v1 hr => ?_)
  refine z_ifnull (tgt := 28) O dX1_isStone_4 (by decide) hr (fun hr => ?_) (fun hr => ?_)
  · refine z_iconst O dX1_isStone_28 kic_0 ?_
    obtain ⟨e1, e2, -⟩ := zb_spec hr
    exact z_zret O e2 dX1_isStone_29 (by cases e1; rfl)
  · refine z_iload_n O 1 dX1_isStone_7 rfl rfl ?_
    refine z_iconst O dX1_isStone_8 kic_0 ?_
    refine z_aload_n O 0 dX1_isStone_9 rfl rfl ?_
    refine z_getR O o_Year_land q463 dX1_isStone_10 hr (fun v2 hr => ?_)
    refine z_getI O o_Land_stoneMany q596 dX1_isStone_13 hr (fun v3 hr => ?_)
    refine z_iconst O dX1_isStone_16 kic_1 ?_
    refine z_isub O dX1_isStone_17 ?_
    refine bs hr (fun v4 hF hr => ?_)
    refine z_callS O [vi x1, vi (0 : Int32), vi (v3 - (1 : Int32))] (vi v4) fS_X1_within q532 (fun l G => mX1_within l G x1 (0 : Int32) (v3 - (1 : Int32)) h _ hF) rfl ⟨Nat.le_of_ble_eq_true rfl, Nat.le_of_ble_eq_true rfl⟩ (Nat.le_of_ble_eq_true rfl) dX1_isStone_18 ?_
    refine z_if_eq (tgt := 28) O dX1_isStone_21 (by decide) hr (fun hr => ?_) (fun hr => ?_)
    · refine z_iconst O dX1_isStone_28 kic_0 ?_
      obtain ⟨e1, e2, -⟩ := zb_spec hr
      exact z_zret O e2 dX1_isStone_29 (by cases e1; rfl)
    · refine z_iconst O dX1_isStone_24 kic_1 ?_
      refine z_goto (tgt := 29) O dX1_isStone_25 (by decide) ?_
      obtain ⟨e1, e2, -⟩ := zb_spec hr
      exact z_zret O e2 dX1_isStone_29 (by cases e1; rfl)
theorem fV_X1_note : CVf RX1 yX1_note cX1_note 1 (none : Option Jvm.ClassFile.FieldType) 0 := ⟨q1650, qs58, q126, q1651, ⟨⟨by decide +kernel, by decide +kernel⟩, by decide +kernel⟩⟩
def F_X1_note (N : Nat) (x0 : Option Nat) (h : AH) : Option (AH) :=
  (ck h [1] x0).bind fun _ =>
  (gR h f_Year_was x0).bind fun v1 =>
  (gR h f_Year_village x0).bind fun v2 =>
  (F_X4_become N v1 v2 h).bind fun h3 =>
  some h3
theorem mX1_note (l : Launch) (G : ZG) (N : Nat) (x0 : Option Nat) (h : AH) (r : AH) (hr : F_X1_note N x0 h = some r) : MZ l G yX1_note cX1_note 1 (none : Option Jvm.ClassFile.FieldType) 4 113 [vr x0] h (eH r) := by
  unfold F_X1_note at hr
  refine MZ.of (by decide) [(0, vr x0)] rfl (Nat.le_of_ble_eq_true rfl) (fun K O => ?_)
  have O : ZOk K cX1_note RX1 "note" 1 (none : Option Jvm.ClassFile.FieldType) 4 113 := O
  refine bs hr (fun _ hck hr => ?_)
  refine z_aload_n O 0 dX1_note_0 rfl rfl ?_
  refine z_getR O o_Year_was q470 dX1_note_1 hr (fun v1 hr => ?_)
  refine z_aload_n O 0 dX1_note_4 rfl rfl ?_
  refine z_getR O o_Year_village q469 dX1_note_5 hr (fun v2 hr => ?_)
  refine bs hr (fun h3 hF hr => ?_)
  refine z_callVv O [vr v2] fV_X4_become q1199 (fun l G => mX4_become l G N v1 v2 h _ hF) (zck hF) rfl rfl ⟨Nat.le_of_ble_eq_true rfl, Nat.le_of_ble_eq_true rfl⟩ (Nat.le_of_ble_eq_true rfl) dX1_note_8 ?_
  exact z_vret O dX1_note_11 (by cases hr; rfl)
theorem fV_X4_isFree : CVf RX4 yX4_isFree cX4_isFree 7 (some .boolean) 3 := ⟨q1329, qs40, q132, q1330, ⟨⟨by decide +kernel, by decide +kernel⟩, by decide +kernel⟩⟩
def F_X4_isFree (N : Nat) (x0 : Option Nat) (x1 : Option Nat) (x2 : Int32) (x3 : Int32) (h : AH) : Option (Int32) :=
  (ck h [4] x0).bind fun _ =>
  (F_X17_front x2 x3).bind fun v1 =>
  (gR h f_House_site x1).bind fun v2 =>
  (gI h f_Site_x v2).bind fun v3 =>
  (F_X17_x (x2 + (1 : Int32)) v1).bind fun v4 =>
  jlet (v3 + v4) fun v5 =>
  (gR h f_House_site x1).bind fun v6 =>
  (gI h f_Site_y v6).bind fun v7 =>
  (F_X17_y (x2 + (1 : Int32)) v1).bind fun v8 =>
  jlet (v7 + v8) fun v9 =>
  (gR h f_Village_land x0).bind fun v10 =>
  (F_X10_isGround N v10 v5 v9 h).bind fun v11 =>
  if v11 = 0 then
    zb (0 : Int32)
  else
    (F_X4_whose N x0 v5 v9 h).bind fun v12 =>
    if v12 = 0 then
      zb (1 : Int32)
    else
      zb (0 : Int32)
theorem mX4_isFree (l : Launch) (G : ZG) (N : Nat) (x0 : Option Nat) (x1 : Option Nat) (x2 : Int32) (x3 : Int32) (h : AH) (r : Int32) (hr : F_X4_isFree N x0 x1 x2 x3 h = some r) : MZ l G yX4_isFree cX4_isFree 7 (some .boolean) 4 116 [vr x0, vr x1, vi x2, vi x3] h (eI h r) := by
  unfold F_X4_isFree at hr
  refine MZ.of (by decide) [(0, vr x0), (1, vr x1), (2, vi x2), (3, vi x3)] rfl (Nat.le_of_ble_eq_true rfl) (fun K O => ?_)
  have O : ZOk K cX4_isFree RX4 "isFree" 7 (some .boolean) 4 116 := O
  refine bs hr (fun _ hck hr => ?_)
  refine z_iload_n O 2 dX4_isFree_0 rfl rfl ?_
  refine z_iload_n O 3 dX4_isFree_1 rfl rfl ?_
  refine bs hr (fun v1 hF hr => ?_)
  refine z_callS O [vi x2, vi x3] (vi v1) fS_X17_front q1264 (fun l G => mX17_front l G x2 x3 h _ hF) rfl ⟨Nat.le_of_ble_eq_true rfl, Nat.le_of_ble_eq_true rfl⟩ (Nat.le_of_ble_eq_true rfl) dX4_isFree_2 ?_
  refine z_istore O [(4, vi v1), (0, vr x0), (1, vr x1), (2, vi x2), (3, vi x3)] dX4_isFree_5 (by decide) rfl ?_
  refine z_aload_n O 2 dX4_isFree_7 rfl rfl ?_
  refine z_getR O o_House_site q309 dX4_isFree_8 hr (fun v2 hr => ?_)
  refine z_getI O o_Site_x q1020 dX4_isFree_11 hr (fun v3 hr => ?_)
  refine z_iload_n O 3 dX4_isFree_14 rfl rfl ?_
  refine z_iconst O dX4_isFree_15 kic_1 ?_
  refine z_iadd O dX4_isFree_16 ?_
  refine z_iload O 0 dX4_isFree_17 rfl ?_
  refine bs hr (fun v4 hF hr => ?_)
  refine z_callS O [vi (x2 + (1 : Int32)), vi v1] (vi v4) fS_X17_x q1094 (fun l G => mX17_x l G (x2 + (1 : Int32)) v1 h _ hF) rfl ⟨Nat.le_of_ble_eq_true rfl, Nat.le_of_ble_eq_true rfl⟩ (Nat.le_of_ble_eq_true rfl) dX4_isFree_19 ?_
  refine z_iadd O dX4_isFree_22 ?_
  refine z_letI hr (fun v5 hr => ?_)
  refine z_istore O [(5, vi v5), (4, vi v1), (0, vr x0), (1, vr x1), (2, vi x2), (3, vi x3)] dX4_isFree_23 (by decide) rfl ?_
  refine z_aload_n O 3 dX4_isFree_25 rfl rfl ?_
  refine z_getR O o_House_site q309 dX4_isFree_26 hr (fun v6 hr => ?_)
  refine z_getI O o_Site_y q1024 dX4_isFree_29 hr (fun v7 hr => ?_)
  refine z_iload_n O 4 dX4_isFree_32 rfl rfl ?_
  refine z_iconst O dX4_isFree_33 kic_1 ?_
  refine z_iadd O dX4_isFree_34 ?_
  refine z_iload O 1 dX4_isFree_35 rfl ?_
  refine bs hr (fun v8 hF hr => ?_)
  refine z_callS O [vi (x2 + (1 : Int32)), vi v1] (vi v8) fS_X17_y q1097 (fun l G => mX17_y l G (x2 + (1 : Int32)) v1 h _ hF) rfl ⟨Nat.le_of_ble_eq_true rfl, Nat.le_of_ble_eq_true rfl⟩ (Nat.le_of_ble_eq_true rfl) dX4_isFree_37 ?_
  refine z_iadd O dX4_isFree_40 ?_
  refine z_letI hr (fun v9 hr => ?_)
  refine z_istore O [(6, vi v9), (5, vi v5), (4, vi v1), (0, vr x0), (1, vr x1), (2, vi x2), (3, vi x3)] dX4_isFree_41 (by decide) rfl ?_
  refine z_aload_n O 3 dX4_isFree_43 rfl rfl ?_
  refine z_getR O o_Village_land q344 dX4_isFree_44 hr (fun v10 hr => ?_)
  refine z_iload O 1 dX4_isFree_47 rfl ?_
  refine z_iload O 0 dX4_isFree_49 rfl ?_
  refine bs hr (fun v11 hF hr => ?_)
  refine z_callV O [vi v5, vi v9] (vi v11) fV_X10_isGround q1104 (fun l G => mX10_isGround l G N v10 v5 v9 h _ hF) (zck hF) rfl rfl ⟨Nat.le_of_ble_eq_true rfl, Nat.le_of_ble_eq_true rfl⟩ (Nat.le_of_ble_eq_true rfl) dX4_isFree_51 ?_
  refine z_if_eq (tgt := 72) O dX4_isFree_54 (by decide) hr (fun hr => ?_) (fun hr => ?_)
  · refine z_iconst O dX4_isFree_72 kic_0 ?_
    obtain ⟨e1, e2, -⟩ := zb_spec hr
    exact z_zret O e2 dX4_isFree_73 (by cases e1; rfl)
  · refine z_aload_n O 3 dX4_isFree_57 rfl rfl ?_
    refine z_iload O 1 dX4_isFree_58 rfl ?_
    refine z_iload O 0 dX4_isFree_60 rfl ?_
    refine bs hr (fun v12 hF hr => ?_)
    refine z_callV O [vi v5, vi v9] (vi v12) fV_X4_whose q1269 (fun l G => mX4_whose l G N x0 v5 v9 h _ hF) (zck hF) rfl rfl ⟨Nat.le_of_ble_eq_true rfl, Nat.le_of_ble_eq_true rfl⟩ (Nat.le_of_ble_eq_true rfl) dX4_isFree_62 ?_
    refine z_if_ne (tgt := 72) O dX4_isFree_65 (by decide) hr (fun hr => ?_) (fun hr => ?_)
    · refine z_iconst O dX4_isFree_68 kic_1 ?_
      refine z_goto (tgt := 73) O dX4_isFree_69 (by decide) ?_
      obtain ⟨e1, e2, -⟩ := zb_spec hr
      exact z_zret O e2 dX4_isFree_73 (by cases e1; rfl)
    · refine z_iconst O dX4_isFree_72 kic_0 ?_
      obtain ⟨e1, e2, -⟩ := zb_spec hr
      exact z_zret O e2 dX4_isFree_73 (by cases e1; rfl)
theorem fV_X4_canDoor : CVf RX4 yX4_canDoor cX4_canDoor 5 (some .boolean) 3 := ⟨q1323, q1324, q132, q1325, ⟨⟨by decide +kernel, by decide +kernel⟩, by decide +kernel⟩⟩
def F_X4_canDoor (N : Nat) (x0 : Option Nat) (x1 : Int32) (x2 : Int32) (x3 : Int32) (h : AH) : Option (Int32) :=
  (ck h [4] x0).bind fun _ =>
  (gR h f_Village_houses x0).bind fun v1 =>
  (aR h v1 x1).bind fun v2 =>
  (gI h f_House_many v2).bind fun v3 =>
  jlet (v3 + (1 : Int32)) fun v4 =>
  (gR h f_Village_houses x0).bind fun v5 =>
  (aR h v5 x1).bind fun v6 =>
  (F_X17_door v4 x2 x3).bind fun v7 =>
  (F_X4_isFree N x0 v6 v4 v7 h).bind fun v8 =>
  zb v8
theorem mX4_canDoor (l : Launch) (G : ZG) (N : Nat) (x0 : Option Nat) (x1 : Int32) (x2 : Int32) (x3 : Int32) (h : AH) (r : Int32) (hr : F_X4_canDoor N x0 x1 x2 x3 h = some r) : MZ l G yX4_canDoor cX4_canDoor 5 (some .boolean) 5 142 [vr x0, vi x1, vi x2, vi x3] h (eI h r) := by
  unfold F_X4_canDoor at hr
  refine MZ.of (by decide) [(0, vr x0), (1, vi x1), (2, vi x2), (3, vi x3)] rfl (Nat.le_of_ble_eq_true rfl) (fun K O => ?_)
  have O : ZOk K cX4_canDoor RX4 "canDoor" 5 (some .boolean) 5 142 := O
  refine bs hr (fun _ hck hr => ?_)
  refine z_aload_n O 0 dX4_canDoor_0 rfl rfl ?_
  refine z_getR O o_Village_houses q337 dX4_canDoor_1 hr (fun v1 hr => ?_)
  refine z_iload_n O 1 dX4_canDoor_4 rfl rfl ?_
  refine z_aaload O dX4_canDoor_5 hr (fun v2 hr => ?_)
  refine z_getI O o_House_many q313 dX4_canDoor_6 hr (fun v3 hr => ?_)
  refine z_iconst O dX4_canDoor_9 kic_1 ?_
  refine z_iadd O dX4_canDoor_10 ?_
  refine z_letI hr (fun v4 hr => ?_)
  refine z_istore O [(4, vi v4), (0, vr x0), (1, vi x1), (2, vi x2), (3, vi x3)] dX4_canDoor_11 (by decide) rfl ?_
  refine z_aload_n O 1 dX4_canDoor_13 rfl rfl ?_
  refine z_aload_n O 1 dX4_canDoor_14 rfl rfl ?_
  refine z_getR O o_Village_houses q337 dX4_canDoor_15 hr (fun v5 hr => ?_)
  refine z_iload_n O 2 dX4_canDoor_18 rfl rfl ?_
  refine z_aaload O dX4_canDoor_19 hr (fun v6 hr => ?_)
  refine z_iload O 0 dX4_canDoor_20 rfl ?_
  refine z_iload O 0 dX4_canDoor_22 rfl ?_
  refine z_iload_n O 3 dX4_canDoor_24 rfl rfl ?_
  refine z_iload_n O 4 dX4_canDoor_25 rfl rfl ?_
  refine bs hr (fun v7 hF hr => ?_)
  refine z_callS O [vi v4, vi x2, vi x3] (vi v7) fS_X17_door q1326 (fun l G => mX17_door l G v4 x2 x3 h _ hF) rfl ⟨Nat.le_of_ble_eq_true rfl, Nat.le_of_ble_eq_true rfl⟩ (Nat.le_of_ble_eq_true rfl) dX4_canDoor_26 ?_
  refine bs hr (fun v8 hF hr => ?_)
  refine z_callV O [vr v6, vi v4, vi v7] (vi v8) fV_X4_isFree q1327 (fun l G => mX4_isFree l G N x0 v6 v4 v7 h _ hF) (zck hF) rfl rfl ⟨Nat.le_of_ble_eq_true rfl, Nat.le_of_ble_eq_true rfl⟩ (Nat.le_of_ble_eq_true rfl) dX4_canDoor_29 ?_
  obtain ⟨e1, e2, -⟩ := zb_spec hr
  exact z_zret O e2 dX4_canDoor_32 (by cases e1; rfl)
theorem fV_X5_isOutermost : CVf RX5 yX5_isOutermost cX5_isOutermost 3 (some .boolean) 2 := ⟨q1115, q1116, q133, q1117, ⟨⟨by decide +kernel, by decide +kernel⟩, by decide +kernel⟩⟩
def F_X5_isOutermost (x0 : Option Nat) (x1 : Int32) (x2 : Int32) (h : AH) : Option (Int32) :=
  (ck h [5] x0).bind fun _ =>
  (gI h f_House_many x0).bind fun v1 =>
  if v1 ≤ 0 then
    zb (0 : Int32)
  else
    (F_X5_far x0 x1 x2 h).bind fun v2 =>
    (gI h f_House_many x0).bind fun v3 =>
    if v2 = v3 then
      zb (1 : Int32)
    else
      zb (0 : Int32)
theorem mX5_isOutermost (l : Launch) (G : ZG) (x0 : Option Nat) (x1 : Int32) (x2 : Int32) (h : AH) (r : Int32) (hr : F_X5_isOutermost x0 x1 x2 h = some r) : MZ l G yX5_isOutermost cX5_isOutermost 3 (some .boolean) 2 70 [vr x0, vi x1, vi x2] h (eI h r) := by
  unfold F_X5_isOutermost at hr
  refine MZ.of (by decide) [(0, vr x0), (1, vi x1), (2, vi x2)] rfl (Nat.le_of_ble_eq_true rfl) (fun K O => ?_)
  have O : ZOk K cX5_isOutermost RX5 "isOutermost" 3 (some .boolean) 2 70 := O
  refine bs hr (fun _ hck hr => ?_)
  refine z_aload_n O 0 dX5_isOutermost_0 rfl rfl ?_
  refine z_getI O o_House_many q311 dX5_isOutermost_1 hr (fun v1 hr => ?_)
  refine z_if_le (tgt := 24) O dX5_isOutermost_4 (by decide) hr (fun hr => ?_) (fun hr => ?_)
  · refine z_iconst O dX5_isOutermost_24 kic_0 ?_
    obtain ⟨e1, e2, -⟩ := zb_spec hr
    exact z_zret O e2 dX5_isOutermost_25 (by cases e1; rfl)
  · refine z_aload_n O 0 dX5_isOutermost_7 rfl rfl ?_
    refine z_iload_n O 1 dX5_isOutermost_8 rfl rfl ?_
    refine z_iload_n O 2 dX5_isOutermost_9 rfl rfl ?_
    refine bs hr (fun v2 hF hr => ?_)
    refine z_callV O [vi x1, vi x2] (vi v2) fV_X5_far q1048 (fun l G => mX5_far l G x0 x1 x2 h _ hF) (zck hF) rfl rfl ⟨Nat.le_of_ble_eq_true rfl, Nat.le_of_ble_eq_true rfl⟩ (Nat.le_of_ble_eq_true rfl) dX5_isOutermost_10 ?_
    refine z_aload_n O 0 dX5_isOutermost_13 rfl rfl ?_
    refine z_getI O o_House_many q311 dX5_isOutermost_14 hr (fun v3 hr => ?_)
    refine z_icmp_ne (tgt := 24) O dX5_isOutermost_17 (by decide) hr (fun hr => ?_) (fun hr => ?_)
    · refine z_iconst O dX5_isOutermost_20 kic_1 ?_
      refine z_goto (tgt := 25) O dX5_isOutermost_21 (by decide) ?_
      obtain ⟨e1, e2, -⟩ := zb_spec hr
      exact z_zret O e2 dX5_isOutermost_25 (by cases e1; rfl)
    · refine z_iconst O dX5_isOutermost_24 kic_0 ?_
      obtain ⟨e1, e2, -⟩ := zb_spec hr
      exact z_zret O e2 dX5_isOutermost_25 (by cases e1; rfl)
theorem fV_X4_canHave : CVf RX4 yX4_canHave cX4_canHave 5 (some .boolean) 3 := ⟨q1102, qs28, q132, q1103, ⟨⟨by decide +kernel, by decide +kernel⟩, by decide +kernel⟩⟩
def BX4_canHave_17 (N : Nat) (x0 : Option Nat) (x1 : Int32) (x2 : Int32) (x3 : Int32) (h : AH) (rec17 : Int32 → Option (Int32)) : Int32 → Option (Int32) := fun x4 =>
  (gI h f_Village_many x0).bind fun v1 =>
  if v1 ≤ x4 then
    zb (1 : Int32)
  else
    if x4 = x1 then
      jlet (x4 + (1 : Int32)) fun v2 =>
      rec17 v2
    else
      (gR h f_Village_houses x0).bind fun v3 =>
      (aR h v3 x4).bind fun v4 =>
      (F_X5_has v4 x2 x3 h).bind fun v5 =>
      if v5 = 0 then
        jlet (x4 + (1 : Int32)) fun v6 =>
        rec17 v6
      else
        (gR h f_Village_land x0).bind fun v7 =>
        (gI h f_Land_share v7).bind fun v8 =>
        if v8 = 0 then
          zb (0 : Int32)
        else
          (gR h f_Village_houses x0).bind fun v9 =>
          (aR h v9 x4).bind fun v10 =>
          (F_X5_isOutermost v10 x2 x3 h).bind fun v11 =>
          if v11 = 0 then
            zb (0 : Int32)
          else
            jlet (x4 + (1 : Int32)) fun v12 =>
            rec17 v12
def LX4_canHave_17 (N : Nat) (x0 : Option Nat) (x1 : Int32) (x2 : Int32) (x3 : Int32) (h : AH) : Int32 → Option (Int32) := lf (fun _ => none) (BX4_canHave_17 N x0 x1 x2 x3 h) N
theorem wX4_canHave_17B {K : ZC} (O : ZOk K cX4_canHave RX4 "canHave" 5 (some .boolean) 4 114) (N : Nat) (x0 : Option Nat) (x1 : Int32) (x2 : Int32) (x3 : Int32) (h : AH) (rec17 : Int32 → Option (Int32)) (hrec17 : ∀ (y4 : Int32) (ry : Int32), rec17 y4 = some ry → Zw K (eI h ry) h 17 [(0, vr x0), (1, vi x1), (2, vi x2), (3, vi x3), (4, vi y4)] []) (x4 : Int32) (r : Int32) (hr : BX4_canHave_17 N x0 x1 x2 x3 h rec17 x4 = some r) : Zw K (eI h r) h 17 [(0, vr x0), (1, vi x1), (2, vi x2), (3, vi x3), (4, vi x4)] [] := by
  unfold BX4_canHave_17 at hr
  refine z_iload O 4 dX4_canHave_17 rfl ?_
  refine z_aload_n O 0 dX4_canHave_19 rfl rfl ?_
  refine z_getI O o_Village_many q345 dX4_canHave_20 hr (fun v1 hr => ?_)
  refine z_icmp_ge (tgt := 80) O dX4_canHave_23 (by decide) hr (fun hr => ?_) (fun hr => ?_)
  · refine z_iconst O dX4_canHave_80 kic_1 ?_
    obtain ⟨e1, e2, -⟩ := zb_spec hr
    exact z_zret O e2 dX4_canHave_81 (by cases e1; rfl)
  · refine z_iload O 4 dX4_canHave_26 rfl ?_
    refine z_iload_n O 1 dX4_canHave_28 rfl rfl ?_
    refine z_icmp_eq (tgt := 74) O dX4_canHave_29 (by decide) hr (fun hr => ?_) (fun hr => ?_)
    · refine z_iincL O 4 (fun v2 => [(4, vi v2), (0, vr x0), (1, vi x1), (2, vi x2), (3, vi x3)]) dX4_canHave_74 rfl rfl (by decide) (fun _ => rfl) hr (fun v2 hr => ?_)
      refine z_goto (tgt := 17) O dX4_canHave_77 (by decide) ?_
      refine z_sub [1, 2, 3, 4, 0] rfl ?_
      exact hrec17 v2 _ hr
    · refine z_aload_n O 0 dX4_canHave_32 rfl rfl ?_
      refine z_getR O o_Village_houses q337 dX4_canHave_33 hr (fun v3 hr => ?_)
      refine z_iload O 4 dX4_canHave_36 rfl ?_
      refine z_aaload O dX4_canHave_38 hr (fun v4 hr => ?_)
      refine z_iload_n O 2 dX4_canHave_39 rfl rfl ?_
      refine z_iload_n O 3 dX4_canHave_40 rfl rfl ?_
      refine bs hr (fun v5 hF hr => ?_)
      refine z_callV O [vi x2, vi x3] (vi v5) fV_X5_has q1044 (fun l G => mX5_has l G v4 x2 x3 h _ hF) (zck hF) rfl rfl ⟨Nat.le_of_ble_eq_true rfl, Nat.le_of_ble_eq_true rfl⟩ (Nat.le_of_ble_eq_true rfl) dX4_canHave_41 ?_
      refine z_if_eq (tgt := 74) O dX4_canHave_44 (by decide) hr (fun hr => ?_) (fun hr => ?_)
      · refine z_iincL O 4 (fun v6 => [(4, vi v6), (0, vr x0), (1, vi x1), (2, vi x2), (3, vi x3)]) dX4_canHave_74 rfl rfl (by decide) (fun _ => rfl) hr (fun v6 hr => ?_)
        refine z_goto (tgt := 17) O dX4_canHave_77 (by decide) ?_
        refine z_sub [1, 2, 3, 4, 0] rfl ?_
        exact hrec17 v6 _ hr
      · refine z_aload_n O 0 dX4_canHave_47 rfl rfl ?_
        refine z_getR O o_Village_land q344 dX4_canHave_48 hr (fun v7 hr => ?_)
        refine z_getI O o_Land_share q615 dX4_canHave_51 hr (fun v8 hr => ?_)
        refine z_if_eq (tgt := 72) O dX4_canHave_54 (by decide) hr (fun hr => ?_) (fun hr => ?_)
        · refine z_iconst O dX4_canHave_72 kic_0 ?_
          obtain ⟨e1, e2, -⟩ := zb_spec hr
          exact z_zret O e2 dX4_canHave_73 (by cases e1; rfl)
        · refine z_aload_n O 0 dX4_canHave_57 rfl rfl ?_
          refine z_getR O o_Village_houses q337 dX4_canHave_58 hr (fun v9 hr => ?_)
          refine z_iload O 4 dX4_canHave_61 rfl ?_
          refine z_aaload O dX4_canHave_63 hr (fun v10 hr => ?_)
          refine z_iload_n O 2 dX4_canHave_64 rfl rfl ?_
          refine z_iload_n O 3 dX4_canHave_65 rfl rfl ?_
          refine bs hr (fun v11 hF hr => ?_)
          refine z_callV O [vi x2, vi x3] (vi v11) fV_X5_isOutermost q1114 (fun l G => mX5_isOutermost l G v10 x2 x3 h _ hF) (zck hF) rfl rfl ⟨Nat.le_of_ble_eq_true rfl, Nat.le_of_ble_eq_true rfl⟩ (Nat.le_of_ble_eq_true rfl) dX4_canHave_66 ?_
          refine z_if_ne (tgt := 74) O dX4_canHave_69 (by decide) hr (fun hr => ?_) (fun hr => ?_)
          · refine z_iconst O dX4_canHave_72 kic_0 ?_
            obtain ⟨e1, e2, -⟩ := zb_spec hr
            exact z_zret O e2 dX4_canHave_73 (by cases e1; rfl)
          · refine z_iincL O 4 (fun v12 => [(4, vi v12), (0, vr x0), (1, vi x1), (2, vi x2), (3, vi x3)]) dX4_canHave_74 rfl rfl (by decide) (fun _ => rfl) hr (fun v12 hr => ?_)
            refine z_goto (tgt := 17) O dX4_canHave_77 (by decide) ?_
            refine z_sub [1, 2, 3, 4, 0] rfl ?_
            exact hrec17 v12 _ hr
theorem wX4_canHave_17 {K : ZC} (O : ZOk K cX4_canHave RX4 "canHave" 5 (some .boolean) 4 114) (N : Nat) (x0 : Option Nat) (x1 : Int32) (x2 : Int32) (x3 : Int32) (h : AH) : ∀ (n : Nat) (x4 : Int32) (r : Int32), lf (fun _ => none) (BX4_canHave_17 N x0 x1 x2 x3 h) n x4 = some r → Zw K (eI h r) h 17 [(0, vr x0), (1, vi x1), (2, vi x2), (3, vi x3), (4, vi x4)] [] := by
  intro n
  induction n with
  | zero => intro x4 r hr; cases hr
  | succ n ih => intro x4 r hr; exact wX4_canHave_17B O N x0 x1 x2 x3 h (lf (fun _ => none) (BX4_canHave_17 N x0 x1 x2 x3 h) n)  ih x4 r hr
def F_X4_canHave (N : Nat) (x0 : Option Nat) (x1 : Int32) (x2 : Int32) (x3 : Int32) (h : AH) : Option (Int32) :=
  (ck h [4] x0).bind fun _ =>
  (gR h f_Village_land x0).bind fun v1 =>
  (F_X10_isGround N v1 x2 x3 h).bind fun v2 =>
  if v2 = 0 then
    zb (0 : Int32)
  else
    LX4_canHave_17 N x0 x1 x2 x3 h (0 : Int32)
theorem mX4_canHave (l : Launch) (G : ZG) (N : Nat) (x0 : Option Nat) (x1 : Int32) (x2 : Int32) (x3 : Int32) (h : AH) (r : Int32) (hr : F_X4_canHave N x0 x1 x2 x3 h = some r) : MZ l G yX4_canHave cX4_canHave 5 (some .boolean) 4 114 [vr x0, vi x1, vi x2, vi x3] h (eI h r) := by
  unfold F_X4_canHave at hr
  refine MZ.of (by decide) [(0, vr x0), (1, vi x1), (2, vi x2), (3, vi x3)] rfl (Nat.le_of_ble_eq_true rfl) (fun K O => ?_)
  have O : ZOk K cX4_canHave RX4 "canHave" 5 (some .boolean) 4 114 := O
  refine bs hr (fun _ hck hr => ?_)
  refine z_aload_n O 0 dX4_canHave_0 rfl rfl ?_
  refine z_getR O o_Village_land q344 dX4_canHave_1 hr (fun v1 hr => ?_)
  refine z_iload_n O 2 dX4_canHave_4 rfl rfl ?_
  refine z_iload_n O 3 dX4_canHave_5 rfl rfl ?_
  refine bs hr (fun v2 hF hr => ?_)
  refine z_callV O [vi x2, vi x3] (vi v2) fV_X10_isGround q1104 (fun l G => mX10_isGround l G N v1 x2 x3 h _ hF) (zck hF) rfl rfl ⟨Nat.le_of_ble_eq_true rfl, Nat.le_of_ble_eq_true rfl⟩ (Nat.le_of_ble_eq_true rfl) dX4_canHave_6 ?_
  refine z_if_ne (tgt := 14) O dX4_canHave_9 (by decide) hr (fun hr => ?_) (fun hr => ?_)
  · refine z_iconst O dX4_canHave_12 kic_0 ?_
    obtain ⟨e1, e2, -⟩ := zb_spec hr
    exact z_zret O e2 dX4_canHave_13 (by cases e1; rfl)
  · refine z_iconst O dX4_canHave_14 kic_0 ?_
    refine z_istore O [(4, vi (0 : Int32)), (0, vr x0), (1, vi x1), (2, vi x2), (3, vi x3)] dX4_canHave_15 (by decide) rfl ?_
    refine z_sub [1, 2, 3, 4, 0] rfl ?_
    exact wX4_canHave_17 O N x0 x1 x2 x3 h _ (0 : Int32) _ hr
theorem fV_X4_fits : CVf RX4 yX4_fits cX4_fits 6 (some .boolean) 1 := ⟨q1091, q1092, q132, q1093, ⟨⟨by decide +kernel, by decide +kernel⟩, by decide +kernel⟩⟩
def BX4_fits_30 (N : Nat) (x0 : Option Nat) (x1 : Int32) (x2 : Option Nat) (x3 : Int32) (h : AH) (rec30 : Int32 → Int32 → Option (Int32)) : Int32 → Int32 → Option (Int32) := fun x4 x5 =>
  if ((8 : Int32) * x3) ≤ x5 then
    zb x4
  else
    if x4 = 0 then
      zb x4
    else
      (gR h f_House_site x2).bind fun v1 =>
      (gI h f_Site_x v1).bind fun v2 =>
      (F_X17_x x3 x5).bind fun v3 =>
      (gR h f_House_site x2).bind fun v4 =>
      (gI h f_Site_y v4).bind fun v5 =>
      (F_X17_y x3 x5).bind fun v6 =>
      (F_X4_canHave N x0 x1 (v2 + v3) (v5 + v6) h).bind fun v7 =>
      jlet (x5 + (1 : Int32)) fun v8 =>
      rec30 v7 v8
def LX4_fits_30 (N : Nat) (x0 : Option Nat) (x1 : Int32) (x2 : Option Nat) (x3 : Int32) (h : AH) : Int32 → Int32 → Option (Int32) := lf (fun _ _ => none) (BX4_fits_30 N x0 x1 x2 x3 h) N
theorem wX4_fits_30B {K : ZC} (O : ZOk K cX4_fits RX4 "fits" 6 (some .boolean) 5 138) (N : Nat) (x0 : Option Nat) (x1 : Int32) (x2 : Option Nat) (x3 : Int32) (h : AH) (rec30 : Int32 → Int32 → Option (Int32)) (hrec30 : ∀ (y4 : Int32) (y5 : Int32) (ry : Int32), rec30 y4 y5 = some ry → Zw K (eI h ry) h 30 [(0, vr x0), (1, vi x1), (2, vr x2), (3, vi x3), (4, vi y4), (5, vi y5)] []) (x4 : Int32) (x5 : Int32) (r : Int32) (hr : BX4_fits_30 N x0 x1 x2 x3 h rec30 x4 x5 = some r) : Zw K (eI h r) h 30 [(0, vr x0), (1, vi x1), (2, vr x2), (3, vi x3), (4, vi x4), (5, vi x5)] [] := by
  unfold BX4_fits_30 at hr
  refine z_iload O 5 dX4_fits_30 rfl ?_
  refine z_bipush O dX4_fits_32 kbi_8 ?_
  refine z_iload_n O 3 dX4_fits_34 rfl rfl ?_
  refine z_imul O dX4_fits_35 ?_
  refine z_icmp_ge (tgt := 85) O dX4_fits_36 (by decide) hr (fun hr => ?_) (fun hr => ?_)
  · refine z_iload O 4 dX4_fits_85 rfl ?_
    obtain ⟨e1, e2, -⟩ := zb_spec hr
    exact z_zret O e2 dX4_fits_87 (by cases e1; rfl)
  · refine z_iload O 4 dX4_fits_39 rfl ?_
    refine z_if_eq (tgt := 85) O dX4_fits_41 (by decide) hr (fun hr => ?_) (fun hr => ?_)
    · refine z_iload O 4 dX4_fits_85 rfl ?_
      obtain ⟨e1, e2, -⟩ := zb_spec hr
      exact z_zret O e2 dX4_fits_87 (by cases e1; rfl)
    · refine z_aload_n O 0 dX4_fits_44 rfl rfl ?_
      refine z_iload_n O 1 dX4_fits_45 rfl rfl ?_
      refine z_aload_n O 2 dX4_fits_46 rfl rfl ?_
      refine z_getR O o_House_site q309 dX4_fits_47 hr (fun v1 hr => ?_)
      refine z_getI O o_Site_x q1020 dX4_fits_50 hr (fun v2 hr => ?_)
      refine z_iload_n O 3 dX4_fits_53 rfl rfl ?_
      refine z_iload O 5 dX4_fits_54 rfl ?_
      refine bs hr (fun v3 hF hr => ?_)
      refine z_callS O [vi x3, vi x5] (vi v3) fS_X17_x q1094 (fun l G => mX17_x l G x3 x5 h _ hF) rfl ⟨Nat.le_of_ble_eq_true rfl, Nat.le_of_ble_eq_true rfl⟩ (Nat.le_of_ble_eq_true rfl) dX4_fits_56 ?_
      refine z_iadd O dX4_fits_59 ?_
      refine z_aload_n O 2 dX4_fits_60 rfl rfl ?_
      refine z_getR O o_House_site q309 dX4_fits_61 hr (fun v4 hr => ?_)
      refine z_getI O o_Site_y q1024 dX4_fits_64 hr (fun v5 hr => ?_)
      refine z_iload_n O 3 dX4_fits_67 rfl rfl ?_
      refine z_iload O 5 dX4_fits_68 rfl ?_
      refine bs hr (fun v6 hF hr => ?_)
      refine z_callS O [vi x3, vi x5] (vi v6) fS_X17_y q1097 (fun l G => mX17_y l G x3 x5 h _ hF) rfl ⟨Nat.le_of_ble_eq_true rfl, Nat.le_of_ble_eq_true rfl⟩ (Nat.le_of_ble_eq_true rfl) dX4_fits_70 ?_
      refine z_iadd O dX4_fits_73 ?_
      refine bs hr (fun v7 hF hr => ?_)
      refine z_callV O [vi x1, vi (v2 + v3), vi (v5 + v6)] (vi v7) fV_X4_canHave q1100 (fun l G => mX4_canHave l G N x0 x1 (v2 + v3) (v5 + v6) h _ hF) (zck hF) rfl rfl ⟨Nat.le_of_ble_eq_true rfl, Nat.le_of_ble_eq_true rfl⟩ (Nat.le_of_ble_eq_true rfl) dX4_fits_74 ?_
      refine z_istore O [(4, vi v7), (0, vr x0), (1, vi x1), (2, vr x2), (3, vi x3), (5, vi x5)] dX4_fits_77 (by decide) rfl ?_
      refine z_iincL O 5 (fun v8 => [(5, vi v8), (4, vi v7), (0, vr x0), (1, vi x1), (2, vr x2), (3, vi x3)]) dX4_fits_79 rfl rfl (by decide) (fun _ => rfl) hr (fun v8 hr => ?_)
      refine z_goto (tgt := 30) O dX4_fits_82 (by decide) ?_
      refine z_sub [2, 3, 4, 5, 1, 0] rfl ?_
      exact hrec30 v7 v8 _ hr
theorem wX4_fits_30 {K : ZC} (O : ZOk K cX4_fits RX4 "fits" 6 (some .boolean) 5 138) (N : Nat) (x0 : Option Nat) (x1 : Int32) (x2 : Option Nat) (x3 : Int32) (h : AH) : ∀ (n : Nat) (x4 : Int32) (x5 : Int32) (r : Int32), lf (fun _ _ => none) (BX4_fits_30 N x0 x1 x2 x3 h) n x4 x5 = some r → Zw K (eI h r) h 30 [(0, vr x0), (1, vi x1), (2, vr x2), (3, vi x3), (4, vi x4), (5, vi x5)] [] := by
  intro n
  induction n with
  | zero => intro x4 x5 r hr; cases hr
  | succ n ih => intro x4 x5 r hr; exact wX4_fits_30B O N x0 x1 x2 x3 h (lf (fun _ _ => none) (BX4_fits_30 N x0 x1 x2 x3 h) n)  ih x4 x5 r hr
def F_X4_fits (N : Nat) (x0 : Option Nat) (x1 : Int32) (h : AH) : Option (Int32) :=
  (ck h [4] x0).bind fun _ =>
  (gR h f_Village_houses x0).bind fun v1 =>
  (aR h v1 x1).bind fun v2 =>
  (gI h f_House_many v2).bind fun v3 =>
  jlet (v3 + (1 : Int32)) fun v4 =>
  if (6 : Int32) < v4 then
    LX4_fits_30 N x0 x1 v2 v4 h (0 : Int32) (0 : Int32)
  else
    LX4_fits_30 N x0 x1 v2 v4 h (1 : Int32) (0 : Int32)
theorem mX4_fits (l : Launch) (G : ZG) (N : Nat) (x0 : Option Nat) (x1 : Int32) (h : AH) (r : Int32) (hr : F_X4_fits N x0 x1 h = some r) : MZ l G yX4_fits cX4_fits 6 (some .boolean) 5 138 [vr x0, vi x1] h (eI h r) := by
  unfold F_X4_fits at hr
  refine MZ.of (by decide) [(0, vr x0), (1, vi x1)] rfl (Nat.le_of_ble_eq_true rfl) (fun K O => ?_)
  have O : ZOk K cX4_fits RX4 "fits" 6 (some .boolean) 5 138 := O
  refine bs hr (fun _ hck hr => ?_)
  refine z_aload_n O 0 dX4_fits_0 rfl rfl ?_
  refine z_getR O o_Village_houses q337 dX4_fits_1 hr (fun v1 hr => ?_)
  refine z_iload_n O 1 dX4_fits_4 rfl rfl ?_
  refine z_aaload O dX4_fits_5 hr (fun v2 hr => ?_)
  refine z_astore_n O [(2, vr v2), (0, vr x0), (1, vi x1)] dX4_fits_6 rfl (by decide) rfl ?_
  refine z_aload_n O 0 dX4_fits_7 rfl rfl ?_
  refine z_getI O o_House_many q313 dX4_fits_8 hr (fun v3 hr => ?_)
  refine z_iconst O dX4_fits_11 kic_1 ?_
  refine z_iadd O dX4_fits_12 ?_
  refine z_letI hr (fun v4 hr => ?_)
  refine z_istore_n O [(3, vi v4), (2, vr v2), (0, vr x0), (1, vi x1)] dX4_fits_13 rfl (by decide) rfl ?_
  refine z_iload_n O 0 dX4_fits_14 rfl rfl ?_
  refine z_bipush O dX4_fits_15 kbi_6 ?_
  refine z_icmp_gt (tgt := 24) O dX4_fits_17 (by decide) hr (fun hr => ?_) (fun hr => ?_)
  · refine z_iconst O dX4_fits_24 kic_0 ?_
    refine z_istore O [(4, vi (0 : Int32)), (3, vi v4), (2, vr v2), (0, vr x0), (1, vi x1)] dX4_fits_25 (by decide) rfl ?_
    refine z_iconst O dX4_fits_27 kic_0 ?_
    refine z_istore O [(5, vi (0 : Int32)), (4, vi (0 : Int32)), (3, vi v4), (2, vr v2), (0, vr x0), (1, vi x1)] dX4_fits_28 (by decide) rfl ?_
    refine z_sub [4, 5, 3, 2, 1, 0] rfl ?_
    exact wX4_fits_30 O N x0 x1 v2 v4 h _ (0 : Int32) (0 : Int32) _ hr
  · refine z_iconst O dX4_fits_20 kic_1 ?_
    refine z_goto (tgt := 25) O dX4_fits_21 (by decide) ?_
    refine z_istore O [(4, vi (1 : Int32)), (3, vi v4), (2, vr v2), (0, vr x0), (1, vi x1)] dX4_fits_25 (by decide) rfl ?_
    refine z_iconst O dX4_fits_27 kic_0 ?_
    refine z_istore O [(5, vi (0 : Int32)), (4, vi (1 : Int32)), (3, vi v4), (2, vr v2), (0, vr x0), (1, vi x1)] dX4_fits_28 (by decide) rfl ?_
    refine z_sub [4, 5, 3, 2, 1, 0] rfl ?_
    exact wX4_fits_30 O N x0 x1 v2 v4 h _ (1 : Int32) (0 : Int32) _ hr
theorem fV_X5_build : CVf RX5 yX5_build cX5_build 7 (none : Option Jvm.ClassFile.FieldType) 5 := ⟨q1124, q1125, q133, q1126, ⟨⟨by decide +kernel, by decide +kernel⟩, by decide +kernel⟩⟩
def F_X5_build (x0 : Option Nat) (x1 : Option Nat) (x2 : Int32) (x3 : Int32) (x4 : Int32) (x5 : Int32) (h : AH) : Option (AH) :=
  (ck h [5] x0).bind fun _ =>
  (gI h f_House_many x0).bind fun v1 =>
  (pI h f_House_many x0 (v1 + (1 : Int32))).bind fun h2 =>
  (gI h2 f_House_many x0).bind fun v3 =>
  (F_X5_skin x0 v3 h2).bind fun v4 =>
  (pR h2 f_Skin_stone v4 x1).bind fun h5 =>
  (pI h5 f_Skin_side v4 x2).bind fun h6 =>
  (pI h6 f_Skin_on v4 x3).bind fun h7 =>
  (pI h7 f_Skin_lock v4 x4).bind fun h8 =>
  (pI h8 f_Skin_rot v4 (0 : Int32)).bind fun h9 =>
  (pI h9 f_Skin_built v4 x5).bind fun h10 =>
  (pZ h10 f_Skin_collapsed v4 (0 : Int32)).bind fun h11 =>
  (pZ h11 f_Skin_filled v4 (0 : Int32)).bind fun h12 =>
  some h12
theorem mX5_build (l : Launch) (G : ZG) (x0 : Option Nat) (x1 : Option Nat) (x2 : Int32) (x3 : Int32) (x4 : Int32) (x5 : Int32) (h : AH) (r : AH) (hr : F_X5_build x0 x1 x2 x3 x4 x5 h = some r) : MZ l G yX5_build cX5_build 7 (none : Option Jvm.ClassFile.FieldType) 2 69 [vr x0, vr x1, vi x2, vi x3, vi x4, vi x5] h (eH r) := by
  unfold F_X5_build at hr
  refine MZ.of (by decide) [(0, vr x0), (1, vr x1), (2, vi x2), (3, vi x3), (4, vi x4), (5, vi x5)] rfl (Nat.le_of_ble_eq_true rfl) (fun K O => ?_)
  have O : ZOk K cX5_build RX5 "build" 7 (none : Option Jvm.ClassFile.FieldType) 2 69 := O
  refine bs hr (fun _ hck hr => ?_)
  refine z_aload_n O 0 dX5_build_0 rfl rfl ?_
  refine z_dup O dX5_build_1 rfl ?_
  refine z_getI O o_House_many q311 dX5_build_2 hr (fun v1 hr => ?_)
  refine z_iconst O dX5_build_5 kic_1 ?_
  refine z_iadd O dX5_build_6 ?_
  refine z_putI O o_House_many (w_House_many _) q311 dX5_build_7 hr (fun h2 hr => ?_)
  refine z_aload_n O 0 dX5_build_10 rfl rfl ?_
  refine z_aload_n O 0 dX5_build_11 rfl rfl ?_
  refine z_getI O o_House_many q311 dX5_build_12 hr (fun v3 hr => ?_)
  refine bs hr (fun v4 hF hr => ?_)
  refine z_callV O [vi v3] (vr v4) fV_X5_skin q1127 (fun l G => mX5_skin l G x0 v3 h2 _ hF) (zck hF) rfl rfl ⟨Nat.le_of_ble_eq_true rfl, Nat.le_of_ble_eq_true rfl⟩ (Nat.le_of_ble_eq_true rfl) dX5_build_15 ?_
  refine z_astore O [(6, vr v4), (0, vr x0), (1, vr x1), (2, vi x2), (3, vi x3), (4, vi x4), (5, vi x5)] dX5_build_18 (by decide) rfl ?_
  refine z_aload O 0 dX5_build_20 rfl ?_
  refine z_aload_n O 2 dX5_build_22 rfl rfl ?_
  refine z_putR O rfl o_Skin_stone (w_Skin_stone _) q266 dX5_build_23 hr (fun h5 hr => ?_)
  refine z_aload O 0 dX5_build_26 rfl ?_
  refine z_iload_n O 3 dX5_build_28 rfl rfl ?_
  refine z_putI O o_Skin_side (w_Skin_side _) q269 dX5_build_29 hr (fun h6 hr => ?_)
  refine z_aload O 0 dX5_build_32 rfl ?_
  refine z_iload_n O 4 dX5_build_34 rfl rfl ?_
  refine z_putI O o_Skin_on (w_Skin_on _) q272 dX5_build_35 hr (fun h7 hr => ?_)
  refine z_aload O 0 dX5_build_38 rfl ?_
  refine z_iload O 5 dX5_build_40 rfl ?_
  refine z_putI O o_Skin_lock (w_Skin_lock _) q275 dX5_build_42 hr (fun h8 hr => ?_)
  refine z_aload O 0 dX5_build_45 rfl ?_
  refine z_iconst O dX5_build_47 kic_0 ?_
  refine z_putI O o_Skin_rot (w_Skin_rot _) q278 dX5_build_48 hr (fun h9 hr => ?_)
  refine z_aload O 0 dX5_build_51 rfl ?_
  refine z_iload O 6 dX5_build_53 rfl ?_
  refine z_putI O o_Skin_built (w_Skin_built _) q281 dX5_build_55 hr (fun h10 hr => ?_)
  refine z_aload O 0 dX5_build_58 rfl ?_
  refine z_iconst O dX5_build_60 kic_0 ?_
  refine z_putZ O o_Skin_collapsed (w_Skin_collapsed _) q284 dX5_build_61 hr (fun h11 hr => ?_)
  refine z_aload O 0 dX5_build_64 rfl ?_
  refine z_iconst O dX5_build_66 kic_0 ?_
  refine z_putZ O o_Skin_filled (w_Skin_filled _) q287 dX5_build_67 hr (fun h12 hr => ?_)
  exact z_vret O dX5_build_70 (by cases hr; rfl)
theorem fV_X5_costs : CVf RX5 yX5_costs cX5_costs 2 (some .int) 1 := ⟨q1358, q1359, q133, q1360, ⟨⟨by decide +kernel, by decide +kernel⟩, by decide +kernel⟩⟩
def F_X5_costs (x0 : Option Nat) (x1 : Option Nat) (h : AH) : Option (Int32) :=
  (ck h [5] x0).bind fun _ =>
  (gI h f_Stone_costs x1).bind fun v1 =>
  (gI h f_House_many x0).bind fun v2 =>
  some ((v1 * (8 : Int32)) * (v2 + (1 : Int32)))
theorem mX5_costs (l : Launch) (G : ZG) (x0 : Option Nat) (x1 : Option Nat) (h : AH) (r : Int32) (hr : F_X5_costs x0 x1 h = some r) : MZ l G yX5_costs cX5_costs 2 (some .int) 1 48 [vr x0, vr x1] h (eI h r) := by
  unfold F_X5_costs at hr
  refine MZ.of (by decide) [(0, vr x0), (1, vr x1)] rfl (Nat.le_of_ble_eq_true rfl) (fun K O => ?_)
  have O : ZOk K cX5_costs RX5 "costs" 2 (some .int) 1 48 := O
  refine bs hr (fun _ hck hr => ?_)
  refine z_aload_n O 1 dX5_costs_0 rfl rfl ?_
  refine z_getI O o_Stone_costs q942 dX5_costs_1 hr (fun v1 hr => ?_)
  refine z_bipush O dX5_costs_4 kbi_8 ?_
  refine z_imul O dX5_costs_6 ?_
  refine z_aload_n O 0 dX5_costs_7 rfl rfl ?_
  refine z_getI O o_House_many q311 dX5_costs_8 hr (fun v2 hr => ?_)
  refine z_iconst O dX5_costs_11 kic_1 ?_
  refine z_iadd O dX5_costs_12 ?_
  refine z_imul O dX5_costs_13 ?_
  exact z_iret O dX5_costs_14 (by cases hr; rfl)
theorem fV_X1_build : CVf RX1 yX1_build cX1_build 8 (some .int) 5 := ⟨q1657, q1658, q126, q1659, ⟨⟨by decide +kernel, by decide +kernel⟩, by decide +kernel⟩⟩
def F_X1_build (N : Nat) (x0 : Option Nat) (x1 : Int32) (x2 : Int32) (x3 : Int32) (x4 : Int32) (x5 : Int32) (h : AH) : Option (Int32 × AH) :=
  (ck h [1] x0).bind fun _ =>
  (F_X1_anew x0 h).bind fun h1 =>
  (F_X1_isHouse x0 x1 h1).bind fun v2 =>
  if v2 = 0 then
    b2 (F_X1_no x0 (1 : Int32) h1) fun v4 h3 =>
    some (v4, h3)
  else
    (F_X1_isStone x0 x2 h1).bind fun v5 =>
    if v5 = 0 then
      b2 (F_X1_no x0 (1 : Int32) h1) fun v7 h6 =>
      some (v7, h6)
    else
      (F_X1_within x3 (0 : Int32) (3 : Int32)).bind fun v8 =>
      if v8 = 0 then
        b2 (F_X1_no x0 (1 : Int32) h1) fun v48 h47 =>
        some (v48, h47)
      else
        (gR h1 f_Year_village x0).bind fun v9 =>
        (F_X4_house v9 x1 h1).bind fun v10 =>
        (gI h1 f_House_many v10).bind fun v11 =>
        if v11 = (6 : Int32) then
          b2 (F_X1_no x0 (3 : Int32) h1) fun v46 h45 =>
          some (v46, h45)
        else
          (gI h1 f_House_many v10).bind fun v12 =>
          (F_X1_within x4 (0 : Int32) ((2 : Int32) * v12)).bind fun v13 =>
          if v13 = 0 then
            b2 (F_X1_no x0 (2 : Int32) h1) fun v15 h14 =>
            some (v15, h14)
          else
            (F_X1_within x5 (0 : Int32) (99 : Int32)).bind fun v16 =>
            if v16 = 0 then
              b2 (F_X1_no x0 (2 : Int32) h1) fun v44 h43 =>
              some (v44, h43)
            else
              (gR h1 f_Year_village x0).bind fun v17 =>
              (F_X4_fits N v17 x1 h1).bind fun v18 =>
              if v18 = 0 then
                b2 (F_X1_no x0 (5 : Int32) h1) fun v20 h19 =>
                some (v20, h19)
              else
                (gR h1 f_Year_village x0).bind fun v21 =>
                (F_X4_canDoor N v21 x1 x3 x4 h1).bind fun v22 =>
                if v22 = 0 then
                  b2 (F_X1_no x0 (5 : Int32) h1) fun v42 h41 =>
                  some (v42, h41)
                else
                  (gR h1 f_Year_land x0).bind fun v23 =>
                  (gR h1 f_Land_stones v23).bind fun v24 =>
                  (aR h1 v24 x2).bind fun v25 =>
                  (F_X5_costs v10 v25 h1).bind fun v26 =>
                  (gI h1 f_House_gold v10).bind fun v27 =>
                  if v26 ≤ v27 then
                    (F_X1_note N x0 h1).bind fun h28 =>
                    (gI h28 f_House_gold v10).bind fun v29 =>
                    (pI h28 f_House_gold v10 (v29 - v26)).bind fun h30 =>
                    (gR h30 f_Year_land x0).bind fun v31 =>
                    (gR h30 f_Land_stones v31).bind fun v32 =>
                    (aR h30 v32 x2).bind fun v33 =>
                    (gR h30 f_Year_village x0).bind fun v34 =>
                    (gI h30 f_Village_year v34).bind fun v35 =>
                    (F_X5_build v10 v33 x3 x4 x5 v35 h30).bind fun h36 =>
                    b2 (F_X1_done N x0 h36) fun v38 h37 =>
                    some (v26, h37)
                  else
                    b2 (F_X1_no x0 (6 : Int32) h1) fun v40 h39 =>
                    some (v40, h39)
theorem mX1_build (l : Launch) (G : ZG) (N : Nat) (x0 : Option Nat) (x1 : Int32) (x2 : Int32) (x3 : Int32) (x4 : Int32) (x5 : Int32) (h : AH) (r : Int32 × AH) (hr : F_X1_build N x0 x1 x2 x3 x4 x5 h = some r) : MZ l G yX1_build cX1_build 8 (some .int) 6 166 [vr x0, vi x1, vi x2, vi x3, vi x4, vi x5] h (eIH r) := by
  unfold F_X1_build at hr
  refine MZ.of (by decide) [(0, vr x0), (1, vi x1), (2, vi x2), (3, vi x3), (4, vi x4), (5, vi x5)] rfl (Nat.le_of_ble_eq_true rfl) (fun K O => ?_)
  have O : ZOk K cX1_build RX1 "build" 8 (some .int) 6 166 := O
  refine bs hr (fun _ hck hr => ?_)
  refine z_aload_n O 0 dX1_build_0 rfl rfl ?_
  refine bs hr (fun h1 hF hr => ?_)
  refine z_callVv O [] fV_X1_anew q528 (fun l G => mX1_anew l G x0 h _ hF) (zck hF) rfl rfl ⟨Nat.le_of_ble_eq_true rfl, Nat.le_of_ble_eq_true rfl⟩ (Nat.le_of_ble_eq_true rfl) dX1_build_1 ?_
  refine z_aload_n O 0 dX1_build_4 rfl rfl ?_
  refine z_iload_n O 1 dX1_build_5 rfl rfl ?_
  refine bs hr (fun v2 hF hr => ?_)
  refine z_callV O [vi x1] (vi v2) fV_X1_isHouse q1245 (fun l G => mX1_isHouse l G x0 x1 h1 _ hF) (zck hF) rfl rfl ⟨Nat.le_of_ble_eq_true rfl, Nat.le_of_ble_eq_true rfl⟩ (Nat.le_of_ble_eq_true rfl) dX1_build_6 ?_
  refine z_if_eq (tgt := 29) O dX1_build_9 (by decide) hr (fun hr => ?_) (fun hr => ?_)
  · refine z_aload_n O 0 dX1_build_29 rfl rfl ?_
    refine z_iconst O dX1_build_30 kic_1 ?_
    refine b2s hr (fun v4 h3 hF hr => ?_)
    refine z_callV O [vi (1 : Int32)] (vi v4) fV_X1_no q535 (fun l G => mX1_no l G x0 (1 : Int32) h1 _ hF) (zck hF) rfl rfl ⟨Nat.le_of_ble_eq_true rfl, Nat.le_of_ble_eq_true rfl⟩ (Nat.le_of_ble_eq_true rfl) dX1_build_31 ?_
    exact z_iret O dX1_build_34 (by cases hr; rfl)
  · refine z_aload_n O 0 dX1_build_12 rfl rfl ?_
    refine z_iload_n O 2 dX1_build_13 rfl rfl ?_
    refine bs hr (fun v5 hF hr => ?_)
    refine z_callV O [vi x2] (vi v5) fV_X1_isStone q1353 (fun l G => mX1_isStone l G x0 x2 h1 _ hF) (zck hF) rfl rfl ⟨Nat.le_of_ble_eq_true rfl, Nat.le_of_ble_eq_true rfl⟩ (Nat.le_of_ble_eq_true rfl) dX1_build_14 ?_
    refine z_if_eq (tgt := 29) O dX1_build_17 (by decide) hr (fun hr => ?_) (fun hr => ?_)
    · refine z_aload_n O 0 dX1_build_29 rfl rfl ?_
      refine z_iconst O dX1_build_30 kic_1 ?_
      refine b2s hr (fun v7 h6 hF hr => ?_)
      refine z_callV O [vi (1 : Int32)] (vi v7) fV_X1_no q535 (fun l G => mX1_no l G x0 (1 : Int32) h1 _ hF) (zck hF) rfl rfl ⟨Nat.le_of_ble_eq_true rfl, Nat.le_of_ble_eq_true rfl⟩ (Nat.le_of_ble_eq_true rfl) dX1_build_31 ?_
      exact z_iret O dX1_build_34 (by cases hr; rfl)
    · refine z_iload_n O 3 dX1_build_20 rfl rfl ?_
      refine z_iconst O dX1_build_21 kic_0 ?_
      refine z_iconst O dX1_build_22 kic_3 ?_
      refine bs hr (fun v8 hF hr => ?_)
      refine z_callS O [vi x3, vi (0 : Int32), vi (3 : Int32)] (vi v8) fS_X1_within q532 (fun l G => mX1_within l G x3 (0 : Int32) (3 : Int32) h1 _ hF) rfl ⟨Nat.le_of_ble_eq_true rfl, Nat.le_of_ble_eq_true rfl⟩ (Nat.le_of_ble_eq_true rfl) dX1_build_23 ?_
      refine z_if_ne (tgt := 35) O dX1_build_26 (by decide) hr (fun hr => ?_) (fun hr => ?_)
      · refine z_aload_n O 0 dX1_build_29 rfl rfl ?_
        refine z_iconst O dX1_build_30 kic_1 ?_
        refine b2s hr (fun v48 h47 hF hr => ?_)
        refine z_callV O [vi (1 : Int32)] (vi v48) fV_X1_no q535 (fun l G => mX1_no l G x0 (1 : Int32) h1 _ hF) (zck hF) rfl rfl ⟨Nat.le_of_ble_eq_true rfl, Nat.le_of_ble_eq_true rfl⟩ (Nat.le_of_ble_eq_true rfl) dX1_build_31 ?_
        exact z_iret O dX1_build_34 (by cases hr; rfl)
      · refine z_aload_n O 0 dX1_build_35 rfl rfl ?_
        refine z_getR O o_Year_village q469 dX1_build_36 hr (fun v9 hr => ?_)
        refine z_iload_n O 1 dX1_build_39 rfl rfl ?_
        refine bs hr (fun v10 hF hr => ?_)
        refine z_callV O [vi x1] (vr v10) fV_X4_house q1249 (fun l G => mX4_house l G v9 x1 h1 _ hF) (zck hF) rfl rfl ⟨Nat.le_of_ble_eq_true rfl, Nat.le_of_ble_eq_true rfl⟩ (Nat.le_of_ble_eq_true rfl) dX1_build_40 ?_
        refine z_astore O [(6, vr v10), (0, vr x0), (1, vi x1), (2, vi x2), (3, vi x3), (4, vi x4), (5, vi x5)] dX1_build_43 (by decide) rfl ?_
        refine z_aload O 0 dX1_build_45 rfl ?_
        refine z_getI O o_House_many q314 dX1_build_47 hr (fun v11 hr => ?_)
        refine z_bipush O dX1_build_50 kbi_6 ?_
        refine z_icmp_ne (tgt := 61) O dX1_build_52 (by decide) hr (fun hr => ?_) (fun hr => ?_)
        · refine z_aload_n O 1 dX1_build_55 rfl rfl ?_
          refine z_iconst O dX1_build_56 kic_3 ?_
          refine b2s hr (fun v46 h45 hF hr => ?_)
          refine z_callV O [vi (3 : Int32)] (vi v46) fV_X1_no q535 (fun l G => mX1_no l G x0 (3 : Int32) h1 _ hF) (zck hF) rfl rfl ⟨Nat.le_of_ble_eq_true rfl, Nat.le_of_ble_eq_true rfl⟩ (Nat.le_of_ble_eq_true rfl) dX1_build_57 ?_
          exact z_iret O dX1_build_60 (by cases hr; rfl)
        · refine z_iload O 5 dX1_build_61 rfl ?_
          refine z_iconst O dX1_build_63 kic_0 ?_
          refine z_iconst O dX1_build_64 kic_2 ?_
          refine z_aload O 0 dX1_build_65 rfl ?_
          refine z_getI O o_House_many q314 dX1_build_67 hr (fun v12 hr => ?_)
          refine z_imul O dX1_build_70 ?_
          refine bs hr (fun v13 hF hr => ?_)
          refine z_callS O [vi x4, vi (0 : Int32), vi ((2 : Int32) * v12)] (vi v13) fS_X1_within q532 (fun l G => mX1_within l G x4 (0 : Int32) ((2 : Int32) * v12) h1 _ hF) rfl ⟨Nat.le_of_ble_eq_true rfl, Nat.le_of_ble_eq_true rfl⟩ (Nat.le_of_ble_eq_true rfl) dX1_build_71 ?_
          refine z_if_eq (tgt := 88) O dX1_build_74 (by decide) hr (fun hr => ?_) (fun hr => ?_)
          · refine z_aload_n O 1 dX1_build_88 rfl rfl ?_
            refine z_iconst O dX1_build_89 kic_2 ?_
            refine b2s hr (fun v15 h14 hF hr => ?_)
            refine z_callV O [vi (2 : Int32)] (vi v15) fV_X1_no q535 (fun l G => mX1_no l G x0 (2 : Int32) h1 _ hF) (zck hF) rfl rfl ⟨Nat.le_of_ble_eq_true rfl, Nat.le_of_ble_eq_true rfl⟩ (Nat.le_of_ble_eq_true rfl) dX1_build_90 ?_
            exact z_iret O dX1_build_93 (by cases hr; rfl)
          · refine z_iload O 6 dX1_build_77 rfl ?_
            refine z_iconst O dX1_build_79 kic_0 ?_
            refine z_bipush O dX1_build_80 kbi_99 ?_
            refine bs hr (fun v16 hF hr => ?_)
            refine z_callS O [vi x5, vi (0 : Int32), vi (99 : Int32)] (vi v16) fS_X1_within q532 (fun l G => mX1_within l G x5 (0 : Int32) (99 : Int32) h1 _ hF) rfl ⟨Nat.le_of_ble_eq_true rfl, Nat.le_of_ble_eq_true rfl⟩ (Nat.le_of_ble_eq_true rfl) dX1_build_82 ?_
            refine z_if_ne (tgt := 94) O dX1_build_85 (by decide) hr (fun hr => ?_) (fun hr => ?_)
            · refine z_aload_n O 1 dX1_build_88 rfl rfl ?_
              refine z_iconst O dX1_build_89 kic_2 ?_
              refine b2s hr (fun v44 h43 hF hr => ?_)
              refine z_callV O [vi (2 : Int32)] (vi v44) fV_X1_no q535 (fun l G => mX1_no l G x0 (2 : Int32) h1 _ hF) (zck hF) rfl rfl ⟨Nat.le_of_ble_eq_true rfl, Nat.le_of_ble_eq_true rfl⟩ (Nat.le_of_ble_eq_true rfl) dX1_build_90 ?_
              exact z_iret O dX1_build_93 (by cases hr; rfl)
            · refine z_aload_n O 1 dX1_build_94 rfl rfl ?_
              refine z_getR O o_Year_village q469 dX1_build_95 hr (fun v17 hr => ?_)
              refine z_iload_n O 2 dX1_build_98 rfl rfl ?_
              refine bs hr (fun v18 hF hr => ?_)
              refine z_callV O [vi x1] (vi v18) fV_X4_fits q1312 (fun l G => mX4_fits l G N v17 x1 h1 _ hF) (zck hF) rfl rfl ⟨Nat.le_of_ble_eq_true rfl, Nat.le_of_ble_eq_true rfl⟩ (Nat.le_of_ble_eq_true rfl) dX1_build_99 ?_
              refine z_if_eq (tgt := 119) O dX1_build_102 (by decide) hr (fun hr => ?_) (fun hr => ?_)
              · refine z_aload_n O 1 dX1_build_119 rfl rfl ?_
                refine z_iconst O dX1_build_120 kic_5 ?_
                refine b2s hr (fun v20 h19 hF hr => ?_)
                refine z_callV O [vi (5 : Int32)] (vi v20) fV_X1_no q535 (fun l G => mX1_no l G x0 (5 : Int32) h1 _ hF) (zck hF) rfl rfl ⟨Nat.le_of_ble_eq_true rfl, Nat.le_of_ble_eq_true rfl⟩ (Nat.le_of_ble_eq_true rfl) dX1_build_121 ?_
                exact z_iret O dX1_build_124 (by cases hr; rfl)
              · refine z_aload_n O 1 dX1_build_105 rfl rfl ?_
                refine z_getR O o_Year_village q469 dX1_build_106 hr (fun v21 hr => ?_)
                refine z_iload_n O 2 dX1_build_109 rfl rfl ?_
                refine z_iload_n O 4 dX1_build_110 rfl rfl ?_
                refine z_iload O 5 dX1_build_111 rfl ?_
                refine bs hr (fun v22 hF hr => ?_)
                refine z_callV O [vi x1, vi x3, vi x4] (vi v22) fV_X4_canDoor q1660 (fun l G => mX4_canDoor l G N v21 x1 x3 x4 h1 _ hF) (zck hF) rfl rfl ⟨Nat.le_of_ble_eq_true rfl, Nat.le_of_ble_eq_true rfl⟩ (Nat.le_of_ble_eq_true rfl) dX1_build_113 ?_
                refine z_if_ne (tgt := 125) O dX1_build_116 (by decide) hr (fun hr => ?_) (fun hr => ?_)
                · refine z_aload_n O 1 dX1_build_119 rfl rfl ?_
                  refine z_iconst O dX1_build_120 kic_5 ?_
                  refine b2s hr (fun v42 h41 hF hr => ?_)
                  refine z_callV O [vi (5 : Int32)] (vi v42) fV_X1_no q535 (fun l G => mX1_no l G x0 (5 : Int32) h1 _ hF) (zck hF) rfl rfl ⟨Nat.le_of_ble_eq_true rfl, Nat.le_of_ble_eq_true rfl⟩ (Nat.le_of_ble_eq_true rfl) dX1_build_121 ?_
                  exact z_iret O dX1_build_124 (by cases hr; rfl)
                · refine z_aload O 0 dX1_build_125 rfl ?_
                  refine z_aload_n O 1 dX1_build_127 rfl rfl ?_
                  refine z_getR O o_Year_land q463 dX1_build_128 hr (fun v23 hr => ?_)
                  refine z_getR O o_Land_stones q569 dX1_build_131 hr (fun v24 hr => ?_)
                  refine z_iload_n O 3 dX1_build_134 rfl rfl ?_
                  refine z_aaload O dX1_build_135 hr (fun v25 hr => ?_)
                  refine bs hr (fun v26 hF hr => ?_)
                  refine z_callV O [vr v25] (vi v26) fV_X5_costs q1357 (fun l G => mX5_costs l G v10 v25 h1 _ hF) (zck hF) rfl rfl ⟨Nat.le_of_ble_eq_true rfl, Nat.le_of_ble_eq_true rfl⟩ (Nat.le_of_ble_eq_true rfl) dX1_build_136 ?_
                  refine z_istore O [(7, vi v26), (6, vr v10), (0, vr x0), (1, vi x1), (2, vi x2), (3, vi x3), (4, vi x4), (5, vi x5)] dX1_build_139 (by decide) rfl ?_
                  refine z_aload O 1 dX1_build_141 rfl ?_
                  refine z_getI O o_House_gold q321 dX1_build_143 hr (fun v27 hr => ?_)
                  refine z_iload O 0 dX1_build_146 rfl ?_
                  refine z_icmp_ge (tgt := 158) O dX1_build_148 (by decide) hr (fun hr => ?_) (fun hr => ?_)
                  · refine z_aload_n O 2 dX1_build_158 rfl rfl ?_
                    refine bs hr (fun h28 hF hr => ?_)
                    refine z_callVv O [] fV_X1_note q1648 (fun l G => mX1_note l G N x0 h1 _ hF) (zck hF) rfl rfl ⟨Nat.le_of_ble_eq_true rfl, Nat.le_of_ble_eq_true rfl⟩ (Nat.le_of_ble_eq_true rfl) dX1_build_159 ?_
                    refine z_aload O 1 dX1_build_162 rfl ?_
                    refine z_dup O dX1_build_164 rfl ?_
                    refine z_getI O o_House_gold q321 dX1_build_165 hr (fun v29 hr => ?_)
                    refine z_iload O 0 dX1_build_168 rfl ?_
                    refine z_isub O dX1_build_170 ?_
                    refine z_putI O o_House_gold (w_House_gold _) q321 dX1_build_171 hr (fun h30 hr => ?_)
                    refine z_aload O 1 dX1_build_174 rfl ?_
                    refine z_aload_n O 2 dX1_build_176 rfl rfl ?_
                    refine z_getR O o_Year_land q463 dX1_build_177 hr (fun v31 hr => ?_)
                    refine z_getR O o_Land_stones q569 dX1_build_180 hr (fun v32 hr => ?_)
                    refine z_iload_n O 4 dX1_build_183 rfl rfl ?_
                    refine z_aaload O dX1_build_184 hr (fun v33 hr => ?_)
                    refine z_iload_n O 5 dX1_build_185 rfl rfl ?_
                    refine z_iload O 6 dX1_build_186 rfl ?_
                    refine z_iload O 7 dX1_build_188 rfl ?_
                    refine z_aload_n O 2 dX1_build_190 rfl rfl ?_
                    refine z_getR O o_Year_village q469 dX1_build_191 hr (fun v34 hr => ?_)
                    refine z_getI O o_Village_year q349 dX1_build_194 hr (fun v35 hr => ?_)
                    refine bs hr (fun h36 hF hr => ?_)
                    refine z_callVv O [vr v33, vi x3, vi x4, vi x5, vi v35] fV_X5_build q1518 (fun l G => mX5_build l G v10 v33 x3 x4 x5 v35 h30 _ hF) (zck hF) rfl rfl ⟨Nat.le_of_ble_eq_true rfl, Nat.le_of_ble_eq_true rfl⟩ (Nat.le_of_ble_eq_true rfl) dX1_build_197 ?_
                    refine z_aload_n O 2 dX1_build_200 rfl rfl ?_
                    refine b2s hr (fun v38 h37 hF hr => ?_)
                    refine z_callV O [] (vi v38) fV_X1_done q1652 (fun l G => mX1_done l G N x0 h36 _ hF) (zck hF) rfl rfl ⟨Nat.le_of_ble_eq_true rfl, Nat.le_of_ble_eq_true rfl⟩ (Nat.le_of_ble_eq_true rfl) dX1_build_201 ?_
                    refine z_pop O dX1_build_204 rfl ?_
                    refine z_iload O 0 dX1_build_205 rfl ?_
                    exact z_iret O dX1_build_207 (by cases hr; rfl)
                  · refine z_aload_n O 2 dX1_build_151 rfl rfl ?_
                    refine z_bipush O dX1_build_152 kbi_6 ?_
                    refine b2s hr (fun v40 h39 hF hr => ?_)
                    refine z_callV O [vi (6 : Int32)] (vi v40) fV_X1_no q535 (fun l G => mX1_no l G x0 (6 : Int32) h1 _ hF) (zck hF) rfl rfl ⟨Nat.le_of_ble_eq_true rfl, Nat.le_of_ble_eq_true rfl⟩ (Nat.le_of_ble_eq_true rfl) dX1_build_154 ?_
                    exact z_iret O dX1_build_157 (by cases hr; rfl)
theorem fV_X1_costs : CVf RX1 yX1_costs cX1_costs 3 (some .int) 2 := ⟨q1350, q1351, q126, q1352, ⟨⟨by decide +kernel, by decide +kernel⟩, by decide +kernel⟩⟩
def F_X1_costs (x0 : Option Nat) (x1 : Int32) (x2 : Int32) (h : AH) : Option (Int32 × AH) :=
  (ck h [1] x0).bind fun _ =>
  (F_X1_anew x0 h).bind fun h1 =>
  (F_X1_isHouse x0 x1 h1).bind fun v2 =>
  if v2 = 0 then
    b2 (F_X1_no x0 (1 : Int32) h1) fun v4 h3 =>
    some (v4, h3)
  else
    (F_X1_isStone x0 x2 h1).bind fun v5 =>
    if v5 = 0 then
      b2 (F_X1_no x0 (1 : Int32) h1) fun v18 h17 =>
      some (v18, h17)
    else
      (gR h1 f_Year_village x0).bind fun v6 =>
      (F_X4_house v6 x1 h1).bind fun v7 =>
      (gI h1 f_House_many v7).bind fun v8 =>
      if v8 = (6 : Int32) then
        b2 (F_X1_no x0 (3 : Int32) h1) fun v16 h15 =>
        some (v16, h15)
      else
        (gR h1 f_Year_village x0).bind fun v9 =>
        (F_X4_house v9 x1 h1).bind fun v10 =>
        (gR h1 f_Year_land x0).bind fun v11 =>
        (gR h1 f_Land_stones v11).bind fun v12 =>
        (aR h1 v12 x2).bind fun v13 =>
        (F_X5_costs v10 v13 h1).bind fun v14 =>
        some (v14, h1)
theorem mX1_costs (l : Launch) (G : ZG) (x0 : Option Nat) (x1 : Int32) (x2 : Int32) (h : AH) (r : Int32 × AH) (hr : F_X1_costs x0 x1 x2 h = some r) : MZ l G yX1_costs cX1_costs 3 (some .int) 3 91 [vr x0, vi x1, vi x2] h (eIH r) := by
  unfold F_X1_costs at hr
  refine MZ.of (by decide) [(0, vr x0), (1, vi x1), (2, vi x2)] rfl (Nat.le_of_ble_eq_true rfl) (fun K O => ?_)
  have O : ZOk K cX1_costs RX1 "costs" 3 (some .int) 3 91 := O
  refine bs hr (fun _ hck hr => ?_)
  refine z_aload_n O 0 dX1_costs_0 rfl rfl ?_
  refine bs hr (fun h1 hF hr => ?_)
  refine z_callVv O [] fV_X1_anew q528 (fun l G => mX1_anew l G x0 h _ hF) (zck hF) rfl rfl ⟨Nat.le_of_ble_eq_true rfl, Nat.le_of_ble_eq_true rfl⟩ (Nat.le_of_ble_eq_true rfl) dX1_costs_1 ?_
  refine z_aload_n O 0 dX1_costs_4 rfl rfl ?_
  refine z_iload_n O 1 dX1_costs_5 rfl rfl ?_
  refine bs hr (fun v2 hF hr => ?_)
  refine z_callV O [vi x1] (vi v2) fV_X1_isHouse q1245 (fun l G => mX1_isHouse l G x0 x1 h1 _ hF) (zck hF) rfl rfl ⟨Nat.le_of_ble_eq_true rfl, Nat.le_of_ble_eq_true rfl⟩ (Nat.le_of_ble_eq_true rfl) dX1_costs_6 ?_
  refine z_if_eq (tgt := 20) O dX1_costs_9 (by decide) hr (fun hr => ?_) (fun hr => ?_)
  · refine z_aload_n O 0 dX1_costs_20 rfl rfl ?_
    refine z_iconst O dX1_costs_21 kic_1 ?_
    refine b2s hr (fun v4 h3 hF hr => ?_)
    refine z_callV O [vi (1 : Int32)] (vi v4) fV_X1_no q535 (fun l G => mX1_no l G x0 (1 : Int32) h1 _ hF) (zck hF) rfl rfl ⟨Nat.le_of_ble_eq_true rfl, Nat.le_of_ble_eq_true rfl⟩ (Nat.le_of_ble_eq_true rfl) dX1_costs_22 ?_
    exact z_iret O dX1_costs_25 (by cases hr; rfl)
  · refine z_aload_n O 0 dX1_costs_12 rfl rfl ?_
    refine z_iload_n O 2 dX1_costs_13 rfl rfl ?_
    refine bs hr (fun v5 hF hr => ?_)
    refine z_callV O [vi x2] (vi v5) fV_X1_isStone q1353 (fun l G => mX1_isStone l G x0 x2 h1 _ hF) (zck hF) rfl rfl ⟨Nat.le_of_ble_eq_true rfl, Nat.le_of_ble_eq_true rfl⟩ (Nat.le_of_ble_eq_true rfl) dX1_costs_14 ?_
    refine z_if_ne (tgt := 26) O dX1_costs_17 (by decide) hr (fun hr => ?_) (fun hr => ?_)
    · refine z_aload_n O 0 dX1_costs_20 rfl rfl ?_
      refine z_iconst O dX1_costs_21 kic_1 ?_
      refine b2s hr (fun v18 h17 hF hr => ?_)
      refine z_callV O [vi (1 : Int32)] (vi v18) fV_X1_no q535 (fun l G => mX1_no l G x0 (1 : Int32) h1 _ hF) (zck hF) rfl rfl ⟨Nat.le_of_ble_eq_true rfl, Nat.le_of_ble_eq_true rfl⟩ (Nat.le_of_ble_eq_true rfl) dX1_costs_22 ?_
      exact z_iret O dX1_costs_25 (by cases hr; rfl)
    · refine z_aload_n O 0 dX1_costs_26 rfl rfl ?_
      refine z_getR O o_Year_village q469 dX1_costs_27 hr (fun v6 hr => ?_)
      refine z_iload_n O 1 dX1_costs_30 rfl rfl ?_
      refine bs hr (fun v7 hF hr => ?_)
      refine z_callV O [vi x1] (vr v7) fV_X4_house q1249 (fun l G => mX4_house l G v6 x1 h1 _ hF) (zck hF) rfl rfl ⟨Nat.le_of_ble_eq_true rfl, Nat.le_of_ble_eq_true rfl⟩ (Nat.le_of_ble_eq_true rfl) dX1_costs_31 ?_
      refine z_getI O o_House_many q314 dX1_costs_34 hr (fun v8 hr => ?_)
      refine z_bipush O dX1_costs_37 kbi_6 ?_
      refine z_icmp_ne (tgt := 50) O dX1_costs_39 (by decide) hr (fun hr => ?_) (fun hr => ?_)
      · refine z_aload_n O 0 dX1_costs_42 rfl rfl ?_
        refine z_iconst O dX1_costs_43 kic_3 ?_
        refine b2s hr (fun v16 h15 hF hr => ?_)
        refine z_callV O [vi (3 : Int32)] (vi v16) fV_X1_no q535 (fun l G => mX1_no l G x0 (3 : Int32) h1 _ hF) (zck hF) rfl rfl ⟨Nat.le_of_ble_eq_true rfl, Nat.le_of_ble_eq_true rfl⟩ (Nat.le_of_ble_eq_true rfl) dX1_costs_44 ?_
        refine z_goto (tgt := 70) O dX1_costs_47 (by decide) ?_
        exact z_iret O dX1_costs_70 (by cases hr; rfl)
      · refine z_aload_n O 0 dX1_costs_50 rfl rfl ?_
        refine z_getR O o_Year_village q469 dX1_costs_51 hr (fun v9 hr => ?_)
        refine z_iload_n O 1 dX1_costs_54 rfl rfl ?_
        refine bs hr (fun v10 hF hr => ?_)
        refine z_callV O [vi x1] (vr v10) fV_X4_house q1249 (fun l G => mX4_house l G v9 x1 h1 _ hF) (zck hF) rfl rfl ⟨Nat.le_of_ble_eq_true rfl, Nat.le_of_ble_eq_true rfl⟩ (Nat.le_of_ble_eq_true rfl) dX1_costs_55 ?_
        refine z_aload_n O 0 dX1_costs_58 rfl rfl ?_
        refine z_getR O o_Year_land q463 dX1_costs_59 hr (fun v11 hr => ?_)
        refine z_getR O o_Land_stones q569 dX1_costs_62 hr (fun v12 hr => ?_)
        refine z_iload_n O 2 dX1_costs_65 rfl rfl ?_
        refine z_aaload O dX1_costs_66 hr (fun v13 hr => ?_)
        refine bs hr (fun v14 hF hr => ?_)
        refine z_callV O [vr v13] (vi v14) fV_X5_costs q1357 (fun l G => mX5_costs l G v10 v13 h1 _ hF) (zck hF) rfl rfl ⟨Nat.le_of_ble_eq_true rfl, Nat.le_of_ble_eq_true rfl⟩ (Nat.le_of_ble_eq_true rfl) dX1_costs_67 ?_
        exact z_iret O dX1_costs_70 (by cases hr; rfl)
theorem fS_X17_round : CSf yX17_round cX17_round 4 (some .int) 3 := ⟨q1343, q151, q1344, ⟨⟨by decide +kernel, by decide +kernel⟩, by decide +kernel⟩⟩
def F_X17_round (x0 : Int32) (x1 : Int32) (x2 : Int32) : Option (Int32) :=
  jlet (jabs (x1 - x2)) fun v1 =>
  some (jmin v1 (((8 : Int32) * x0) - v1))
theorem mX17_round (l : Launch) (G : ZG) (x0 : Int32) (x1 : Int32) (x2 : Int32) (h : AH) (r : Int32) (hr : F_X17_round x0 x1 x2 = some r) : MZ l G yX17_round cX17_round 4 (some .int) 1 48 [vi x0, vi x1, vi x2] h (eI h r) := by
  unfold F_X17_round at hr
  refine MZ.of (by decide) [(0, vi x0), (1, vi x1), (2, vi x2)] rfl (Nat.le_of_ble_eq_true rfl) (fun K O => ?_)
  have O : ZOk K cX17_round RX17 "round" 4 (some .int) 1 48 := O
  refine z_iload_n O 1 dX17_round_0 rfl rfl ?_
  refine z_iload_n O 2 dX17_round_1 rfl rfl ?_
  refine z_isub O dX17_round_2 ?_
  refine z_mabs O q1345 ⟨Nat.le_of_ble_eq_true rfl, Nat.le_of_ble_eq_true rfl⟩ (Nat.le_of_ble_eq_true rfl) dX17_round_3 ?_
  refine z_letI hr (fun v1 hr => ?_)
  refine z_istore_n O [(3, vi v1), (0, vi x0), (1, vi x1), (2, vi x2)] dX17_round_6 rfl (by decide) rfl ?_
  refine z_iload_n O 0 dX17_round_7 rfl rfl ?_
  refine z_bipush O dX17_round_8 kbi_8 ?_
  refine z_iload_n O 1 dX17_round_10 rfl rfl ?_
  refine z_imul O dX17_round_11 ?_
  refine z_iload_n O 0 dX17_round_12 rfl rfl ?_
  refine z_isub O dX17_round_13 ?_
  refine z_mmin O q1346 ⟨Nat.le_of_ble_eq_true rfl, Nat.le_of_ble_eq_true rfl⟩ (Nat.le_of_ble_eq_true rfl) dX17_round_14 ?_
  exact z_iret O dX17_round_17 (by cases hr; rfl)
theorem fV_X5_round : CVf RX5 yX5_round cX5_round 2 (some .int) 1 := ⟨q1337, q1338, q133, q1339, ⟨⟨by decide +kernel, by decide +kernel⟩, by decide +kernel⟩⟩
def F_X5_round (x0 : Option Nat) (x1 : Int32) (h : AH) : Option (Int32) :=
  (ck h [5] x0).bind fun _ =>
  (F_X5_doorOf x0 x1 h).bind fun v1 =>
  (F_X5_doorOf x0 (x1 - (1 : Int32)) h).bind fun v2 =>
  (F_X17_front (x1 - (1 : Int32)) v2).bind fun v3 =>
  (F_X17_round x1 v1 v3).bind fun v4 =>
  some v4
theorem mX5_round (l : Launch) (G : ZG) (x0 : Option Nat) (x1 : Int32) (h : AH) (r : Int32) (hr : F_X5_round x0 x1 h = some r) : MZ l G yX5_round cX5_round 2 (some .int) 4 113 [vr x0, vi x1] h (eI h r) := by
  unfold F_X5_round at hr
  refine MZ.of (by decide) [(0, vr x0), (1, vi x1)] rfl (Nat.le_of_ble_eq_true rfl) (fun K O => ?_)
  have O : ZOk K cX5_round RX5 "round" 2 (some .int) 4 113 := O
  refine bs hr (fun _ hck hr => ?_)
  refine z_iload_n O 1 dX5_round_0 rfl rfl ?_
  refine z_aload_n O 0 dX5_round_1 rfl rfl ?_
  refine z_iload_n O 1 dX5_round_2 rfl rfl ?_
  refine bs hr (fun v1 hF hr => ?_)
  refine z_callV O [vi x1] (vi v1) fV_X5_doorOf q1340 (fun l G => mX5_doorOf l G x0 x1 h _ hF) (zck hF) rfl rfl ⟨Nat.le_of_ble_eq_true rfl, Nat.le_of_ble_eq_true rfl⟩ (Nat.le_of_ble_eq_true rfl) dX5_round_3 ?_
  refine z_iload_n O 1 dX5_round_6 rfl rfl ?_
  refine z_iconst O dX5_round_7 kic_1 ?_
  refine z_isub O dX5_round_8 ?_
  refine z_aload_n O 0 dX5_round_9 rfl rfl ?_
  refine z_iload_n O 1 dX5_round_10 rfl rfl ?_
  refine z_iconst O dX5_round_11 kic_1 ?_
  refine z_isub O dX5_round_12 ?_
  refine bs hr (fun v2 hF hr => ?_)
  refine z_callV O [vi (x1 - (1 : Int32))] (vi v2) fV_X5_doorOf q1340 (fun l G => mX5_doorOf l G x0 (x1 - (1 : Int32)) h _ hF) (zck hF) rfl rfl ⟨Nat.le_of_ble_eq_true rfl, Nat.le_of_ble_eq_true rfl⟩ (Nat.le_of_ble_eq_true rfl) dX5_round_13 ?_
  refine bs hr (fun v3 hF hr => ?_)
  refine z_callS O [vi (x1 - (1 : Int32)), vi v2] (vi v3) fS_X17_front q1341 (fun l G => mX17_front l G (x1 - (1 : Int32)) v2 h _ hF) rfl ⟨Nat.le_of_ble_eq_true rfl, Nat.le_of_ble_eq_true rfl⟩ (Nat.le_of_ble_eq_true rfl) dX5_round_16 ?_
  refine bs hr (fun v4 hF hr => ?_)
  refine z_callS O [vi x1, vi v1, vi v3] (vi v4) fS_X17_round q1342 (fun l G => mX17_round l G x1 v1 v3 h _ hF) rfl ⟨Nat.le_of_ble_eq_true rfl, Nat.le_of_ble_eq_true rfl⟩ (Nat.le_of_ble_eq_true rfl) dX5_round_19 ?_
  exact z_iret O dX5_round_22 (by cases hr; rfl)
theorem fV_X5_way : CVf RX5 yX5_way cX5_way 4 (some .int) 1 := ⟨q1333, q1334, q133, q1335, ⟨⟨by decide +kernel, by decide +kernel⟩, by decide +kernel⟩⟩
def bX5_way_46 (N : Nat) (x0 : Option Nat) (x1 : Int32) (x2 : Int32) (h : AH) : Option (Int32) :=
  if x1 = 0 then
    (gI h f_House_many x0).bind fun v1 =>
    if v1 ≤ 0 then
      some x2
    else
      some (x2 + (1 : Int32))
  else
    some x2
theorem wX5_way_46 {K : ZC} (O : ZOk K cX5_way RX5 "way" 4 (some .int) 5 134) (N : Nat) (x0 : Option Nat) (x1 : Int32) (x2 : Int32) (h : AH) (r : Int32) (hr : bX5_way_46 N x0 x1 x2 h = some r) : Zw K (eI h r) h 46 [(0, vr x0), (1, vi x1), (2, vi x2)] [] := by
  unfold bX5_way_46 at hr
  refine z_iload_n O 1 dX5_way_46 rfl rfl ?_
  refine z_if_ne (tgt := 63) O dX5_way_47 (by decide) hr (fun hr => ?_) (fun hr => ?_)
  · refine z_aload_n O 0 dX5_way_50 rfl rfl ?_
    refine z_getI O o_House_many q311 dX5_way_51 hr (fun v1 hr => ?_)
    refine z_if_le (tgt := 63) O dX5_way_54 (by decide) hr (fun hr => ?_) (fun hr => ?_)
    · refine z_iload_n O 2 dX5_way_63 rfl rfl ?_
      exact z_iret O dX5_way_64 (by cases hr; rfl)
    · refine z_iload_n O 2 dX5_way_57 rfl rfl ?_
      refine z_iconst O dX5_way_58 kic_1 ?_
      refine z_iadd O dX5_way_59 ?_
      refine z_goto (tgt := 64) O dX5_way_60 (by decide) ?_
      exact z_iret O dX5_way_64 (by cases hr; rfl)
  · refine z_iload_n O 2 dX5_way_63 rfl rfl ?_
    exact z_iret O dX5_way_64 (by cases hr; rfl)
def BX5_way_7 (N : Nat) (x0 : Option Nat) (x1 : Int32) (h : AH) (rec7 : Int32 → Int32 → Option (Int32)) : Int32 → Int32 → Option (Int32) := fun x2 x3 =>
  if x3 < x1 then
    bX5_way_46 N x0 x1 x2 h
  else
    if x3 ≤ 0 then
      bX5_way_46 N x0 x1 x2 h
    else
      if x3 ≤ x1 then
        jlet (x2 + ((1 : Int32) + (0 : Int32))) fun v1 =>
        jlet (x3 + (-1 : Int32)) fun v2 =>
        rec7 v1 v2
      else
        if x3 ≤ (1 : Int32) then
          jlet (x2 + ((1 : Int32) + (0 : Int32))) fun v3 =>
          jlet (x3 + (-1 : Int32)) fun v4 =>
          rec7 v3 v4
        else
          (F_X5_round x0 x3 h).bind fun v5 =>
          jlet (x2 + ((1 : Int32) + v5)) fun v6 =>
          jlet (x3 + (-1 : Int32)) fun v7 =>
          rec7 v6 v7
def LX5_way_7 (N : Nat) (x0 : Option Nat) (x1 : Int32) (h : AH) : Int32 → Int32 → Option (Int32) := lf (fun _ _ => none) (BX5_way_7 N x0 x1 h) N
theorem wX5_way_7B {K : ZC} (O : ZOk K cX5_way RX5 "way" 4 (some .int) 5 134) (N : Nat) (x0 : Option Nat) (x1 : Int32) (h : AH) (rec7 : Int32 → Int32 → Option (Int32)) (hrec7 : ∀ (y2 : Int32) (y3 : Int32) (ry : Int32), rec7 y2 y3 = some ry → Zw K (eI h ry) h 7 [(0, vr x0), (1, vi x1), (2, vi y2), (3, vi y3)] []) (x2 : Int32) (x3 : Int32) (r : Int32) (hr : BX5_way_7 N x0 x1 h rec7 x2 x3 = some r) : Zw K (eI h r) h 7 [(0, vr x0), (1, vi x1), (2, vi x2), (3, vi x3)] [] := by
  unfold BX5_way_7 at hr
  refine z_iload_n O 3 dX5_way_7 rfl rfl ?_
  refine z_iload_n O 1 dX5_way_8 rfl rfl ?_
  refine z_icmp_lt (tgt := 46) O dX5_way_9 (by decide) hr (fun hr => ?_) (fun hr => ?_)
  · refine z_sub [0, 1, 2] rfl ?_
    exact wX5_way_46 O N x0 x1 x2 h _ hr
  · refine z_iload_n O 3 dX5_way_12 rfl rfl ?_
    refine z_if_le (tgt := 46) O dX5_way_13 (by decide) hr (fun hr => ?_) (fun hr => ?_)
    · refine z_sub [0, 1, 2] rfl ?_
      exact wX5_way_46 O N x0 x1 x2 h _ hr
    · refine z_iload_n O 2 dX5_way_16 rfl rfl ?_
      refine z_iconst O dX5_way_17 kic_1 ?_
      refine z_iload_n O 3 dX5_way_18 rfl rfl ?_
      refine z_iload_n O 1 dX5_way_19 rfl rfl ?_
      refine z_icmp_le (tgt := 36) O dX5_way_20 (by decide) hr (fun hr => ?_) (fun hr => ?_)
      · refine z_iconst O dX5_way_36 kic_0 ?_
        refine z_iadd O dX5_way_37 ?_
        refine z_iadd O dX5_way_38 ?_
        refine z_letI hr (fun v1 hr => ?_)
        refine z_istore_n O [(2, vi v1), (0, vr x0), (1, vi x1), (3, vi x3)] dX5_way_39 rfl (by decide) rfl ?_
        refine z_iincL O 3 (fun v2 => [(3, vi v2), (2, vi v1), (0, vr x0), (1, vi x1)]) dX5_way_40 rfl rfl (by decide) (fun _ => rfl) hr (fun v2 hr => ?_)
        refine z_goto (tgt := 7) O dX5_way_43 (by decide) ?_
        refine z_sub [2, 3, 1, 0] rfl ?_
        exact hrec7 v1 v2 _ hr
      · refine z_iload_n O 3 dX5_way_23 rfl rfl ?_
        refine z_iconst O dX5_way_24 kic_1 ?_
        refine z_icmp_le (tgt := 36) O dX5_way_25 (by decide) hr (fun hr => ?_) (fun hr => ?_)
        · refine z_iconst O dX5_way_36 kic_0 ?_
          refine z_iadd O dX5_way_37 ?_
          refine z_iadd O dX5_way_38 ?_
          refine z_letI hr (fun v3 hr => ?_)
          refine z_istore_n O [(2, vi v3), (0, vr x0), (1, vi x1), (3, vi x3)] dX5_way_39 rfl (by decide) rfl ?_
          refine z_iincL O 3 (fun v4 => [(3, vi v4), (2, vi v3), (0, vr x0), (1, vi x1)]) dX5_way_40 rfl rfl (by decide) (fun _ => rfl) hr (fun v4 hr => ?_)
          refine z_goto (tgt := 7) O dX5_way_43 (by decide) ?_
          refine z_sub [2, 3, 1, 0] rfl ?_
          exact hrec7 v3 v4 _ hr
        · refine z_aload_n O 0 dX5_way_28 rfl rfl ?_
          refine z_iload_n O 3 dX5_way_29 rfl rfl ?_
          refine bs hr (fun v5 hF hr => ?_)
          refine z_callV O [vi x3] (vi v5) fV_X5_round q1336 (fun l G => mX5_round l G x0 x3 h _ hF) (zck hF) rfl rfl ⟨Nat.le_of_ble_eq_true rfl, Nat.le_of_ble_eq_true rfl⟩ (Nat.le_of_ble_eq_true rfl) dX5_way_30 ?_
          refine z_goto (tgt := 37) O dX5_way_33 (by decide) ?_
          refine z_iadd O dX5_way_37 ?_
          refine z_iadd O dX5_way_38 ?_
          refine z_letI hr (fun v6 hr => ?_)
          refine z_istore_n O [(2, vi v6), (0, vr x0), (1, vi x1), (3, vi x3)] dX5_way_39 rfl (by decide) rfl ?_
          refine z_iincL O 3 (fun v7 => [(3, vi v7), (2, vi v6), (0, vr x0), (1, vi x1)]) dX5_way_40 rfl rfl (by decide) (fun _ => rfl) hr (fun v7 hr => ?_)
          refine z_goto (tgt := 7) O dX5_way_43 (by decide) ?_
          refine z_sub [2, 3, 1, 0] rfl ?_
          exact hrec7 v6 v7 _ hr
theorem wX5_way_7 {K : ZC} (O : ZOk K cX5_way RX5 "way" 4 (some .int) 5 134) (N : Nat) (x0 : Option Nat) (x1 : Int32) (h : AH) : ∀ (n : Nat) (x2 : Int32) (x3 : Int32) (r : Int32), lf (fun _ _ => none) (BX5_way_7 N x0 x1 h) n x2 x3 = some r → Zw K (eI h r) h 7 [(0, vr x0), (1, vi x1), (2, vi x2), (3, vi x3)] [] := by
  intro n
  induction n with
  | zero => intro x2 x3 r hr; cases hr
  | succ n ih => intro x2 x3 r hr; exact wX5_way_7B O N x0 x1 h (lf (fun _ _ => none) (BX5_way_7 N x0 x1 h) n)  ih x2 x3 r hr
def F_X5_way (N : Nat) (x0 : Option Nat) (x1 : Int32) (h : AH) : Option (Int32) :=
  (ck h [5] x0).bind fun _ =>
  (gI h f_House_many x0).bind fun v1 =>
  LX5_way_7 N x0 x1 h (0 : Int32) v1
theorem mX5_way (l : Launch) (G : ZG) (N : Nat) (x0 : Option Nat) (x1 : Int32) (h : AH) (r : Int32) (hr : F_X5_way N x0 x1 h = some r) : MZ l G yX5_way cX5_way 4 (some .int) 5 134 [vr x0, vi x1] h (eI h r) := by
  unfold F_X5_way at hr
  refine MZ.of (by decide) [(0, vr x0), (1, vi x1)] rfl (Nat.le_of_ble_eq_true rfl) (fun K O => ?_)
  have O : ZOk K cX5_way RX5 "way" 4 (some .int) 5 134 := O
  refine bs hr (fun _ hck hr => ?_)
  refine z_iconst O dX5_way_0 kic_0 ?_
  refine z_istore_n O [(2, vi (0 : Int32)), (0, vr x0), (1, vi x1)] dX5_way_1 rfl (by decide) rfl ?_
  refine z_aload_n O 1 dX5_way_2 rfl rfl ?_
  refine z_getI O o_House_many q311 dX5_way_3 hr (fun v1 hr => ?_)
  refine z_istore_n O [(3, vi v1), (2, vi (0 : Int32)), (0, vr x0), (1, vi x1)] dX5_way_6 rfl (by decide) rfl ?_
  refine z_sub [2, 3, 1, 0] rfl ?_
  exact wX5_way_7 O N x0 x1 h _ (0 : Int32) v1 _ hr
theorem fV_X4_finds : CVf RX4 yX4_finds cX4_finds 7 (some .boolean) 1 := ⟨q1318, q1319, q132, q1320, ⟨⟨by decide +kernel, by decide +kernel⟩, by decide +kernel⟩⟩
def bX4_finds_140 (N : Nat) (rec27 : Int32 → Int32 → AH → Option (Int32 × AH)) (rec36 : Int32 → Int32 → AH → Option (Int32 × AH)) (x0 : Option Nat) (x1 : Int32) (x2 : Int32) (x4 : Int32) (x5 : Int32) (x6 : Int32) (h : AH) : Option (Int32 × AH) :=
  (pI h f_Village_doorSide x0 x4).bind fun h1 =>
  (pI h1 f_Village_doorOn x0 x5).bind fun h2 =>
  jlet (x5 + (1 : Int32)) fun v3 =>
  rec36 x6 v3 h2
theorem wX4_finds_140 {K : ZC} (O : ZOk K cX4_finds RX4 "finds" 7 (some .boolean) 6 166) (N : Nat) (rec27 : Int32 → Int32 → AH → Option (Int32 × AH)) (rec36 : Int32 → Int32 → AH → Option (Int32 × AH)) (x0 : Option Nat) (x1 : Int32) (x2 : Int32) (x4 : Int32) (x5 : Int32) (x6 : Int32) (h : AH) (hrec27 : ∀ (y3 : Int32) (y4 : Int32) (hy : AH) (ry : Int32 × AH), rec27 y3 y4 hy = some ry → Zw K (eIH ry) hy 27 [(0, vr x0), (1, vi x1), (2, vi x2), (3, vi y3), (4, vi y4)] []) (hrec36 : ∀ (y3 : Int32) (y5 : Int32) (hy : AH) (ry : Int32 × AH), rec36 y3 y5 hy = some ry → Zw K (eIH ry) hy 36 [(0, vr x0), (1, vi x1), (2, vi x2), (3, vi y3), (4, vi x4), (5, vi y5)] []) (r : Int32 × AH) (hr : bX4_finds_140 N rec27 rec36 x0 x1 x2 x4 x5 x6 h = some r) : Zw K (eIH r) h 140 [(0, vr x0), (1, vi x1), (2, vi x2), (4, vi x4), (5, vi x5), (6, vi x6)] [] := by
  unfold bX4_finds_140 at hr
  refine z_iload O 5 dX4_finds_140 rfl ?_
  refine z_istore_n O [(3, vi x6), (0, vr x0), (1, vi x1), (2, vi x2), (4, vi x4), (5, vi x5), (6, vi x6)] dX4_finds_142 rfl (by decide) rfl ?_
  refine z_aload_n O 1 dX4_finds_143 rfl rfl ?_
  refine z_iload O 4 dX4_finds_144 rfl ?_
  refine z_putI O o_Village_doorSide (w_Village_doorSide _) q352 dX4_finds_146 hr (fun h1 hr => ?_)
  refine z_aload_n O 1 dX4_finds_149 rfl rfl ?_
  refine z_iload O 5 dX4_finds_150 rfl ?_
  refine z_putI O o_Village_doorOn (w_Village_doorOn _) q354 dX4_finds_152 hr (fun h2 hr => ?_)
  refine z_iincL O 5 (fun v3 => [(5, vi v3), (3, vi x6), (0, vr x0), (1, vi x1), (2, vi x2), (4, vi x4), (6, vi x6)]) dX4_finds_155 rfl rfl (by decide) (fun _ => rfl) hr (fun v3 hr => ?_)
  refine z_goto (tgt := 36) O dX4_finds_158 (by decide) ?_
  refine z_sub [2, 3, 4, 1, 5, 0] rfl ?_
  exact hrec36 x6 v3 h2 _ hr
def BX4_finds_36 (N : Nat) (rec27 : Int32 → Int32 → AH → Option (Int32 × AH)) (x0 : Option Nat) (x1 : Int32) (x2 : Int32) (x4 : Int32) (rec36 : Int32 → Int32 → AH → Option (Int32 × AH)) : Int32 → Int32 → AH → Option (Int32 × AH) := fun x3 x5 h =>
  if (((2 : Int32) * x2) - (1 : Int32)) ≤ x5 then
    jlet (x4 + (1 : Int32)) fun v1 =>
    rec27 x3 v1 h
  else
    (F_X4_canDoor N x0 x1 x4 x5 h).bind fun v2 =>
    if v2 = 0 then
      jlet (x5 + (1 : Int32)) fun v18 =>
      rec36 x3 v18 h
    else
      (gR h f_Village_tried x0).bind fun v3 =>
      (gR h f_Village_houses x0).bind fun v4 =>
      (aR h v4 x1).bind fun v5 =>
      (F_X5_become N v3 v5 h).bind fun h6 =>
      (gR h6 f_Village_tried x0).bind fun v7 =>
      (gR h6 f_Village_tried x0).bind fun v8 =>
      (gR h6 f_House_site v8).bind fun v9 =>
      (gR h6 f_Site_stone v9).bind fun v10 =>
      (F_X5_build v7 v10 x4 x5 (0 : Int32) (0 : Int32) h6).bind fun h11 =>
      (gR h11 f_Village_tried x0).bind fun v12 =>
      (F_X5_way N v12 (0 : Int32) h11).bind fun v13 =>
      if x3 = (-1 : Int32) then
        bX4_finds_140 N rec27 rec36 x0 x1 x2 x4 x5 v13 h11
      else
        (gR h11 f_Village_land x0).bind fun v14 =>
        (gI h11 f_Land_far v14).bind fun v15 =>
        if v15 = 0 then
          if v13 < x3 then
            bX4_finds_140 N rec27 rec36 x0 x1 x2 x4 x5 v13 h11
          else
            jlet (x5 + (1 : Int32)) fun v16 =>
            rec36 x3 v16 h11
        else
          if x3 < v13 then
            bX4_finds_140 N rec27 rec36 x0 x1 x2 x4 x5 v13 h11
          else
            jlet (x5 + (1 : Int32)) fun v17 =>
            rec36 x3 v17 h11
def LX4_finds_36 (N : Nat) (rec27 : Int32 → Int32 → AH → Option (Int32 × AH)) (x0 : Option Nat) (x1 : Int32) (x2 : Int32) (x4 : Int32) : Int32 → Int32 → AH → Option (Int32 × AH) := lf (fun _ _ _ => none) (BX4_finds_36 N rec27 x0 x1 x2 x4) N
theorem wX4_finds_36B {K : ZC} (O : ZOk K cX4_finds RX4 "finds" 7 (some .boolean) 6 166) (N : Nat) (rec27 : Int32 → Int32 → AH → Option (Int32 × AH)) (x0 : Option Nat) (x1 : Int32) (x2 : Int32) (x4 : Int32) (rec36 : Int32 → Int32 → AH → Option (Int32 × AH)) (hrec27 : ∀ (y3 : Int32) (y4 : Int32) (hy : AH) (ry : Int32 × AH), rec27 y3 y4 hy = some ry → Zw K (eIH ry) hy 27 [(0, vr x0), (1, vi x1), (2, vi x2), (3, vi y3), (4, vi y4)] []) (hrec36 : ∀ (y3 : Int32) (y5 : Int32) (hy : AH) (ry : Int32 × AH), rec36 y3 y5 hy = some ry → Zw K (eIH ry) hy 36 [(0, vr x0), (1, vi x1), (2, vi x2), (3, vi y3), (4, vi x4), (5, vi y5)] []) (x3 : Int32) (x5 : Int32) (h : AH) (r : Int32 × AH) (hr : BX4_finds_36 N rec27 x0 x1 x2 x4 rec36 x3 x5 h = some r) : Zw K (eIH r) h 36 [(0, vr x0), (1, vi x1), (2, vi x2), (3, vi x3), (4, vi x4), (5, vi x5)] [] := by
  unfold BX4_finds_36 at hr
  refine z_iload O 5 dX4_finds_36 rfl ?_
  refine z_iconst O dX4_finds_38 kic_2 ?_
  refine z_iload_n O 2 dX4_finds_39 rfl rfl ?_
  refine z_imul O dX4_finds_40 ?_
  refine z_iconst O dX4_finds_41 kic_1 ?_
  refine z_isub O dX4_finds_42 ?_
  refine z_icmp_ge (tgt := 161) O dX4_finds_43 (by decide) hr (fun hr => ?_) (fun hr => ?_)
  · refine z_iincL O 4 (fun v1 => [(4, vi v1), (0, vr x0), (1, vi x1), (2, vi x2), (3, vi x3), (5, vi x5)]) dX4_finds_161 rfl rfl (by decide) (fun _ => rfl) hr (fun v1 hr => ?_)
    refine z_goto (tgt := 27) O dX4_finds_164 (by decide) ?_
    refine z_sub [1, 2, 3, 4, 0] rfl ?_
    exact hrec27 x3 v1 h _ hr
  · refine z_aload_n O 0 dX4_finds_46 rfl rfl ?_
    refine z_iload_n O 1 dX4_finds_47 rfl rfl ?_
    refine z_iload O 4 dX4_finds_48 rfl ?_
    refine z_iload O 5 dX4_finds_50 rfl ?_
    refine bs hr (fun v2 hF hr => ?_)
    refine z_callV O [vi x1, vi x4, vi x5] (vi v2) fV_X4_canDoor q1322 (fun l G => mX4_canDoor l G N x0 x1 x4 x5 h _ hF) (zck hF) rfl rfl ⟨Nat.le_of_ble_eq_true rfl, Nat.le_of_ble_eq_true rfl⟩ (Nat.le_of_ble_eq_true rfl) dX4_finds_52 ?_
    refine z_if_ne (tgt := 61) O dX4_finds_55 (by decide) hr (fun hr => ?_) (fun hr => ?_)
    · refine z_goto (tgt := 155) O dX4_finds_58 (by decide) ?_
      refine z_iincL O 5 (fun v18 => [(5, vi v18), (0, vr x0), (1, vi x1), (2, vi x2), (3, vi x3), (4, vi x4)]) dX4_finds_155 rfl rfl (by decide) (fun _ => rfl) hr (fun v18 hr => ?_)
      refine z_goto (tgt := 36) O dX4_finds_158 (by decide) ?_
      refine z_sub [1, 2, 3, 4, 5, 0] rfl ?_
      exact hrec36 x3 v18 h _ hr
    · refine z_aload_n O 0 dX4_finds_61 rfl rfl ?_
      refine z_getR O o_Village_tried q338 dX4_finds_62 hr (fun v3 hr => ?_)
      refine z_aload_n O 0 dX4_finds_65 rfl rfl ?_
      refine z_getR O o_Village_houses q337 dX4_finds_66 hr (fun v4 hr => ?_)
      refine z_iload_n O 1 dX4_finds_69 rfl rfl ?_
      refine z_aaload O dX4_finds_70 hr (fun v5 hr => ?_)
      refine bs hr (fun h6 hF hr => ?_)
      refine z_callVv O [vr v5] fV_X5_become q1203 (fun l G => mX5_become l G N v3 v5 h _ hF) (zck hF) rfl rfl ⟨Nat.le_of_ble_eq_true rfl, Nat.le_of_ble_eq_true rfl⟩ (Nat.le_of_ble_eq_true rfl) dX4_finds_71 ?_
      refine z_aload_n O 0 dX4_finds_74 rfl rfl ?_
      refine z_getR O o_Village_tried q338 dX4_finds_75 hr (fun v7 hr => ?_)
      refine z_aload_n O 0 dX4_finds_78 rfl rfl ?_
      refine z_getR O o_Village_tried q338 dX4_finds_79 hr (fun v8 hr => ?_)
      refine z_getR O o_House_site q309 dX4_finds_82 hr (fun v9 hr => ?_)
      refine z_getR O o_Site_stone q1027 dX4_finds_85 hr (fun v10 hr => ?_)
      refine z_iload O 4 dX4_finds_88 rfl ?_
      refine z_iload O 5 dX4_finds_90 rfl ?_
      refine z_iconst O dX4_finds_92 kic_0 ?_
      refine z_iconst O dX4_finds_93 kic_0 ?_
      refine bs hr (fun h11 hF hr => ?_)
      refine z_callVv O [vr v10, vi x4, vi x5, vi (0 : Int32), vi (0 : Int32)] fV_X5_build q1331 (fun l G => mX5_build l G v7 v10 x4 x5 (0 : Int32) (0 : Int32) h6 _ hF) (zck hF) rfl rfl ⟨Nat.le_of_ble_eq_true rfl, Nat.le_of_ble_eq_true rfl⟩ (Nat.le_of_ble_eq_true rfl) dX4_finds_94 ?_
      refine z_aload_n O 0 dX4_finds_97 rfl rfl ?_
      refine z_getR O o_Village_tried q338 dX4_finds_98 hr (fun v12 hr => ?_)
      refine z_iconst O dX4_finds_101 kic_0 ?_
      refine bs hr (fun v13 hF hr => ?_)
      refine z_callV O [vi (0 : Int32)] (vi v13) fV_X5_way q1332 (fun l G => mX5_way l G N v12 (0 : Int32) h11 _ hF) (zck hF) rfl rfl ⟨Nat.le_of_ble_eq_true rfl, Nat.le_of_ble_eq_true rfl⟩ (Nat.le_of_ble_eq_true rfl) dX4_finds_102 ?_
      refine z_istore O [(6, vi v13), (0, vr x0), (1, vi x1), (2, vi x2), (3, vi x3), (4, vi x4), (5, vi x5)] dX4_finds_105 (by decide) rfl ?_
      refine z_iload_n O 4 dX4_finds_107 rfl rfl ?_
      refine z_iconst O dX4_finds_108 kic_m1 ?_
      refine z_icmp_eq (tgt := 140) O dX4_finds_109 (by decide) hr (fun hr => ?_) (fun hr => ?_)
      · refine z_sub [1, 2, 3, 5, 6, 0] rfl ?_
        exact wX4_finds_140 O N rec27 rec36 x0 x1 x2 x4 x5 v13 h11 hrec27 hrec36 _ hr
      · refine z_aload_n O 1 dX4_finds_112 rfl rfl ?_
        refine z_getR O o_Village_land q344 dX4_finds_113 hr (fun v14 hr => ?_)
        refine z_getI O o_Land_far q612 dX4_finds_116 hr (fun v15 hr => ?_)
        refine z_if_eq (tgt := 131) O dX4_finds_119 (by decide) hr (fun hr => ?_) (fun hr => ?_)
        · refine z_iload O 0 dX4_finds_131 rfl ?_
          refine z_iload_n O 4 dX4_finds_133 rfl rfl ?_
          refine z_icmp_lt (tgt := 140) O dX4_finds_134 (by decide) hr (fun hr => ?_) (fun hr => ?_)
          · refine z_sub [1, 2, 3, 5, 6, 0] rfl ?_
            exact wX4_finds_140 O N rec27 rec36 x0 x1 x2 x4 x5 v13 h11 hrec27 hrec36 _ hr
          · refine z_goto (tgt := 155) O dX4_finds_137 (by decide) ?_
            refine z_iincL O 6 (fun v16 => [(5, vi v16), (6, vi v13), (0, vr x0), (1, vi x1), (2, vi x2), (3, vi x3), (4, vi x4)]) dX4_finds_155 rfl rfl (by decide) (fun _ => rfl) hr (fun v16 hr => ?_)
            refine z_goto (tgt := 36) O dX4_finds_158 (by decide) ?_
            refine z_sub [2, 3, 4, 5, 6, 0] rfl ?_
            exact hrec36 x3 v16 h11 _ hr
        · refine z_iload O 0 dX4_finds_122 rfl ?_
          refine z_iload_n O 4 dX4_finds_124 rfl rfl ?_
          refine z_icmp_gt (tgt := 140) O dX4_finds_125 (by decide) hr (fun hr => ?_) (fun hr => ?_)
          · refine z_sub [1, 2, 3, 5, 6, 0] rfl ?_
            exact wX4_finds_140 O N rec27 rec36 x0 x1 x2 x4 x5 v13 h11 hrec27 hrec36 _ hr
          · refine z_goto (tgt := 155) O dX4_finds_128 (by decide) ?_
            refine z_iincL O 6 (fun v17 => [(5, vi v17), (6, vi v13), (0, vr x0), (1, vi x1), (2, vi x2), (3, vi x3), (4, vi x4)]) dX4_finds_155 rfl rfl (by decide) (fun _ => rfl) hr (fun v17 hr => ?_)
            refine z_goto (tgt := 36) O dX4_finds_158 (by decide) ?_
            refine z_sub [2, 3, 4, 5, 6, 0] rfl ?_
            exact hrec36 x3 v17 h11 _ hr
theorem wX4_finds_36 {K : ZC} (O : ZOk K cX4_finds RX4 "finds" 7 (some .boolean) 6 166) (N : Nat) (rec27 : Int32 → Int32 → AH → Option (Int32 × AH)) (x0 : Option Nat) (x1 : Int32) (x2 : Int32) (x4 : Int32) (hrec27 : ∀ (y3 : Int32) (y4 : Int32) (hy : AH) (ry : Int32 × AH), rec27 y3 y4 hy = some ry → Zw K (eIH ry) hy 27 [(0, vr x0), (1, vi x1), (2, vi x2), (3, vi y3), (4, vi y4)] []) : ∀ (n : Nat) (x3 : Int32) (x5 : Int32) (h : AH) (r : Int32 × AH), lf (fun _ _ _ => none) (BX4_finds_36 N rec27 x0 x1 x2 x4) n x3 x5 h = some r → Zw K (eIH r) h 36 [(0, vr x0), (1, vi x1), (2, vi x2), (3, vi x3), (4, vi x4), (5, vi x5)] [] := by
  intro n
  induction n with
  | zero => intro x3 x5 h r hr; cases hr
  | succ n ih => intro x3 x5 h r hr; exact wX4_finds_36B O N rec27 x0 x1 x2 x4 (lf (fun _ _ _ => none) (BX4_finds_36 N rec27 x0 x1 x2 x4) n) hrec27 ih x3 x5 h r hr
def BX4_finds_27 (N : Nat) (x0 : Option Nat) (x1 : Int32) (x2 : Int32) (rec27 : Int32 → Int32 → AH → Option (Int32 × AH)) : Int32 → Int32 → AH → Option (Int32 × AH) := fun x3 x4 h =>
  if (4 : Int32) ≤ x4 then
    if x3 = (-1 : Int32) then
      (zb (0 : Int32)).bind fun v1 => some (v1, h)
    else
      (zb (1 : Int32)).bind fun v2 => some (v2, h)
  else
    LX4_finds_36 N rec27 x0 x1 x2 x4 x3 (0 : Int32) h
def LX4_finds_27 (N : Nat) (x0 : Option Nat) (x1 : Int32) (x2 : Int32) : Int32 → Int32 → AH → Option (Int32 × AH) := lf (fun _ _ _ => none) (BX4_finds_27 N x0 x1 x2) N
theorem wX4_finds_27B {K : ZC} (O : ZOk K cX4_finds RX4 "finds" 7 (some .boolean) 6 166) (N : Nat) (x0 : Option Nat) (x1 : Int32) (x2 : Int32) (rec27 : Int32 → Int32 → AH → Option (Int32 × AH)) (hrec27 : ∀ (y3 : Int32) (y4 : Int32) (hy : AH) (ry : Int32 × AH), rec27 y3 y4 hy = some ry → Zw K (eIH ry) hy 27 [(0, vr x0), (1, vi x1), (2, vi x2), (3, vi y3), (4, vi y4)] []) (x3 : Int32) (x4 : Int32) (h : AH) (r : Int32 × AH) (hr : BX4_finds_27 N x0 x1 x2 rec27 x3 x4 h = some r) : Zw K (eIH r) h 27 [(0, vr x0), (1, vi x1), (2, vi x2), (3, vi x3), (4, vi x4)] [] := by
  unfold BX4_finds_27 at hr
  refine z_iload O 4 dX4_finds_27 rfl ?_
  refine z_iconst O dX4_finds_29 kic_4 ?_
  refine z_icmp_ge (tgt := 167) O dX4_finds_30 (by decide) hr (fun hr => ?_) (fun hr => ?_)
  · refine z_iload_n O 3 dX4_finds_167 rfl rfl ?_
    refine z_iconst O dX4_finds_168 kic_m1 ?_
    refine z_icmp_eq (tgt := 176) O dX4_finds_169 (by decide) hr (fun hr => ?_) (fun hr => ?_)
    · refine z_iconst O dX4_finds_176 kic_0 ?_
      refine bs hr (fun v1 e0 hr => ?_)
      obtain ⟨e1, e2, -⟩ := zb_spec e0
      exact z_zret O e2 dX4_finds_177 (by cases hr; cases e1; rfl)
    · refine z_iconst O dX4_finds_172 kic_1 ?_
      refine z_goto (tgt := 177) O dX4_finds_173 (by decide) ?_
      refine bs hr (fun v2 e0 hr => ?_)
      obtain ⟨e1, e2, -⟩ := zb_spec e0
      exact z_zret O e2 dX4_finds_177 (by cases hr; cases e1; rfl)
  · refine z_iconst O dX4_finds_33 kic_0 ?_
    refine z_istore O [(5, vi (0 : Int32)), (0, vr x0), (1, vi x1), (2, vi x2), (3, vi x3), (4, vi x4)] dX4_finds_34 (by decide) rfl ?_
    refine z_sub [1, 2, 3, 4, 5, 0] rfl ?_
    exact wX4_finds_36 O N rec27 x0 x1 x2 x4 hrec27 _ x3 (0 : Int32) h _ hr
theorem wX4_finds_27 {K : ZC} (O : ZOk K cX4_finds RX4 "finds" 7 (some .boolean) 6 166) (N : Nat) (x0 : Option Nat) (x1 : Int32) (x2 : Int32) : ∀ (n : Nat) (x3 : Int32) (x4 : Int32) (h : AH) (r : Int32 × AH), lf (fun _ _ _ => none) (BX4_finds_27 N x0 x1 x2) n x3 x4 h = some r → Zw K (eIH r) h 27 [(0, vr x0), (1, vi x1), (2, vi x2), (3, vi x3), (4, vi x4)] [] := by
  intro n
  induction n with
  | zero => intro x3 x4 h r hr; cases hr
  | succ n ih => intro x3 x4 h r hr; exact wX4_finds_27B O N x0 x1 x2 (lf (fun _ _ _ => none) (BX4_finds_27 N x0 x1 x2) n)  ih x3 x4 h r hr
def F_X4_finds (N : Nat) (x0 : Option Nat) (x1 : Int32) (h : AH) : Option (Int32 × AH) :=
  (ck h [4] x0).bind fun _ =>
  (F_X4_fits N x0 x1 h).bind fun v1 =>
  if v1 = 0 then
    (zb (0 : Int32)).bind fun v6 => some (v6, h)
  else
    (gR h f_Village_houses x0).bind fun v2 =>
    (aR h v2 x1).bind fun v3 =>
    (gI h f_House_many v3).bind fun v4 =>
    jlet (v4 + (1 : Int32)) fun v5 =>
    LX4_finds_27 N x0 x1 v5 (-1 : Int32) (0 : Int32) h
theorem mX4_finds (l : Launch) (G : ZG) (N : Nat) (x0 : Option Nat) (x1 : Int32) (h : AH) (r : Int32 × AH) (hr : F_X4_finds N x0 x1 h = some r) : MZ l G yX4_finds cX4_finds 7 (some .boolean) 6 166 [vr x0, vi x1] h (eIH r) := by
  unfold F_X4_finds at hr
  refine MZ.of (by decide) [(0, vr x0), (1, vi x1)] rfl (Nat.le_of_ble_eq_true rfl) (fun K O => ?_)
  have O : ZOk K cX4_finds RX4 "finds" 7 (some .boolean) 6 166 := O
  refine bs hr (fun _ hck hr => ?_)
  refine z_aload_n O 0 dX4_finds_0 rfl rfl ?_
  refine z_iload_n O 1 dX4_finds_1 rfl rfl ?_
  refine bs hr (fun v1 hF hr => ?_)
  refine z_callV O [vi x1] (vi v1) fV_X4_fits q1321 (fun l G => mX4_fits l G N x0 x1 h _ hF) (zck hF) rfl rfl ⟨Nat.le_of_ble_eq_true rfl, Nat.le_of_ble_eq_true rfl⟩ (Nat.le_of_ble_eq_true rfl) dX4_finds_2 ?_
  refine z_if_ne (tgt := 10) O dX4_finds_5 (by decide) hr (fun hr => ?_) (fun hr => ?_)
  · refine z_iconst O dX4_finds_8 kic_0 ?_
    refine bs hr (fun v6 e0 hr => ?_)
    obtain ⟨e1, e2, -⟩ := zb_spec e0
    exact z_zret O e2 dX4_finds_9 (by cases hr; cases e1; rfl)
  · refine z_aload_n O 0 dX4_finds_10 rfl rfl ?_
    refine z_getR O o_Village_houses q337 dX4_finds_11 hr (fun v2 hr => ?_)
    refine z_iload_n O 1 dX4_finds_14 rfl rfl ?_
    refine z_aaload O dX4_finds_15 hr (fun v3 hr => ?_)
    refine z_getI O o_House_many q313 dX4_finds_16 hr (fun v4 hr => ?_)
    refine z_iconst O dX4_finds_19 kic_1 ?_
    refine z_iadd O dX4_finds_20 ?_
    refine z_letI hr (fun v5 hr => ?_)
    refine z_istore_n O [(2, vi v5), (0, vr x0), (1, vi x1)] dX4_finds_21 rfl (by decide) rfl ?_
    refine z_iconst O dX4_finds_22 kic_m1 ?_
    refine z_istore_n O [(3, vi (-1 : Int32)), (2, vi v5), (0, vr x0), (1, vi x1)] dX4_finds_23 rfl (by decide) rfl ?_
    refine z_iconst O dX4_finds_24 kic_0 ?_
    refine z_istore O [(4, vi (0 : Int32)), (3, vi (-1 : Int32)), (2, vi v5), (0, vr x0), (1, vi x1)] dX4_finds_25 (by decide) rfl ?_
    refine z_sub [3, 4, 2, 1, 0] rfl ?_
    exact wX4_finds_27 O N x0 x1 v5 _ (-1 : Int32) (0 : Int32) h _ hr
theorem fV_X1_door : CVf RX1 yX1_door cX1_door 2 (some .int) 1 := ⟨q1314, q1315, q126, q1316, ⟨⟨by decide +kernel, by decide +kernel⟩, by decide +kernel⟩⟩
def F_X1_door (N : Nat) (x0 : Option Nat) (x1 : Int32) (h : AH) : Option (Int32 × AH) :=
  (ck h [1] x0).bind fun _ =>
  (F_X1_anew x0 h).bind fun h1 =>
  (F_X1_isHouse x0 x1 h1).bind fun v2 =>
  if v2 = 0 then
    b2 (F_X1_no x0 (1 : Int32) h1) fun v11 h10 =>
    some (v11, h10)
  else
    (gR h1 f_Year_village x0).bind fun v3 =>
    b2 (F_X4_finds N v3 x1 h1) fun v5 h4 =>
    if v5 = 0 then
      some ((-2 : Int32), h4)
    else
      (gR h4 f_Year_village x0).bind fun v6 =>
      (gI h4 f_Village_doorSide v6).bind fun v7 =>
      (gR h4 f_Year_village x0).bind fun v8 =>
      (gI h4 f_Village_doorOn v8).bind fun v9 =>
      some ((((100 : Int32) * v7) + v9), h4)
theorem mX1_door (l : Launch) (G : ZG) (N : Nat) (x0 : Option Nat) (x1 : Int32) (h : AH) (r : Int32 × AH) (hr : F_X1_door N x0 x1 h = some r) : MZ l G yX1_door cX1_door 2 (some .int) 7 192 [vr x0, vi x1] h (eIH r) := by
  unfold F_X1_door at hr
  refine MZ.of (by decide) [(0, vr x0), (1, vi x1)] rfl (Nat.le_of_ble_eq_true rfl) (fun K O => ?_)
  have O : ZOk K cX1_door RX1 "door" 2 (some .int) 7 192 := O
  refine bs hr (fun _ hck hr => ?_)
  refine z_aload_n O 0 dX1_door_0 rfl rfl ?_
  refine bs hr (fun h1 hF hr => ?_)
  refine z_callVv O [] fV_X1_anew q528 (fun l G => mX1_anew l G x0 h _ hF) (zck hF) rfl rfl ⟨Nat.le_of_ble_eq_true rfl, Nat.le_of_ble_eq_true rfl⟩ (Nat.le_of_ble_eq_true rfl) dX1_door_1 ?_
  refine z_aload_n O 0 dX1_door_4 rfl rfl ?_
  refine z_iload_n O 1 dX1_door_5 rfl rfl ?_
  refine bs hr (fun v2 hF hr => ?_)
  refine z_callV O [vi x1] (vi v2) fV_X1_isHouse q1245 (fun l G => mX1_isHouse l G x0 x1 h1 _ hF) (zck hF) rfl rfl ⟨Nat.le_of_ble_eq_true rfl, Nat.le_of_ble_eq_true rfl⟩ (Nat.le_of_ble_eq_true rfl) dX1_door_6 ?_
  refine z_if_ne (tgt := 18) O dX1_door_9 (by decide) hr (fun hr => ?_) (fun hr => ?_)
  · refine z_aload_n O 0 dX1_door_12 rfl rfl ?_
    refine z_iconst O dX1_door_13 kic_1 ?_
    refine b2s hr (fun v11 h10 hF hr => ?_)
    refine z_callV O [vi (1 : Int32)] (vi v11) fV_X1_no q535 (fun l G => mX1_no l G x0 (1 : Int32) h1 _ hF) (zck hF) rfl rfl ⟨Nat.le_of_ble_eq_true rfl, Nat.le_of_ble_eq_true rfl⟩ (Nat.le_of_ble_eq_true rfl) dX1_door_14 ?_
    exact z_iret O dX1_door_17 (by cases hr; rfl)
  · refine z_aload_n O 0 dX1_door_18 rfl rfl ?_
    refine z_getR O o_Year_village q469 dX1_door_19 hr (fun v3 hr => ?_)
    refine z_iload_n O 1 dX1_door_22 rfl rfl ?_
    refine b2s hr (fun v5 h4 hF hr => ?_)
    refine z_callV O [vi x1] (vi v5) fV_X4_finds q1317 (fun l G => mX4_finds l G N v3 x1 h1 _ hF) (zck hF) rfl rfl ⟨Nat.le_of_ble_eq_true rfl, Nat.le_of_ble_eq_true rfl⟩ (Nat.le_of_ble_eq_true rfl) dX1_door_23 ?_
    refine z_if_eq (tgt := 50) O dX1_door_26 (by decide) hr (fun hr => ?_) (fun hr => ?_)
    · refine z_bipush O dX1_door_50 kbi_m2 ?_
      exact z_iret O dX1_door_52 (by cases hr; rfl)
    · refine z_bipush O dX1_door_29 kbi_100 ?_
      refine z_aload_n O 0 dX1_door_31 rfl rfl ?_
      refine z_getR O o_Year_village q469 dX1_door_32 hr (fun v6 hr => ?_)
      refine z_getI O o_Village_doorSide q353 dX1_door_35 hr (fun v7 hr => ?_)
      refine z_imul O dX1_door_38 ?_
      refine z_aload_n O 0 dX1_door_39 rfl rfl ?_
      refine z_getR O o_Year_village q469 dX1_door_40 hr (fun v8 hr => ?_)
      refine z_getI O o_Village_doorOn q355 dX1_door_43 hr (fun v9 hr => ?_)
      refine z_iadd O dX1_door_46 ?_
      refine z_goto (tgt := 52) O dX1_door_47 (by decide) ?_
      exact z_iret O dX1_door_52 (by cases hr; rfl)
theorem fV_X1_isSkin : CVf RX1 yX1_isSkin cX1_isSkin 3 (some .boolean) 2 := ⟨q1280, qs37, q126, q1281, ⟨⟨by decide +kernel, by decide +kernel⟩, by decide +kernel⟩⟩
def F_X1_isSkin (x0 : Option Nat) (x1 : Int32) (x2 : Int32) (h : AH) : Option (Int32) :=
  (ck h [1] x0).bind fun _ =>
  (F_X1_isDepth x0 x1 x2 h).bind fun v1 =>
  if v1 = 0 then
    zb (0 : Int32)
  else
    if x2 ≤ 0 then
      zb (0 : Int32)
    else
      zb (1 : Int32)
theorem mX1_isSkin (l : Launch) (G : ZG) (x0 : Option Nat) (x1 : Int32) (x2 : Int32) (h : AH) (r : Int32) (hr : F_X1_isSkin x0 x1 x2 h = some r) : MZ l G yX1_isSkin cX1_isSkin 3 (some .boolean) 4 113 [vr x0, vi x1, vi x2] h (eI h r) := by
  unfold F_X1_isSkin at hr
  refine MZ.of (by decide) [(0, vr x0), (1, vi x1), (2, vi x2)] rfl (Nat.le_of_ble_eq_true rfl) (fun K O => ?_)
  have O : ZOk K cX1_isSkin RX1 "isSkin" 3 (some .boolean) 4 113 := O
  refine bs hr (fun _ hck hr => ?_)
  refine z_aload_n O 0 dX1_isSkin_0 rfl rfl ?_
  refine z_iload_n O 1 dX1_isSkin_1 rfl rfl ?_
  refine z_iload_n O 2 dX1_isSkin_2 rfl rfl ?_
  refine bs hr (fun v1 hF hr => ?_)
  refine z_callV O [vi x1, vi x2] (vi v1) fV_X1_isDepth q1282 (fun l G => mX1_isDepth l G x0 x1 x2 h _ hF) (zck hF) rfl rfl ⟨Nat.le_of_ble_eq_true rfl, Nat.le_of_ble_eq_true rfl⟩ (Nat.le_of_ble_eq_true rfl) dX1_isSkin_3 ?_
  refine z_if_eq (tgt := 17) O dX1_isSkin_6 (by decide) hr (fun hr => ?_) (fun hr => ?_)
  · refine z_iconst O dX1_isSkin_17 kic_0 ?_
    obtain ⟨e1, e2, -⟩ := zb_spec hr
    exact z_zret O e2 dX1_isSkin_18 (by cases e1; rfl)
  · refine z_iload_n O 2 dX1_isSkin_9 rfl rfl ?_
    refine z_if_le (tgt := 17) O dX1_isSkin_10 (by decide) hr (fun hr => ?_) (fun hr => ?_)
    · refine z_iconst O dX1_isSkin_17 kic_0 ?_
      obtain ⟨e1, e2, -⟩ := zb_spec hr
      exact z_zret O e2 dX1_isSkin_18 (by cases e1; rfl)
    · refine z_iconst O dX1_isSkin_13 kic_1 ?_
      refine z_goto (tgt := 18) O dX1_isSkin_14 (by decide) ?_
      obtain ⟨e1, e2, -⟩ := zb_spec hr
      exact z_zret O e2 dX1_isSkin_18 (by cases e1; rfl)
theorem fV_X4_draw : CVf RX4 yX4_draw cX4_draw 1 (some .int) 0 := ⟨q1453, q1454, q132, q1455, ⟨⟨by decide +kernel, by decide +kernel⟩, by decide +kernel⟩⟩
def F_X4_draw (x0 : Option Nat) (h : AH) : Option (Int32 × AH) :=
  (ck h [4] x0).bind fun _ =>
  (gI h f_Village_seed x0).bind fun v1 =>
  (rm (((75 : Int32) * v1) + (74 : Int32)) (65537 : Int32)).bind fun v2 =>
  (pI h f_Village_seed x0 v2).bind fun h3 =>
  (gI h3 f_Village_seed x0).bind fun v4 =>
  some (v4, h3)
theorem mX4_draw (l : Launch) (G : ZG) (x0 : Option Nat) (h : AH) (r : Int32 × AH) (hr : F_X4_draw x0 h = some r) : MZ l G yX4_draw cX4_draw 1 (some .int) 1 48 [vr x0] h (eIH r) := by
  unfold F_X4_draw at hr
  refine MZ.of (by decide) [(0, vr x0)] rfl (Nat.le_of_ble_eq_true rfl) (fun K O => ?_)
  have O : ZOk K cX4_draw RX4 "draw" 1 (some .int) 1 48 := O
  refine bs hr (fun _ hck hr => ?_)
  refine z_aload_n O 0 dX4_draw_0 rfl rfl ?_
  refine z_bipush O dX4_draw_1 kbi_75 ?_
  refine z_aload_n O 0 dX4_draw_3 rfl rfl ?_
  refine z_getI O o_Village_seed q350 dX4_draw_4 hr (fun v1 hr => ?_)
  refine z_imul O dX4_draw_7 ?_
  refine z_bipush O dX4_draw_8 kbi_74 ?_
  refine z_iadd O dX4_draw_10 ?_
  refine z_ldc O q1456 dX4_draw_11 ?_
  refine z_irem O dX4_draw_13 hr (fun v2 hr => ?_)
  refine z_putI O o_Village_seed (w_Village_seed _) q350 dX4_draw_14 hr (fun h3 hr => ?_)
  refine z_aload_n O 0 dX4_draw_17 rfl rfl ?_
  refine z_getI O o_Village_seed q350 dX4_draw_18 hr (fun v4 hr => ?_)
  exact z_iret O dX4_draw_21 (by cases hr; rfl)
theorem fV_X4_grows : CVf RX4 yX4_grows cX4_grows 3 (none : Option Jvm.ClassFile.FieldType) 1 := ⟨q1485, qs48, q132, q1486, ⟨⟨by decide +kernel, by decide +kernel⟩, by decide +kernel⟩⟩
def F_X4_grows (N : Nat) (x0 : Option Nat) (x1 : Int32) (h : AH) : Option (AH) :=
  (ck h [4] x0).bind fun _ =>
  (gR h f_Village_houses x0).bind fun v1 =>
  (aR h v1 x1).bind fun v2 =>
  (gI h f_House_many v2).bind fun v3 =>
  if v3 = (6 : Int32) then
    some h
  else
    (gI h f_House_gold v2).bind fun v4 =>
    (gR h f_House_site v2).bind fun v5 =>
    (gR h f_Site_stone v5).bind fun v6 =>
    (F_X5_costs v2 v6 h).bind fun v7 =>
    if v4 < v7 then
      some h
    else
      b2 (F_X4_finds N x0 x1 h) fun v9 h8 =>
      if v9 = 0 then
        some h8
      else
        (gI h8 f_House_gold v2).bind fun v10 =>
        (gR h8 f_House_site v2).bind fun v11 =>
        (gR h8 f_Site_stone v11).bind fun v12 =>
        (F_X5_costs v2 v12 h8).bind fun v13 =>
        (pI h8 f_House_gold v2 (v10 - v13)).bind fun h14 =>
        (gR h14 f_House_site v2).bind fun v15 =>
        (gR h14 f_Site_stone v15).bind fun v16 =>
        (gI h14 f_Village_doorSide x0).bind fun v17 =>
        (gI h14 f_Village_doorOn x0).bind fun v18 =>
        (gI h14 f_House_family v2).bind fun v19 =>
        (rm v19 (10 : Int32)).bind fun v20 =>
        (gI h14 f_Village_year x0).bind fun v21 =>
        (F_X5_build v2 v16 v17 v18 v20 v21 h14).bind fun h22 =>
        some h22
theorem mX4_grows (l : Launch) (G : ZG) (N : Nat) (x0 : Option Nat) (x1 : Int32) (h : AH) (r : AH) (hr : F_X4_grows N x0 x1 h = some r) : MZ l G yX4_grows cX4_grows 3 (none : Option Jvm.ClassFile.FieldType) 7 192 [vr x0, vi x1] h (eH r) := by
  unfold F_X4_grows at hr
  refine MZ.of (by decide) [(0, vr x0), (1, vi x1)] rfl (Nat.le_of_ble_eq_true rfl) (fun K O => ?_)
  have O : ZOk K cX4_grows RX4 "grows" 3 (none : Option Jvm.ClassFile.FieldType) 7 192 := O
  refine bs hr (fun _ hck hr => ?_)
  refine z_aload_n O 0 dX4_grows_0 rfl rfl ?_
  refine z_getR O o_Village_houses q337 dX4_grows_1 hr (fun v1 hr => ?_)
  refine z_iload_n O 1 dX4_grows_4 rfl rfl ?_
  refine z_aaload O dX4_grows_5 hr (fun v2 hr => ?_)
  refine z_astore_n O [(2, vr v2), (0, vr x0), (1, vi x1)] dX4_grows_6 rfl (by decide) rfl ?_
  refine z_aload_n O 0 dX4_grows_7 rfl rfl ?_
  refine z_getI O o_House_many q313 dX4_grows_8 hr (fun v3 hr => ?_)
  refine z_bipush O dX4_grows_11 kbi_6 ?_
  refine z_icmp_eq (tgt := 42) O dX4_grows_13 (by decide) hr (fun hr => ?_) (fun hr => ?_)
  · exact z_vret O dX4_grows_42 (by cases hr; rfl)
  · refine z_aload_n O 0 dX4_grows_16 rfl rfl ?_
    refine z_getI O o_House_gold q320 dX4_grows_17 hr (fun v4 hr => ?_)
    refine z_aload_n O 0 dX4_grows_20 rfl rfl ?_
    refine z_aload_n O 0 dX4_grows_21 rfl rfl ?_
    refine z_getR O o_House_site q309 dX4_grows_22 hr (fun v5 hr => ?_)
    refine z_getR O o_Site_stone q1027 dX4_grows_25 hr (fun v6 hr => ?_)
    refine bs hr (fun v7 hF hr => ?_)
    refine z_callV O [vr v6] (vi v7) fV_X5_costs q1487 (fun l G => mX5_costs l G v2 v6 h _ hF) (zck hF) rfl rfl ⟨Nat.le_of_ble_eq_true rfl, Nat.le_of_ble_eq_true rfl⟩ (Nat.le_of_ble_eq_true rfl) dX4_grows_28 ?_
    refine z_icmp_lt (tgt := 42) O dX4_grows_31 (by decide) hr (fun hr => ?_) (fun hr => ?_)
    · exact z_vret O dX4_grows_42 (by cases hr; rfl)
    · refine z_aload_n O 1 dX4_grows_34 rfl rfl ?_
      refine z_iload_n O 2 dX4_grows_35 rfl rfl ?_
      refine b2s hr (fun v9 h8 hF hr => ?_)
      refine z_callV O [vi x1] (vi v9) fV_X4_finds q1488 (fun l G => mX4_finds l G N x0 x1 h _ hF) (zck hF) rfl rfl ⟨Nat.le_of_ble_eq_true rfl, Nat.le_of_ble_eq_true rfl⟩ (Nat.le_of_ble_eq_true rfl) dX4_grows_36 ?_
      refine z_if_ne (tgt := 43) O dX4_grows_39 (by decide) hr (fun hr => ?_) (fun hr => ?_)
      · exact z_vret O dX4_grows_42 (by cases hr; rfl)
      · refine z_aload_n O 0 dX4_grows_43 rfl rfl ?_
        refine z_dup O dX4_grows_44 rfl ?_
        refine z_getI O o_House_gold q320 dX4_grows_45 hr (fun v10 hr => ?_)
        refine z_aload_n O 0 dX4_grows_48 rfl rfl ?_
        refine z_aload_n O 0 dX4_grows_49 rfl rfl ?_
        refine z_getR O o_House_site q309 dX4_grows_50 hr (fun v11 hr => ?_)
        refine z_getR O o_Site_stone q1027 dX4_grows_53 hr (fun v12 hr => ?_)
        refine bs hr (fun v13 hF hr => ?_)
        refine z_callV O [vr v12] (vi v13) fV_X5_costs q1487 (fun l G => mX5_costs l G v2 v12 h8 _ hF) (zck hF) rfl rfl ⟨Nat.le_of_ble_eq_true rfl, Nat.le_of_ble_eq_true rfl⟩ (Nat.le_of_ble_eq_true rfl) dX4_grows_56 ?_
        refine z_isub O dX4_grows_59 ?_
        refine z_putI O o_House_gold (w_House_gold _) q320 dX4_grows_60 hr (fun h14 hr => ?_)
        refine z_aload_n O 0 dX4_grows_63 rfl rfl ?_
        refine z_aload_n O 0 dX4_grows_64 rfl rfl ?_
        refine z_getR O o_House_site q309 dX4_grows_65 hr (fun v15 hr => ?_)
        refine z_getR O o_Site_stone q1027 dX4_grows_68 hr (fun v16 hr => ?_)
        refine z_aload_n O 1 dX4_grows_71 rfl rfl ?_
        refine z_getI O o_Village_doorSide q352 dX4_grows_72 hr (fun v17 hr => ?_)
        refine z_aload_n O 1 dX4_grows_75 rfl rfl ?_
        refine z_getI O o_Village_doorOn q354 dX4_grows_76 hr (fun v18 hr => ?_)
        refine z_aload_n O 0 dX4_grows_79 rfl rfl ?_
        refine z_getI O o_House_family q317 dX4_grows_80 hr (fun v19 hr => ?_)
        refine z_bipush O dX4_grows_83 kbi_10 ?_
        refine z_irem O dX4_grows_85 hr (fun v20 hr => ?_)
        refine z_aload_n O 1 dX4_grows_86 rfl rfl ?_
        refine z_getI O o_Village_year q347 dX4_grows_87 hr (fun v21 hr => ?_)
        refine bs hr (fun h22 hF hr => ?_)
        refine z_callVv O [vr v16, vi v17, vi v18, vi v20, vi v21] fV_X5_build q1331 (fun l G => mX5_build l G v2 v16 v17 v18 v20 v21 h14 _ hF) (zck hF) rfl rfl ⟨Nat.le_of_ble_eq_true rfl, Nat.le_of_ble_eq_true rfl⟩ (Nat.le_of_ble_eq_true rfl) dX4_grows_90 ?_
        exact z_vret O dX4_grows_93 (by cases hr; rfl)
def F_X12_burns (x0 : Option Nat) (h : AH) : Option (Int32) :=
  (ck h [13, 14, 15] x0).bind fun _ =>
  zb (0 : Int32)
theorem mX12_burns (l : Launch) (G : ZG) (x0 : Option Nat) (h : AH) (r : Int32) (hr : F_X12_burns x0 h = some r) : MZ l G yX12_burns cX12_burns 1 (some .boolean) 1 48 [vr x0] h (eI h r) := by
  unfold F_X12_burns at hr
  refine MZ.of (by decide) [(0, vr x0)] rfl (Nat.le_of_ble_eq_true rfl) (fun K O => ?_)
  have O : ZOk K cX12_burns RX12 "burns" 1 (some .boolean) 1 48 := O
  refine bs hr (fun _ hck hr => ?_)
  refine z_iconst O dX12_burns_0 kic_0 ?_
  obtain ⟨e1, e2, -⟩ := zb_spec hr
  exact z_zret O e2 dX12_burns_1 (by cases e1; rfl)
def F_X15_burns (x0 : Option Nat) (h : AH) : Option (Int32) :=
  (ck h [15] x0).bind fun _ =>
  zb (1 : Int32)
theorem mX15_burns (l : Launch) (G : ZG) (x0 : Option Nat) (h : AH) (r : Int32) (hr : F_X15_burns x0 h = some r) : MZ l G yX15_burns cX15_burns 1 (some .boolean) 1 48 [vr x0] h (eI h r) := by
  unfold F_X15_burns at hr
  refine MZ.of (by decide) [(0, vr x0)] rfl (Nat.le_of_ble_eq_true rfl) (fun K O => ?_)
  have O : ZOk K cX15_burns RX15 "burns" 1 (some .boolean) 1 48 := O
  refine bs hr (fun _ hck hr => ?_)
  refine z_iconst O dX15_burns_0 kic_1 ?_
  obtain ⟨e1, e2, -⟩ := zb_spec hr
  exact z_zret O e2 dX15_burns_1 (by cases e1; rfl)
def D_burns (x : Option Nat) (h : AH) : Option Int32 := (tg h x).bind fun c => if c = 13 then F_X12_burns x h else if c = 14 then F_X12_burns x h else if c = 15 then F_X15_burns x h else none
theorem z_D_burns {K : ZC} {cc : ByteArray} {own nm : String} {nL : Nat} {ret : Option FieldType} {fr lc : Nat} (O : ZOk K cc own nm nL ret fr lc) {z : ZT} {h : AH} {pc : Nat} {lv : List (Nat × ZV)} {rest : List ZV} {index : Nat} {x : Option Nat} {v : Int32} (hl : Cond.methodLink own index ⟨"YearSkins$Stone", "burns", "()Z"⟩ ∈ lw_all) (hF : D_burns x h = some v) (hR : 2 ≤ fr ∧ 68 ≤ lc) (hrest : (rest.map zcat).sum ≤ 8) (hd : decode cc pc = .ok (.invokevirtual index, 3)) (k : Zw K z h (pc + 3) lv (vi v :: rest)) : Zw K z h pc lv (vr x :: rest) := by
  unfold D_burns at hF
  refine bs hF (fun c hc hF2 => ?_)
  have hyx : YK ⟨"YearSkins$Stone", "burns", "()Z"⟩ 0 := ⟨⟨by decide +kernel, by decide +kernel⟩, by decide +kernel⟩
  refine zite hF2 (fun e hF3 => ?_) (fun e hF13 => ?_)
  · subst e
    exact z_callU O [] (vi v) hl q1476 (Or.inl ⟨q1475, _, _, _, q1482⟩) hyx q1477 q1475 q145 q1482 (fun l G => mX12_burns l G x h _ hF3) hc rfl rfl ⟨by have := hR.1; omega, by have := hR.2; omega⟩ hrest hd k
  refine zite hF13 (fun e hF3 => ?_) (fun e hF14 => ?_)
  · subst e
    exact z_callU O [] (vi v) hl q1476 (Or.inl ⟨q1475, _, _, _, q1482⟩) hyx q1478 q1475 q145 q1482 (fun l G => mX12_burns l G x h _ hF3) hc rfl rfl ⟨by have := hR.1; omega, by have := hR.2; omega⟩ hrest hd k
  refine zite hF14 (fun e hF3 => ?_) (fun e hF15 => ?_)
  · subst e
    exact z_callU O [] (vi v) hl q1476 (Or.inl ⟨q1475, _, _, _, q1482⟩) hyx q1479 q1480 q148 q1481 (fun l G => mX15_burns l G x h _ hF3) hc rfl rfl ⟨by have := hR.1; omega, by have := hR.2; omega⟩ hrest hd k
  cases hF15
theorem fV_X5_burns : CVf RX5 yX5_burns cX5_burns 3 (none : Option Jvm.ClassFile.FieldType) 0 := ⟨q1471, q1472, q133, q1473, ⟨⟨by decide +kernel, by decide +kernel⟩, by decide +kernel⟩⟩
def BX5_burns_2 (N : Nat) (x0 : Option Nat) (rec2 : Int32 → AH → Option (AH)) : Int32 → AH → Option (AH) := fun x1 h =>
  (gI h f_House_many x0).bind fun v1 =>
  if v1 < x1 then
    some h
  else
    (F_X5_skin x0 x1 h).bind fun v2 =>
    (gI h f_Skin_collapsed v2).bind fun v3 =>
    if v3 = 0 then
      (gR h f_Skin_stone v2).bind fun v6 =>
      (D_burns v6 h).bind fun v7 =>
      if v7 = 0 then
        (pZ h f_Skin_collapsed v2 (0 : Int32)).bind fun h8 =>
        jlet (x1 + (1 : Int32)) fun v9 =>
        rec2 v9 h8
      else
        (gI h f_Skin_filled v2).bind fun v10 =>
        if v10 = 0 then
          (pZ h f_Skin_collapsed v2 (1 : Int32)).bind fun h13 =>
          jlet (x1 + (1 : Int32)) fun v14 =>
          rec2 v14 h13
        else
          (pZ h f_Skin_collapsed v2 (0 : Int32)).bind fun h11 =>
          jlet (x1 + (1 : Int32)) fun v12 =>
          rec2 v12 h11
    else
      (pZ h f_Skin_collapsed v2 (1 : Int32)).bind fun h4 =>
      jlet (x1 + (1 : Int32)) fun v5 =>
      rec2 v5 h4
def LX5_burns_2 (N : Nat) (x0 : Option Nat) : Int32 → AH → Option (AH) := lf (fun _ _ => none) (BX5_burns_2 N x0) N
theorem wX5_burns_2B {K : ZC} (O : ZOk K cX5_burns RX5 "burns" 3 (none : Option Jvm.ClassFile.FieldType) 2 69) (N : Nat) (x0 : Option Nat) (rec2 : Int32 → AH → Option (AH)) (hrec2 : ∀ (y1 : Int32) (hy : AH) (ry : AH), rec2 y1 hy = some ry → Zw K (eH ry) hy 2 [(0, vr x0), (1, vi y1)] []) (x1 : Int32) (h : AH) (r : AH) (hr : BX5_burns_2 N x0 rec2 x1 h = some r) : Zw K (eH r) h 2 [(0, vr x0), (1, vi x1)] [] := by
  unfold BX5_burns_2 at hr
  refine z_iload_n O 1 dX5_burns_2 rfl rfl ?_
  refine z_aload_n O 0 dX5_burns_3 rfl rfl ?_
  refine z_getI O o_House_many q311 dX5_burns_4 hr (fun v1 hr => ?_)
  refine z_icmp_gt (tgt := 55) O dX5_burns_7 (by decide) hr (fun hr => ?_) (fun hr => ?_)
  · exact z_vret O dX5_burns_55 (by cases hr; rfl)
  · refine z_aload_n O 0 dX5_burns_10 rfl rfl ?_
    refine z_iload_n O 1 dX5_burns_11 rfl rfl ?_
    refine bs hr (fun v2 hF hr => ?_)
    refine z_callV O [vi x1] (vr v2) fV_X5_skin q1127 (fun l G => mX5_skin l G x0 x1 h _ hF) (zck hF) rfl rfl ⟨Nat.le_of_ble_eq_true rfl, Nat.le_of_ble_eq_true rfl⟩ (Nat.le_of_ble_eq_true rfl) dX5_burns_12 ?_
    refine z_astore_n O [(2, vr v2), (0, vr x0), (1, vi x1)] dX5_burns_15 rfl (by decide) rfl ?_
    refine z_aload_n O 0 dX5_burns_16 rfl rfl ?_
    refine z_aload_n O 0 dX5_burns_17 rfl rfl ?_
    refine z_getI O o_Skin_collapsed q284 dX5_burns_18 hr (fun v3 hr => ?_)
    refine z_if_ne (tgt := 41) O dX5_burns_21 (by decide) hr (fun hr => ?_) (fun hr => ?_)
    · refine z_aload_n O 0 dX5_burns_24 rfl rfl ?_
      refine z_getR O o_Skin_stone q266 dX5_burns_25 hr (fun v6 hr => ?_)
      refine bs hr (fun v7 hF hr => ?_)
      refine z_D_burns O q1474 hF ⟨Nat.le_of_ble_eq_true rfl, Nat.le_of_ble_eq_true rfl⟩ (Nat.le_of_ble_eq_true rfl) dX5_burns_28 ?_
      refine z_if_eq (tgt := 45) O dX5_burns_31 (by decide) hr (fun hr => ?_) (fun hr => ?_)
      · refine z_iconst O dX5_burns_45 kic_0 ?_
        refine z_putZ O o_Skin_collapsed (w_Skin_collapsed _) q284 dX5_burns_46 hr (fun h8 hr => ?_)
        refine z_iincL O 2 (fun v9 => [(1, vi v9), (2, vr v2), (0, vr x0)]) dX5_burns_49 rfl rfl (by decide) (fun _ => rfl) hr (fun v9 hr => ?_)
        refine z_goto (tgt := 2) O dX5_burns_52 (by decide) ?_
        refine z_sub [2, 0] rfl ?_
        exact hrec2 v9 h8 _ hr
      · refine z_aload_n O 0 dX5_burns_34 rfl rfl ?_
        refine z_getI O o_Skin_filled q287 dX5_burns_35 hr (fun v10 hr => ?_)
        refine z_if_ne (tgt := 45) O dX5_burns_38 (by decide) hr (fun hr => ?_) (fun hr => ?_)
        · refine z_iconst O dX5_burns_41 kic_1 ?_
          refine z_goto (tgt := 46) O dX5_burns_42 (by decide) ?_
          refine z_putZ O o_Skin_collapsed (w_Skin_collapsed _) q284 dX5_burns_46 hr (fun h13 hr => ?_)
          refine z_iincL O 2 (fun v14 => [(1, vi v14), (2, vr v2), (0, vr x0)]) dX5_burns_49 rfl rfl (by decide) (fun _ => rfl) hr (fun v14 hr => ?_)
          refine z_goto (tgt := 2) O dX5_burns_52 (by decide) ?_
          refine z_sub [2, 0] rfl ?_
          exact hrec2 v14 h13 _ hr
        · refine z_iconst O dX5_burns_45 kic_0 ?_
          refine z_putZ O o_Skin_collapsed (w_Skin_collapsed _) q284 dX5_burns_46 hr (fun h11 hr => ?_)
          refine z_iincL O 2 (fun v12 => [(1, vi v12), (2, vr v2), (0, vr x0)]) dX5_burns_49 rfl rfl (by decide) (fun _ => rfl) hr (fun v12 hr => ?_)
          refine z_goto (tgt := 2) O dX5_burns_52 (by decide) ?_
          refine z_sub [2, 0] rfl ?_
          exact hrec2 v12 h11 _ hr
    · refine z_iconst O dX5_burns_41 kic_1 ?_
      refine z_goto (tgt := 46) O dX5_burns_42 (by decide) ?_
      refine z_putZ O o_Skin_collapsed (w_Skin_collapsed _) q284 dX5_burns_46 hr (fun h4 hr => ?_)
      refine z_iincL O 2 (fun v5 => [(1, vi v5), (2, vr v2), (0, vr x0)]) dX5_burns_49 rfl rfl (by decide) (fun _ => rfl) hr (fun v5 hr => ?_)
      refine z_goto (tgt := 2) O dX5_burns_52 (by decide) ?_
      refine z_sub [2, 0] rfl ?_
      exact hrec2 v5 h4 _ hr
theorem wX5_burns_2 {K : ZC} (O : ZOk K cX5_burns RX5 "burns" 3 (none : Option Jvm.ClassFile.FieldType) 2 69) (N : Nat) (x0 : Option Nat) : ∀ (n : Nat) (x1 : Int32) (h : AH) (r : AH), lf (fun _ _ => none) (BX5_burns_2 N x0) n x1 h = some r → Zw K (eH r) h 2 [(0, vr x0), (1, vi x1)] [] := by
  intro n
  induction n with
  | zero => intro x1 h r hr; cases hr
  | succ n ih => intro x1 h r hr; exact wX5_burns_2B O N x0 (lf (fun _ _ => none) (BX5_burns_2 N x0) n)  ih x1 h r hr
def F_X5_burns (N : Nat) (x0 : Option Nat) (h : AH) : Option (AH) :=
  (ck h [5] x0).bind fun _ =>
  LX5_burns_2 N x0 (1 : Int32) h
theorem mX5_burns (l : Launch) (G : ZG) (N : Nat) (x0 : Option Nat) (h : AH) (r : AH) (hr : F_X5_burns N x0 h = some r) : MZ l G yX5_burns cX5_burns 3 (none : Option Jvm.ClassFile.FieldType) 2 69 [vr x0] h (eH r) := by
  unfold F_X5_burns at hr
  refine MZ.of (by decide) [(0, vr x0)] rfl (Nat.le_of_ble_eq_true rfl) (fun K O => ?_)
  have O : ZOk K cX5_burns RX5 "burns" 3 (none : Option Jvm.ClassFile.FieldType) 2 69 := O
  refine bs hr (fun _ hck hr => ?_)
  refine z_iconst O dX5_burns_0 kic_1 ?_
  refine z_istore_n O [(1, vi (1 : Int32)), (0, vr x0)] dX5_burns_1 rfl (by decide) rfl ?_
  refine z_sub [1, 0] rfl ?_
  exact wX5_burns_2 O N x0 _ (1 : Int32) h _ hr
def F_X12_damp (x0 : Option Nat) (h : AH) : Option (Int32) :=
  (ck h [13, 14, 15] x0).bind fun _ =>
  some (1 : Int32)
theorem mX12_damp (l : Launch) (G : ZG) (x0 : Option Nat) (h : AH) (r : Int32) (hr : F_X12_damp x0 h = some r) : MZ l G yX12_damp cX12_damp 1 (some .int) 1 48 [vr x0] h (eI h r) := by
  unfold F_X12_damp at hr
  refine MZ.of (by decide) [(0, vr x0)] rfl (Nat.le_of_ble_eq_true rfl) (fun K O => ?_)
  have O : ZOk K cX12_damp RX12 "damp" 1 (some .int) 1 48 := O
  refine bs hr (fun _ hck hr => ?_)
  refine z_iconst O dX12_damp_0 kic_1 ?_
  exact z_iret O dX12_damp_1 (by cases hr; rfl)
def F_X14_damp (x0 : Option Nat) (h : AH) : Option (Int32) :=
  (ck h [14] x0).bind fun _ =>
  some (2 : Int32)
theorem mX14_damp (l : Launch) (G : ZG) (x0 : Option Nat) (h : AH) (r : Int32) (hr : F_X14_damp x0 h = some r) : MZ l G yX14_damp cX14_damp 1 (some .int) 1 48 [vr x0] h (eI h r) := by
  unfold F_X14_damp at hr
  refine MZ.of (by decide) [(0, vr x0)] rfl (Nat.le_of_ble_eq_true rfl) (fun K O => ?_)
  have O : ZOk K cX14_damp RX14 "damp" 1 (some .int) 1 48 := O
  refine bs hr (fun _ hck hr => ?_)
  refine z_iconst O dX14_damp_0 kic_2 ?_
  exact z_iret O dX14_damp_1 (by cases hr; rfl)
theorem fV_X6_isOpen : CVf RX6 yX6_isOpen cX6_isOpen 1 (some .boolean) 0 := ⟨q1370, q1371, q134, q1372, ⟨⟨by decide +kernel, by decide +kernel⟩, by decide +kernel⟩⟩
def F_X6_isOpen (x0 : Option Nat) (h : AH) : Option (Int32) :=
  (ck h [6] x0).bind fun _ =>
  (gI h f_Skin_collapsed x0).bind fun v1 =>
  if v1 = 0 then
    (gI h f_Skin_filled x0).bind fun v2 =>
    if v2 = 0 then
      zb (1 : Int32)
    else
      zb (0 : Int32)
  else
    zb (0 : Int32)
theorem mX6_isOpen (l : Launch) (G : ZG) (x0 : Option Nat) (h : AH) (r : Int32) (hr : F_X6_isOpen x0 h = some r) : MZ l G yX6_isOpen cX6_isOpen 1 (some .boolean) 1 48 [vr x0] h (eI h r) := by
  unfold F_X6_isOpen at hr
  refine MZ.of (by decide) [(0, vr x0)] rfl (Nat.le_of_ble_eq_true rfl) (fun K O => ?_)
  have O : ZOk K cX6_isOpen RX6 "isOpen" 1 (some .boolean) 1 48 := O
  refine bs hr (fun _ hck hr => ?_)
  refine z_aload_n O 0 dX6_isOpen_0 rfl rfl ?_
  refine z_getI O o_Skin_collapsed q283 dX6_isOpen_1 hr (fun v1 hr => ?_)
  refine z_if_ne (tgt := 18) O dX6_isOpen_4 (by decide) hr (fun hr => ?_) (fun hr => ?_)
  · refine z_aload_n O 0 dX6_isOpen_7 rfl rfl ?_
    refine z_getI O o_Skin_filled q286 dX6_isOpen_8 hr (fun v2 hr => ?_)
    refine z_if_ne (tgt := 18) O dX6_isOpen_11 (by decide) hr (fun hr => ?_) (fun hr => ?_)
    · refine z_iconst O dX6_isOpen_14 kic_1 ?_
      refine z_goto (tgt := 19) O dX6_isOpen_15 (by decide) ?_
      obtain ⟨e1, e2, -⟩ := zb_spec hr
      exact z_zret O e2 dX6_isOpen_19 (by cases e1; rfl)
    · refine z_iconst O dX6_isOpen_18 kic_0 ?_
      obtain ⟨e1, e2, -⟩ := zb_spec hr
      exact z_zret O e2 dX6_isOpen_19 (by cases e1; rfl)
  · refine z_iconst O dX6_isOpen_18 kic_0 ?_
    obtain ⟨e1, e2, -⟩ := zb_spec hr
    exact z_zret O e2 dX6_isOpen_19 (by cases e1; rfl)
def D_damp (x : Option Nat) (h : AH) : Option Int32 := (tg h x).bind fun c => if c = 13 then F_X12_damp x h else if c = 14 then F_X14_damp x h else if c = 15 then F_X12_damp x h else none
theorem z_D_damp {K : ZC} {cc : ByteArray} {own nm : String} {nL : Nat} {ret : Option FieldType} {fr lc : Nat} (O : ZOk K cc own nm nL ret fr lc) {z : ZT} {h : AH} {pc : Nat} {lv : List (Nat × ZV)} {rest : List ZV} {index : Nat} {x : Option Nat} {v : Int32} (hl : Cond.methodLink own index ⟨"YearSkins$Stone", "damp", "()I"⟩ ∈ lw_all) (hF : D_damp x h = some v) (hR : 2 ≤ fr ∧ 68 ≤ lc) (hrest : (rest.map zcat).sum ≤ 8) (hd : decode cc pc = .ok (.invokevirtual index, 3)) (k : Zw K z h (pc + 3) lv (vi v :: rest)) : Zw K z h pc lv (vr x :: rest) := by
  unfold D_damp at hF
  refine bs hF (fun c hc hF2 => ?_)
  have hyx : YK ⟨"YearSkins$Stone", "damp", "()I"⟩ 0 := ⟨⟨by decide +kernel, by decide +kernel⟩, by decide +kernel⟩
  refine zite hF2 (fun e hF3 => ?_) (fun e hF13 => ?_)
  · subst e
    exact z_callU O [] (vi v) hl q1463 (Or.inl ⟨q1462, _, _, _, q1469⟩) hyx q1464 q1462 q145 q1469 (fun l G => mX12_damp l G x h _ hF3) hc rfl rfl ⟨by have := hR.1; omega, by have := hR.2; omega⟩ hrest hd k
  refine zite hF13 (fun e hF3 => ?_) (fun e hF14 => ?_)
  · subst e
    exact z_callU O [] (vi v) hl q1463 (Or.inl ⟨q1462, _, _, _, q1469⟩) hyx q1465 q1466 q147 q1467 (fun l G => mX14_damp l G x h _ hF3) hc rfl rfl ⟨by have := hR.1; omega, by have := hR.2; omega⟩ hrest hd k
  refine zite hF14 (fun e hF3 => ?_) (fun e hF15 => ?_)
  · subst e
    exact z_callU O [] (vi v) hl q1463 (Or.inl ⟨q1462, _, _, _, q1469⟩) hyx q1468 q1462 q145 q1469 (fun l G => mX12_damp l G x h _ hF3) hc rfl rfl ⟨by have := hR.1; omega, by have := hR.2; omega⟩ hrest hd k
  cases hF15
theorem fV_X5_rots : CVf RX5 yX5_rots cX5_rots 3 (none : Option Jvm.ClassFile.FieldType) 0 := ⟨q1458, q1459, q133, q1460, ⟨⟨by decide +kernel, by decide +kernel⟩, by decide +kernel⟩⟩
def bX5_rots_67 (N : Nat) (rec2 : Int32 → AH → Option (AH)) (x0 : Option Nat) (x1 : Int32) (x2 : Option Nat) (s0 : Option Nat) (s1 : Int32) (s2 : Int32) (s3 : Int32) (h : AH) : Option (AH) :=
  (pI h f_Skin_rot s0 (s1 + (s2 + s3))).bind fun h1 =>
  (gI h1 f_Skin_rot x2).bind fun v2 =>
  (gR h1 f_Skin_stone x2).bind fun v3 =>
  (gI h1 f_Stone_strong v3).bind fun v4 =>
  if v2 < v4 then
    (pZ h1 f_Skin_collapsed x2 (0 : Int32)).bind fun h5 =>
    jlet (x1 + (1 : Int32)) fun v6 =>
    rec2 v6 h5
  else
    (pZ h1 f_Skin_collapsed x2 (1 : Int32)).bind fun h7 =>
    jlet (x1 + (1 : Int32)) fun v8 =>
    rec2 v8 h7
theorem wX5_rots_67 {K : ZC} (O : ZOk K cX5_rots RX5 "rots" 3 (none : Option Jvm.ClassFile.FieldType) 2 69) (N : Nat) (rec2 : Int32 → AH → Option (AH)) (x0 : Option Nat) (x1 : Int32) (x2 : Option Nat) (s0 : Option Nat) (s1 : Int32) (s2 : Int32) (s3 : Int32) (h : AH) (hrec2 : ∀ (y1 : Int32) (hy : AH) (ry : AH), rec2 y1 hy = some ry → Zw K (eH ry) hy 2 [(0, vr x0), (1, vi y1)] []) (r : AH) (hr : bX5_rots_67 N rec2 x0 x1 x2 s0 s1 s2 s3 h = some r) : Zw K (eH r) h 67 [(0, vr x0), (1, vi x1), (2, vr x2)] [vi s3, vi s2, vi s1, vr s0] := by
  unfold bX5_rots_67 at hr
  refine z_iadd O dX5_rots_67 ?_
  refine z_iadd O dX5_rots_68 ?_
  refine z_putI O o_Skin_rot (w_Skin_rot _) q278 dX5_rots_69 hr (fun h1 hr => ?_)
  refine z_aload_n O 2 dX5_rots_72 rfl rfl ?_
  refine z_aload_n O 2 dX5_rots_73 rfl rfl ?_
  refine z_getI O o_Skin_rot q278 dX5_rots_74 hr (fun v2 hr => ?_)
  refine z_aload_n O 2 dX5_rots_77 rfl rfl ?_
  refine z_getR O o_Skin_stone q266 dX5_rots_78 hr (fun v3 hr => ?_)
  refine z_getI O o_Stone_strong q952 dX5_rots_81 hr (fun v4 hr => ?_)
  refine z_icmp_lt (tgt := 91) O dX5_rots_84 (by decide) hr (fun hr => ?_) (fun hr => ?_)
  · refine z_iconst O dX5_rots_91 kic_0 ?_
    refine z_putZ O o_Skin_collapsed (w_Skin_collapsed _) q284 dX5_rots_92 hr (fun h5 hr => ?_)
    refine z_iincL O 1 (fun v6 => [(1, vi v6), (0, vr x0), (2, vr x2)]) dX5_rots_95 rfl rfl (by decide) (fun _ => rfl) hr (fun v6 hr => ?_)
    refine z_goto (tgt := 2) O dX5_rots_98 (by decide) ?_
    refine z_sub [1, 0] rfl ?_
    exact hrec2 v6 h5 _ hr
  · refine z_iconst O dX5_rots_87 kic_1 ?_
    refine z_goto (tgt := 92) O dX5_rots_88 (by decide) ?_
    refine z_putZ O o_Skin_collapsed (w_Skin_collapsed _) q284 dX5_rots_92 hr (fun h7 hr => ?_)
    refine z_iincL O 1 (fun v8 => [(1, vi v8), (0, vr x0), (2, vr x2)]) dX5_rots_95 rfl rfl (by decide) (fun _ => rfl) hr (fun v8 hr => ?_)
    refine z_goto (tgt := 2) O dX5_rots_98 (by decide) ?_
    refine z_sub [1, 0] rfl ?_
    exact hrec2 v8 h7 _ hr
def BX5_rots_2 (N : Nat) (x0 : Option Nat) (rec2 : Int32 → AH → Option (AH)) : Int32 → AH → Option (AH) := fun x1 h =>
  (gI h f_House_many x0).bind fun v1 =>
  if v1 < x1 then
    some h
  else
    (F_X5_skin x0 x1 h).bind fun v2 =>
    (F_X6_isOpen v2 h).bind fun v3 =>
    if v3 = 0 then
      jlet (x1 + (1 : Int32)) fun v11 =>
      rec2 v11 h
    else
      (gI h f_Skin_rot v2).bind fun v4 =>
      (gR h f_Skin_stone v2).bind fun v5 =>
      (gI h f_Stone_rots v5).bind fun v6 =>
      if x1 ≤ (1 : Int32) then
        bX5_rots_67 N rec2 x0 x1 v2 v2 v4 v6 (0 : Int32) h
      else
        (F_X5_skin x0 (x1 - (1 : Int32)) h).bind fun v7 =>
        (gI h f_Skin_collapsed v7).bind fun v8 =>
        if v8 = 0 then
          bX5_rots_67 N rec2 x0 x1 v2 v2 v4 v6 (0 : Int32) h
        else
          (gR h f_Skin_stone v2).bind fun v9 =>
          (D_damp v9 h).bind fun v10 =>
          bX5_rots_67 N rec2 x0 x1 v2 v2 v4 v6 v10 h
def LX5_rots_2 (N : Nat) (x0 : Option Nat) : Int32 → AH → Option (AH) := lf (fun _ _ => none) (BX5_rots_2 N x0) N
theorem wX5_rots_2B {K : ZC} (O : ZOk K cX5_rots RX5 "rots" 3 (none : Option Jvm.ClassFile.FieldType) 2 69) (N : Nat) (x0 : Option Nat) (rec2 : Int32 → AH → Option (AH)) (hrec2 : ∀ (y1 : Int32) (hy : AH) (ry : AH), rec2 y1 hy = some ry → Zw K (eH ry) hy 2 [(0, vr x0), (1, vi y1)] []) (x1 : Int32) (h : AH) (r : AH) (hr : BX5_rots_2 N x0 rec2 x1 h = some r) : Zw K (eH r) h 2 [(0, vr x0), (1, vi x1)] [] := by
  unfold BX5_rots_2 at hr
  refine z_iload_n O 1 dX5_rots_2 rfl rfl ?_
  refine z_aload_n O 0 dX5_rots_3 rfl rfl ?_
  refine z_getI O o_House_many q311 dX5_rots_4 hr (fun v1 hr => ?_)
  refine z_icmp_gt (tgt := 101) O dX5_rots_7 (by decide) hr (fun hr => ?_) (fun hr => ?_)
  · exact z_vret O dX5_rots_101 (by cases hr; rfl)
  · refine z_aload_n O 0 dX5_rots_10 rfl rfl ?_
    refine z_iload_n O 1 dX5_rots_11 rfl rfl ?_
    refine bs hr (fun v2 hF hr => ?_)
    refine z_callV O [vi x1] (vr v2) fV_X5_skin q1127 (fun l G => mX5_skin l G x0 x1 h _ hF) (zck hF) rfl rfl ⟨Nat.le_of_ble_eq_true rfl, Nat.le_of_ble_eq_true rfl⟩ (Nat.le_of_ble_eq_true rfl) dX5_rots_12 ?_
    refine z_astore_n O [(2, vr v2), (0, vr x0), (1, vi x1)] dX5_rots_15 rfl (by decide) rfl ?_
    refine z_aload_n O 0 dX5_rots_16 rfl rfl ?_
    refine bs hr (fun v3 hF hr => ?_)
    refine z_callV O [] (vi v3) fV_X6_isOpen q1369 (fun l G => mX6_isOpen l G v2 h _ hF) (zck hF) rfl rfl ⟨Nat.le_of_ble_eq_true rfl, Nat.le_of_ble_eq_true rfl⟩ (Nat.le_of_ble_eq_true rfl) dX5_rots_17 ?_
    refine z_if_ne (tgt := 26) O dX5_rots_20 (by decide) hr (fun hr => ?_) (fun hr => ?_)
    · refine z_goto (tgt := 95) O dX5_rots_23 (by decide) ?_
      refine z_iincL O 2 (fun v11 => [(1, vi v11), (2, vr v2), (0, vr x0)]) dX5_rots_95 rfl rfl (by decide) (fun _ => rfl) hr (fun v11 hr => ?_)
      refine z_goto (tgt := 2) O dX5_rots_98 (by decide) ?_
      refine z_sub [2, 0] rfl ?_
      exact hrec2 v11 h _ hr
    · refine z_aload_n O 0 dX5_rots_26 rfl rfl ?_
      refine z_dup O dX5_rots_27 rfl ?_
      refine z_getI O o_Skin_rot q278 dX5_rots_28 hr (fun v4 hr => ?_)
      refine z_aload_n O 0 dX5_rots_31 rfl rfl ?_
      refine z_getR O o_Skin_stone q266 dX5_rots_32 hr (fun v5 hr => ?_)
      refine z_getI O o_Stone_rots q948 dX5_rots_35 hr (fun v6 hr => ?_)
      refine z_iload_n O 2 dX5_rots_38 rfl rfl ?_
      refine z_iconst O dX5_rots_39 kic_1 ?_
      refine z_icmp_le (tgt := 66) O dX5_rots_40 (by decide) hr (fun hr => ?_) (fun hr => ?_)
      · refine z_iconst O dX5_rots_66 kic_0 ?_
        refine z_sub [1, 2, 0] rfl ?_
        exact wX5_rots_67 O N rec2 x0 x1 v2 v2 v4 v6 (0 : Int32) h hrec2 _ hr
      · refine z_aload_n O 1 dX5_rots_43 rfl rfl ?_
        refine z_iload_n O 2 dX5_rots_44 rfl rfl ?_
        refine z_iconst O dX5_rots_45 kic_1 ?_
        refine z_isub O dX5_rots_46 ?_
        refine bs hr (fun v7 hF hr => ?_)
        refine z_callV O [vi (x1 - (1 : Int32))] (vr v7) fV_X5_skin q1127 (fun l G => mX5_skin l G x0 (x1 - (1 : Int32)) h _ hF) (zck hF) rfl rfl ⟨Nat.le_of_ble_eq_true rfl, Nat.le_of_ble_eq_true rfl⟩ (Nat.le_of_ble_eq_true rfl) dX5_rots_47 ?_
        refine z_getI O o_Skin_collapsed q284 dX5_rots_50 hr (fun v8 hr => ?_)
        refine z_if_eq (tgt := 66) O dX5_rots_53 (by decide) hr (fun hr => ?_) (fun hr => ?_)
        · refine z_iconst O dX5_rots_66 kic_0 ?_
          refine z_sub [1, 2, 0] rfl ?_
          exact wX5_rots_67 O N rec2 x0 x1 v2 v2 v4 v6 (0 : Int32) h hrec2 _ hr
        · refine z_aload_n O 0 dX5_rots_56 rfl rfl ?_
          refine z_getR O o_Skin_stone q266 dX5_rots_57 hr (fun v9 hr => ?_)
          refine bs hr (fun v10 hF hr => ?_)
          refine z_D_damp O q1461 hF ⟨Nat.le_of_ble_eq_true rfl, Nat.le_of_ble_eq_true rfl⟩ (Nat.le_of_ble_eq_true rfl) dX5_rots_60 ?_
          refine z_goto (tgt := 67) O dX5_rots_63 (by decide) ?_
          refine z_sub [1, 2, 0] rfl ?_
          exact wX5_rots_67 O N rec2 x0 x1 v2 v2 v4 v6 v10 h hrec2 _ hr
theorem wX5_rots_2 {K : ZC} (O : ZOk K cX5_rots RX5 "rots" 3 (none : Option Jvm.ClassFile.FieldType) 2 69) (N : Nat) (x0 : Option Nat) : ∀ (n : Nat) (x1 : Int32) (h : AH) (r : AH), lf (fun _ _ => none) (BX5_rots_2 N x0) n x1 h = some r → Zw K (eH r) h 2 [(0, vr x0), (1, vi x1)] [] := by
  intro n
  induction n with
  | zero => intro x1 h r hr; cases hr
  | succ n ih => intro x1 h r hr; exact wX5_rots_2B O N x0 (lf (fun _ _ => none) (BX5_rots_2 N x0) n)  ih x1 h r hr
def F_X5_rots (N : Nat) (x0 : Option Nat) (h : AH) : Option (AH) :=
  (ck h [5] x0).bind fun _ =>
  LX5_rots_2 N x0 (1 : Int32) h
theorem mX5_rots (l : Launch) (G : ZG) (N : Nat) (x0 : Option Nat) (h : AH) (r : AH) (hr : F_X5_rots N x0 h = some r) : MZ l G yX5_rots cX5_rots 3 (none : Option Jvm.ClassFile.FieldType) 2 69 [vr x0] h (eH r) := by
  unfold F_X5_rots at hr
  refine MZ.of (by decide) [(0, vr x0)] rfl (Nat.le_of_ble_eq_true rfl) (fun K O => ?_)
  have O : ZOk K cX5_rots RX5 "rots" 3 (none : Option Jvm.ClassFile.FieldType) 2 69 := O
  refine bs hr (fun _ hck hr => ?_)
  refine z_iconst O dX5_rots_0 kic_1 ?_
  refine z_istore_n O [(1, vi (1 : Int32)), (0, vr x0)] dX5_rots_1 rfl (by decide) rfl ?_
  refine z_sub [1, 0] rfl ?_
  exact wX5_rots_2 O N x0 _ (1 : Int32) h _ hr
