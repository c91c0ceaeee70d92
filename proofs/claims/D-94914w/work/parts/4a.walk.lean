set_option maxRecDepth 100000
set_option maxHeartbeats 4000000
theorem fS_X1_within : CSf yX1_within cX1_within 3 (some .boolean) 3 := ⟨q533, q126, q534, ⟨⟨by decide +kernel, by decide +kernel⟩, by decide +kernel⟩⟩
def F_X1_within (x0 : Int32) (x1 : Int32) (x2 : Int32) : Option (Int32) :=
  if x0 < x1 then
    zb (0 : Int32)
  else
    if x2 < x0 then
      zb (0 : Int32)
    else
      zb (1 : Int32)
theorem mX1_within (l : Launch) (G : ZG) (x0 : Int32) (x1 : Int32) (x2 : Int32) (h : AH) (r : Int32) (hr : F_X1_within x0 x1 x2 = some r) : MZ l G yX1_within cX1_within 3 (some .boolean) 1 48 [vi x0, vi x1, vi x2] h (eI h r) := by
  unfold F_X1_within at hr
  refine MZ.of (by decide) [(0, vi x0), (1, vi x1), (2, vi x2)] rfl (Nat.le_of_ble_eq_true rfl) (fun K O => ?_)
  have O : ZOk K cX1_within RX1 "within" 3 (some .boolean) 1 48 := O
  refine z_iload_n O 0 dX1_within_0 rfl rfl ?_
  refine z_iload_n O 1 dX1_within_1 rfl rfl ?_
  refine z_icmp_lt (tgt := 14) O dX1_within_2 (by decide) hr (fun hr => ?_) (fun hr => ?_)
  · refine z_iconst O dX1_within_14 kic_0 ?_
    obtain ⟨e1, e2, -⟩ := zb_spec hr
    exact z_zret O e2 dX1_within_15 (by cases e1; rfl)
  · refine z_iload_n O 0 dX1_within_5 rfl rfl ?_
    refine z_iload_n O 2 dX1_within_6 rfl rfl ?_
    refine z_icmp_gt (tgt := 14) O dX1_within_7 (by decide) hr (fun hr => ?_) (fun hr => ?_)
    · refine z_iconst O dX1_within_14 kic_0 ?_
      obtain ⟨e1, e2, -⟩ := zb_spec hr
      exact z_zret O e2 dX1_within_15 (by cases e1; rfl)
    · refine z_iconst O dX1_within_10 kic_1 ?_
      refine z_goto (tgt := 15) O dX1_within_11 (by decide) ?_
      obtain ⟨e1, e2, -⟩ := zb_spec hr
      exact z_zret O e2 dX1_within_15 (by cases e1; rfl)
theorem fV_X10_isCell : CVf RX10 yX10_isCell cX10_isCell 3 (some .boolean) 2 := ⟨q1109, q1110, q138, q1111, ⟨⟨by decide +kernel, by decide +kernel⟩, by decide +kernel⟩⟩
def F_X10_isCell (x0 : Option Nat) (x1 : Int32) (x2 : Int32) (h : AH) : Option (Int32) :=
  (ck h [10] x0).bind fun _ =>
  (gI h f_Land_wide x0).bind fun v1 =>
  (F_X1_within x1 (0 : Int32) (v1 - (1 : Int32))).bind fun v2 =>
  if v2 = 0 then
    zb (0 : Int32)
  else
    (gI h f_Land_high x0).bind fun v3 =>
    (F_X1_within x2 (0 : Int32) (v3 - (1 : Int32))).bind fun v4 =>
    if v4 = 0 then
      zb (0 : Int32)
    else
      zb (1 : Int32)
theorem mX10_isCell (l : Launch) (G : ZG) (x0 : Option Nat) (x1 : Int32) (x2 : Int32) (h : AH) (r : Int32) (hr : F_X10_isCell x0 x1 x2 h = some r) : MZ l G yX10_isCell cX10_isCell 3 (some .boolean) 2 70 [vr x0, vi x1, vi x2] h (eI h r) := by
  unfold F_X10_isCell at hr
  refine MZ.of (by decide) [(0, vr x0), (1, vi x1), (2, vi x2)] rfl (Nat.le_of_ble_eq_true rfl) (fun K O => ?_)
  have O : ZOk K cX10_isCell RX10 "isCell" 3 (some .boolean) 2 70 := O
  refine bs hr (fun _ hck hr => ?_)
  refine z_iload_n O 1 dX10_isCell_0 rfl rfl ?_
  refine z_iconst O dX10_isCell_1 kic_0 ?_
  refine z_aload_n O 0 dX10_isCell_2 rfl rfl ?_
  refine z_getI O o_Land_wide q579 dX10_isCell_3 hr (fun v1 hr => ?_)
  refine z_iconst O dX10_isCell_6 kic_1 ?_
  refine z_isub O dX10_isCell_7 ?_
  refine bs hr (fun v2 hF hr => ?_)
  refine z_callSN O [vi x1, vi (0 : Int32), vi (v1 - (1 : Int32))] (vi v2) fS_X1_within zn1112 (fun l G => mX1_within l G x1 (0 : Int32) (v1 - (1 : Int32)) h _ hF) rfl ⟨Nat.le_of_ble_eq_true rfl, Nat.le_of_ble_eq_true rfl⟩ (Nat.le_of_ble_eq_true rfl) dX10_isCell_8 ?_
  refine z_if_eq (tgt := 32) O dX10_isCell_11 (by decide) hr (fun hr => ?_) (fun hr => ?_)
  · refine z_iconst O dX10_isCell_32 kic_0 ?_
    obtain ⟨e1, e2, -⟩ := zb_spec hr
    exact z_zret O e2 dX10_isCell_33 (by cases e1; rfl)
  · refine z_iload_n O 2 dX10_isCell_14 rfl rfl ?_
    refine z_iconst O dX10_isCell_15 kic_0 ?_
    refine z_aload_n O 0 dX10_isCell_16 rfl rfl ?_
    refine z_getI O o_Land_high q583 dX10_isCell_17 hr (fun v3 hr => ?_)
    refine z_iconst O dX10_isCell_20 kic_1 ?_
    refine z_isub O dX10_isCell_21 ?_
    refine bs hr (fun v4 hF hr => ?_)
    refine z_callSN O [vi x2, vi (0 : Int32), vi (v3 - (1 : Int32))] (vi v4) fS_X1_within zn1112 (fun l G => mX1_within l G x2 (0 : Int32) (v3 - (1 : Int32)) h _ hF) rfl ⟨Nat.le_of_ble_eq_true rfl, Nat.le_of_ble_eq_true rfl⟩ (Nat.le_of_ble_eq_true rfl) dX10_isCell_22 ?_
    refine z_if_eq (tgt := 32) O dX10_isCell_25 (by decide) hr (fun hr => ?_) (fun hr => ?_)
    · refine z_iconst O dX10_isCell_32 kic_0 ?_
      obtain ⟨e1, e2, -⟩ := zb_spec hr
      exact z_zret O e2 dX10_isCell_33 (by cases e1; rfl)
    · refine z_iconst O dX10_isCell_28 kic_1 ?_
      refine z_goto (tgt := 33) O dX10_isCell_29 (by decide) ?_
      obtain ⟨e1, e2, -⟩ := zb_spec hr
      exact z_zret O e2 dX10_isCell_33 (by cases e1; rfl)
theorem fV_X10_isWater : CVf RX10 yX10_isWater cX10_isWater 5 (some .boolean) 2 := ⟨q902, q903, q138, q904, ⟨⟨by decide +kernel, by decide +kernel⟩, by decide +kernel⟩⟩
def BX10_isWater_5 (N : Nat) (x0 : Option Nat) (x1 : Int32) (x2 : Int32) (h : AH) (rec5 : Int32 → Int32 → Option (Int32)) : Int32 → Int32 → Option (Int32) := fun x3 x4 =>
  (gI h f_Land_waterMany x0).bind fun v1 =>
  if v1 ≤ x4 then
    zb x3
  else
    if x3 = 0 then
      (gR h f_Land_waterX x0).bind fun v3 =>
      (aI h 0 v3 x4).bind fun v4 =>
      if v4 = x1 then
        (gR h f_Land_waterY x0).bind fun v6 =>
        (aI h 0 v6 x4).bind fun v7 =>
        if v7 = x2 then
          jlet (x4 + (1 : Int32)) fun v9 =>
          rec5 (1 : Int32) v9
        else
          jlet (x4 + (1 : Int32)) fun v8 =>
          rec5 (0 : Int32) v8
      else
        jlet (x4 + (1 : Int32)) fun v5 =>
        rec5 (0 : Int32) v5
    else
      jlet (x4 + (1 : Int32)) fun v2 =>
      rec5 (1 : Int32) v2
def LX10_isWater_5 (N : Nat) (x0 : Option Nat) (x1 : Int32) (x2 : Int32) (h : AH) : Int32 → Int32 → Option (Int32) := lf (fun _ _ => none) (BX10_isWater_5 N x0 x1 x2 h) N
theorem wX10_isWater_5B {K : ZC} (O : ZOk K cX10_isWater RX10 "isWater" 5 (some .boolean) 1 48) (N : Nat) (x0 : Option Nat) (x1 : Int32) (x2 : Int32) (h : AH) (rec5 : Int32 → Int32 → Option (Int32)) (hrec5 : ∀ (y3 : Int32) (y4 : Int32) (ry : Int32), rec5 y3 y4 = some ry → Zw K (eI h ry) h 5 [(0, vr x0), (1, vi x1), (2, vi x2), (3, vi y3), (4, vi y4)] []) (x3 : Int32) (x4 : Int32) (r : Int32) (hr : BX10_isWater_5 N x0 x1 x2 h rec5 x3 x4 = some r) : Zw K (eI h r) h 5 [(0, vr x0), (1, vi x1), (2, vi x2), (3, vi x3), (4, vi x4)] [] := by
  unfold BX10_isWater_5 at hr
  refine z_iload O 4 dX10_isWater_5 rfl ?_
  refine z_aload_n O 0 dX10_isWater_7 rfl rfl ?_
  refine z_getI O o_Land_waterMany q593 dX10_isWater_8 hr (fun v1 hr => ?_)
  refine z_icmp_ge (tgt := 52) O dX10_isWater_11 (by decide) hr (fun hr => ?_) (fun hr => ?_)
  · refine z_iload_n O 3 dX10_isWater_52 rfl rfl ?_
    obtain ⟨e1, e2, -⟩ := zb_spec hr
    exact z_zret O e2 dX10_isWater_53 (by cases e1; rfl)
  · refine z_iload_n O 3 dX10_isWater_14 rfl rfl ?_
    refine z_if_ne (tgt := 40) O dX10_isWater_15 (by decide) hr (fun hr => ?_) (fun hr => ?_)
    · refine z_aload_n O 0 dX10_isWater_18 rfl rfl ?_
      refine z_getR O o_Land_waterX q557 dX10_isWater_19 hr (fun v3 hr => ?_)
      refine z_iload O 4 dX10_isWater_22 rfl ?_
      refine z_iaload O dX10_isWater_24 hr (fun v4 hr => ?_)
      refine z_iload_n O 1 dX10_isWater_25 rfl rfl ?_
      refine z_icmp_ne (tgt := 44) O dX10_isWater_26 (by decide) hr (fun hr => ?_) (fun hr => ?_)
      · refine z_aload_n O 0 dX10_isWater_29 rfl rfl ?_
        refine z_getR O o_Land_waterY q559 dX10_isWater_30 hr (fun v6 hr => ?_)
        refine z_iload O 4 dX10_isWater_33 rfl ?_
        refine z_iaload O dX10_isWater_35 hr (fun v7 hr => ?_)
        refine z_iload_n O 2 dX10_isWater_36 rfl rfl ?_
        refine z_icmp_ne (tgt := 44) O dX10_isWater_37 (by decide) hr (fun hr => ?_) (fun hr => ?_)
        · refine z_iconst O dX10_isWater_40 kic_1 ?_
          refine z_goto (tgt := 45) O dX10_isWater_41 (by decide) ?_
          refine z_istore_n O [(3, vi (1 : Int32)), (0, vr x0), (1, vi x1), (2, vi x2), (4, vi x4)] dX10_isWater_45 rfl (by decide) rfl ?_
          refine z_iincL O 4 (fun v9 => [(4, vi v9), (3, vi (1 : Int32)), (0, vr x0), (1, vi x1), (2, vi x2)]) dX10_isWater_46 rfl rfl (by decide) (fun _ => rfl) hr (fun v9 hr => ?_)
          refine z_goto (tgt := 5) O dX10_isWater_49 (by decide) ?_
          refine z_sub [2, 3, 4, 1, 0] rfl ?_
          exact hrec5 (1 : Int32) v9 _ hr
        · refine z_iconst O dX10_isWater_44 kic_0 ?_
          refine z_istore_n O [(3, vi (0 : Int32)), (0, vr x0), (1, vi x1), (2, vi x2), (4, vi x4)] dX10_isWater_45 rfl (by decide) rfl ?_
          refine z_iincL O 4 (fun v8 => [(4, vi v8), (3, vi (0 : Int32)), (0, vr x0), (1, vi x1), (2, vi x2)]) dX10_isWater_46 rfl rfl (by decide) (fun _ => rfl) hr (fun v8 hr => ?_)
          refine z_goto (tgt := 5) O dX10_isWater_49 (by decide) ?_
          refine z_sub [2, 3, 4, 1, 0] rfl ?_
          exact hrec5 (0 : Int32) v8 _ hr
      · refine z_iconst O dX10_isWater_44 kic_0 ?_
        refine z_istore_n O [(3, vi (0 : Int32)), (0, vr x0), (1, vi x1), (2, vi x2), (4, vi x4)] dX10_isWater_45 rfl (by decide) rfl ?_
        refine z_iincL O 4 (fun v5 => [(4, vi v5), (3, vi (0 : Int32)), (0, vr x0), (1, vi x1), (2, vi x2)]) dX10_isWater_46 rfl rfl (by decide) (fun _ => rfl) hr (fun v5 hr => ?_)
        refine z_goto (tgt := 5) O dX10_isWater_49 (by decide) ?_
        refine z_sub [2, 3, 4, 1, 0] rfl ?_
        exact hrec5 (0 : Int32) v5 _ hr
    · refine z_iconst O dX10_isWater_40 kic_1 ?_
      refine z_goto (tgt := 45) O dX10_isWater_41 (by decide) ?_
      refine z_istore_n O [(3, vi (1 : Int32)), (0, vr x0), (1, vi x1), (2, vi x2), (4, vi x4)] dX10_isWater_45 rfl (by decide) rfl ?_
      refine z_iincL O 4 (fun v2 => [(4, vi v2), (3, vi (1 : Int32)), (0, vr x0), (1, vi x1), (2, vi x2)]) dX10_isWater_46 rfl rfl (by decide) (fun _ => rfl) hr (fun v2 hr => ?_)
      refine z_goto (tgt := 5) O dX10_isWater_49 (by decide) ?_
      refine z_sub [2, 3, 4, 1, 0] rfl ?_
      exact hrec5 (1 : Int32) v2 _ hr
theorem wX10_isWater_5 {K : ZC} (O : ZOk K cX10_isWater RX10 "isWater" 5 (some .boolean) 1 48) (N : Nat) (x0 : Option Nat) (x1 : Int32) (x2 : Int32) (h : AH) : ∀ (n : Nat) (x3 : Int32) (x4 : Int32) (r : Int32), lf (fun _ _ => none) (BX10_isWater_5 N x0 x1 x2 h) n x3 x4 = some r → Zw K (eI h r) h 5 [(0, vr x0), (1, vi x1), (2, vi x2), (3, vi x3), (4, vi x4)] [] := by
  intro n
  induction n with
  | zero => intro x3 x4 r hr; cases hr
  | succ n ih => intro x3 x4 r hr; exact wX10_isWater_5B O N x0 x1 x2 h (lf (fun _ _ => none) (BX10_isWater_5 N x0 x1 x2 h) n)  ih x3 x4 r hr
def F_X10_isWater (N : Nat) (x0 : Option Nat) (x1 : Int32) (x2 : Int32) (h : AH) : Option (Int32) :=
  (ck h [10] x0).bind fun _ =>
  LX10_isWater_5 N x0 x1 x2 h (0 : Int32) (0 : Int32)
theorem mX10_isWater (l : Launch) (G : ZG) (N : Nat) (x0 : Option Nat) (x1 : Int32) (x2 : Int32) (h : AH) (r : Int32) (hr : F_X10_isWater N x0 x1 x2 h = some r) : MZ l G yX10_isWater cX10_isWater 5 (some .boolean) 1 48 [vr x0, vi x1, vi x2] h (eI h r) := by
  unfold F_X10_isWater at hr
  refine MZ.of (by decide) [(0, vr x0), (1, vi x1), (2, vi x2)] rfl (Nat.le_of_ble_eq_true rfl) (fun K O => ?_)
  have O : ZOk K cX10_isWater RX10 "isWater" 5 (some .boolean) 1 48 := O
  refine bs hr (fun _ hck hr => ?_)
  refine z_iconst O dX10_isWater_0 kic_0 ?_
  refine z_istore_n O [(3, vi (0 : Int32)), (0, vr x0), (1, vi x1), (2, vi x2)] dX10_isWater_1 rfl (by decide) rfl ?_
  refine z_iconst O dX10_isWater_2 kic_0 ?_
  refine z_istore O [(4, vi (0 : Int32)), (3, vi (0 : Int32)), (0, vr x0), (1, vi x1), (2, vi x2)] dX10_isWater_3 (by decide) rfl ?_
  refine z_sub [2, 3, 4, 1, 0] rfl ?_
  exact wX10_isWater_5 O N x0 x1 x2 h _ (0 : Int32) (0 : Int32) _ hr
theorem fV_X10_isGround : CVf RX10 yX10_isGround cX10_isGround 3 (some .boolean) 2 := ⟨q1105, q1106, q138, q1107, ⟨⟨by decide +kernel, by decide +kernel⟩, by decide +kernel⟩⟩
def F_X10_isGround (N : Nat) (x0 : Option Nat) (x1 : Int32) (x2 : Int32) (h : AH) : Option (Int32) :=
  (ck h [10] x0).bind fun _ =>
  (F_X10_isCell x0 x1 x2 h).bind fun v1 =>
  if v1 = 0 then
    zb (0 : Int32)
  else
    (F_X10_isWater N x0 x1 x2 h).bind fun v2 =>
    if v2 = 0 then
      zb (1 : Int32)
    else
      zb (0 : Int32)
theorem mX10_isGround (l : Launch) (G : ZG) (N : Nat) (x0 : Option Nat) (x1 : Int32) (x2 : Int32) (h : AH) (r : Int32) (hr : F_X10_isGround N x0 x1 x2 h = some r) : MZ l G yX10_isGround cX10_isGround 3 (some .boolean) 3 92 [vr x0, vi x1, vi x2] h (eI h r) := by
  unfold F_X10_isGround at hr
  refine MZ.of (by decide) [(0, vr x0), (1, vi x1), (2, vi x2)] rfl (Nat.le_of_ble_eq_true rfl) (fun K O => ?_)
  have O : ZOk K cX10_isGround RX10 "isGround" 3 (some .boolean) 3 92 := O
  refine bs hr (fun _ hck hr => ?_)
  refine z_aload_n O 0 dX10_isGround_0 rfl rfl ?_
  refine z_iload_n O 1 dX10_isGround_1 rfl rfl ?_
  refine z_iload_n O 2 dX10_isGround_2 rfl rfl ?_
  refine bs hr (fun v1 hF hr => ?_)
  refine z_callV O [vi x1, vi x2] (vi v1) fV_X10_isCell q1108 (fun l G => mX10_isCell l G x0 x1 x2 h _ hF) (zck hF) rfl rfl ⟨Nat.le_of_ble_eq_true rfl, Nat.le_of_ble_eq_true rfl⟩ (Nat.le_of_ble_eq_true rfl) dX10_isGround_3 ?_
  refine z_if_eq (tgt := 22) O dX10_isGround_6 (by decide) hr (fun hr => ?_) (fun hr => ?_)
  · refine z_iconst O dX10_isGround_22 kic_0 ?_
    obtain ⟨e1, e2, -⟩ := zb_spec hr
    exact z_zret O e2 dX10_isGround_23 (by cases e1; rfl)
  · refine z_aload_n O 0 dX10_isGround_9 rfl rfl ?_
    refine z_iload_n O 1 dX10_isGround_10 rfl rfl ?_
    refine z_iload_n O 2 dX10_isGround_11 rfl rfl ?_
    refine bs hr (fun v2 hF hr => ?_)
    refine z_callV O [vi x1, vi x2] (vi v2) fV_X10_isWater q1113 (fun l G => mX10_isWater l G N x0 x1 x2 h _ hF) (zck hF) rfl rfl ⟨Nat.le_of_ble_eq_true rfl, Nat.le_of_ble_eq_true rfl⟩ (Nat.le_of_ble_eq_true rfl) dX10_isGround_12 ?_
    refine z_if_ne (tgt := 22) O dX10_isGround_15 (by decide) hr (fun hr => ?_) (fun hr => ?_)
    · refine z_iconst O dX10_isGround_18 kic_1 ?_
      refine z_goto (tgt := 23) O dX10_isGround_19 (by decide) ?_
      obtain ⟨e1, e2, -⟩ := zb_spec hr
      exact z_zret O e2 dX10_isGround_23 (by cases e1; rfl)
    · refine z_iconst O dX10_isGround_22 kic_0 ?_
      obtain ⟨e1, e2, -⟩ := zb_spec hr
      exact z_zret O e2 dX10_isGround_23 (by cases e1; rfl)
theorem fS_X17_place : CSf yX17_place cX17_place 3 (some .int) 3 := ⟨q1262, q151, q1263, ⟨⟨by decide +kernel, by decide +kernel⟩, by decide +kernel⟩⟩
def F_X17_place (x0 : Int32) (x1 : Int32) (x2 : Int32) : Option (Int32) :=
  if x2 = (-x0) then
    some (x1 + x0)
  else
    if x1 = x0 then
      some ((((2 : Int32) * x0) + x2) + x0)
    else
      if x2 = x0 then
        some ((((4 : Int32) * x0) + x0) - x1)
      else
        some ((((6 : Int32) * x0) + x0) - x2)
theorem mX17_place (l : Launch) (G : ZG) (x0 : Int32) (x1 : Int32) (x2 : Int32) (h : AH) (r : Int32) (hr : F_X17_place x0 x1 x2 = some r) : MZ l G yX17_place cX17_place 3 (some .int) 1 48 [vi x0, vi x1, vi x2] h (eI h r) := by
  unfold F_X17_place at hr
  refine MZ.of (by decide) [(0, vi x0), (1, vi x1), (2, vi x2)] rfl (Nat.le_of_ble_eq_true rfl) (fun K O => ?_)
  have O : ZOk K cX17_place RX17 "place" 3 (some .int) 1 48 := O
  refine z_iload_n O 2 dX17_place_0 rfl rfl ?_
  refine z_iload_n O 0 dX17_place_1 rfl rfl ?_
  refine z_ineg O dX17_place_2 ?_
  refine z_icmp_ne (tgt := 10) O dX17_place_3 (by decide) hr (fun hr => ?_) (fun hr => ?_)
  · refine z_iload_n O 1 dX17_place_6 rfl rfl ?_
    refine z_iload_n O 0 dX17_place_7 rfl rfl ?_
    refine z_iadd O dX17_place_8 ?_
    exact z_iret O dX17_place_9 (by cases hr; rfl)
  · refine z_iload_n O 1 dX17_place_10 rfl rfl ?_
    refine z_iload_n O 0 dX17_place_11 rfl rfl ?_
    refine z_icmp_ne (tgt := 23) O dX17_place_12 (by decide) hr (fun hr => ?_) (fun hr => ?_)
    · refine z_iconst O dX17_place_15 kic_2 ?_
      refine z_iload_n O 0 dX17_place_16 rfl rfl ?_
      refine z_imul O dX17_place_17 ?_
      refine z_iload_n O 2 dX17_place_18 rfl rfl ?_
      refine z_iadd O dX17_place_19 ?_
      refine z_iload_n O 0 dX17_place_20 rfl rfl ?_
      refine z_iadd O dX17_place_21 ?_
      exact z_iret O dX17_place_22 (by cases hr; rfl)
    · refine z_iload_n O 2 dX17_place_23 rfl rfl ?_
      refine z_iload_n O 0 dX17_place_24 rfl rfl ?_
      refine z_icmp_ne (tgt := 36) O dX17_place_25 (by decide) hr (fun hr => ?_) (fun hr => ?_)
      · refine z_iconst O dX17_place_28 kic_4 ?_
        refine z_iload_n O 0 dX17_place_29 rfl rfl ?_
        refine z_imul O dX17_place_30 ?_
        refine z_iload_n O 0 dX17_place_31 rfl rfl ?_
        refine z_iadd O dX17_place_32 ?_
        refine z_iload_n O 1 dX17_place_33 rfl rfl ?_
        refine z_isub O dX17_place_34 ?_
        exact z_iret O dX17_place_35 (by cases hr; rfl)
      · refine z_bipush O dX17_place_36 kbi_6 ?_
        refine z_iload_n O 0 dX17_place_38 rfl rfl ?_
        refine z_imul O dX17_place_39 ?_
        refine z_iload_n O 0 dX17_place_40 rfl rfl ?_
        refine z_iadd O dX17_place_41 ?_
        refine z_iload_n O 2 dX17_place_42 rfl rfl ?_
        refine z_isub O dX17_place_43 ?_
        exact z_iret O dX17_place_44 (by cases hr; rfl)
theorem fS_X17_x : CSf yX17_x cX17_x 4 (some .int) 2 := ⟨q1095, q151, q1096, ⟨⟨by decide +kernel, by decide +kernel⟩, by decide +kernel⟩⟩
def F_X17_x (x0 : Int32) (x1 : Int32) : Option (Int32) :=
  (dv x1 ((2 : Int32) * x0)).bind fun v1 =>
  (rm x1 ((2 : Int32) * x0)).bind fun v2 =>
  if v1 = 0 then
    some (v2 - x0)
  else
    if v1 = (1 : Int32) then
      some x0
    else
      if v1 = (2 : Int32) then
        some (x0 - v2)
      else
        some (-x0)
theorem mX17_x (l : Launch) (G : ZG) (x0 : Int32) (x1 : Int32) (h : AH) (r : Int32) (hr : F_X17_x x0 x1 = some r) : MZ l G yX17_x cX17_x 4 (some .int) 1 48 [vi x0, vi x1] h (eI h r) := by
  unfold F_X17_x at hr
  refine MZ.of (by decide) [(0, vi x0), (1, vi x1)] rfl (Nat.le_of_ble_eq_true rfl) (fun K O => ?_)
  have O : ZOk K cX17_x RX17 "x" 4 (some .int) 1 48 := O
  refine z_iload_n O 1 dX17_x_0 rfl rfl ?_
  refine z_iconst O dX17_x_1 kic_2 ?_
  refine z_iload_n O 0 dX17_x_2 rfl rfl ?_
  refine z_imul O dX17_x_3 ?_
  refine z_idiv O dX17_x_4 hr (fun v1 hr => ?_)
  refine z_istore_n O [(2, vi v1), (0, vi x0), (1, vi x1)] dX17_x_5 rfl (by decide) rfl ?_
  refine z_iload_n O 2 dX17_x_6 rfl rfl ?_
  refine z_iconst O dX17_x_7 kic_2 ?_
  refine z_iload_n O 1 dX17_x_8 rfl rfl ?_
  refine z_imul O dX17_x_9 ?_
  refine z_irem O dX17_x_10 hr (fun v2 hr => ?_)
  refine z_istore_n O [(3, vi v2), (2, vi v1), (0, vi x0), (1, vi x1)] dX17_x_11 rfl (by decide) rfl ?_
  refine z_iload_n O 1 dX17_x_12 rfl rfl ?_
  refine z_if_ne (tgt := 22) O dX17_x_13 (by decide) hr (fun hr => ?_) (fun hr => ?_)
  · refine z_iload_n O 0 dX17_x_16 rfl rfl ?_
    refine z_iload_n O 2 dX17_x_17 rfl rfl ?_
    refine z_isub O dX17_x_18 ?_
    refine z_goto (tgt := 44) O dX17_x_19 (by decide) ?_
    exact z_iret O dX17_x_44 (by cases hr; rfl)
  · refine z_iload_n O 1 dX17_x_22 rfl rfl ?_
    refine z_iconst O dX17_x_23 kic_1 ?_
    refine z_icmp_ne (tgt := 31) O dX17_x_24 (by decide) hr (fun hr => ?_) (fun hr => ?_)
    · refine z_iload_n O 2 dX17_x_27 rfl rfl ?_
      refine z_goto (tgt := 44) O dX17_x_28 (by decide) ?_
      exact z_iret O dX17_x_44 (by cases hr; rfl)
    · refine z_iload_n O 1 dX17_x_31 rfl rfl ?_
      refine z_iconst O dX17_x_32 kic_2 ?_
      refine z_icmp_ne (tgt := 42) O dX17_x_33 (by decide) hr (fun hr => ?_) (fun hr => ?_)
      · refine z_iload_n O 2 dX17_x_36 rfl rfl ?_
        refine z_iload_n O 0 dX17_x_37 rfl rfl ?_
        refine z_isub O dX17_x_38 ?_
        refine z_goto (tgt := 44) O dX17_x_39 (by decide) ?_
        exact z_iret O dX17_x_44 (by cases hr; rfl)
      · refine z_iload_n O 2 dX17_x_42 rfl rfl ?_
        refine z_ineg O dX17_x_43 ?_
        exact z_iret O dX17_x_44 (by cases hr; rfl)
theorem fS_X17_y : CSf yX17_y cX17_y 4 (some .int) 2 := ⟨q1098, q151, q1099, ⟨⟨by decide +kernel, by decide +kernel⟩, by decide +kernel⟩⟩
def F_X17_y (x0 : Int32) (x1 : Int32) : Option (Int32) :=
  (dv x1 ((2 : Int32) * x0)).bind fun v1 =>
  (rm x1 ((2 : Int32) * x0)).bind fun v2 =>
  if v1 = 0 then
    some (-x0)
  else
    if v1 = (1 : Int32) then
      some (v2 - x0)
    else
      if v1 = (2 : Int32) then
        some x0
      else
        some (x0 - v2)
theorem mX17_y (l : Launch) (G : ZG) (x0 : Int32) (x1 : Int32) (h : AH) (r : Int32) (hr : F_X17_y x0 x1 = some r) : MZ l G yX17_y cX17_y 4 (some .int) 1 48 [vi x0, vi x1] h (eI h r) := by
  unfold F_X17_y at hr
  refine MZ.of (by decide) [(0, vi x0), (1, vi x1)] rfl (Nat.le_of_ble_eq_true rfl) (fun K O => ?_)
  have O : ZOk K cX17_y RX17 "y" 4 (some .int) 1 48 := O
  refine z_iload_n O 1 dX17_y_0 rfl rfl ?_
  refine z_iconst O dX17_y_1 kic_2 ?_
  refine z_iload_n O 0 dX17_y_2 rfl rfl ?_
  refine z_imul O dX17_y_3 ?_
  refine z_idiv O dX17_y_4 hr (fun v1 hr => ?_)
  refine z_istore_n O [(2, vi v1), (0, vi x0), (1, vi x1)] dX17_y_5 rfl (by decide) rfl ?_
  refine z_iload_n O 2 dX17_y_6 rfl rfl ?_
  refine z_iconst O dX17_y_7 kic_2 ?_
  refine z_iload_n O 1 dX17_y_8 rfl rfl ?_
  refine z_imul O dX17_y_9 ?_
  refine z_irem O dX17_y_10 hr (fun v2 hr => ?_)
  refine z_istore_n O [(3, vi v2), (2, vi v1), (0, vi x0), (1, vi x1)] dX17_y_11 rfl (by decide) rfl ?_
  refine z_iload_n O 1 dX17_y_12 rfl rfl ?_
  refine z_if_ne (tgt := 21) O dX17_y_13 (by decide) hr (fun hr => ?_) (fun hr => ?_)
  · refine z_iload_n O 2 dX17_y_16 rfl rfl ?_
    refine z_ineg O dX17_y_17 ?_
    refine z_goto (tgt := 44) O dX17_y_18 (by decide) ?_
    exact z_iret O dX17_y_44 (by cases hr; rfl)
  · refine z_iload_n O 1 dX17_y_21 rfl rfl ?_
    refine z_iconst O dX17_y_22 kic_1 ?_
    refine z_icmp_ne (tgt := 32) O dX17_y_23 (by decide) hr (fun hr => ?_) (fun hr => ?_)
    · refine z_iload_n O 0 dX17_y_26 rfl rfl ?_
      refine z_iload_n O 2 dX17_y_27 rfl rfl ?_
      refine z_isub O dX17_y_28 ?_
      refine z_goto (tgt := 44) O dX17_y_29 (by decide) ?_
      exact z_iret O dX17_y_44 (by cases hr; rfl)
    · refine z_iload_n O 1 dX17_y_32 rfl rfl ?_
      refine z_iconst O dX17_y_33 kic_2 ?_
      refine z_icmp_ne (tgt := 41) O dX17_y_34 (by decide) hr (fun hr => ?_) (fun hr => ?_)
      · refine z_iload_n O 2 dX17_y_37 rfl rfl ?_
        refine z_goto (tgt := 44) O dX17_y_38 (by decide) ?_
        exact z_iret O dX17_y_44 (by cases hr; rfl)
      · refine z_iload_n O 2 dX17_y_41 rfl rfl ?_
        refine z_iload_n O 0 dX17_y_42 rfl rfl ?_
        refine z_isub O dX17_y_43 ?_
        exact z_iret O dX17_y_44 (by cases hr; rfl)
theorem fS_X17_front : CSf yX17_front cX17_front 5 (some .int) 2 := ⟨q1265, q151, q1266, ⟨⟨by decide +kernel, by decide +kernel⟩, by decide +kernel⟩⟩
def bX17_front_47 (x3 : Int32) (x4 : Int32) (s0 : Int32) (s1 : Int32) : Option (Int32) :=
  if x4 = 0 then
    (F_X17_place s0 s1 (x3 - (1 : Int32))).bind fun v3 =>
    some v3
  else
    if x4 = (2 : Int32) then
      (F_X17_place s0 s1 (x3 + (1 : Int32))).bind fun v2 =>
      some v2
    else
      (F_X17_place s0 s1 x3).bind fun v1 =>
      some v1
theorem wX17_front_47 {K : ZC} (O : ZOk K cX17_front RX17 "front" 5 (some .int) 2 71) (x3 : Int32) (x4 : Int32) (s0 : Int32) (s1 : Int32) (h : AH) (r : Int32) (hr : bX17_front_47 x3 x4 s0 s1 = some r) : Zw K (eI h r) h 47 [(3, vi x3), (4, vi x4)] [vi s1, vi s0] := by
  unfold bX17_front_47 at hr
  refine z_iload O 1 dX17_front_47 rfl ?_
  refine z_if_ne (tgt := 58) O dX17_front_49 (by decide) hr (fun hr => ?_) (fun hr => ?_)
  · refine z_iload_n O 0 dX17_front_52 rfl rfl ?_
    refine z_iconst O dX17_front_53 kic_1 ?_
    refine z_isub O dX17_front_54 ?_
    refine z_goto (tgt := 71) O dX17_front_55 (by decide) ?_
    refine bs hr (fun v3 hF hr => ?_)
    refine z_callS O [vi s0, vi s1, vi (x3 - (1 : Int32))] (vi v3) fS_X17_place q1261 (fun l G => mX17_place l G s0 s1 (x3 - (1 : Int32)) h _ hF) rfl ⟨Nat.le_of_ble_eq_true rfl, Nat.le_of_ble_eq_true rfl⟩ (Nat.le_of_ble_eq_true rfl) dX17_front_71 ?_
    exact z_iret O dX17_front_74 (by cases hr; rfl)
  · refine z_iload O 1 dX17_front_58 rfl ?_
    refine z_iconst O dX17_front_60 kic_2 ?_
    refine z_icmp_ne (tgt := 70) O dX17_front_61 (by decide) hr (fun hr => ?_) (fun hr => ?_)
    · refine z_iload_n O 0 dX17_front_64 rfl rfl ?_
      refine z_iconst O dX17_front_65 kic_1 ?_
      refine z_iadd O dX17_front_66 ?_
      refine z_goto (tgt := 71) O dX17_front_67 (by decide) ?_
      refine bs hr (fun v2 hF hr => ?_)
      refine z_callS O [vi s0, vi s1, vi (x3 + (1 : Int32))] (vi v2) fS_X17_place q1261 (fun l G => mX17_place l G s0 s1 (x3 + (1 : Int32)) h _ hF) rfl ⟨Nat.le_of_ble_eq_true rfl, Nat.le_of_ble_eq_true rfl⟩ (Nat.le_of_ble_eq_true rfl) dX17_front_71 ?_
      exact z_iret O dX17_front_74 (by cases hr; rfl)
    · refine z_iload_n O 0 dX17_front_70 rfl rfl ?_
      refine bs hr (fun v1 hF hr => ?_)
      refine z_callS O [vi s0, vi s1, vi x3] (vi v1) fS_X17_place q1261 (fun l G => mX17_place l G s0 s1 x3 h _ hF) rfl ⟨Nat.le_of_ble_eq_true rfl, Nat.le_of_ble_eq_true rfl⟩ (Nat.le_of_ble_eq_true rfl) dX17_front_71 ?_
      exact z_iret O dX17_front_74 (by cases hr; rfl)
def F_X17_front (x0 : Int32) (x1 : Int32) : Option (Int32) :=
  (F_X17_x x0 x1).bind fun v1 =>
  (F_X17_y x0 x1).bind fun v2 =>
  (dv x1 ((2 : Int32) * x0)).bind fun v3 =>
  if v3 = (1 : Int32) then
    bX17_front_47 v2 v3 (x0 + (1 : Int32)) (v1 + (1 : Int32))
  else
    if v3 = (3 : Int32) then
      bX17_front_47 v2 v3 (x0 + (1 : Int32)) (v1 - (1 : Int32))
    else
      bX17_front_47 v2 v3 (x0 + (1 : Int32)) v1
theorem mX17_front (l : Launch) (G : ZG) (x0 : Int32) (x1 : Int32) (h : AH) (r : Int32) (hr : F_X17_front x0 x1 = some r) : MZ l G yX17_front cX17_front 5 (some .int) 2 71 [vi x0, vi x1] h (eI h r) := by
  unfold F_X17_front at hr
  refine MZ.of (by decide) [(0, vi x0), (1, vi x1)] rfl (Nat.le_of_ble_eq_true rfl) (fun K O => ?_)
  have O : ZOk K cX17_front RX17 "front" 5 (some .int) 2 71 := O
  refine z_iload_n O 0 dX17_front_0 rfl rfl ?_
  refine z_iload_n O 1 dX17_front_1 rfl rfl ?_
  refine bs hr (fun v1 hF hr => ?_)
  refine z_callS O [vi x0, vi x1] (vi v1) fS_X17_x q1267 (fun l G => mX17_x l G x0 x1 h _ hF) rfl ⟨Nat.le_of_ble_eq_true rfl, Nat.le_of_ble_eq_true rfl⟩ (Nat.le_of_ble_eq_true rfl) dX17_front_2 ?_
  refine z_istore_n O [(2, vi v1), (0, vi x0), (1, vi x1)] dX17_front_5 rfl (by decide) rfl ?_
  refine z_iload_n O 1 dX17_front_6 rfl rfl ?_
  refine z_iload_n O 2 dX17_front_7 rfl rfl ?_
  refine bs hr (fun v2 hF hr => ?_)
  refine z_callS O [vi x0, vi x1] (vi v2) fS_X17_y q1268 (fun l G => mX17_y l G x0 x1 h _ hF) rfl ⟨Nat.le_of_ble_eq_true rfl, Nat.le_of_ble_eq_true rfl⟩ (Nat.le_of_ble_eq_true rfl) dX17_front_8 ?_
  refine z_istore_n O [(3, vi v2), (2, vi v1), (0, vi x0), (1, vi x1)] dX17_front_11 rfl (by decide) rfl ?_
  refine z_iload_n O 3 dX17_front_12 rfl rfl ?_
  refine z_iconst O dX17_front_13 kic_2 ?_
  refine z_iload_n O 2 dX17_front_14 rfl rfl ?_
  refine z_imul O dX17_front_15 ?_
  refine z_idiv O dX17_front_16 hr (fun v3 hr => ?_)
  refine z_istore O [(4, vi v3), (3, vi v2), (2, vi v1), (0, vi x0), (1, vi x1)] dX17_front_17 (by decide) rfl ?_
  refine z_iload_n O 3 dX17_front_19 rfl rfl ?_
  refine z_iconst O dX17_front_20 kic_1 ?_
  refine z_iadd O dX17_front_21 ?_
  refine z_iload O 0 dX17_front_22 rfl ?_
  refine z_iconst O dX17_front_24 kic_1 ?_
  refine z_icmp_ne (tgt := 34) O dX17_front_25 (by decide) hr (fun hr => ?_) (fun hr => ?_)
  · refine z_iload_n O 2 dX17_front_28 rfl rfl ?_
    refine z_iconst O dX17_front_29 kic_1 ?_
    refine z_iadd O dX17_front_30 ?_
    refine z_goto (tgt := 47) O dX17_front_31 (by decide) ?_
    refine z_sub [1, 0] rfl ?_
    exact wX17_front_47 O v2 v3 (x0 + (1 : Int32)) (v1 + (1 : Int32)) h _ hr
  · refine z_iload O 0 dX17_front_34 rfl ?_
    refine z_iconst O dX17_front_36 kic_3 ?_
    refine z_icmp_ne (tgt := 46) O dX17_front_37 (by decide) hr (fun hr => ?_) (fun hr => ?_)
    · refine z_iload_n O 2 dX17_front_40 rfl rfl ?_
      refine z_iconst O dX17_front_41 kic_1 ?_
      refine z_isub O dX17_front_42 ?_
      refine z_goto (tgt := 47) O dX17_front_43 (by decide) ?_
      refine z_sub [1, 0] rfl ?_
      exact wX17_front_47 O v2 v3 (x0 + (1 : Int32)) (v1 - (1 : Int32)) h _ hr
    · refine z_iload_n O 2 dX17_front_46 rfl rfl ?_
      refine z_sub [1, 0] rfl ?_
      exact wX17_front_47 O v2 v3 (x0 + (1 : Int32)) v1 h _ hr
theorem fV_X5_far : CVf RX5 yX5_far cX5_far 3 (some .int) 2 := ⟨q1049, q1050, q133, q1051, ⟨⟨by decide +kernel, by decide +kernel⟩, by decide +kernel⟩⟩
def F_X5_far (x0 : Option Nat) (x1 : Int32) (x2 : Int32) (h : AH) : Option (Int32) :=
  (ck h [5] x0).bind fun _ =>
  (gR h f_House_site x0).bind fun v1 =>
  (gI h f_Site_x v1).bind fun v2 =>
  (gR h f_House_site x0).bind fun v3 =>
  (gI h f_Site_y v3).bind fun v4 =>
  some (jmax (jabs (x1 - v2)) (jabs (x2 - v4)))
theorem mX5_far (l : Launch) (G : ZG) (x0 : Option Nat) (x1 : Int32) (x2 : Int32) (h : AH) (r : Int32) (hr : F_X5_far x0 x1 x2 h = some r) : MZ l G yX5_far cX5_far 3 (some .int) 1 48 [vr x0, vi x1, vi x2] h (eI h r) := by
  unfold F_X5_far at hr
  refine MZ.of (by decide) [(0, vr x0), (1, vi x1), (2, vi x2)] rfl (Nat.le_of_ble_eq_true rfl) (fun K O => ?_)
  have O : ZOk K cX5_far RX5 "far" 3 (some .int) 1 48 := O
  refine bs hr (fun _ hck hr => ?_)
  refine z_iload_n O 1 dX5_far_0 rfl rfl ?_
  refine z_aload_n O 0 dX5_far_1 rfl rfl ?_
  refine z_getR O o_House_site q308 dX5_far_2 hr (fun v1 hr => ?_)
  refine z_getI O o_Site_x q1019 dX5_far_5 hr (fun v2 hr => ?_)
  refine z_isub O dX5_far_8 ?_
  refine z_mabs O q1052 ⟨Nat.le_of_ble_eq_true rfl, Nat.le_of_ble_eq_true rfl⟩ (Nat.le_of_ble_eq_true rfl) dX5_far_9 ?_
  refine z_iload_n O 2 dX5_far_12 rfl rfl ?_
  refine z_aload_n O 0 dX5_far_13 rfl rfl ?_
  refine z_getR O o_House_site q308 dX5_far_14 hr (fun v3 hr => ?_)
  refine z_getI O o_Site_y q1023 dX5_far_17 hr (fun v4 hr => ?_)
  refine z_isub O dX5_far_20 ?_
  refine z_mabs O q1052 ⟨Nat.le_of_ble_eq_true rfl, Nat.le_of_ble_eq_true rfl⟩ (Nat.le_of_ble_eq_true rfl) dX5_far_21 ?_
  refine z_mmax O q1055 ⟨Nat.le_of_ble_eq_true rfl, Nat.le_of_ble_eq_true rfl⟩ (Nat.le_of_ble_eq_true rfl) dX5_far_24 ?_
  exact z_iret O dX5_far_27 (by cases hr; rfl)
theorem fV_X5_has : CVf RX5 yX5_has cX5_has 3 (some .boolean) 2 := ⟨q1045, q1046, q133, q1047, ⟨⟨by decide +kernel, by decide +kernel⟩, by decide +kernel⟩⟩
def F_X5_has (x0 : Option Nat) (x1 : Int32) (x2 : Int32) (h : AH) : Option (Int32) :=
  (ck h [5] x0).bind fun _ =>
  (F_X5_far x0 x1 x2 h).bind fun v1 =>
  (gI h f_House_many x0).bind fun v2 =>
  if v2 < v1 then
    zb (0 : Int32)
  else
    zb (1 : Int32)
theorem mX5_has (l : Launch) (G : ZG) (x0 : Option Nat) (x1 : Int32) (x2 : Int32) (h : AH) (r : Int32) (hr : F_X5_has x0 x1 x2 h = some r) : MZ l G yX5_has cX5_has 3 (some .boolean) 2 70 [vr x0, vi x1, vi x2] h (eI h r) := by
  unfold F_X5_has at hr
  refine MZ.of (by decide) [(0, vr x0), (1, vi x1), (2, vi x2)] rfl (Nat.le_of_ble_eq_true rfl) (fun K O => ?_)
  have O : ZOk K cX5_has RX5 "has" 3 (some .boolean) 2 70 := O
  refine bs hr (fun _ hck hr => ?_)
  refine z_aload_n O 0 dX5_has_0 rfl rfl ?_
  refine z_iload_n O 1 dX5_has_1 rfl rfl ?_
  refine z_iload_n O 2 dX5_has_2 rfl rfl ?_
  refine bs hr (fun v1 hF hr => ?_)
  refine z_callV O [vi x1, vi x2] (vi v1) fV_X5_far q1048 (fun l G => mX5_far l G x0 x1 x2 h _ hF) (zck hF) rfl rfl ⟨Nat.le_of_ble_eq_true rfl, Nat.le_of_ble_eq_true rfl⟩ (Nat.le_of_ble_eq_true rfl) dX5_has_3 ?_
  refine z_aload_n O 0 dX5_has_6 rfl rfl ?_
  refine z_getI O o_House_many q311 dX5_has_7 hr (fun v2 hr => ?_)
  refine z_icmp_gt (tgt := 17) O dX5_has_10 (by decide) hr (fun hr => ?_) (fun hr => ?_)
  · refine z_iconst O dX5_has_17 kic_0 ?_
    obtain ⟨e1, e2, -⟩ := zb_spec hr
    exact z_zret O e2 dX5_has_18 (by cases e1; rfl)
  · refine z_iconst O dX5_has_13 kic_1 ?_
    refine z_goto (tgt := 18) O dX5_has_14 (by decide) ?_
    obtain ⟨e1, e2, -⟩ := zb_spec hr
    exact z_zret O e2 dX5_has_18 (by cases e1; rfl)
theorem fV_X4_whose : CVf RX4 yX4_whose cX4_whose 5 (some .int) 2 := ⟨q1041, q1042, q132, q1043, ⟨⟨by decide +kernel, by decide +kernel⟩, by decide +kernel⟩⟩
def BX4_whose_5 (N : Nat) (x0 : Option Nat) (x1 : Int32) (x2 : Int32) (h : AH) (rec5 : Int32 → Int32 → Option (Int32)) : Int32 → Int32 → Option (Int32) := fun x3 x4 =>
  (gI h f_Village_many x0).bind fun v1 =>
  if v1 ≤ x4 then
    some x3
  else
    (gR h f_Village_houses x0).bind fun v2 =>
    (aR h v2 x4).bind fun v3 =>
    (F_X5_has v3 x1 x2 h).bind fun v4 =>
    if v4 = 0 then
      jlet (x3 ||| (0 : Int32)) fun v5 =>
      jlet (x4 + (1 : Int32)) fun v6 =>
      rec5 v5 v6
    else
      jlet (x3 ||| ((1 : Int32) <<< (x4 &&& 31))) fun v7 =>
      jlet (x4 + (1 : Int32)) fun v8 =>
      rec5 v7 v8
def LX4_whose_5 (N : Nat) (x0 : Option Nat) (x1 : Int32) (x2 : Int32) (h : AH) : Int32 → Int32 → Option (Int32) := lf (fun _ _ => none) (BX4_whose_5 N x0 x1 x2 h) N
theorem wX4_whose_5B {K : ZC} (O : ZOk K cX4_whose RX4 "whose" 5 (some .int) 3 92) (N : Nat) (x0 : Option Nat) (x1 : Int32) (x2 : Int32) (h : AH) (rec5 : Int32 → Int32 → Option (Int32)) (hrec5 : ∀ (y3 : Int32) (y4 : Int32) (ry : Int32), rec5 y3 y4 = some ry → Zw K (eI h ry) h 5 [(0, vr x0), (1, vi x1), (2, vi x2), (3, vi y3), (4, vi y4)] []) (x3 : Int32) (x4 : Int32) (r : Int32) (hr : BX4_whose_5 N x0 x1 x2 h rec5 x3 x4 = some r) : Zw K (eI h r) h 5 [(0, vr x0), (1, vi x1), (2, vi x2), (3, vi x3), (4, vi x4)] [] := by
  unfold BX4_whose_5 at hr
  refine z_iload O 4 dX4_whose_5 rfl ?_
  refine z_aload_n O 0 dX4_whose_7 rfl rfl ?_
  refine z_getI O o_Village_many q345 dX4_whose_8 hr (fun v1 hr => ?_)
  refine z_icmp_ge (tgt := 46) O dX4_whose_11 (by decide) hr (fun hr => ?_) (fun hr => ?_)
  · refine z_iload_n O 3 dX4_whose_46 rfl rfl ?_
    exact z_iret O dX4_whose_47 (by cases hr; rfl)
  · refine z_iload_n O 3 dX4_whose_14 rfl rfl ?_
    refine z_aload_n O 0 dX4_whose_15 rfl rfl ?_
    refine z_getR O o_Village_houses q337 dX4_whose_16 hr (fun v2 hr => ?_)
    refine z_iload O 4 dX4_whose_19 rfl ?_
    refine z_aaload O dX4_whose_21 hr (fun v3 hr => ?_)
    refine z_iload_n O 1 dX4_whose_22 rfl rfl ?_
    refine z_iload_n O 2 dX4_whose_23 rfl rfl ?_
    refine bs hr (fun v4 hF hr => ?_)
    refine z_callV O [vi x1, vi x2] (vi v4) fV_X5_has q1044 (fun l G => mX5_has l G v3 x1 x2 h _ hF) (zck hF) rfl rfl ⟨Nat.le_of_ble_eq_true rfl, Nat.le_of_ble_eq_true rfl⟩ (Nat.le_of_ble_eq_true rfl) dX4_whose_24 ?_
    refine z_if_eq (tgt := 37) O dX4_whose_27 (by decide) hr (fun hr => ?_) (fun hr => ?_)
    · refine z_iconst O dX4_whose_37 kic_0 ?_
      refine z_ior O dX4_whose_38 ?_
      refine z_letI hr (fun v5 hr => ?_)
      refine z_istore_n O [(3, vi v5), (0, vr x0), (1, vi x1), (2, vi x2), (4, vi x4)] dX4_whose_39 rfl (by decide) rfl ?_
      refine z_iincL O 4 (fun v6 => [(4, vi v6), (3, vi v5), (0, vr x0), (1, vi x1), (2, vi x2)]) dX4_whose_40 rfl rfl (by decide) (fun _ => rfl) hr (fun v6 hr => ?_)
      refine z_goto (tgt := 5) O dX4_whose_43 (by decide) ?_
      refine z_sub [2, 3, 4, 1, 0] rfl ?_
      exact hrec5 v5 v6 _ hr
    · refine z_iconst O dX4_whose_30 kic_1 ?_
      refine z_iload O 4 dX4_whose_31 rfl ?_
      refine z_ishl O dX4_whose_33 ?_
      refine z_goto (tgt := 38) O dX4_whose_34 (by decide) ?_
      refine z_ior O dX4_whose_38 ?_
      refine z_letI hr (fun v7 hr => ?_)
      refine z_istore_n O [(3, vi v7), (0, vr x0), (1, vi x1), (2, vi x2), (4, vi x4)] dX4_whose_39 rfl (by decide) rfl ?_
      refine z_iincL O 4 (fun v8 => [(4, vi v8), (3, vi v7), (0, vr x0), (1, vi x1), (2, vi x2)]) dX4_whose_40 rfl rfl (by decide) (fun _ => rfl) hr (fun v8 hr => ?_)
      refine z_goto (tgt := 5) O dX4_whose_43 (by decide) ?_
      refine z_sub [2, 3, 4, 1, 0] rfl ?_
      exact hrec5 v7 v8 _ hr
theorem wX4_whose_5 {K : ZC} (O : ZOk K cX4_whose RX4 "whose" 5 (some .int) 3 92) (N : Nat) (x0 : Option Nat) (x1 : Int32) (x2 : Int32) (h : AH) : ∀ (n : Nat) (x3 : Int32) (x4 : Int32) (r : Int32), lf (fun _ _ => none) (BX4_whose_5 N x0 x1 x2 h) n x3 x4 = some r → Zw K (eI h r) h 5 [(0, vr x0), (1, vi x1), (2, vi x2), (3, vi x3), (4, vi x4)] [] := by
  intro n
  induction n with
  | zero => intro x3 x4 r hr; cases hr
  | succ n ih => intro x3 x4 r hr; exact wX4_whose_5B O N x0 x1 x2 h (lf (fun _ _ => none) (BX4_whose_5 N x0 x1 x2 h) n)  ih x3 x4 r hr
def F_X4_whose (N : Nat) (x0 : Option Nat) (x1 : Int32) (x2 : Int32) (h : AH) : Option (Int32) :=
  (ck h [4] x0).bind fun _ =>
  LX4_whose_5 N x0 x1 x2 h (0 : Int32) (0 : Int32)
theorem mX4_whose (l : Launch) (G : ZG) (N : Nat) (x0 : Option Nat) (x1 : Int32) (x2 : Int32) (h : AH) (r : Int32) (hr : F_X4_whose N x0 x1 x2 h = some r) : MZ l G yX4_whose cX4_whose 5 (some .int) 3 92 [vr x0, vi x1, vi x2] h (eI h r) := by
  unfold F_X4_whose at hr
  refine MZ.of (by decide) [(0, vr x0), (1, vi x1), (2, vi x2)] rfl (Nat.le_of_ble_eq_true rfl) (fun K O => ?_)
  have O : ZOk K cX4_whose RX4 "whose" 5 (some .int) 3 92 := O
  refine bs hr (fun _ hck hr => ?_)
  refine z_iconst O dX4_whose_0 kic_0 ?_
  refine z_istore_n O [(3, vi (0 : Int32)), (0, vr x0), (1, vi x1), (2, vi x2)] dX4_whose_1 rfl (by decide) rfl ?_
  refine z_iconst O dX4_whose_2 kic_0 ?_
  refine z_istore O [(4, vi (0 : Int32)), (3, vi (0 : Int32)), (0, vr x0), (1, vi x1), (2, vi x2)] dX4_whose_3 (by decide) rfl ?_
  refine z_sub [2, 3, 4, 1, 0] rfl ?_
  exact wX4_whose_5 O N x0 x1 x2 h _ (0 : Int32) (0 : Int32) _ hr
theorem fS_X17_door : CSf yX17_door cX17_door 3 (some .int) 3 := ⟨q1259, q151, q1260, ⟨⟨by decide +kernel, by decide +kernel⟩, by decide +kernel⟩⟩
def F_X17_door (x0 : Int32) (x1 : Int32) (x2 : Int32) : Option (Int32) :=
  if x1 = (0 : Int32) then
    (F_X17_place x0 (((1 : Int32) + x2) - x0) (-x0)).bind fun v4 =>
    some v4
  else if x1 = (1 : Int32) then
    (F_X17_place x0 x0 (((1 : Int32) + x2) - x0)).bind fun v5 =>
    some v5
  else if x1 = (2 : Int32) then
    (F_X17_place x0 (((1 : Int32) + x2) - x0) x0).bind fun v6 =>
    some v6
  else 
    (F_X17_place x0 (-x0) (((1 : Int32) + x2) - x0)).bind fun v7 =>
    some v7
theorem mX17_door (l : Launch) (G : ZG) (x0 : Int32) (x1 : Int32) (x2 : Int32) (h : AH) (r : Int32) (hr : F_X17_door x0 x1 x2 = some r) : MZ l G yX17_door cX17_door 3 (some .int) 2 70 [vi x0, vi x1, vi x2] h (eI h r) := by
  unfold F_X17_door at hr
  refine MZ.of (by decide) [(0, vi x0), (1, vi x1), (2, vi x2)] rfl (Nat.le_of_ble_eq_true rfl) (fun K O => ?_)
  have O : ZOk K cX17_door RX17 "door" 3 (some .int) 2 70 := O
  refine z_iload_n O 1 dX17_door_0 rfl rfl ?_
  refine zite hr (fun c1 hr => ?_) (fun c1 hr => ?_)
  · refine z_tabIn (v := (0 : Int32)) (off := 27) (tgt := 28) O dX17_door_1 c1 (by decide) (by decide +kernel) (by decide) ?_
    refine z_iload_n O 0 dX17_door_28 rfl rfl ?_
    refine z_iconst O dX17_door_29 kic_1 ?_
    refine z_iload_n O 2 dX17_door_30 rfl rfl ?_
    refine z_iadd O dX17_door_31 ?_
    refine z_iload_n O 0 dX17_door_32 rfl rfl ?_
    refine z_isub O dX17_door_33 ?_
    refine z_iload_n O 0 dX17_door_34 rfl rfl ?_
    refine z_ineg O dX17_door_35 ?_
    refine bs hr (fun v4 hF hr => ?_)
    refine z_callS O [vi x0, vi (((1 : Int32) + x2) - x0), vi (-x0)] (vi v4) fS_X17_place q1261 (fun l G => mX17_place l G x0 (((1 : Int32) + x2) - x0) (-x0) h _ hF) rfl ⟨Nat.le_of_ble_eq_true rfl, Nat.le_of_ble_eq_true rfl⟩ (Nat.le_of_ble_eq_true rfl) dX17_door_36 ?_
    exact z_iret O dX17_door_39 (by cases hr; rfl)
  refine zite hr (fun c2 hr => ?_) (fun c2 hr => ?_)
  · refine z_tabIn (v := (1 : Int32)) (off := 39) (tgt := 40) O dX17_door_1 c2 (by decide) (by decide +kernel) (by decide) ?_
    refine z_iload_n O 0 dX17_door_40 rfl rfl ?_
    refine z_iload_n O 0 dX17_door_41 rfl rfl ?_
    refine z_iconst O dX17_door_42 kic_1 ?_
    refine z_iload_n O 2 dX17_door_43 rfl rfl ?_
    refine z_iadd O dX17_door_44 ?_
    refine z_iload_n O 0 dX17_door_45 rfl rfl ?_
    refine z_isub O dX17_door_46 ?_
    refine bs hr (fun v5 hF hr => ?_)
    refine z_callS O [vi x0, vi x0, vi (((1 : Int32) + x2) - x0)] (vi v5) fS_X17_place q1261 (fun l G => mX17_place l G x0 x0 (((1 : Int32) + x2) - x0) h _ hF) rfl ⟨Nat.le_of_ble_eq_true rfl, Nat.le_of_ble_eq_true rfl⟩ (Nat.le_of_ble_eq_true rfl) dX17_door_47 ?_
    exact z_iret O dX17_door_50 (by cases hr; rfl)
  refine zite hr (fun c3 hr => ?_) (fun c3 hr => ?_)
  · refine z_tabIn (v := (2 : Int32)) (off := 50) (tgt := 51) O dX17_door_1 c3 (by decide) (by decide +kernel) (by decide) ?_
    refine z_iload_n O 0 dX17_door_51 rfl rfl ?_
    refine z_iconst O dX17_door_52 kic_1 ?_
    refine z_iload_n O 2 dX17_door_53 rfl rfl ?_
    refine z_iadd O dX17_door_54 ?_
    refine z_iload_n O 0 dX17_door_55 rfl rfl ?_
    refine z_isub O dX17_door_56 ?_
    refine z_iload_n O 0 dX17_door_57 rfl rfl ?_
    refine bs hr (fun v6 hF hr => ?_)
    refine z_callS O [vi x0, vi (((1 : Int32) + x2) - x0), vi x0] (vi v6) fS_X17_place q1261 (fun l G => mX17_place l G x0 (((1 : Int32) + x2) - x0) x0 h _ hF) rfl ⟨Nat.le_of_ble_eq_true rfl, Nat.le_of_ble_eq_true rfl⟩ (Nat.le_of_ble_eq_true rfl) dX17_door_58 ?_
    exact z_iret O dX17_door_61 (by cases hr; rfl)
  refine z_tabOut (tgt := 62) O dX17_door_1 (zt_out 3 (by decide) (lt_s (p := fun j : Nat => ¬ x1.toInt = (0 : Int) + (j : Int)) (lt_s (p := fun j : Nat => ¬ x1.toInt = (0 : Int) + (j : Int)) (lt_s (p := fun j : Nat => ¬ x1.toInt = (0 : Int) + (j : Int)) lt_0 (lv_neT c1 (by decide))) (lv_neT c2 (by decide))) (lv_neT c3 (by decide)))) (by decide) ?_
  refine z_iload_n O 0 dX17_door_62 rfl rfl ?_
  refine z_iload_n O 0 dX17_door_63 rfl rfl ?_
  refine z_ineg O dX17_door_64 ?_
  refine z_iconst O dX17_door_65 kic_1 ?_
  refine z_iload_n O 2 dX17_door_66 rfl rfl ?_
  refine z_iadd O dX17_door_67 ?_
  refine z_iload_n O 0 dX17_door_68 rfl rfl ?_
  refine z_isub O dX17_door_69 ?_
  refine bs hr (fun v7 hF hr => ?_)
  refine z_callS O [vi x0, vi (-x0), vi (((1 : Int32) + x2) - x0)] (vi v7) fS_X17_place q1261 (fun l G => mX17_place l G x0 (-x0) (((1 : Int32) + x2) - x0) h _ hF) rfl ⟨Nat.le_of_ble_eq_true rfl, Nat.le_of_ble_eq_true rfl⟩ (Nat.le_of_ble_eq_true rfl) dX17_door_70 ?_
  exact z_iret O dX17_door_73 (by cases hr; rfl)
theorem fV_X5_skin : CVf RX5 yX5_skin cX5_skin 2 (some (.object "YearSkins$Skin")) 1 := ⟨q1128, q1129, q133, q1130, ⟨⟨by decide +kernel, by decide +kernel⟩, by decide +kernel⟩⟩
def F_X5_skin (x0 : Option Nat) (x1 : Int32) (h : AH) : Option (Option Nat) :=
  (ck h [5] x0).bind fun _ =>
  (gR h f_House_skins x0).bind fun v1 =>
  (aR h v1 (x1 - (1 : Int32))).bind fun v2 =>
  some v2
theorem mX5_skin (l : Launch) (G : ZG) (x0 : Option Nat) (x1 : Int32) (h : AH) (r : Option Nat) (hr : F_X5_skin x0 x1 h = some r) : MZ l G yX5_skin cX5_skin 2 (some (.object "YearSkins$Skin")) 1 48 [vr x0, vi x1] h (eR h r) := by
  unfold F_X5_skin at hr
  refine MZ.of (by decide) [(0, vr x0), (1, vi x1)] rfl (Nat.le_of_ble_eq_true rfl) (fun K O => ?_)
  have O : ZOk K cX5_skin RX5 "skin" 2 (some (.object "YearSkins$Skin")) 1 48 := O
  refine bs hr (fun _ hck hr => ?_)
  refine z_aload_n O 0 dX5_skin_0 rfl rfl ?_
  refine z_getR O o_House_skins q307 dX5_skin_1 hr (fun v1 hr => ?_)
  refine z_iload_n O 1 dX5_skin_4 rfl rfl ?_
  refine z_iconst O dX5_skin_5 kic_1 ?_
  refine z_isub O dX5_skin_6 ?_
  refine z_aaload O dX5_skin_7 hr (fun v2 hr => ?_)
  exact z_aret O rfl dX5_skin_8 (by cases hr; rfl)
theorem fV_X5_doorOf : CVf RX5 yX5_doorOf cX5_doorOf 2 (some .int) 1 := ⟨q1255, q1256, q133, q1257, ⟨⟨by decide +kernel, by decide +kernel⟩, by decide +kernel⟩⟩
def F_X5_doorOf (x0 : Option Nat) (x1 : Int32) (h : AH) : Option (Int32) :=
  (ck h [5] x0).bind fun _ =>
  (F_X5_skin x0 x1 h).bind fun v1 =>
  (gI h f_Skin_side v1).bind fun v2 =>
  (F_X5_skin x0 x1 h).bind fun v3 =>
  (gI h f_Skin_on v3).bind fun v4 =>
  (F_X17_door x1 v2 v4).bind fun v5 =>
  some v5
theorem mX5_doorOf (l : Launch) (G : ZG) (x0 : Option Nat) (x1 : Int32) (h : AH) (r : Int32) (hr : F_X5_doorOf x0 x1 h = some r) : MZ l G yX5_doorOf cX5_doorOf 2 (some .int) 3 92 [vr x0, vi x1] h (eI h r) := by
  unfold F_X5_doorOf at hr
  refine MZ.of (by decide) [(0, vr x0), (1, vi x1)] rfl (Nat.le_of_ble_eq_true rfl) (fun K O => ?_)
  have O : ZOk K cX5_doorOf RX5 "doorOf" 2 (some .int) 3 92 := O
  refine bs hr (fun _ hck hr => ?_)
  refine z_iload_n O 1 dX5_doorOf_0 rfl rfl ?_
  refine z_aload_n O 0 dX5_doorOf_1 rfl rfl ?_
  refine z_iload_n O 1 dX5_doorOf_2 rfl rfl ?_
  refine bs hr (fun v1 hF hr => ?_)
  refine z_callV O [vi x1] (vr v1) fV_X5_skin q1127 (fun l G => mX5_skin l G x0 x1 h _ hF) (zck hF) rfl rfl ⟨Nat.le_of_ble_eq_true rfl, Nat.le_of_ble_eq_true rfl⟩ (Nat.le_of_ble_eq_true rfl) dX5_doorOf_3 ?_
  refine z_getI O o_Skin_side q269 dX5_doorOf_6 hr (fun v2 hr => ?_)
  refine z_aload_n O 0 dX5_doorOf_9 rfl rfl ?_
  refine z_iload_n O 1 dX5_doorOf_10 rfl rfl ?_
  refine bs hr (fun v3 hF hr => ?_)
  refine z_callV O [vi x1] (vr v3) fV_X5_skin q1127 (fun l G => mX5_skin l G x0 x1 h _ hF) (zck hF) rfl rfl ⟨Nat.le_of_ble_eq_true rfl, Nat.le_of_ble_eq_true rfl⟩ (Nat.le_of_ble_eq_true rfl) dX5_doorOf_11 ?_
  refine z_getI O o_Skin_on q272 dX5_doorOf_14 hr (fun v4 hr => ?_)
  refine bs hr (fun v5 hF hr => ?_)
  refine z_callS O [vi x1, vi v2, vi v4] (vi v5) fS_X17_door q1258 (fun l G => mX17_door l G x1 v2 v4 h _ hF) rfl ⟨Nat.le_of_ble_eq_true rfl, Nat.le_of_ble_eq_true rfl⟩ (Nat.le_of_ble_eq_true rfl) dX5_doorOf_17 ?_
  exact z_iret O dX5_doorOf_20 (by cases hr; rfl)
theorem fV_X4_isShut : CVf RX4 yX4_isShut cX4_isShut 6 (some .boolean) 1 := ⟨q1251, q1252, q132, q1253, ⟨⟨by decide +kernel, by decide +kernel⟩, by decide +kernel⟩⟩
def F_X4_isShut (N : Nat) (x0 : Option Nat) (x1 : Int32) (h : AH) : Option (Int32) :=
  (ck h [4] x0).bind fun _ =>
  (gR h f_Village_houses x0).bind fun v1 =>
  (aR h v1 x1).bind fun v2 =>
  (gI h f_House_many v2).bind fun v3 =>
  if v3 = 0 then
    zb (0 : Int32)
  else
    (gI h f_House_many v2).bind fun v4 =>
    (gI h f_House_many v2).bind fun v5 =>
    (F_X5_doorOf v2 v5 h).bind fun v6 =>
    (F_X17_front v4 v6).bind fun v7 =>
    (gR h f_House_site v2).bind fun v8 =>
    (gI h f_Site_x v8).bind fun v9 =>
    (gI h f_House_many v2).bind fun v10 =>
    (F_X17_x (v10 + (1 : Int32)) v7).bind fun v11 =>
    jlet (v9 + v11) fun v12 =>
    (gR h f_House_site v2).bind fun v13 =>
    (gI h f_Site_y v13).bind fun v14 =>
    (gI h f_House_many v2).bind fun v15 =>
    (F_X17_y (v15 + (1 : Int32)) v7).bind fun v16 =>
    jlet (v14 + v16) fun v17 =>
    (gR h f_Village_land x0).bind fun v18 =>
    (F_X10_isGround N v18 v12 v17 h).bind fun v19 =>
    if v19 = 0 then
      zb (1 : Int32)
    else
      (F_X4_whose N x0 v12 v17 h).bind fun v20 =>
      if (v20 &&& (((1 : Int32) <<< (x1 &&& 31)) ^^^ (-1 : Int32))) = 0 then
        zb (0 : Int32)
      else
        zb (1 : Int32)
theorem mX4_isShut (l : Launch) (G : ZG) (N : Nat) (x0 : Option Nat) (x1 : Int32) (h : AH) (r : Int32) (hr : F_X4_isShut N x0 x1 h = some r) : MZ l G yX4_isShut cX4_isShut 6 (some .boolean) 4 116 [vr x0, vi x1] h (eI h r) := by
  unfold F_X4_isShut at hr
  refine MZ.of (by decide) [(0, vr x0), (1, vi x1)] rfl (Nat.le_of_ble_eq_true rfl) (fun K O => ?_)
  have O : ZOk K cX4_isShut RX4 "isShut" 6 (some .boolean) 4 116 := O
  refine bs hr (fun _ hck hr => ?_)
  refine z_aload_n O 0 dX4_isShut_0 rfl rfl ?_
  refine z_getR O o_Village_houses q337 dX4_isShut_1 hr (fun v1 hr => ?_)
  refine z_iload_n O 1 dX4_isShut_4 rfl rfl ?_
  refine z_aaload O dX4_isShut_5 hr (fun v2 hr => ?_)
  refine z_astore_n O [(2, vr v2), (0, vr x0), (1, vi x1)] dX4_isShut_6 rfl (by decide) rfl ?_
  refine z_aload_n O 0 dX4_isShut_7 rfl rfl ?_
  refine z_getI O o_House_many q313 dX4_isShut_8 hr (fun v3 hr => ?_)
  refine z_if_ne (tgt := 16) O dX4_isShut_11 (by decide) hr (fun hr => ?_) (fun hr => ?_)
  · refine z_iconst O dX4_isShut_14 kic_0 ?_
    obtain ⟨e1, e2, -⟩ := zb_spec hr
    exact z_zret O e2 dX4_isShut_15 (by cases e1; rfl)
  · refine z_aload_n O 0 dX4_isShut_16 rfl rfl ?_
    refine z_getI O o_House_many q313 dX4_isShut_17 hr (fun v4 hr => ?_)
    refine z_aload_n O 0 dX4_isShut_20 rfl rfl ?_
    refine z_aload_n O 0 dX4_isShut_21 rfl rfl ?_
    refine z_getI O o_House_many q313 dX4_isShut_22 hr (fun v5 hr => ?_)
    refine bs hr (fun v6 hF hr => ?_)
    refine z_callV O [vi v5] (vi v6) fV_X5_doorOf q1254 (fun l G => mX5_doorOf l G v2 v5 h _ hF) (zck hF) rfl rfl ⟨Nat.le_of_ble_eq_true rfl, Nat.le_of_ble_eq_true rfl⟩ (Nat.le_of_ble_eq_true rfl) dX4_isShut_25 ?_
    refine bs hr (fun v7 hF hr => ?_)
    refine z_callS O [vi v4, vi v6] (vi v7) fS_X17_front q1264 (fun l G => mX17_front l G v4 v6 h _ hF) rfl ⟨Nat.le_of_ble_eq_true rfl, Nat.le_of_ble_eq_true rfl⟩ (Nat.le_of_ble_eq_true rfl) dX4_isShut_28 ?_
    refine z_istore_n O [(3, vi v7), (2, vr v2), (0, vr x0), (1, vi x1)] dX4_isShut_31 rfl (by decide) rfl ?_
    refine z_aload_n O 1 dX4_isShut_32 rfl rfl ?_
    refine z_getR O o_House_site q309 dX4_isShut_33 hr (fun v8 hr => ?_)
    refine z_getI O o_Site_x q1020 dX4_isShut_36 hr (fun v9 hr => ?_)
    refine z_aload_n O 1 dX4_isShut_39 rfl rfl ?_
    refine z_getI O o_House_many q313 dX4_isShut_40 hr (fun v10 hr => ?_)
    refine z_iconst O dX4_isShut_43 kic_1 ?_
    refine z_iadd O dX4_isShut_44 ?_
    refine z_iload_n O 0 dX4_isShut_45 rfl rfl ?_
    refine bs hr (fun v11 hF hr => ?_)
    refine z_callS O [vi (v10 + (1 : Int32)), vi v7] (vi v11) fS_X17_x q1094 (fun l G => mX17_x l G (v10 + (1 : Int32)) v7 h _ hF) rfl ⟨Nat.le_of_ble_eq_true rfl, Nat.le_of_ble_eq_true rfl⟩ (Nat.le_of_ble_eq_true rfl) dX4_isShut_46 ?_
    refine z_iadd O dX4_isShut_49 ?_
    refine z_letI hr (fun v12 hr => ?_)
    refine z_istore O [(4, vi v12), (3, vi v7), (2, vr v2), (0, vr x0), (1, vi x1)] dX4_isShut_50 (by decide) rfl ?_
    refine z_aload_n O 2 dX4_isShut_52 rfl rfl ?_
    refine z_getR O o_House_site q309 dX4_isShut_53 hr (fun v13 hr => ?_)
    refine z_getI O o_Site_y q1024 dX4_isShut_56 hr (fun v14 hr => ?_)
    refine z_aload_n O 2 dX4_isShut_59 rfl rfl ?_
    refine z_getI O o_House_many q313 dX4_isShut_60 hr (fun v15 hr => ?_)
    refine z_iconst O dX4_isShut_63 kic_1 ?_
    refine z_iadd O dX4_isShut_64 ?_
    refine z_iload_n O 1 dX4_isShut_65 rfl rfl ?_
    refine bs hr (fun v16 hF hr => ?_)
    refine z_callS O [vi (v15 + (1 : Int32)), vi v7] (vi v16) fS_X17_y q1097 (fun l G => mX17_y l G (v15 + (1 : Int32)) v7 h _ hF) rfl ⟨Nat.le_of_ble_eq_true rfl, Nat.le_of_ble_eq_true rfl⟩ (Nat.le_of_ble_eq_true rfl) dX4_isShut_66 ?_
    refine z_iadd O dX4_isShut_69 ?_
    refine z_letI hr (fun v17 hr => ?_)
    refine z_istore O [(5, vi v17), (4, vi v12), (3, vi v7), (2, vr v2), (0, vr x0), (1, vi x1)] dX4_isShut_70 (by decide) rfl ?_
    refine z_aload_n O 4 dX4_isShut_72 rfl rfl ?_
    refine z_getR O o_Village_land q344 dX4_isShut_73 hr (fun v18 hr => ?_)
    refine z_iload O 1 dX4_isShut_76 rfl ?_
    refine z_iload O 0 dX4_isShut_78 rfl ?_
    refine bs hr (fun v19 hF hr => ?_)
    refine z_callV O [vi v12, vi v17] (vi v19) fV_X10_isGround q1104 (fun l G => mX10_isGround l G N v18 v12 v17 h _ hF) (zck hF) rfl rfl ⟨Nat.le_of_ble_eq_true rfl, Nat.le_of_ble_eq_true rfl⟩ (Nat.le_of_ble_eq_true rfl) dX4_isShut_80 ?_
    refine z_if_eq (tgt := 103) O dX4_isShut_83 (by decide) hr (fun hr => ?_) (fun hr => ?_)
    · refine z_iconst O dX4_isShut_103 kic_1 ?_
      refine z_goto (tgt := 108) O dX4_isShut_104 (by decide) ?_
      obtain ⟨e1, e2, -⟩ := zb_spec hr
      exact z_zret O e2 dX4_isShut_108 (by cases e1; rfl)
    · refine z_aload_n O 4 dX4_isShut_86 rfl rfl ?_
      refine z_iload O 1 dX4_isShut_87 rfl ?_
      refine z_iload O 0 dX4_isShut_89 rfl ?_
      refine bs hr (fun v20 hF hr => ?_)
      refine z_callV O [vi v12, vi v17] (vi v20) fV_X4_whose q1269 (fun l G => mX4_whose l G N x0 v12 v17 h _ hF) (zck hF) rfl rfl ⟨Nat.le_of_ble_eq_true rfl, Nat.le_of_ble_eq_true rfl⟩ (Nat.le_of_ble_eq_true rfl) dX4_isShut_91 ?_
      refine z_iconst O dX4_isShut_94 kic_1 ?_
      refine z_iload_n O 5 dX4_isShut_95 rfl rfl ?_
      refine z_ishl O dX4_isShut_96 ?_
      refine z_iconst O dX4_isShut_97 kic_m1 ?_
      refine z_ixor O dX4_isShut_98 ?_
      refine z_iand O dX4_isShut_99 ?_
      refine z_if_eq (tgt := 107) O dX4_isShut_100 (by decide) hr (fun hr => ?_) (fun hr => ?_)
      · refine z_iconst O dX4_isShut_107 kic_0 ?_
        obtain ⟨e1, e2, -⟩ := zb_spec hr
        exact z_zret O e2 dX4_isShut_108 (by cases e1; rfl)
      · refine z_iconst O dX4_isShut_103 kic_1 ?_
        refine z_goto (tgt := 108) O dX4_isShut_104 (by decide) ?_
        obtain ⟨e1, e2, -⟩ := zb_spec hr
        exact z_zret O e2 dX4_isShut_108 (by cases e1; rfl)
theorem fV_X1_led : CVf RX1 yX1_led cX1_led 4 (some .int) 1 := ⟨q1732, q1733, q126, q1734, ⟨⟨by decide +kernel, by decide +kernel⟩, by decide +kernel⟩⟩
def BX1_led_4 (N : Nat) (x0 : Option Nat) (x1 : Int32) (rec4 : Int32 → Int32 → AH → Option ((Int32 ⊕ Nat) × AH)) : Int32 → Int32 → AH → Option ((Int32 ⊕ Nat) × AH) := fun x2 x3 h =>
  (gR h f_Year_land x0).bind fun v1 =>
  if v1 = none then
    (nse h).bind fun v2 => some (.inr v2.1, v2.2)
  else
    (gR h f_Year_village x0).bind fun v3 =>
    (gI h f_Village_many v3).bind fun v4 =>
    if v4 ≤ x3 then
      (nse h).bind fun v5 => some (.inr v5.1, v5.2)
    else
      (gR h f_Year_village x0).bind fun v6 =>
      (F_X4_isShut N v6 x3 h).bind fun v7 =>
      if v7 = 0 then
        jlet (x3 + (1 : Int32)) fun v10 =>
        rec4 x2 v10 h
      else
        if x2 = x1 then
          some (.inl x3, h)
        else
          jlet (x2 + (1 : Int32)) fun v8 =>
          jlet (x3 + (1 : Int32)) fun v9 =>
          rec4 v8 v9 h
def LX1_led_4 (N : Nat) (x0 : Option Nat) (x1 : Int32) : Int32 → Int32 → AH → Option ((Int32 ⊕ Nat) × AH) := lf (fun _ _ _ => none) (BX1_led_4 N x0 x1) N
theorem wX1_led_4B {K : ZC} (O : ZOk K cX1_led RX1 "led" 4 (some .int) 6 141) (E : ZEx K) (N : Nat) (x0 : Option Nat) (x1 : Int32) (rec4 : Int32 → Int32 → AH → Option ((Int32 ⊕ Nat) × AH)) (hrec4 : ∀ (y2 : Int32) (y3 : Int32) (hy : AH) (ry : (Int32 ⊕ Nat) × AH), rec4 y2 y3 hy = some ry → Zw K (eIX ry) hy 4 [(0, vr x0), (1, vi x1), (2, vi y2), (3, vi y3)] []) (x2 : Int32) (x3 : Int32) (h : AH) (r : (Int32 ⊕ Nat) × AH) (hr : BX1_led_4 N x0 x1 rec4 x2 x3 h = some r) : Zw K (eIX r) h 4 [(0, vr x0), (1, vi x1), (2, vi x2), (3, vi x3)] [] := by
  unfold BX1_led_4 at hr
  refine z_aload_n O 0 dX1_led_4 rfl rfl ?_
  refine z_getR O o_Year_land q463 dX1_led_5 hr (fun v1 hr => ?_)
  refine z_ifnull (tgt := 52) O dX1_led_8 (by decide) hr (fun hr => ?_) (fun hr => ?_)
  · refine bs hr (fun v2 hq hr => ?_)
    exact z_nse O E hq (by cases hr; rfl) q1735 (Nat.le_of_ble_eq_true rfl) ⟨Nat.le_of_ble_eq_true rfl, Nat.le_of_ble_eq_true rfl⟩ dX1_led_52 dX1_led_55 dX1_led_56 dX1_led_59
  · refine z_iload_n O 3 dX1_led_11 rfl rfl ?_
    refine z_aload_n O 0 dX1_led_12 rfl rfl ?_
    refine z_getR O o_Year_village q469 dX1_led_13 hr (fun v3 hr => ?_)
    refine z_getI O o_Village_many q346 dX1_led_16 hr (fun v4 hr => ?_)
    refine z_icmp_ge (tgt := 52) O dX1_led_19 (by decide) hr (fun hr => ?_) (fun hr => ?_)
    · refine bs hr (fun v5 hq hr => ?_)
      exact z_nse O E hq (by cases hr; rfl) q1735 (Nat.le_of_ble_eq_true rfl) ⟨Nat.le_of_ble_eq_true rfl, Nat.le_of_ble_eq_true rfl⟩ dX1_led_52 dX1_led_55 dX1_led_56 dX1_led_59
    · refine z_aload_n O 0 dX1_led_22 rfl rfl ?_
      refine z_getR O o_Year_village q469 dX1_led_23 hr (fun v6 hr => ?_)
      refine z_iload_n O 3 dX1_led_26 rfl rfl ?_
      refine bs hr (fun v7 hF hr => ?_)
      refine z_callV O [vi x3] (vi v7) fV_X4_isShut q1250 (fun l G => mX4_isShut l G N v6 x3 h _ hF) (zck hF) rfl rfl ⟨Nat.le_of_ble_eq_true rfl, Nat.le_of_ble_eq_true rfl⟩ (Nat.le_of_ble_eq_true rfl) dX1_led_27 ?_
      refine z_if_ne (tgt := 36) O dX1_led_30 (by decide) hr (fun hr => ?_) (fun hr => ?_)
      · refine z_goto (tgt := 46) O dX1_led_33 (by decide) ?_
        refine z_iincL O 3 (fun v10 => [(3, vi v10), (0, vr x0), (1, vi x1), (2, vi x2)]) dX1_led_46 rfl rfl (by decide) (fun _ => rfl) hr (fun v10 hr => ?_)
        refine z_goto (tgt := 4) O dX1_led_49 (by decide) ?_
        refine z_sub [1, 2, 3, 0] rfl ?_
        exact hrec4 x2 v10 h _ hr
      · refine z_iload_n O 2 dX1_led_36 rfl rfl ?_
        refine z_iload_n O 1 dX1_led_37 rfl rfl ?_
        refine z_icmp_ne (tgt := 43) O dX1_led_38 (by decide) hr (fun hr => ?_) (fun hr => ?_)
        · refine z_iload_n O 3 dX1_led_41 rfl rfl ?_
          exact z_iret O dX1_led_42 (by cases hr; rfl)
        · refine z_iincL O 2 (fun v8 => [(2, vi v8), (0, vr x0), (1, vi x1), (3, vi x3)]) dX1_led_43 rfl rfl (by decide) (fun _ => rfl) hr (fun v8 hr => ?_)
          refine z_iincL O 3 (fun v9 => [(3, vi v9), (2, vi v8), (0, vr x0), (1, vi x1)]) dX1_led_46 rfl rfl (by decide) (fun _ => rfl) hr (fun v9 hr => ?_)
          refine z_goto (tgt := 4) O dX1_led_49 (by decide) ?_
          refine z_sub [2, 3, 1, 0] rfl ?_
          exact hrec4 v8 v9 h _ hr
theorem wX1_led_4 {K : ZC} (O : ZOk K cX1_led RX1 "led" 4 (some .int) 6 141) (E : ZEx K) (N : Nat) (x0 : Option Nat) (x1 : Int32) : ∀ (n : Nat) (x2 : Int32) (x3 : Int32) (h : AH) (r : (Int32 ⊕ Nat) × AH), lf (fun _ _ _ => none) (BX1_led_4 N x0 x1) n x2 x3 h = some r → Zw K (eIX r) h 4 [(0, vr x0), (1, vi x1), (2, vi x2), (3, vi x3)] [] := by
  intro n
  induction n with
  | zero => intro x2 x3 h r hr; cases hr
  | succ n ih => intro x2 x3 h r hr; exact wX1_led_4B O E N x0 x1 (lf (fun _ _ _ => none) (BX1_led_4 N x0 x1) n)  ih x2 x3 h r hr
def F_X1_led (N : Nat) (x0 : Option Nat) (x1 : Int32) (h : AH) : Option ((Int32 ⊕ Nat) × AH) :=
  (ck h [1] x0).bind fun _ =>
  LX1_led_4 N x0 x1 (0 : Int32) (0 : Int32) h
theorem mX1_led (l : Launch) (G : ZG) (N : Nat) (x0 : Option Nat) (x1 : Int32) (h : AH) (r : (Int32 ⊕ Nat) × AH) (hr : F_X1_led N x0 x1 h = some r) : MZ l G yX1_led cX1_led 4 (some .int) 6 141 [vr x0, vi x1] h (eIX r) := by
  unfold F_X1_led at hr
  refine MZ.ofT (by decide) [(0, vr x0), (1, vi x1)] rfl (Nat.le_of_ble_eq_true rfl) (fun K O E => ?_)
  have O : ZOk K cX1_led RX1 "led" 4 (some .int) 6 141 := O
  refine bs hr (fun _ hck hr => ?_)
  refine z_iconst O dX1_led_0 kic_0 ?_
  refine z_istore_n O [(2, vi (0 : Int32)), (0, vr x0), (1, vi x1)] dX1_led_1 rfl (by decide) rfl ?_
  refine z_iconst O dX1_led_2 kic_0 ?_
  refine z_istore_n O [(3, vi (0 : Int32)), (2, vi (0 : Int32)), (0, vr x0), (1, vi x1)] dX1_led_3 rfl (by decide) rfl ?_
  refine z_sub [2, 3, 1, 0] rfl ?_
  exact wX1_led_4 O E N x0 x1 _ (0 : Int32) (0 : Int32) h _ hr
theorem fS_X0_led : CSHf yX0_led cX0_led 4 (some .int) [(0, 9, 12, 13)] 3 := ⟨q1728, q125, q1729, ⟨⟨by decide +kernel, by decide +kernel⟩, by decide +kernel⟩⟩
def F_X0_led (N : Nat) (x0 : Option Nat) (x1 : Int32) (x2 : Option Nat) (h : AH) : Option (Int32 × AH) :=
  xc (F_X1_led N x0 x1 h) (fun v2 h1 =>
    (sJ h1 x2 (0 : Int32) v2.toInt64).bind fun h3 =>
    some ((0 : Int32), h3))
  fun ex4 hx4 => (cth hx4 23 ex4).bind fun _ =>
    some ((1 : Int32), hx4)
theorem mX0_led (l : Launch) (G : ZG) (N : Nat) (x0 : Option Nat) (x1 : Int32) (x2 : Option Nat) (h : AH) (r : Int32 × AH) (hr : F_X0_led N x0 x1 x2 h = some r) : MZH l G yX0_led cX0_led 4 (some .int) [(0, 9, 12, 13)] 7 164 [vr x0, vi x1, vr x2] h (eIH r) := by
  unfold F_X0_led at hr
  refine MZH.of (by decide) [(0, vr x0), (1, vi x1), (2, vr x2)] rfl (Nat.le_of_ble_eq_true rfl) (fun K O E => ?_)
  have O : ZOk K cX0_led RX0 "led" 4 (some .int) 7 164 := O
  refine z_aload_n O 2 dX0_led_0 rfl rfl ?_
  refine z_iconst O dX0_led_1 kic_0 ?_
  refine z_aload_n O 0 dX0_led_2 rfl rfl ?_
  refine z_iload_n O 1 dX0_led_3 rfl rfl ?_
  refine xcs hr (fun v2 h1 hF hr => ?_) (fun ex4 hx4 hF hr => ?_)
  · refine z_callV O [vi x1] (vi v2) fV_X1_led q1731 (fun l G => mX1_led l G N x0 x1 h _ hF) (zck hF) rfl rfl ⟨Nat.le_of_ble_eq_true rfl, Nat.le_of_ble_eq_true rfl⟩ (Nat.le_of_ble_eq_true rfl) dX0_led_4 ?_
    refine z_i2l O dX0_led_7 ?_
    refine z_lastore O dX0_led_8 hr (fun h3 hr => ?_)
    refine z_goto (tgt := 15) O dX0_led_9 (by decide) ?_
    refine z_iconst O dX0_led_15 kic_0 ?_
    exact z_iret O dX0_led_16 (by cases hr; rfl)
  · refine bs hr (fun _ hcth hr => ?_)
    refine z_callVc O E [vi x1] fV_X1_led q1731 (fun l G => mX1_led l G N x0 x1 h _ hF) (zck hF) rfl rfl ⟨Nat.le_of_ble_eq_true rfl, Nat.le_of_ble_eq_true rfl⟩ (Nat.le_of_ble_eq_true rfl) dX0_led_4 (by decide) (by decide) q1730 zn1737 (tq := 23) rfl (cth_spec hcth).2 (cth_spec hcth).1 ?_
    refine z_astore_n O [(3, vr (some ex4)), (0, vr x0), (1, vi x1), (2, vr x2)] dX0_led_12 rfl (by decide) rfl ?_
    refine z_iconst O dX0_led_13 kic_1 ?_
    exact z_iret O dX0_led_14 (by cases hr; rfl)
theorem fV_X1_anew : CVf RX1 yX1_anew cX1_anew 1 (none : Option Jvm.ClassFile.FieldType) 0 := ⟨q530, qs2, q126, q531, ⟨⟨by decide +kernel, by decide +kernel⟩, by decide +kernel⟩⟩
def F_X1_anew (x0 : Option Nat) (h : AH) : Option (AH) :=
  (ck h [1] x0).bind fun _ =>
  (pI h f_Year_trouble x0 (0 : Int32)).bind fun h1 =>
  (pI h1 f_Year_where x0 (-1 : Int32)).bind fun h2 =>
  some h2
theorem mX1_anew (l : Launch) (G : ZG) (x0 : Option Nat) (h : AH) (r : AH) (hr : F_X1_anew x0 h = some r) : MZ l G yX1_anew cX1_anew 1 (none : Option Jvm.ClassFile.FieldType) 1 48 [vr x0] h (eH r) := by
  unfold F_X1_anew at hr
  refine MZ.of (by decide) [(0, vr x0)] rfl (Nat.le_of_ble_eq_true rfl) (fun K O => ?_)
  have O : ZOk K cX1_anew RX1 "anew" 1 (none : Option Jvm.ClassFile.FieldType) 1 48 := O
  refine bs hr (fun _ hck hr => ?_)
  refine z_aload_n O 0 dX1_anew_0 rfl rfl ?_
  refine z_iconst O dX1_anew_1 kic_0 ?_
  refine z_putI O o_Year_trouble (w_Year_trouble _) q464 dX1_anew_2 hr (fun h1 hr => ?_)
  refine z_aload_n O 0 dX1_anew_5 rfl rfl ?_
  refine z_iconst O dX1_anew_6 kic_m1 ?_
  refine z_putI O o_Year_where (w_Year_where _) q466 dX1_anew_7 hr (fun h2 hr => ?_)
  exact z_vret O dX1_anew_10 (by cases hr; rfl)
theorem fV_X1_yes : CVf RX1 yX1_yes cX1_yes 2 (some .boolean) 1 := ⟨q1668, qs60, q126, q1669, ⟨⟨by decide +kernel, by decide +kernel⟩, by decide +kernel⟩⟩
def F_X1_yes (x0 : Option Nat) (x1 : Int32) (h : AH) : Option (Int32 × AH) :=
  (ck h [1] x0).bind fun _ =>
  (F_X1_anew x0 h).bind fun h1 =>
  (pI h1 f_Year_trouble x0 x1).bind fun h2 =>
  if x1 = 0 then
    (zb (1 : Int32)).bind fun v4 => some (v4, h2)
  else
    (zb (0 : Int32)).bind fun v3 => some (v3, h2)
theorem mX1_yes (l : Launch) (G : ZG) (x0 : Option Nat) (x1 : Int32) (h : AH) (r : Int32 × AH) (hr : F_X1_yes x0 x1 h = some r) : MZ l G yX1_yes cX1_yes 2 (some .boolean) 2 68 [vr x0, vi x1] h (eIH r) := by
  unfold F_X1_yes at hr
  refine MZ.of (by decide) [(0, vr x0), (1, vi x1)] rfl (Nat.le_of_ble_eq_true rfl) (fun K O => ?_)
  have O : ZOk K cX1_yes RX1 "yes" 2 (some .boolean) 2 68 := O
  refine bs hr (fun _ hck hr => ?_)
  refine z_aload_n O 0 dX1_yes_0 rfl rfl ?_
  refine bs hr (fun h1 hF hr => ?_)
  refine z_callVv O [] fV_X1_anew q528 (fun l G => mX1_anew l G x0 h _ hF) (zck hF) rfl rfl ⟨Nat.le_of_ble_eq_true rfl, Nat.le_of_ble_eq_true rfl⟩ (Nat.le_of_ble_eq_true rfl) dX1_yes_1 ?_
  refine z_aload_n O 0 dX1_yes_4 rfl rfl ?_
  refine z_iload_n O 1 dX1_yes_5 rfl rfl ?_
  refine z_putI O o_Year_trouble (w_Year_trouble _) q464 dX1_yes_6 hr (fun h2 hr => ?_)
  refine z_iload_n O 1 dX1_yes_9 rfl rfl ?_
  refine z_if_ne (tgt := 17) O dX1_yes_10 (by decide) hr (fun hr => ?_) (fun hr => ?_)
  · refine z_iconst O dX1_yes_13 kic_1 ?_
    refine z_goto (tgt := 18) O dX1_yes_14 (by decide) ?_
    refine bs hr (fun v4 e0 hr => ?_)
    obtain ⟨e1, e2, -⟩ := zb_spec e0
    exact z_zret O e2 dX1_yes_18 (by cases hr; cases e1; rfl)
  · refine z_iconst O dX1_yes_17 kic_0 ?_
    refine bs hr (fun v3 e0 hr => ?_)
    obtain ⟨e1, e2, -⟩ := zb_spec e0
    exact z_zret O e2 dX1_yes_18 (by cases hr; cases e1; rfl)
theorem fV_X6_become : CVf RX6 yX6_become cX6_become 2 (none : Option Jvm.ClassFile.FieldType) 1 := ⟨q1208, q1209, q134, q1210, ⟨⟨by decide +kernel, by decide +kernel⟩, by decide +kernel⟩⟩
def F_X6_become (x0 : Option Nat) (x1 : Option Nat) (h : AH) : Option (AH) :=
  (ck h [6] x0).bind fun _ =>
  (gR h f_Skin_stone x1).bind fun v1 =>
  (pR h f_Skin_stone x0 v1).bind fun h2 =>
  (gI h2 f_Skin_side x1).bind fun v3 =>
  (pI h2 f_Skin_side x0 v3).bind fun h4 =>
  (gI h4 f_Skin_on x1).bind fun v5 =>
  (pI h4 f_Skin_on x0 v5).bind fun h6 =>
  (gI h6 f_Skin_lock x1).bind fun v7 =>
  (pI h6 f_Skin_lock x0 v7).bind fun h8 =>
  (gI h8 f_Skin_rot x1).bind fun v9 =>
  (pI h8 f_Skin_rot x0 v9).bind fun h10 =>
  (gI h10 f_Skin_built x1).bind fun v11 =>
  (pI h10 f_Skin_built x0 v11).bind fun h12 =>
  (gI h12 f_Skin_collapsed x1).bind fun v13 =>
  (pZ h12 f_Skin_collapsed x0 v13).bind fun h14 =>
  (gI h14 f_Skin_filled x1).bind fun v15 =>
  (pZ h14 f_Skin_filled x0 v15).bind fun h16 =>
  some h16
theorem mX6_become (l : Launch) (G : ZG) (x0 : Option Nat) (x1 : Option Nat) (h : AH) (r : AH) (hr : F_X6_become x0 x1 h = some r) : MZ l G yX6_become cX6_become 2 (none : Option Jvm.ClassFile.FieldType) 1 48 [vr x0, vr x1] h (eH r) := by
  unfold F_X6_become at hr
  refine MZ.of (by decide) [(0, vr x0), (1, vr x1)] rfl (Nat.le_of_ble_eq_true rfl) (fun K O => ?_)
  have O : ZOk K cX6_become RX6 "become" 2 (none : Option Jvm.ClassFile.FieldType) 1 48 := O
  refine bs hr (fun _ hck hr => ?_)
  refine z_aload_n O 0 dX6_become_0 rfl rfl ?_
  refine z_aload_n O 1 dX6_become_1 rfl rfl ?_
  refine z_getR O o_Skin_stone q265 dX6_become_2 hr (fun v1 hr => ?_)
  refine z_putR O rfl o_Skin_stone (w_Skin_stone _) q265 dX6_become_5 hr (fun h2 hr => ?_)
  refine z_aload_n O 0 dX6_become_8 rfl rfl ?_
  refine z_aload_n O 1 dX6_become_9 rfl rfl ?_
  refine z_getI O o_Skin_side q268 dX6_become_10 hr (fun v3 hr => ?_)
  refine z_putI O o_Skin_side (w_Skin_side _) q268 dX6_become_13 hr (fun h4 hr => ?_)
  refine z_aload_n O 0 dX6_become_16 rfl rfl ?_
  refine z_aload_n O 1 dX6_become_17 rfl rfl ?_
  refine z_getI O o_Skin_on q271 dX6_become_18 hr (fun v5 hr => ?_)
  refine z_putI O o_Skin_on (w_Skin_on _) q271 dX6_become_21 hr (fun h6 hr => ?_)
  refine z_aload_n O 0 dX6_become_24 rfl rfl ?_
  refine z_aload_n O 1 dX6_become_25 rfl rfl ?_
  refine z_getI O o_Skin_lock q274 dX6_become_26 hr (fun v7 hr => ?_)
  refine z_putI O o_Skin_lock (w_Skin_lock _) q274 dX6_become_29 hr (fun h8 hr => ?_)
  refine z_aload_n O 0 dX6_become_32 rfl rfl ?_
  refine z_aload_n O 1 dX6_become_33 rfl rfl ?_
  refine z_getI O o_Skin_rot q277 dX6_become_34 hr (fun v9 hr => ?_)
  refine z_putI O o_Skin_rot (w_Skin_rot _) q277 dX6_become_37 hr (fun h10 hr => ?_)
  refine z_aload_n O 0 dX6_become_40 rfl rfl ?_
  refine z_aload_n O 1 dX6_become_41 rfl rfl ?_
  refine z_getI O o_Skin_built q280 dX6_become_42 hr (fun v11 hr => ?_)
  refine z_putI O o_Skin_built (w_Skin_built _) q280 dX6_become_45 hr (fun h12 hr => ?_)
  refine z_aload_n O 0 dX6_become_48 rfl rfl ?_
  refine z_aload_n O 1 dX6_become_49 rfl rfl ?_
  refine z_getI O o_Skin_collapsed q283 dX6_become_50 hr (fun v13 hr => ?_)
  refine z_putZ O o_Skin_collapsed (w_Skin_collapsed _) q283 dX6_become_53 hr (fun h14 hr => ?_)
  refine z_aload_n O 0 dX6_become_56 rfl rfl ?_
  refine z_aload_n O 1 dX6_become_57 rfl rfl ?_
  refine z_getI O o_Skin_filled q286 dX6_become_58 hr (fun v15 hr => ?_)
  refine z_putZ O o_Skin_filled (w_Skin_filled _) q286 dX6_become_61 hr (fun h16 hr => ?_)
  exact z_vret O dX6_become_64 (by cases hr; rfl)
theorem fV_X5_become : CVf RX5 yX5_become cX5_become 3 (none : Option Jvm.ClassFile.FieldType) 1 := ⟨q1204, q1205, q133, q1206, ⟨⟨by decide +kernel, by decide +kernel⟩, by decide +kernel⟩⟩
def BX5_become_34 (N : Nat) (x0 : Option Nat) (x1 : Option Nat) (rec34 : Int32 → AH → Option (AH)) : Int32 → AH → Option (AH) := fun x2 h =>
  (gI h f_House_many x0).bind fun v1 =>
  if v1 ≤ x2 then
    some h
  else
    (gR h f_House_skins x0).bind fun v2 =>
    (aR h v2 x2).bind fun v3 =>
    (gR h f_House_skins x1).bind fun v4 =>
    (aR h v4 x2).bind fun v5 =>
    (F_X6_become v3 v5 h).bind fun h6 =>
    jlet (x2 + (1 : Int32)) fun v7 =>
    rec34 v7 h6
def LX5_become_34 (N : Nat) (x0 : Option Nat) (x1 : Option Nat) : Int32 → AH → Option (AH) := lf (fun _ _ => none) (BX5_become_34 N x0 x1) N
theorem wX5_become_34B {K : ZC} (O : ZOk K cX5_become RX5 "become" 3 (none : Option Jvm.ClassFile.FieldType) 2 69) (N : Nat) (x0 : Option Nat) (x1 : Option Nat) (rec34 : Int32 → AH → Option (AH)) (hrec34 : ∀ (y2 : Int32) (hy : AH) (ry : AH), rec34 y2 hy = some ry → Zw K (eH ry) hy 34 [(0, vr x0), (1, vr x1), (2, vi y2)] []) (x2 : Int32) (h : AH) (r : AH) (hr : BX5_become_34 N x0 x1 rec34 x2 h = some r) : Zw K (eH r) h 34 [(0, vr x0), (1, vr x1), (2, vi x2)] [] := by
  unfold BX5_become_34 at hr
  refine z_iload_n O 2 dX5_become_34 rfl rfl ?_
  refine z_aload_n O 0 dX5_become_35 rfl rfl ?_
  refine z_getI O o_House_many q311 dX5_become_36 hr (fun v1 hr => ?_)
  refine z_icmp_ge (tgt := 63) O dX5_become_39 (by decide) hr (fun hr => ?_) (fun hr => ?_)
  · exact z_vret O dX5_become_63 (by cases hr; rfl)
  · refine z_aload_n O 0 dX5_become_42 rfl rfl ?_
    refine z_getR O o_House_skins q307 dX5_become_43 hr (fun v2 hr => ?_)
    refine z_iload_n O 2 dX5_become_46 rfl rfl ?_
    refine z_aaload O dX5_become_47 hr (fun v3 hr => ?_)
    refine z_aload_n O 1 dX5_become_48 rfl rfl ?_
    refine z_getR O o_House_skins q307 dX5_become_49 hr (fun v4 hr => ?_)
    refine z_iload_n O 2 dX5_become_52 rfl rfl ?_
    refine z_aaload O dX5_become_53 hr (fun v5 hr => ?_)
    refine bs hr (fun h6 hF hr => ?_)
    refine z_callVv O [vr v5] fV_X6_become q1207 (fun l G => mX6_become l G v3 v5 h _ hF) (zck hF) rfl rfl ⟨Nat.le_of_ble_eq_true rfl, Nat.le_of_ble_eq_true rfl⟩ (Nat.le_of_ble_eq_true rfl) dX5_become_54 ?_
    refine z_iincL O 2 (fun v7 => [(2, vi v7), (0, vr x0), (1, vr x1)]) dX5_become_57 rfl rfl (by decide) (fun _ => rfl) hr (fun v7 hr => ?_)
    refine z_goto (tgt := 34) O dX5_become_60 (by decide) ?_
    refine z_sub [1, 2, 0] rfl ?_
    exact hrec34 v7 h6 _ hr
theorem wX5_become_34 {K : ZC} (O : ZOk K cX5_become RX5 "become" 3 (none : Option Jvm.ClassFile.FieldType) 2 69) (N : Nat) (x0 : Option Nat) (x1 : Option Nat) : ∀ (n : Nat) (x2 : Int32) (h : AH) (r : AH), lf (fun _ _ => none) (BX5_become_34 N x0 x1) n x2 h = some r → Zw K (eH r) h 34 [(0, vr x0), (1, vr x1), (2, vi x2)] [] := by
  intro n
  induction n with
  | zero => intro x2 h r hr; cases hr
  | succ n ih => intro x2 h r hr; exact wX5_become_34B O N x0 x1 (lf (fun _ _ => none) (BX5_become_34 N x0 x1) n)  ih x2 h r hr
def F_X5_become (N : Nat) (x0 : Option Nat) (x1 : Option Nat) (h : AH) : Option (AH) :=
  (ck h [5] x0).bind fun _ =>
  (gR h f_House_site x1).bind fun v1 =>
  (pR h f_House_site x0 v1).bind fun h2 =>
  (gI h2 f_House_many x1).bind fun v3 =>
  (pI h2 f_House_many x0 v3).bind fun h4 =>
  (gI h4 f_House_family x1).bind fun v5 =>
  (pI h4 f_House_family x0 v5).bind fun h6 =>
  (gI h6 f_House_gold x1).bind fun v7 =>
  (pI h6 f_House_gold x0 v7).bind fun h8 =>
  LX5_become_34 N x0 x1 (0 : Int32) h8
theorem mX5_become (l : Launch) (G : ZG) (N : Nat) (x0 : Option Nat) (x1 : Option Nat) (h : AH) (r : AH) (hr : F_X5_become N x0 x1 h = some r) : MZ l G yX5_become cX5_become 3 (none : Option Jvm.ClassFile.FieldType) 2 69 [vr x0, vr x1] h (eH r) := by
  unfold F_X5_become at hr
  refine MZ.of (by decide) [(0, vr x0), (1, vr x1)] rfl (Nat.le_of_ble_eq_true rfl) (fun K O => ?_)
  have O : ZOk K cX5_become RX5 "become" 3 (none : Option Jvm.ClassFile.FieldType) 2 69 := O
  refine bs hr (fun _ hck hr => ?_)
  refine z_aload_n O 0 dX5_become_0 rfl rfl ?_
  refine z_aload_n O 1 dX5_become_1 rfl rfl ?_
  refine z_getR O o_House_site q308 dX5_become_2 hr (fun v1 hr => ?_)
  refine z_putR O rfl o_House_site (w_House_site _) q308 dX5_become_5 hr (fun h2 hr => ?_)
  refine z_aload_n O 0 dX5_become_8 rfl rfl ?_
  refine z_aload_n O 1 dX5_become_9 rfl rfl ?_
  refine z_getI O o_House_many q311 dX5_become_10 hr (fun v3 hr => ?_)
  refine z_putI O o_House_many (w_House_many _) q311 dX5_become_13 hr (fun h4 hr => ?_)
  refine z_aload_n O 0 dX5_become_16 rfl rfl ?_
  refine z_aload_n O 1 dX5_become_17 rfl rfl ?_
  refine z_getI O o_House_family q316 dX5_become_18 hr (fun v5 hr => ?_)
  refine z_putI O o_House_family (w_House_family _) q316 dX5_become_21 hr (fun h6 hr => ?_)
  refine z_aload_n O 0 dX5_become_24 rfl rfl ?_
  refine z_aload_n O 1 dX5_become_25 rfl rfl ?_
  refine z_getI O o_House_gold q319 dX5_become_26 hr (fun v7 hr => ?_)
  refine z_putI O o_House_gold (w_House_gold _) q319 dX5_become_29 hr (fun h8 hr => ?_)
  refine z_iconst O dX5_become_32 kic_0 ?_
  refine z_istore_n O [(2, vi (0 : Int32)), (0, vr x0), (1, vr x1)] dX5_become_33 rfl (by decide) rfl ?_
  refine z_sub [1, 2, 0] rfl ?_
  exact wX5_become_34 O N x0 x1 _ (0 : Int32) h8 _ hr
theorem fV_X4_become : CVf RX4 yX4_become cX4_become 3 (none : Option Jvm.ClassFile.FieldType) 1 := ⟨q1200, q1201, q132, q1202, ⟨⟨by decide +kernel, by decide +kernel⟩, by decide +kernel⟩⟩
def BX4_become_34 (N : Nat) (x0 : Option Nat) (x1 : Option Nat) (rec34 : Int32 → AH → Option (AH)) : Int32 → AH → Option (AH) := fun x2 h =>
  (gI h f_Village_many x0).bind fun v1 =>
  if v1 ≤ x2 then
    (gR h f_Village_depth x1).bind fun v2 =>
    (gR h f_Village_depth x0).bind fun v3 =>
    (aC h v2 (0 : Int32) v3 (0 : Int32) (6 : Int32)).bind fun h4 =>
    some h4
  else
    (gR h f_Village_houses x0).bind fun v5 =>
    (aR h v5 x2).bind fun v6 =>
    (gR h f_Village_houses x1).bind fun v7 =>
    (aR h v7 x2).bind fun v8 =>
    (F_X5_become N v6 v8 h).bind fun h9 =>
    jlet (x2 + (1 : Int32)) fun v10 =>
    rec34 v10 h9
def LX4_become_34 (N : Nat) (x0 : Option Nat) (x1 : Option Nat) : Int32 → AH → Option (AH) := lf (fun _ _ => none) (BX4_become_34 N x0 x1) N
theorem wX4_become_34B {K : ZC} (O : ZOk K cX4_become RX4 "become" 3 (none : Option Jvm.ClassFile.FieldType) 3 91) (N : Nat) (x0 : Option Nat) (x1 : Option Nat) (rec34 : Int32 → AH → Option (AH)) (hrec34 : ∀ (y2 : Int32) (hy : AH) (ry : AH), rec34 y2 hy = some ry → Zw K (eH ry) hy 34 [(0, vr x0), (1, vr x1), (2, vi y2)] []) (x2 : Int32) (h : AH) (r : AH) (hr : BX4_become_34 N x0 x1 rec34 x2 h = some r) : Zw K (eH r) h 34 [(0, vr x0), (1, vr x1), (2, vi x2)] [] := by
  unfold BX4_become_34 at hr
  refine z_iload_n O 2 dX4_become_34 rfl rfl ?_
  refine z_aload_n O 0 dX4_become_35 rfl rfl ?_
  refine z_getI O o_Village_many q345 dX4_become_36 hr (fun v1 hr => ?_)
  refine z_icmp_ge (tgt := 63) O dX4_become_39 (by decide) hr (fun hr => ?_) (fun hr => ?_)
  · refine z_aload_n O 1 dX4_become_63 rfl rfl ?_
    refine z_getR O o_Village_depth q339 dX4_become_64 hr (fun v2 hr => ?_)
    refine z_iconst O dX4_become_67 kic_0 ?_
    refine z_aload_n O 0 dX4_become_68 rfl rfl ?_
    refine z_getR O o_Village_depth q339 dX4_become_69 hr (fun v3 hr => ?_)
    refine z_iconst O dX4_become_72 kic_0 ?_
    refine z_bipush O dX4_become_73 kbi_6 ?_
    refine z_acopy O q1211 dX4_become_75 ⟨Nat.le_of_ble_eq_true rfl, Nat.le_of_ble_eq_true rfl⟩ (Nat.le_of_ble_eq_true rfl) hr (fun h4 hr => ?_)
    exact z_vret O dX4_become_78 (by cases hr; rfl)
  · refine z_aload_n O 0 dX4_become_42 rfl rfl ?_
    refine z_getR O o_Village_houses q337 dX4_become_43 hr (fun v5 hr => ?_)
    refine z_iload_n O 2 dX4_become_46 rfl rfl ?_
    refine z_aaload O dX4_become_47 hr (fun v6 hr => ?_)
    refine z_aload_n O 1 dX4_become_48 rfl rfl ?_
    refine z_getR O o_Village_houses q337 dX4_become_49 hr (fun v7 hr => ?_)
    refine z_iload_n O 2 dX4_become_52 rfl rfl ?_
    refine z_aaload O dX4_become_53 hr (fun v8 hr => ?_)
    refine bs hr (fun h9 hF hr => ?_)
    refine z_callVv O [vr v8] fV_X5_become q1203 (fun l G => mX5_become l G N v6 v8 h _ hF) (zck hF) rfl rfl ⟨Nat.le_of_ble_eq_true rfl, Nat.le_of_ble_eq_true rfl⟩ (Nat.le_of_ble_eq_true rfl) dX4_become_54 ?_
    refine z_iincL O 2 (fun v10 => [(2, vi v10), (0, vr x0), (1, vr x1)]) dX4_become_57 rfl rfl (by decide) (fun _ => rfl) hr (fun v10 hr => ?_)
    refine z_goto (tgt := 34) O dX4_become_60 (by decide) ?_
    refine z_sub [1, 2, 0] rfl ?_
    exact hrec34 v10 h9 _ hr
theorem wX4_become_34 {K : ZC} (O : ZOk K cX4_become RX4 "become" 3 (none : Option Jvm.ClassFile.FieldType) 3 91) (N : Nat) (x0 : Option Nat) (x1 : Option Nat) : ∀ (n : Nat) (x2 : Int32) (h : AH) (r : AH), lf (fun _ _ => none) (BX4_become_34 N x0 x1) n x2 h = some r → Zw K (eH r) h 34 [(0, vr x0), (1, vr x1), (2, vi x2)] [] := by
  intro n
  induction n with
  | zero => intro x2 h r hr; cases hr
  | succ n ih => intro x2 h r hr; exact wX4_become_34B O N x0 x1 (lf (fun _ _ => none) (BX4_become_34 N x0 x1) n)  ih x2 h r hr
def F_X4_become (N : Nat) (x0 : Option Nat) (x1 : Option Nat) (h : AH) : Option (AH) :=
  (ck h [4] x0).bind fun _ =>
  (gR h f_Village_land x1).bind fun v1 =>
  (pR h f_Village_land x0 v1).bind fun h2 =>
  (gI h2 f_Village_many x1).bind fun v3 =>
  (pI h2 f_Village_many x0 v3).bind fun h4 =>
  (gI h4 f_Village_year x1).bind fun v5 =>
  (pI h4 f_Village_year x0 v5).bind fun h6 =>
  (gI h6 f_Village_seed x1).bind fun v7 =>
  (pI h6 f_Village_seed x0 v7).bind fun h8 =>
  LX4_become_34 N x0 x1 (0 : Int32) h8
theorem mX4_become (l : Launch) (G : ZG) (N : Nat) (x0 : Option Nat) (x1 : Option Nat) (h : AH) (r : AH) (hr : F_X4_become N x0 x1 h = some r) : MZ l G yX4_become cX4_become 3 (none : Option Jvm.ClassFile.FieldType) 3 91 [vr x0, vr x1] h (eH r) := by
  unfold F_X4_become at hr
  refine MZ.of (by decide) [(0, vr x0), (1, vr x1)] rfl (Nat.le_of_ble_eq_true rfl) (fun K O => ?_)
  have O : ZOk K cX4_become RX4 "become" 3 (none : Option Jvm.ClassFile.FieldType) 3 91 := O
  refine bs hr (fun _ hck hr => ?_)
  refine z_aload_n O 0 dX4_become_0 rfl rfl ?_
  refine z_aload_n O 1 dX4_become_1 rfl rfl ?_
  refine z_getR O o_Village_land q344 dX4_become_2 hr (fun v1 hr => ?_)
  refine z_putR O rfl o_Village_land (w_Village_land _) q344 dX4_become_5 hr (fun h2 hr => ?_)
  refine z_aload_n O 0 dX4_become_8 rfl rfl ?_
  refine z_aload_n O 1 dX4_become_9 rfl rfl ?_
  refine z_getI O o_Village_many q345 dX4_become_10 hr (fun v3 hr => ?_)
  refine z_putI O o_Village_many (w_Village_many _) q345 dX4_become_13 hr (fun h4 hr => ?_)
  refine z_aload_n O 0 dX4_become_16 rfl rfl ?_
  refine z_aload_n O 1 dX4_become_17 rfl rfl ?_
  refine z_getI O o_Village_year q347 dX4_become_18 hr (fun v5 hr => ?_)
  refine z_putI O o_Village_year (w_Village_year _) q347 dX4_become_21 hr (fun h6 hr => ?_)
  refine z_aload_n O 0 dX4_become_24 rfl rfl ?_
  refine z_aload_n O 1 dX4_become_25 rfl rfl ?_
  refine z_getI O o_Village_seed q350 dX4_become_26 hr (fun v7 hr => ?_)
  refine z_putI O o_Village_seed (w_Village_seed _) q350 dX4_become_29 hr (fun h8 hr => ?_)
  refine z_iconst O dX4_become_32 kic_0 ?_
  refine z_istore_n O [(2, vi (0 : Int32)), (0, vr x0), (1, vr x1)] dX4_become_33 rfl (by decide) rfl ?_
  refine z_sub [1, 2, 0] rfl ?_
  exact wX4_become_34 O N x0 x1 _ (0 : Int32) h8 _ hr
theorem fV_X1_back : CVf RX1 yX1_back cX1_back 2 (some .boolean) 1 := ⟨q1700, q1701, q126, q1702, ⟨⟨by decide +kernel, by decide +kernel⟩, by decide +kernel⟩⟩
def bX1_back_20 (N : Nat) (x0 : Option Nat) (x1 : Int32) (s0 : Option Nat) (s1 : Int32) (h : AH) : Option (Int32 × AH) :=
  b2 (F_X1_yes s0 s1 h) fun v2 h1 =>
  if v2 = 0 then
    (zb (0 : Int32)).bind fun v9 => some (v9, h1)
  else
    (gR h1 f_Year_village x0).bind fun v3 =>
    (gR h1 f_Year_marks x0).bind fun v4 =>
    (aR h1 v4 x1).bind fun v5 =>
    (F_X4_become N v3 v5 h1).bind fun h6 =>
    (pI h6 f_Year_undoMany x0 (0 : Int32)).bind fun h7 =>
    (zb (1 : Int32)).bind fun v8 => some (v8, h7)
theorem wX1_back_20 {K : ZC} (O : ZOk K cX1_back RX1 "back" 2 (some .boolean) 4 113) (N : Nat) (x0 : Option Nat) (x1 : Int32) (s0 : Option Nat) (s1 : Int32) (h : AH) (r : Int32 × AH) (hr : bX1_back_20 N x0 x1 s0 s1 h = some r) : Zw K (eIH r) h 20 [(0, vr x0), (1, vi x1)] [vi s1, vr s0] := by
  unfold bX1_back_20 at hr
  refine b2s hr (fun v2 h1 hF hr => ?_)
  refine z_callV O [vi s1] (vi v2) fV_X1_yes q1666 (fun l G => mX1_yes l G s0 s1 h _ hF) (zck hF) rfl rfl ⟨Nat.le_of_ble_eq_true rfl, Nat.le_of_ble_eq_true rfl⟩ (Nat.le_of_ble_eq_true rfl) dX1_back_20 ?_
  refine z_if_ne (tgt := 28) O dX1_back_23 (by decide) hr (fun hr => ?_) (fun hr => ?_)
  · refine z_iconst O dX1_back_26 kic_0 ?_
    refine bs hr (fun v9 e0 hr => ?_)
    obtain ⟨e1, e2, -⟩ := zb_spec e0
    exact z_zret O e2 dX1_back_27 (by cases hr; cases e1; rfl)
  · refine z_aload_n O 0 dX1_back_28 rfl rfl ?_
    refine z_getR O o_Year_village q469 dX1_back_29 hr (fun v3 hr => ?_)
    refine z_aload_n O 0 dX1_back_32 rfl rfl ?_
    refine z_getR O o_Year_marks q475 dX1_back_33 hr (fun v4 hr => ?_)
    refine z_iload_n O 1 dX1_back_36 rfl rfl ?_
    refine z_aaload O dX1_back_37 hr (fun v5 hr => ?_)
    refine bs hr (fun h6 hF hr => ?_)
    refine z_callVv O [vr v5] fV_X4_become q1199 (fun l G => mX4_become l G N v3 v5 h1 _ hF) (zck hF) rfl rfl ⟨Nat.le_of_ble_eq_true rfl, Nat.le_of_ble_eq_true rfl⟩ (Nat.le_of_ble_eq_true rfl) dX1_back_38 ?_
    refine z_aload_n O 0 dX1_back_41 rfl rfl ?_
    refine z_iconst O dX1_back_42 kic_0 ?_
    refine z_putI O o_Year_undoMany (w_Year_undoMany _) q468 dX1_back_43 hr (fun h7 hr => ?_)
    refine z_iconst O dX1_back_46 kic_1 ?_
    refine bs hr (fun v8 e0 hr => ?_)
    obtain ⟨e1, e2, -⟩ := zb_spec e0
    exact z_zret O e2 dX1_back_47 (by cases hr; cases e1; rfl)
def F_X1_back (N : Nat) (x0 : Option Nat) (x1 : Int32) (h : AH) : Option (Int32 × AH) :=
  (ck h [1] x0).bind fun _ =>
  (gI h f_Year_markMany x0).bind fun v1 =>
  (F_X1_within x1 (0 : Int32) (v1 - (1 : Int32))).bind fun v2 =>
  if v2 = 0 then
    bX1_back_20 N x0 x1 x0 (1 : Int32) h
  else
    bX1_back_20 N x0 x1 x0 (0 : Int32) h
theorem mX1_back (l : Launch) (G : ZG) (N : Nat) (x0 : Option Nat) (x1 : Int32) (h : AH) (r : Int32 × AH) (hr : F_X1_back N x0 x1 h = some r) : MZ l G yX1_back cX1_back 2 (some .boolean) 4 113 [vr x0, vi x1] h (eIH r) := by
  unfold F_X1_back at hr
  refine MZ.of (by decide) [(0, vr x0), (1, vi x1)] rfl (Nat.le_of_ble_eq_true rfl) (fun K O => ?_)
  have O : ZOk K cX1_back RX1 "back" 2 (some .boolean) 4 113 := O
  refine bs hr (fun _ hck hr => ?_)
  refine z_aload_n O 0 dX1_back_0 rfl rfl ?_
  refine z_iload_n O 1 dX1_back_1 rfl rfl ?_
  refine z_iconst O dX1_back_2 kic_0 ?_
  refine z_aload_n O 0 dX1_back_3 rfl rfl ?_
  refine z_getI O o_Year_markMany q467 dX1_back_4 hr (fun v1 hr => ?_)
  refine z_iconst O dX1_back_7 kic_1 ?_
  refine z_isub O dX1_back_8 ?_
  refine bs hr (fun v2 hF hr => ?_)
  refine z_callS O [vi x1, vi (0 : Int32), vi (v1 - (1 : Int32))] (vi v2) fS_X1_within q532 (fun l G => mX1_within l G x1 (0 : Int32) (v1 - (1 : Int32)) h _ hF) rfl ⟨Nat.le_of_ble_eq_true rfl, Nat.le_of_ble_eq_true rfl⟩ (Nat.le_of_ble_eq_true rfl) dX1_back_9 ?_
  refine z_if_eq (tgt := 19) O dX1_back_12 (by decide) hr (fun hr => ?_) (fun hr => ?_)
  · refine z_iconst O dX1_back_19 kic_1 ?_
    exact wX1_back_20 O N x0 x1 x0 (1 : Int32) h _ hr
  · refine z_iconst O dX1_back_15 kic_0 ?_
    refine z_goto (tgt := 20) O dX1_back_16 (by decide) ?_
    exact wX1_back_20 O N x0 x1 x0 (0 : Int32) h _ hr
theorem fV_X1_isHouse : CVf RX1 yX1_isHouse cX1_isHouse 2 (some .boolean) 1 := ⟨q1247, qs36, q126, q1248, ⟨⟨by decide +kernel, by decide +kernel⟩, by decide +kernel⟩⟩
def F_X1_isHouse (x0 : Option Nat) (x1 : Int32) (h : AH) : Option (Int32) :=
  (ck h [1] x0).bind fun _ =>
  (gR h f_Year_land x0).bind fun v1 =>
  if v1 = none then
    zb (0 : Int32)
  else
    (gR h f_Year_village x0).bind fun v2 =>
    (gI h f_Village_many v2).bind fun v3 =>
    (F_X1_within x1 (0 : Int32) (v3 - (1 : Int32))).bind fun v4 =>
    if v4 = 0 then
      zb (0 : Int32)
    else
      zb (1 : Int32)
theorem mX1_isHouse (l : Launch) (G : ZG) (x0 : Option Nat) (x1 : Int32) (h : AH) (r : Int32) (hr : F_X1_isHouse x0 x1 h = some r) : MZ l G yX1_isHouse cX1_isHouse 2 (some .boolean) 2 70 [vr x0, vi x1] h (eI h r) := by
  unfold F_X1_isHouse at hr
  refine MZ.of (by decide) [(0, vr x0), (1, vi x1)] rfl (Nat.le_of_ble_eq_true rfl) (fun K O => ?_)
  have O : ZOk K cX1_isHouse RX1 "isHouse" 2 (some .boolean) 2 70 := O
  refine bs hr (fun _ hck hr => ?_)
  refine z_aload_n O 0 dX1_isHouse_0 rfl rfl ?_
  refine z_getR O o_Year_land q463 dX1_isHouse_1 hr (fun v1 hr => ?_)
  refine z_ifnull (tgt := 28) O dX1_isHouse_4 (by decide) hr (fun hr => ?_) (fun hr => ?_)
  · refine z_iconst O dX1_isHouse_28 kic_0 ?_
    obtain ⟨e1, e2, -⟩ := zb_spec hr
    exact z_zret O e2 dX1_isHouse_29 (by cases e1; rfl)
  · refine z_iload_n O 1 dX1_isHouse_7 rfl rfl ?_
    refine z_iconst O dX1_isHouse_8 kic_0 ?_
    refine z_aload_n O 0 dX1_isHouse_9 rfl rfl ?_
    refine z_getR O o_Year_village q469 dX1_isHouse_10 hr (fun v2 hr => ?_)
    refine z_getI O o_Village_many q346 dX1_isHouse_13 hr (fun v3 hr => ?_)
    refine z_iconst O dX1_isHouse_16 kic_1 ?_
    refine z_isub O dX1_isHouse_17 ?_
    refine bs hr (fun v4 hF hr => ?_)
    refine z_callS O [vi x1, vi (0 : Int32), vi (v3 - (1 : Int32))] (vi v4) fS_X1_within q532 (fun l G => mX1_within l G x1 (0 : Int32) (v3 - (1 : Int32)) h _ hF) rfl ⟨Nat.le_of_ble_eq_true rfl, Nat.le_of_ble_eq_true rfl⟩ (Nat.le_of_ble_eq_true rfl) dX1_isHouse_18 ?_
    refine z_if_eq (tgt := 28) O dX1_isHouse_21 (by decide) hr (fun hr => ?_) (fun hr => ?_)
    · refine z_iconst O dX1_isHouse_28 kic_0 ?_
      obtain ⟨e1, e2, -⟩ := zb_spec hr
      exact z_zret O e2 dX1_isHouse_29 (by cases e1; rfl)
    · refine z_iconst O dX1_isHouse_24 kic_1 ?_
      refine z_goto (tgt := 29) O dX1_isHouse_25 (by decide) ?_
      obtain ⟨e1, e2, -⟩ := zb_spec hr
      exact z_zret O e2 dX1_isHouse_29 (by cases e1; rfl)
theorem fV_X4_house : CVf RX4 yX4_house cX4_house 2 (some (.object "YearSkins$House")) 1 := ⟨q1087, q1088, q132, q1089, ⟨⟨by decide +kernel, by decide +kernel⟩, by decide +kernel⟩⟩
def F_X4_house (x0 : Option Nat) (x1 : Int32) (h : AH) : Option (Option Nat) :=
  (ck h [4] x0).bind fun _ =>
  (gR h f_Village_houses x0).bind fun v1 =>
  (aR h v1 x1).bind fun v2 =>
  some v2
theorem mX4_house (l : Launch) (G : ZG) (x0 : Option Nat) (x1 : Int32) (h : AH) (r : Option Nat) (hr : F_X4_house x0 x1 h = some r) : MZ l G yX4_house cX4_house 2 (some (.object "YearSkins$House")) 1 48 [vr x0, vi x1] h (eR h r) := by
  unfold F_X4_house at hr
  refine MZ.of (by decide) [(0, vr x0), (1, vi x1)] rfl (Nat.le_of_ble_eq_true rfl) (fun K O => ?_)
  have O : ZOk K cX4_house RX4 "house" 2 (some (.object "YearSkins$House")) 1 48 := O
  refine bs hr (fun _ hck hr => ?_)
  refine z_aload_n O 0 dX4_house_0 rfl rfl ?_
  refine z_getR O o_Village_houses q337 dX4_house_1 hr (fun v1 hr => ?_)
  refine z_iload_n O 1 dX4_house_4 rfl rfl ?_
  refine z_aaload O dX4_house_5 hr (fun v2 hr => ?_)
  exact z_aret O rfl dX4_house_6 (by cases hr; rfl)
theorem fV_X1_isDepth : CVf RX1 yX1_isDepth cX1_isDepth 3 (some .boolean) 2 := ⟨q1284, qs38, q126, q1285, ⟨⟨by decide +kernel, by decide +kernel⟩, by decide +kernel⟩⟩
def F_X1_isDepth (x0 : Option Nat) (x1 : Int32) (x2 : Int32) (h : AH) : Option (Int32) :=
  (ck h [1] x0).bind fun _ =>
  (F_X1_isHouse x0 x1 h).bind fun v1 =>
  if v1 = 0 then
    zb (0 : Int32)
  else
    (gR h f_Year_village x0).bind fun v2 =>
    (F_X4_house v2 x1 h).bind fun v3 =>
    (gI h f_House_many v3).bind fun v4 =>
    (F_X1_within x2 (0 : Int32) v4).bind fun v5 =>
    if v5 = 0 then
      zb (0 : Int32)
    else
      zb (1 : Int32)
theorem mX1_isDepth (l : Launch) (G : ZG) (x0 : Option Nat) (x1 : Int32) (x2 : Int32) (h : AH) (r : Int32) (hr : F_X1_isDepth x0 x1 x2 h = some r) : MZ l G yX1_isDepth cX1_isDepth 3 (some .boolean) 3 91 [vr x0, vi x1, vi x2] h (eI h r) := by
  unfold F_X1_isDepth at hr
  refine MZ.of (by decide) [(0, vr x0), (1, vi x1), (2, vi x2)] rfl (Nat.le_of_ble_eq_true rfl) (fun K O => ?_)
  have O : ZOk K cX1_isDepth RX1 "isDepth" 3 (some .boolean) 3 91 := O
  refine bs hr (fun _ hck hr => ?_)
  refine z_aload_n O 0 dX1_isDepth_0 rfl rfl ?_
  refine z_iload_n O 1 dX1_isDepth_1 rfl rfl ?_
  refine bs hr (fun v1 hF hr => ?_)
  refine z_callV O [vi x1] (vi v1) fV_X1_isHouse q1245 (fun l G => mX1_isHouse l G x0 x1 h _ hF) (zck hF) rfl rfl ⟨Nat.le_of_ble_eq_true rfl, Nat.le_of_ble_eq_true rfl⟩ (Nat.le_of_ble_eq_true rfl) dX1_isDepth_2 ?_
  refine z_if_eq (tgt := 31) O dX1_isDepth_5 (by decide) hr (fun hr => ?_) (fun hr => ?_)
  · refine z_iconst O dX1_isDepth_31 kic_0 ?_
    obtain ⟨e1, e2, -⟩ := zb_spec hr
    exact z_zret O e2 dX1_isDepth_32 (by cases e1; rfl)
  · refine z_iload_n O 2 dX1_isDepth_8 rfl rfl ?_
    refine z_iconst O dX1_isDepth_9 kic_0 ?_
    refine z_aload_n O 0 dX1_isDepth_10 rfl rfl ?_
    refine z_getR O o_Year_village q469 dX1_isDepth_11 hr (fun v2 hr => ?_)
    refine z_iload_n O 1 dX1_isDepth_14 rfl rfl ?_
    refine bs hr (fun v3 hF hr => ?_)
    refine z_callV O [vi x1] (vr v3) fV_X4_house q1249 (fun l G => mX4_house l G v2 x1 h _ hF) (zck hF) rfl rfl ⟨Nat.le_of_ble_eq_true rfl, Nat.le_of_ble_eq_true rfl⟩ (Nat.le_of_ble_eq_true rfl) dX1_isDepth_15 ?_
    refine z_getI O o_House_many q314 dX1_isDepth_18 hr (fun v4 hr => ?_)
    refine bs hr (fun v5 hF hr => ?_)
    refine z_callS O [vi x2, vi (0 : Int32), vi v4] (vi v5) fS_X1_within q532 (fun l G => mX1_within l G x2 (0 : Int32) v4 h _ hF) rfl ⟨Nat.le_of_ble_eq_true rfl, Nat.le_of_ble_eq_true rfl⟩ (Nat.le_of_ble_eq_true rfl) dX1_isDepth_21 ?_
    refine z_if_eq (tgt := 31) O dX1_isDepth_24 (by decide) hr (fun hr => ?_) (fun hr => ?_)
    · refine z_iconst O dX1_isDepth_31 kic_0 ?_
      obtain ⟨e1, e2, -⟩ := zb_spec hr
      exact z_zret O e2 dX1_isDepth_32 (by cases e1; rfl)
    · refine z_iconst O dX1_isDepth_27 kic_1 ?_
      refine z_goto (tgt := 32) O dX1_isDepth_28 (by decide) ?_
      obtain ⟨e1, e2, -⟩ := zb_spec hr
      exact z_zret O e2 dX1_isDepth_32 (by cases e1; rfl)
theorem fV_X1_no : CVf RX1 yX1_no cX1_no 2 (some .int) 1 := ⟨q537, qs3, q126, q538, ⟨⟨by decide +kernel, by decide +kernel⟩, by decide +kernel⟩⟩
def F_X1_no (x0 : Option Nat) (x1 : Int32) (h : AH) : Option (Int32 × AH) :=
  (ck h [1] x0).bind fun _ =>
  (pI h f_Year_trouble x0 x1).bind fun h1 =>
  some ((-1 : Int32), h1)
theorem mX1_no (l : Launch) (G : ZG) (x0 : Option Nat) (x1 : Int32) (h : AH) (r : Int32 × AH) (hr : F_X1_no x0 x1 h = some r) : MZ l G yX1_no cX1_no 2 (some .int) 1 48 [vr x0, vi x1] h (eIH r) := by
  unfold F_X1_no at hr
  refine MZ.of (by decide) [(0, vr x0), (1, vi x1)] rfl (Nat.le_of_ble_eq_true rfl) (fun K O => ?_)
  have O : ZOk K cX1_no RX1 "no" 2 (some .int) 1 48 := O
  refine bs hr (fun _ hck hr => ?_)
  refine z_aload_n O 0 dX1_no_0 rfl rfl ?_
  refine z_iload_n O 1 dX1_no_1 rfl rfl ?_
  refine z_putI O o_Year_trouble (w_Year_trouble _) q464 dX1_no_2 hr (fun h1 hr => ?_)
  refine z_iconst O dX1_no_5 kic_m1 ?_
  exact z_iret O dX1_no_6 (by cases hr; rfl)
theorem fV_X6_atDoor : CVf RX6 yX6_atDoor cX6_atDoor 1 (some .int) 0 := ⟨q1393, q1394, q134, q1395, ⟨⟨by decide +kernel, by decide +kernel⟩, by decide +kernel⟩⟩
def F_X6_atDoor (x0 : Option Nat) (h : AH) : Option (Int32) :=
  (ck h [6] x0).bind fun _ =>
  (gI h f_Skin_collapsed x0).bind fun v1 =>
  if v1 = 0 then
    (gI h f_Skin_filled x0).bind fun v2 =>
    if v2 = 0 then
      (gI h f_Skin_lock x0).bind fun v3 =>
      some (v3 + (1 : Int32))
    else
      some (20 : Int32)
  else
    some (1 : Int32)
theorem mX6_atDoor (l : Launch) (G : ZG) (x0 : Option Nat) (h : AH) (r : Int32) (hr : F_X6_atDoor x0 h = some r) : MZ l G yX6_atDoor cX6_atDoor 1 (some .int) 1 48 [vr x0] h (eI h r) := by
  unfold F_X6_atDoor at hr
  refine MZ.of (by decide) [(0, vr x0)] rfl (Nat.le_of_ble_eq_true rfl) (fun K O => ?_)
  have O : ZOk K cX6_atDoor RX6 "atDoor" 1 (some .int) 1 48 := O
  refine bs hr (fun _ hck hr => ?_)
  refine z_aload_n O 0 dX6_atDoor_0 rfl rfl ?_
  refine z_getI O o_Skin_collapsed q283 dX6_atDoor_1 hr (fun v1 hr => ?_)
  refine z_if_eq (tgt := 11) O dX6_atDoor_4 (by decide) hr (fun hr => ?_) (fun hr => ?_)
  · refine z_aload_n O 0 dX6_atDoor_11 rfl rfl ?_
    refine z_getI O o_Skin_filled q286 dX6_atDoor_12 hr (fun v2 hr => ?_)
    refine z_if_eq (tgt := 23) O dX6_atDoor_15 (by decide) hr (fun hr => ?_) (fun hr => ?_)
    · refine z_aload_n O 0 dX6_atDoor_23 rfl rfl ?_
      refine z_getI O o_Skin_lock q274 dX6_atDoor_24 hr (fun v3 hr => ?_)
      refine z_iconst O dX6_atDoor_27 kic_1 ?_
      refine z_iadd O dX6_atDoor_28 ?_
      exact z_iret O dX6_atDoor_29 (by cases hr; rfl)
    · refine z_bipush O dX6_atDoor_18 kbi_20 ?_
      refine z_goto (tgt := 29) O dX6_atDoor_20 (by decide) ?_
      exact z_iret O dX6_atDoor_29 (by cases hr; rfl)
  · refine z_iconst O dX6_atDoor_7 kic_1 ?_
    refine z_goto (tgt := 29) O dX6_atDoor_8 (by decide) ?_
    exact z_iret O dX6_atDoor_29 (by cases hr; rfl)
theorem fV_X6_thick : CVf RX6 yX6_thick cX6_thick 1 (some .int) 0 := ⟨q1397, q1398, q134, q1399, ⟨⟨by decide +kernel, by decide +kernel⟩, by decide +kernel⟩⟩
def F_X6_thick (x0 : Option Nat) (h : AH) : Option (Int32) :=
  (ck h [6] x0).bind fun _ =>
  (gI h f_Skin_collapsed x0).bind fun v1 =>
  if v1 = 0 then
    (gI h f_Skin_filled x0).bind fun v2 =>
    if v2 = 0 then
      (gR h f_Skin_stone x0).bind fun v3 =>
      (gI h f_Stone_strong v3).bind fun v4 =>
      (gI h f_Skin_rot x0).bind fun v5 =>
      some (jmax (1 : Int32) (v4 - v5))
    else
      some (20 : Int32)
  else
    some (1 : Int32)
theorem mX6_thick (l : Launch) (G : ZG) (x0 : Option Nat) (h : AH) (r : Int32) (hr : F_X6_thick x0 h = some r) : MZ l G yX6_thick cX6_thick 1 (some .int) 1 48 [vr x0] h (eI h r) := by
  unfold F_X6_thick at hr
  refine MZ.of (by decide) [(0, vr x0)] rfl (Nat.le_of_ble_eq_true rfl) (fun K O => ?_)
  have O : ZOk K cX6_thick RX6 "thick" 1 (some .int) 1 48 := O
  refine bs hr (fun _ hck hr => ?_)
  refine z_aload_n O 0 dX6_thick_0 rfl rfl ?_
  refine z_getI O o_Skin_collapsed q283 dX6_thick_1 hr (fun v1 hr => ?_)
  refine z_if_eq (tgt := 11) O dX6_thick_4 (by decide) hr (fun hr => ?_) (fun hr => ?_)
  · refine z_aload_n O 0 dX6_thick_11 rfl rfl ?_
    refine z_getI O o_Skin_filled q286 dX6_thick_12 hr (fun v2 hr => ?_)
    refine z_if_eq (tgt := 23) O dX6_thick_15 (by decide) hr (fun hr => ?_) (fun hr => ?_)
    · refine z_iconst O dX6_thick_23 kic_1 ?_
      refine z_aload_n O 0 dX6_thick_24 rfl rfl ?_
      refine z_getR O o_Skin_stone q265 dX6_thick_25 hr (fun v3 hr => ?_)
      refine z_getI O o_Stone_strong q951 dX6_thick_28 hr (fun v4 hr => ?_)
      refine z_aload_n O 0 dX6_thick_31 rfl rfl ?_
      refine z_getI O o_Skin_rot q277 dX6_thick_32 hr (fun v5 hr => ?_)
      refine z_isub O dX6_thick_35 ?_
      refine z_mmax O q1400 ⟨Nat.le_of_ble_eq_true rfl, Nat.le_of_ble_eq_true rfl⟩ (Nat.le_of_ble_eq_true rfl) dX6_thick_36 ?_
      exact z_iret O dX6_thick_39 (by cases hr; rfl)
    · refine z_bipush O dX6_thick_18 kbi_20 ?_
      refine z_goto (tgt := 39) O dX6_thick_20 (by decide) ?_
      exact z_iret O dX6_thick_39 (by cases hr; rfl)
  · refine z_iconst O dX6_thick_7 kic_1 ?_
    refine z_goto (tgt := 39) O dX6_thick_8 (by decide) ?_
    exact z_iret O dX6_thick_39 (by cases hr; rfl)
theorem fS_X7_first : CSf yX7_first cX7_first 1 (some .int) 1 := ⟨q1389, q135, q1390, ⟨⟨by decide +kernel, by decide +kernel⟩, by decide +kernel⟩⟩
def F_X7_first (x0 : Int32) : Option (Int32) :=
  some (((4 : Int32) * x0) * (x0 - (1 : Int32)))
theorem mX7_first (l : Launch) (G : ZG) (x0 : Int32) (h : AH) (r : Int32) (hr : F_X7_first x0 = some r) : MZ l G yX7_first cX7_first 1 (some .int) 1 48 [vi x0] h (eI h r) := by
  unfold F_X7_first at hr
  refine MZ.of (by decide) [(0, vi x0)] rfl (Nat.le_of_ble_eq_true rfl) (fun K O => ?_)
  have O : ZOk K cX7_first RX7 "first" 1 (some .int) 1 48 := O
  refine z_iconst O dX7_first_0 kic_4 ?_
  refine z_iload_n O 0 dX7_first_1 rfl rfl ?_
  refine z_imul O dX7_first_2 ?_
  refine z_iload_n O 0 dX7_first_3 rfl rfl ?_
  refine z_iconst O dX7_first_4 kic_1 ?_
  refine z_isub O dX7_first_5 ?_
  refine z_imul O dX7_first_6 ?_
  exact z_iret O dX7_first_7 (by cases hr; rfl)
theorem fS_X17_isCorner : CSf yX17_isCorner cX17_isCorner 2 (some .boolean) 2 := ⟨q1411, q151, q1412, ⟨⟨by decide +kernel, by decide +kernel⟩, by decide +kernel⟩⟩
def F_X17_isCorner (x0 : Int32) (x1 : Int32) : Option (Int32) :=
  (rm x1 ((2 : Int32) * x0)).bind fun v1 =>
  if v1 = 0 then
    zb (1 : Int32)
  else
    zb (0 : Int32)
theorem mX17_isCorner (l : Launch) (G : ZG) (x0 : Int32) (x1 : Int32) (h : AH) (r : Int32) (hr : F_X17_isCorner x0 x1 = some r) : MZ l G yX17_isCorner cX17_isCorner 2 (some .boolean) 1 48 [vi x0, vi x1] h (eI h r) := by
  unfold F_X17_isCorner at hr
  refine MZ.of (by decide) [(0, vi x0), (1, vi x1)] rfl (Nat.le_of_ble_eq_true rfl) (fun K O => ?_)
  have O : ZOk K cX17_isCorner RX17 "isCorner" 2 (some .boolean) 1 48 := O
  refine z_iload_n O 1 dX17_isCorner_0 rfl rfl ?_
  refine z_iconst O dX17_isCorner_1 kic_2 ?_
  refine z_iload_n O 0 dX17_isCorner_2 rfl rfl ?_
  refine z_imul O dX17_isCorner_3 ?_
  refine z_irem O dX17_isCorner_4 hr (fun v1 hr => ?_)
  refine z_if_ne (tgt := 12) O dX17_isCorner_5 (by decide) hr (fun hr => ?_) (fun hr => ?_)
  · refine z_iconst O dX17_isCorner_8 kic_1 ?_
    refine z_goto (tgt := 13) O dX17_isCorner_9 (by decide) ?_
    obtain ⟨e1, e2, -⟩ := zb_spec hr
    exact z_zret O e2 dX17_isCorner_13 (by cases e1; rfl)
  · refine z_iconst O dX17_isCorner_12 kic_0 ?_
    obtain ⟨e1, e2, -⟩ := zb_spec hr
    exact z_zret O e2 dX17_isCorner_13 (by cases e1; rfl)
theorem fV_X7_less : CVf RX7 yX7_less cX7_less 3 (some .boolean) 2 := ⟨q1408, qs44, q135, q1409, ⟨⟨by decide +kernel, by decide +kernel⟩, by decide +kernel⟩⟩
def F_X7_less (x0 : Option Nat) (x1 : Int32) (x2 : Int32) (h : AH) : Option (Int32 × AH) :=
  (ck h [7] x0).bind fun _ =>
  (gR h f_Through_best x0).bind fun v1 =>
  (aI h 0 v1 x1).bind fun v2 =>
  if x2 < v2 then
    (gR h f_Through_best x0).bind fun v3 =>
    (sA h 0 v3 x1 x2).bind fun h4 =>
    (zb (1 : Int32)).bind fun v5 => some (v5, h4)
  else
    (zb (0 : Int32)).bind fun v6 => some (v6, h)
theorem mX7_less (l : Launch) (G : ZG) (x0 : Option Nat) (x1 : Int32) (x2 : Int32) (h : AH) (r : Int32 × AH) (hr : F_X7_less x0 x1 x2 h = some r) : MZ l G yX7_less cX7_less 3 (some .boolean) 1 48 [vr x0, vi x1, vi x2] h (eIH r) := by
  unfold F_X7_less at hr
  refine MZ.of (by decide) [(0, vr x0), (1, vi x1), (2, vi x2)] rfl (Nat.le_of_ble_eq_true rfl) (fun K O => ?_)
  have O : ZOk K cX7_less RX7 "less" 3 (some .boolean) 1 48 := O
  refine bs hr (fun _ hck hr => ?_)
  refine z_iload_n O 2 dX7_less_0 rfl rfl ?_
  refine z_aload_n O 0 dX7_less_1 rfl rfl ?_
  refine z_getR O o_Through_best q423 dX7_less_2 hr (fun v1 hr => ?_)
  refine z_iload_n O 1 dX7_less_5 rfl rfl ?_
  refine z_iaload O dX7_less_6 hr (fun v2 hr => ?_)
  refine z_icmp_lt (tgt := 12) O dX7_less_7 (by decide) hr (fun hr => ?_) (fun hr => ?_)
  · refine z_aload_n O 0 dX7_less_12 rfl rfl ?_
    refine z_getR O o_Through_best q423 dX7_less_13 hr (fun v3 hr => ?_)
    refine z_iload_n O 1 dX7_less_16 rfl rfl ?_
    refine z_iload_n O 2 dX7_less_17 rfl rfl ?_
    refine z_iastore O dX7_less_18 hr (fun h4 hr => ?_)
    refine z_iconst O dX7_less_19 kic_1 ?_
    refine bs hr (fun v5 e0 hr => ?_)
    obtain ⟨e1, e2, -⟩ := zb_spec e0
    exact z_zret O e2 dX7_less_20 (by cases hr; cases e1; rfl)
  · refine z_iconst O dX7_less_10 kic_0 ?_
    refine bs hr (fun v6 e0 hr => ?_)
    obtain ⟨e1, e2, -⟩ := zb_spec e0
    exact z_zret O e2 dX7_less_11 (by cases hr; cases e1; rfl)
theorem fV_X7_enters : CVf RX7 yX7_enters cX7_enters 6 (some .boolean) 2 := ⟨q1415, qs45, q135, q1416, ⟨⟨by decide +kernel, by decide +kernel⟩, by decide +kernel⟩⟩
def F_X7_enters (x0 : Option Nat) (x1 : Int32) (x2 : Int32) (h : AH) : Option (Int32 × AH) :=
  (ck h [7] x0).bind fun _ =>
  (gR h f_Through_house x0).bind fun v1 =>
  (F_X5_skin v1 x1 h).bind fun v2 =>
  (gR h f_Through_best x0).bind fun v3 =>
  (F_X7_first (x1 + (1 : Int32))).bind fun v4 =>
  (F_X17_front x1 x2).bind fun v5 =>
  (aI h 0 v3 (v4 + v5)).bind fun v6 =>
  (F_X6_thick v2 h).bind fun v7 =>
  jlet (((1000 : Int32) * v7) + (1 : Int32)) fun v8 =>
  (F_X7_first x1).bind fun v9 =>
  (gR h f_Through_house x0).bind fun v10 =>
  (F_X5_doorOf v10 x1 h).bind fun v11 =>
  if v11 = x2 then
    (F_X6_atDoor v2 h).bind fun v15 =>
    b2 (F_X7_less x0 (v9 + x2) (v6 + (jmin v8 ((1000 : Int32) * v15))) h) fun v17 h16 =>
    (zb v17).bind fun v18 => some (v18, h16)
  else
    b2 (F_X7_less x0 (v9 + x2) (v6 + v8) h) fun v13 h12 =>
    (zb v13).bind fun v14 => some (v14, h12)
theorem mX7_enters (l : Launch) (G : ZG) (x0 : Option Nat) (x1 : Int32) (x2 : Int32) (h : AH) (r : Int32 × AH) (hr : F_X7_enters x0 x1 x2 h = some r) : MZ l G yX7_enters cX7_enters 6 (some .boolean) 4 113 [vr x0, vi x1, vi x2] h (eIH r) := by
  unfold F_X7_enters at hr
  refine MZ.of (by decide) [(0, vr x0), (1, vi x1), (2, vi x2)] rfl (Nat.le_of_ble_eq_true rfl) (fun K O => ?_)
  have O : ZOk K cX7_enters RX7 "enters" 6 (some .boolean) 4 113 := O
  refine bs hr (fun _ hck hr => ?_)
  refine z_aload_n O 0 dX7_enters_0 rfl rfl ?_
  refine z_getR O o_Through_house q424 dX7_enters_1 hr (fun v1 hr => ?_)
  refine z_iload_n O 1 dX7_enters_4 rfl rfl ?_
  refine bs hr (fun v2 hF hr => ?_)
  refine z_callV O [vi x1] (vr v2) fV_X5_skin q1387 (fun l G => mX5_skin l G v1 x1 h _ hF) (zck hF) rfl rfl ⟨Nat.le_of_ble_eq_true rfl, Nat.le_of_ble_eq_true rfl⟩ (Nat.le_of_ble_eq_true rfl) dX7_enters_5 ?_
  refine z_astore_n O [(3, vr v2), (0, vr x0), (1, vi x1), (2, vi x2)] dX7_enters_8 rfl (by decide) rfl ?_
  refine z_aload_n O 1 dX7_enters_9 rfl rfl ?_
  refine z_getR O o_Through_best q423 dX7_enters_10 hr (fun v3 hr => ?_)
  refine z_iload_n O 2 dX7_enters_13 rfl rfl ?_
  refine z_iconst O dX7_enters_14 kic_1 ?_
  refine z_iadd O dX7_enters_15 ?_
  refine bs hr (fun v4 hF hr => ?_)
  refine z_callS O [vi (x1 + (1 : Int32))] (vi v4) fS_X7_first q1388 (fun l G => mX7_first l G (x1 + (1 : Int32)) h _ hF) rfl ⟨Nat.le_of_ble_eq_true rfl, Nat.le_of_ble_eq_true rfl⟩ (Nat.le_of_ble_eq_true rfl) dX7_enters_16 ?_
  refine z_iload_n O 2 dX7_enters_19 rfl rfl ?_
  refine z_iload_n O 3 dX7_enters_20 rfl rfl ?_
  refine bs hr (fun v5 hF hr => ?_)
  refine z_callS O [vi x1, vi x2] (vi v5) fS_X17_front q1417 (fun l G => mX17_front l G x1 x2 h _ hF) rfl ⟨Nat.le_of_ble_eq_true rfl, Nat.le_of_ble_eq_true rfl⟩ (Nat.le_of_ble_eq_true rfl) dX7_enters_21 ?_
  refine z_iadd O dX7_enters_24 ?_
  refine z_iaload O dX7_enters_25 hr (fun v6 hr => ?_)
  refine z_istore O [(4, vi v6), (3, vr v2), (0, vr x0), (1, vi x1), (2, vi x2)] dX7_enters_26 (by decide) rfl ?_
  refine z_sipush O dX7_enters_28 ksi_1000 ?_
  refine z_aload_n O 1 dX7_enters_31 rfl rfl ?_
  refine bs hr (fun v7 hF hr => ?_)
  refine z_callV O [] (vi v7) fV_X6_thick q1396 (fun l G => mX6_thick l G v2 h _ hF) (zck hF) rfl rfl ⟨Nat.le_of_ble_eq_true rfl, Nat.le_of_ble_eq_true rfl⟩ (Nat.le_of_ble_eq_true rfl) dX7_enters_32 ?_
  refine z_imul O dX7_enters_35 ?_
  refine z_iconst O dX7_enters_36 kic_1 ?_
  refine z_iadd O dX7_enters_37 ?_
  refine z_letI hr (fun v8 hr => ?_)
  refine z_istore O [(5, vi v8), (4, vi v6), (3, vr v2), (0, vr x0), (1, vi x1), (2, vi x2)] dX7_enters_38 (by decide) rfl ?_
  refine z_aload_n O 3 dX7_enters_40 rfl rfl ?_
  refine z_iload_n O 4 dX7_enters_41 rfl rfl ?_
  refine bs hr (fun v9 hF hr => ?_)
  refine z_callS O [vi x1] (vi v9) fS_X7_first q1388 (fun l G => mX7_first l G x1 h _ hF) rfl ⟨Nat.le_of_ble_eq_true rfl, Nat.le_of_ble_eq_true rfl⟩ (Nat.le_of_ble_eq_true rfl) dX7_enters_42 ?_
  refine z_iload_n O 5 dX7_enters_45 rfl rfl ?_
  refine z_iadd O dX7_enters_46 ?_
  refine z_iload O 1 dX7_enters_47 rfl ?_
  refine z_aload_n O 3 dX7_enters_49 rfl rfl ?_
  refine z_getR O o_Through_house q424 dX7_enters_50 hr (fun v10 hr => ?_)
  refine z_iload_n O 4 dX7_enters_53 rfl rfl ?_
  refine bs hr (fun v11 hF hr => ?_)
  refine z_callV O [vi x1] (vi v11) fV_X5_doorOf q1391 (fun l G => mX5_doorOf l G v10 x1 h _ hF) (zck hF) rfl rfl ⟨Nat.le_of_ble_eq_true rfl, Nat.le_of_ble_eq_true rfl⟩ (Nat.le_of_ble_eq_true rfl) dX7_enters_54 ?_
  refine z_iload_n O 5 dX7_enters_57 rfl rfl ?_
  refine z_icmp_ne (tgt := 77) O dX7_enters_58 (by decide) hr (fun hr => ?_) (fun hr => ?_)
  · refine z_iload O 0 dX7_enters_61 rfl ?_
    refine z_sipush O dX7_enters_63 ksi_1000 ?_
    refine z_aload_n O 2 dX7_enters_66 rfl rfl ?_
    refine bs hr (fun v15 hF hr => ?_)
    refine z_callV O [] (vi v15) fV_X6_atDoor q1392 (fun l G => mX6_atDoor l G v2 h _ hF) (zck hF) rfl rfl ⟨Nat.le_of_ble_eq_true rfl, Nat.le_of_ble_eq_true rfl⟩ (Nat.le_of_ble_eq_true rfl) dX7_enters_67 ?_
    refine z_imul O dX7_enters_70 ?_
    refine z_mmin O q1401 ⟨Nat.le_of_ble_eq_true rfl, Nat.le_of_ble_eq_true rfl⟩ (Nat.le_of_ble_eq_true rfl) dX7_enters_71 ?_
    refine z_goto (tgt := 79) O dX7_enters_74 (by decide) ?_
    refine z_iadd O dX7_enters_79 ?_
    refine b2s hr (fun v17 h16 hF hr => ?_)
    refine z_callV O [vi (v9 + x2), vi (v6 + (jmin v8 ((1000 : Int32) * v15)))] (vi v17) fV_X7_less q1406 (fun l G => mX7_less l G x0 (v9 + x2) (v6 + (jmin v8 ((1000 : Int32) * v15))) h _ hF) (zck hF) rfl rfl ⟨Nat.le_of_ble_eq_true rfl, Nat.le_of_ble_eq_true rfl⟩ (Nat.le_of_ble_eq_true rfl) dX7_enters_80 ?_
    refine bs hr (fun v18 e0 hr => ?_)
    obtain ⟨e1, e2, -⟩ := zb_spec e0
    exact z_zret O e2 dX7_enters_83 (by cases hr; cases e1; rfl)
  · refine z_iload O 0 dX7_enters_77 rfl ?_
    refine z_iadd O dX7_enters_79 ?_
    refine b2s hr (fun v13 h12 hF hr => ?_)
    refine z_callV O [vi (v9 + x2), vi (v6 + v8)] (vi v13) fV_X7_less q1406 (fun l G => mX7_less l G x0 (v9 + x2) (v6 + v8) h _ hF) (zck hF) rfl rfl ⟨Nat.le_of_ble_eq_true rfl, Nat.le_of_ble_eq_true rfl⟩ (Nat.le_of_ble_eq_true rfl) dX7_enters_80 ?_
    refine bs hr (fun v14 e0 hr => ?_)
    obtain ⟨e1, e2, -⟩ := zb_spec e0
    exact z_zret O e2 dX7_enters_83 (by cases hr; cases e1; rfl)
theorem fV_X7_goes : CVf RX7 yX7_goes cX7_goes 5 (some .boolean) 1 := ⟨q1404, qs43, q135, q1405, ⟨⟨by decide +kernel, by decide +kernel⟩, by decide +kernel⟩⟩
def bX7_goes_97 (N : Nat) (rec4 : Int32 → Int32 → AH → Option (Int32 × AH)) (x0 : Option Nat) (x1 : Int32) (x3 : Int32) (s0 : Int32) (h : AH) : Option (Int32 × AH) :=
  (gR h f_Through_house x0).bind fun v1 =>
  (gI h f_House_many v1).bind fun v2 =>
  if v2 ≤ x1 then
    jlet (x3 + (1 : Int32)) fun v3 =>
    rec4 s0 v3 h
  else
    (F_X17_isCorner x1 x3).bind fun v4 =>
    if v4 = 0 then
      b2 (F_X7_enters x0 x1 x3 h) fun v7 h6 =>
      if v7 = 0 then
        if s0 = 0 then
          jlet (x3 + (1 : Int32)) fun v9 =>
          rec4 (0 : Int32) v9 h6
        else
          jlet (x3 + (1 : Int32)) fun v10 =>
          rec4 (1 : Int32) v10 h6
      else
        jlet (x3 + (1 : Int32)) fun v8 =>
        rec4 (1 : Int32) v8 h6
    else
      jlet (x3 + (1 : Int32)) fun v5 =>
      rec4 s0 v5 h
theorem wX7_goes_97 {K : ZC} (O : ZOk K cX7_goes RX7 "goes" 5 (some .boolean) 5 138) (N : Nat) (rec4 : Int32 → Int32 → AH → Option (Int32 × AH)) (x0 : Option Nat) (x1 : Int32) (x3 : Int32) (s0 : Int32) (h : AH) (hrec4 : ∀ (y2 : Int32) (y3 : Int32) (hy : AH) (ry : Int32 × AH), rec4 y2 y3 hy = some ry → Zw K (eIH ry) hy 4 [(0, vr x0), (1, vi x1), (2, vi y2), (3, vi y3)] []) (r : Int32 × AH) (hr : bX7_goes_97 N rec4 x0 x1 x3 s0 h = some r) : Zw K (eIH r) h 97 [(0, vr x0), (1, vi x1), (3, vi x3)] [vi s0] := by
  unfold bX7_goes_97 at hr
  refine z_istore_n O [(2, vi s0), (0, vr x0), (1, vi x1), (3, vi x3)] dX7_goes_97 rfl (by decide) rfl ?_
  refine z_iload_n O 2 dX7_goes_98 rfl rfl ?_
  refine z_aload_n O 1 dX7_goes_99 rfl rfl ?_
  refine z_getR O o_Through_house q424 dX7_goes_100 hr (fun v1 hr => ?_)
  refine z_getI O o_House_many q312 dX7_goes_103 hr (fun v2 hr => ?_)
  refine z_icmp_ge (tgt := 136) O dX7_goes_106 (by decide) hr (fun hr => ?_) (fun hr => ?_)
  · refine z_iincL O 3 (fun v3 => [(3, vi v3), (2, vi s0), (0, vr x0), (1, vi x1)]) dX7_goes_136 rfl rfl (by decide) (fun _ => rfl) hr (fun v3 hr => ?_)
    refine z_goto (tgt := 4) O dX7_goes_139 (by decide) ?_
    refine z_sub [2, 3, 1, 0] rfl ?_
    exact hrec4 s0 v3 h _ hr
  · refine z_iload_n O 2 dX7_goes_109 rfl rfl ?_
    refine z_iload_n O 3 dX7_goes_110 rfl rfl ?_
    refine bs hr (fun v4 hF hr => ?_)
    refine z_callS O [vi x1, vi x3] (vi v4) fS_X17_isCorner q1410 (fun l G => mX17_isCorner l G x1 x3 h _ hF) rfl ⟨Nat.le_of_ble_eq_true rfl, Nat.le_of_ble_eq_true rfl⟩ (Nat.le_of_ble_eq_true rfl) dX7_goes_111 ?_
    refine z_if_ne (tgt := 136) O dX7_goes_114 (by decide) hr (fun hr => ?_) (fun hr => ?_)
    · refine z_aload_n O 1 dX7_goes_117 rfl rfl ?_
      refine z_iload_n O 2 dX7_goes_118 rfl rfl ?_
      refine z_iload_n O 3 dX7_goes_119 rfl rfl ?_
      refine b2s hr (fun v7 h6 hF hr => ?_)
      refine z_callV O [vi x1, vi x3] (vi v7) fV_X7_enters q1413 (fun l G => mX7_enters l G x0 x1 x3 h _ hF) (zck hF) rfl rfl ⟨Nat.le_of_ble_eq_true rfl, Nat.le_of_ble_eq_true rfl⟩ (Nat.le_of_ble_eq_true rfl) dX7_goes_120 ?_
      refine z_if_ne (tgt := 130) O dX7_goes_123 (by decide) hr (fun hr => ?_) (fun hr => ?_)
      · refine z_iload_n O 0 dX7_goes_126 rfl rfl ?_
        refine z_if_eq (tgt := 134) O dX7_goes_127 (by decide) hr (fun hr => ?_) (fun hr => ?_)
        · refine z_iconst O dX7_goes_134 kic_0 ?_
          refine z_istore_n O [(2, vi (0 : Int32)), (0, vr x0), (1, vi x1), (3, vi x3)] dX7_goes_135 rfl (by decide) rfl ?_
          refine z_iincL O 3 (fun v9 => [(3, vi v9), (2, vi (0 : Int32)), (0, vr x0), (1, vi x1)]) dX7_goes_136 rfl rfl (by decide) (fun _ => rfl) hr (fun v9 hr => ?_)
          refine z_goto (tgt := 4) O dX7_goes_139 (by decide) ?_
          refine z_sub [2, 3, 1, 0] rfl ?_
          exact hrec4 (0 : Int32) v9 h6 _ hr
        · refine z_iconst O dX7_goes_130 kic_1 ?_
          refine z_goto (tgt := 135) O dX7_goes_131 (by decide) ?_
          refine z_istore_n O [(2, vi (1 : Int32)), (0, vr x0), (1, vi x1), (3, vi x3)] dX7_goes_135 rfl (by decide) rfl ?_
          refine z_iincL O 3 (fun v10 => [(3, vi v10), (2, vi (1 : Int32)), (0, vr x0), (1, vi x1)]) dX7_goes_136 rfl rfl (by decide) (fun _ => rfl) hr (fun v10 hr => ?_)
          refine z_goto (tgt := 4) O dX7_goes_139 (by decide) ?_
          refine z_sub [2, 3, 1, 0] rfl ?_
          exact hrec4 (1 : Int32) v10 h6 _ hr
      · refine z_iconst O dX7_goes_130 kic_1 ?_
        refine z_goto (tgt := 135) O dX7_goes_131 (by decide) ?_
        refine z_istore_n O [(2, vi (1 : Int32)), (0, vr x0), (1, vi x1), (3, vi x3)] dX7_goes_135 rfl (by decide) rfl ?_
        refine z_iincL O 3 (fun v8 => [(3, vi v8), (2, vi (1 : Int32)), (0, vr x0), (1, vi x1)]) dX7_goes_136 rfl rfl (by decide) (fun _ => rfl) hr (fun v8 hr => ?_)
        refine z_goto (tgt := 4) O dX7_goes_139 (by decide) ?_
        refine z_sub [2, 3, 1, 0] rfl ?_
        exact hrec4 (1 : Int32) v8 h6 _ hr
    · refine z_iincL O 3 (fun v5 => [(3, vi v5), (2, vi s0), (0, vr x0), (1, vi x1)]) dX7_goes_136 rfl rfl (by decide) (fun _ => rfl) hr (fun v5 hr => ?_)
      refine z_goto (tgt := 4) O dX7_goes_139 (by decide) ?_
      refine z_sub [2, 3, 1, 0] rfl ?_
      exact hrec4 s0 v5 h _ hr
def bX7_goes_60 (N : Nat) (rec4 : Int32 → Int32 → AH → Option (Int32 × AH)) (x0 : Option Nat) (x1 : Int32) (x3 : Int32) (x4 : Int32) (s0 : Int32) (h : AH) : Option (Int32 × AH) :=
  (F_X7_first x1).bind fun v1 =>
  (rm ((x3 + ((8 : Int32) * x1)) - (1 : Int32)) ((8 : Int32) * x1)).bind fun v2 =>
  b2 (F_X7_less x0 (v1 + v2) x4 h) fun v4 h3 =>
  if v4 = 0 then
    if s0 = 0 then
      bX7_goes_97 N rec4 x0 x1 x3 (0 : Int32) h3
    else
      bX7_goes_97 N rec4 x0 x1 x3 (1 : Int32) h3
  else
    bX7_goes_97 N rec4 x0 x1 x3 (1 : Int32) h3
theorem wX7_goes_60 {K : ZC} (O : ZOk K cX7_goes RX7 "goes" 5 (some .boolean) 5 138) (N : Nat) (rec4 : Int32 → Int32 → AH → Option (Int32 × AH)) (x0 : Option Nat) (x1 : Int32) (x3 : Int32) (x4 : Int32) (s0 : Int32) (h : AH) (hrec4 : ∀ (y2 : Int32) (y3 : Int32) (hy : AH) (ry : Int32 × AH), rec4 y2 y3 hy = some ry → Zw K (eIH ry) hy 4 [(0, vr x0), (1, vi x1), (2, vi y2), (3, vi y3)] []) (r : Int32 × AH) (hr : bX7_goes_60 N rec4 x0 x1 x3 x4 s0 h = some r) : Zw K (eIH r) h 60 [(0, vr x0), (1, vi x1), (3, vi x3), (4, vi x4)] [vi s0] := by
  unfold bX7_goes_60 at hr
  refine z_istore_n O [(2, vi s0), (0, vr x0), (1, vi x1), (3, vi x3), (4, vi x4)] dX7_goes_60 rfl (by decide) rfl ?_
  refine z_aload_n O 1 dX7_goes_61 rfl rfl ?_
  refine z_iload_n O 2 dX7_goes_62 rfl rfl ?_
  refine bs hr (fun v1 hF hr => ?_)
  refine z_callS O [vi x1] (vi v1) fS_X7_first q1388 (fun l G => mX7_first l G x1 h _ hF) rfl ⟨Nat.le_of_ble_eq_true rfl, Nat.le_of_ble_eq_true rfl⟩ (Nat.le_of_ble_eq_true rfl) dX7_goes_63 ?_
  refine z_iload_n O 3 dX7_goes_66 rfl rfl ?_
  refine z_bipush O dX7_goes_67 kbi_8 ?_
  refine z_iload_n O 2 dX7_goes_69 rfl rfl ?_
  refine z_imul O dX7_goes_70 ?_
  refine z_iadd O dX7_goes_71 ?_
  refine z_iconst O dX7_goes_72 kic_1 ?_
  refine z_isub O dX7_goes_73 ?_
  refine z_bipush O dX7_goes_74 kbi_8 ?_
  refine z_iload_n O 2 dX7_goes_76 rfl rfl ?_
  refine z_imul O dX7_goes_77 ?_
  refine z_irem O dX7_goes_78 hr (fun v2 hr => ?_)
  refine z_iadd O dX7_goes_79 ?_
  refine z_iload O 4 dX7_goes_80 rfl ?_
  refine b2s hr (fun v4 h3 hF hr => ?_)
  refine z_callV O [vi (v1 + v2), vi x4] (vi v4) fV_X7_less q1406 (fun l G => mX7_less l G x0 (v1 + v2) x4 h _ hF) (zck hF) rfl rfl ⟨Nat.le_of_ble_eq_true rfl, Nat.le_of_ble_eq_true rfl⟩ (Nat.le_of_ble_eq_true rfl) dX7_goes_82 ?_
  refine z_if_ne (tgt := 92) O dX7_goes_85 (by decide) hr (fun hr => ?_) (fun hr => ?_)
  · refine z_iload_n O 0 dX7_goes_88 rfl rfl ?_
    refine z_if_eq (tgt := 96) O dX7_goes_89 (by decide) hr (fun hr => ?_) (fun hr => ?_)
    · refine z_iconst O dX7_goes_96 kic_0 ?_
      refine z_sub [1, 2, 3] rfl ?_
      exact wX7_goes_97 O N rec4 x0 x1 x3 (0 : Int32) h3 hrec4 _ hr
    · refine z_iconst O dX7_goes_92 kic_1 ?_
      refine z_goto (tgt := 97) O dX7_goes_93 (by decide) ?_
      refine z_sub [1, 2, 3] rfl ?_
      exact wX7_goes_97 O N rec4 x0 x1 x3 (1 : Int32) h3 hrec4 _ hr
  · refine z_iconst O dX7_goes_92 kic_1 ?_
    refine z_goto (tgt := 97) O dX7_goes_93 (by decide) ?_
    refine z_sub [1, 2, 3] rfl ?_
    exact wX7_goes_97 O N rec4 x0 x1 x3 (1 : Int32) h3 hrec4 _ hr
def BX7_goes_4 (N : Nat) (x0 : Option Nat) (x1 : Int32) (rec4 : Int32 → Int32 → AH → Option (Int32 × AH)) : Int32 → Int32 → AH → Option (Int32 × AH) := fun x2 x3 h =>
  if ((8 : Int32) * x1) ≤ x3 then
    (zb x2).bind fun v1 => some (v1, h)
  else
    (gR h f_Through_best x0).bind fun v2 =>
    (F_X7_first x1).bind fun v3 =>
    (aI h 0 v2 (v3 + x3)).bind fun v4 =>
    jlet (v4 + (1000 : Int32)) fun v5 =>
    (F_X7_first x1).bind fun v6 =>
    (rm (x3 + (1 : Int32)) ((8 : Int32) * x1)).bind fun v7 =>
    b2 (F_X7_less x0 (v6 + v7) v5 h) fun v9 h8 =>
    if v9 = 0 then
      if x2 = 0 then
        bX7_goes_60 N rec4 x0 x1 x3 v5 (0 : Int32) h8
      else
        bX7_goes_60 N rec4 x0 x1 x3 v5 (1 : Int32) h8
    else
      bX7_goes_60 N rec4 x0 x1 x3 v5 (1 : Int32) h8
def LX7_goes_4 (N : Nat) (x0 : Option Nat) (x1 : Int32) : Int32 → Int32 → AH → Option (Int32 × AH) := lf (fun _ _ _ => none) (BX7_goes_4 N x0 x1) N
theorem wX7_goes_4B {K : ZC} (O : ZOk K cX7_goes RX7 "goes" 5 (some .boolean) 5 138) (N : Nat) (x0 : Option Nat) (x1 : Int32) (rec4 : Int32 → Int32 → AH → Option (Int32 × AH)) (hrec4 : ∀ (y2 : Int32) (y3 : Int32) (hy : AH) (ry : Int32 × AH), rec4 y2 y3 hy = some ry → Zw K (eIH ry) hy 4 [(0, vr x0), (1, vi x1), (2, vi y2), (3, vi y3)] []) (x2 : Int32) (x3 : Int32) (h : AH) (r : Int32 × AH) (hr : BX7_goes_4 N x0 x1 rec4 x2 x3 h = some r) : Zw K (eIH r) h 4 [(0, vr x0), (1, vi x1), (2, vi x2), (3, vi x3)] [] := by
  unfold BX7_goes_4 at hr
  refine z_iload_n O 3 dX7_goes_4 rfl rfl ?_
  refine z_bipush O dX7_goes_5 kbi_8 ?_
  refine z_iload_n O 1 dX7_goes_7 rfl rfl ?_
  refine z_imul O dX7_goes_8 ?_
  refine z_icmp_ge (tgt := 142) O dX7_goes_9 (by decide) hr (fun hr => ?_) (fun hr => ?_)
  · refine z_iload_n O 2 dX7_goes_142 rfl rfl ?_
    refine bs hr (fun v1 e0 hr => ?_)
    obtain ⟨e1, e2, -⟩ := zb_spec e0
    exact z_zret O e2 dX7_goes_143 (by cases hr; cases e1; rfl)
  · refine z_aload_n O 0 dX7_goes_12 rfl rfl ?_
    refine z_getR O o_Through_best q423 dX7_goes_13 hr (fun v2 hr => ?_)
    refine z_iload_n O 1 dX7_goes_16 rfl rfl ?_
    refine bs hr (fun v3 hF hr => ?_)
    refine z_callS O [vi x1] (vi v3) fS_X7_first q1388 (fun l G => mX7_first l G x1 h _ hF) rfl ⟨Nat.le_of_ble_eq_true rfl, Nat.le_of_ble_eq_true rfl⟩ (Nat.le_of_ble_eq_true rfl) dX7_goes_17 ?_
    refine z_iload_n O 3 dX7_goes_20 rfl rfl ?_
    refine z_iadd O dX7_goes_21 ?_
    refine z_iaload O dX7_goes_22 hr (fun v4 hr => ?_)
    refine z_sipush O dX7_goes_23 ksi_1000 ?_
    refine z_iadd O dX7_goes_26 ?_
    refine z_letI hr (fun v5 hr => ?_)
    refine z_istore O [(4, vi v5), (0, vr x0), (1, vi x1), (2, vi x2), (3, vi x3)] dX7_goes_27 (by decide) rfl ?_
    refine z_aload_n O 1 dX7_goes_29 rfl rfl ?_
    refine z_iload_n O 2 dX7_goes_30 rfl rfl ?_
    refine bs hr (fun v6 hF hr => ?_)
    refine z_callS O [vi x1] (vi v6) fS_X7_first q1388 (fun l G => mX7_first l G x1 h _ hF) rfl ⟨Nat.le_of_ble_eq_true rfl, Nat.le_of_ble_eq_true rfl⟩ (Nat.le_of_ble_eq_true rfl) dX7_goes_31 ?_
    refine z_iload_n O 4 dX7_goes_34 rfl rfl ?_
    refine z_iconst O dX7_goes_35 kic_1 ?_
    refine z_iadd O dX7_goes_36 ?_
    refine z_bipush O dX7_goes_37 kbi_8 ?_
    refine z_iload_n O 2 dX7_goes_39 rfl rfl ?_
    refine z_imul O dX7_goes_40 ?_
    refine z_irem O dX7_goes_41 hr (fun v7 hr => ?_)
    refine z_iadd O dX7_goes_42 ?_
    refine z_iload O 0 dX7_goes_43 rfl ?_
    refine b2s hr (fun v9 h8 hF hr => ?_)
    refine z_callV O [vi (v6 + v7), vi v5] (vi v9) fV_X7_less q1406 (fun l G => mX7_less l G x0 (v6 + v7) v5 h _ hF) (zck hF) rfl rfl ⟨Nat.le_of_ble_eq_true rfl, Nat.le_of_ble_eq_true rfl⟩ (Nat.le_of_ble_eq_true rfl) dX7_goes_45 ?_
    refine z_if_ne (tgt := 55) O dX7_goes_48 (by decide) hr (fun hr => ?_) (fun hr => ?_)
    · refine z_iload_n O 3 dX7_goes_51 rfl rfl ?_
      refine z_if_eq (tgt := 59) O dX7_goes_52 (by decide) hr (fun hr => ?_) (fun hr => ?_)
      · refine z_iconst O dX7_goes_59 kic_0 ?_
        refine z_sub [1, 2, 4, 0] rfl ?_
        exact wX7_goes_60 O N rec4 x0 x1 x3 v5 (0 : Int32) h8 hrec4 _ hr
      · refine z_iconst O dX7_goes_55 kic_1 ?_
        refine z_goto (tgt := 60) O dX7_goes_56 (by decide) ?_
        refine z_sub [1, 2, 4, 0] rfl ?_
        exact wX7_goes_60 O N rec4 x0 x1 x3 v5 (1 : Int32) h8 hrec4 _ hr
    · refine z_iconst O dX7_goes_55 kic_1 ?_
      refine z_goto (tgt := 60) O dX7_goes_56 (by decide) ?_
      refine z_sub [1, 2, 4, 0] rfl ?_
      exact wX7_goes_60 O N rec4 x0 x1 x3 v5 (1 : Int32) h8 hrec4 _ hr
theorem wX7_goes_4 {K : ZC} (O : ZOk K cX7_goes RX7 "goes" 5 (some .boolean) 5 138) (N : Nat) (x0 : Option Nat) (x1 : Int32) : ∀ (n : Nat) (x2 : Int32) (x3 : Int32) (h : AH) (r : Int32 × AH), lf (fun _ _ _ => none) (BX7_goes_4 N x0 x1) n x2 x3 h = some r → Zw K (eIH r) h 4 [(0, vr x0), (1, vi x1), (2, vi x2), (3, vi x3)] [] := by
  intro n
  induction n with
  | zero => intro x2 x3 h r hr; cases hr
  | succ n ih => intro x2 x3 h r hr; exact wX7_goes_4B O N x0 x1 (lf (fun _ _ _ => none) (BX7_goes_4 N x0 x1) n)  ih x2 x3 h r hr
def F_X7_goes (N : Nat) (x0 : Option Nat) (x1 : Int32) (h : AH) : Option (Int32 × AH) :=
  (ck h [7] x0).bind fun _ =>
  LX7_goes_4 N x0 x1 (0 : Int32) (0 : Int32) h
theorem mX7_goes (l : Launch) (G : ZG) (N : Nat) (x0 : Option Nat) (x1 : Int32) (h : AH) (r : Int32 × AH) (hr : F_X7_goes N x0 x1 h = some r) : MZ l G yX7_goes cX7_goes 5 (some .boolean) 5 138 [vr x0, vi x1] h (eIH r) := by
  unfold F_X7_goes at hr
  refine MZ.of (by decide) [(0, vr x0), (1, vi x1)] rfl (Nat.le_of_ble_eq_true rfl) (fun K O => ?_)
  have O : ZOk K cX7_goes RX7 "goes" 5 (some .boolean) 5 138 := O
  refine bs hr (fun _ hck hr => ?_)
  refine z_iconst O dX7_goes_0 kic_0 ?_
  refine z_istore_n O [(2, vi (0 : Int32)), (0, vr x0), (1, vi x1)] dX7_goes_1 rfl (by decide) rfl ?_
  refine z_iconst O dX7_goes_2 kic_0 ?_
  refine z_istore_n O [(3, vi (0 : Int32)), (2, vi (0 : Int32)), (0, vr x0), (1, vi x1)] dX7_goes_3 rfl (by decide) rfl ?_
  refine z_sub [2, 3, 1, 0] rfl ?_
  exact wX7_goes_4 O N x0 x1 _ (0 : Int32) (0 : Int32) h _ hr
theorem fV_X7_lay : CVf RX7 yX7_lay cX7_lay 5 (none : Option Jvm.ClassFile.FieldType) 1 := ⟨q1383, q1384, q135, q1385, ⟨⟨by decide +kernel, by decide +kernel⟩, by decide +kernel⟩⟩
def BX7_lay_101 (N : Nat) (rec89 : Int32 → AH → Option (AH)) (x0 : Option Nat) (x1 : Option Nat) (rec101 : Int32 → Int32 → AH → Option (AH)) : Int32 → Int32 → AH → Option (AH) := fun x3 x4 h =>
  if x4 ≤ 0 then
    rec89 x3 h
  else
    b2 (F_X7_goes N x0 x4 h) fun v2 h1 =>
    if v2 = 0 then
      if x3 = 0 then
        jlet (x4 + (-1 : Int32)) fun v4 =>
        rec101 (0 : Int32) v4 h1
      else
        jlet (x4 + (-1 : Int32)) fun v5 =>
        rec101 (1 : Int32) v5 h1
    else
      jlet (x4 + (-1 : Int32)) fun v3 =>
      rec101 (1 : Int32) v3 h1
def LX7_lay_101 (N : Nat) (rec89 : Int32 → AH → Option (AH)) (x0 : Option Nat) (x1 : Option Nat) : Int32 → Int32 → AH → Option (AH) := lf (fun _ _ _ => none) (BX7_lay_101 N rec89 x0 x1) N
theorem wX7_lay_101B {K : ZC} (O : ZOk K cX7_lay RX7 "lay" 5 (none : Option Jvm.ClassFile.FieldType) 6 162) (N : Nat) (rec89 : Int32 → AH → Option (AH)) (x0 : Option Nat) (x1 : Option Nat) (rec101 : Int32 → Int32 → AH → Option (AH)) (hrec89 : ∀ (y3 : Int32) (hy : AH) (ry : AH), rec89 y3 hy = some ry → Zw K (eH ry) hy 89 [(0, vr x0), (1, vr x1), (3, vi y3)] []) (hrec101 : ∀ (y3 : Int32) (y4 : Int32) (hy : AH) (ry : AH), rec101 y3 y4 hy = some ry → Zw K (eH ry) hy 101 [(0, vr x0), (1, vr x1), (3, vi y3), (4, vi y4)] []) (x3 : Int32) (x4 : Int32) (h : AH) (r : AH) (hr : BX7_lay_101 N rec89 x0 x1 rec101 x3 x4 h = some r) : Zw K (eH r) h 101 [(0, vr x0), (1, vr x1), (3, vi x3), (4, vi x4)] [] := by
  unfold BX7_lay_101 at hr
  refine z_iload O 3 dX7_lay_101 rfl ?_
  refine z_if_le (tgt := 131) O dX7_lay_103 (by decide) hr (fun hr => ?_) (fun hr => ?_)
  · refine z_goto (tgt := 89) O dX7_lay_131 (by decide) ?_
    refine z_sub [0, 1, 2] rfl ?_
    exact hrec89 x3 h _ hr
  · refine z_aload_n O 0 dX7_lay_106 rfl rfl ?_
    refine z_iload O 3 dX7_lay_107 rfl ?_
    refine b2s hr (fun v2 h1 hF hr => ?_)
    refine z_callV O [vi x4] (vi v2) fV_X7_goes q1402 (fun l G => mX7_goes l G N x0 x4 h _ hF) (zck hF) rfl rfl ⟨Nat.le_of_ble_eq_true rfl, Nat.le_of_ble_eq_true rfl⟩ (Nat.le_of_ble_eq_true rfl) dX7_lay_109 ?_
    refine z_if_ne (tgt := 119) O dX7_lay_112 (by decide) hr (fun hr => ?_) (fun hr => ?_)
    · refine z_iload_n O 2 dX7_lay_115 rfl rfl ?_
      refine z_if_eq (tgt := 123) O dX7_lay_116 (by decide) hr (fun hr => ?_) (fun hr => ?_)
      · refine z_iconst O dX7_lay_123 kic_0 ?_
        refine z_istore_n O [(3, vi (0 : Int32)), (0, vr x0), (1, vr x1), (4, vi x4)] dX7_lay_124 rfl (by decide) rfl ?_
        refine z_iincL O 3 (fun v4 => [(4, vi v4), (3, vi (0 : Int32)), (0, vr x0), (1, vr x1)]) dX7_lay_125 rfl rfl (by decide) (fun _ => rfl) hr (fun v4 hr => ?_)
        refine z_goto (tgt := 101) O dX7_lay_128 (by decide) ?_
        refine z_sub [2, 3, 1, 0] rfl ?_
        exact hrec101 (0 : Int32) v4 h1 _ hr
      · refine z_iconst O dX7_lay_119 kic_1 ?_
        refine z_goto (tgt := 124) O dX7_lay_120 (by decide) ?_
        refine z_istore_n O [(3, vi (1 : Int32)), (0, vr x0), (1, vr x1), (4, vi x4)] dX7_lay_124 rfl (by decide) rfl ?_
        refine z_iincL O 3 (fun v5 => [(4, vi v5), (3, vi (1 : Int32)), (0, vr x0), (1, vr x1)]) dX7_lay_125 rfl rfl (by decide) (fun _ => rfl) hr (fun v5 hr => ?_)
        refine z_goto (tgt := 101) O dX7_lay_128 (by decide) ?_
        refine z_sub [2, 3, 1, 0] rfl ?_
        exact hrec101 (1 : Int32) v5 h1 _ hr
    · refine z_iconst O dX7_lay_119 kic_1 ?_
      refine z_goto (tgt := 124) O dX7_lay_120 (by decide) ?_
      refine z_istore_n O [(3, vi (1 : Int32)), (0, vr x0), (1, vr x1), (4, vi x4)] dX7_lay_124 rfl (by decide) rfl ?_
      refine z_iincL O 3 (fun v3 => [(4, vi v3), (3, vi (1 : Int32)), (0, vr x0), (1, vr x1)]) dX7_lay_125 rfl rfl (by decide) (fun _ => rfl) hr (fun v3 hr => ?_)
      refine z_goto (tgt := 101) O dX7_lay_128 (by decide) ?_
      refine z_sub [2, 3, 1, 0] rfl ?_
      exact hrec101 (1 : Int32) v3 h1 _ hr
theorem wX7_lay_101 {K : ZC} (O : ZOk K cX7_lay RX7 "lay" 5 (none : Option Jvm.ClassFile.FieldType) 6 162) (N : Nat) (rec89 : Int32 → AH → Option (AH)) (x0 : Option Nat) (x1 : Option Nat) (hrec89 : ∀ (y3 : Int32) (hy : AH) (ry : AH), rec89 y3 hy = some ry → Zw K (eH ry) hy 89 [(0, vr x0), (1, vr x1), (3, vi y3)] []) : ∀ (n : Nat) (x3 : Int32) (x4 : Int32) (h : AH) (r : AH), lf (fun _ _ _ => none) (BX7_lay_101 N rec89 x0 x1) n x3 x4 h = some r → Zw K (eH r) h 101 [(0, vr x0), (1, vr x1), (3, vi x3), (4, vi x4)] [] := by
  intro n
  induction n with
  | zero => intro x3 x4 h r hr; cases hr
  | succ n ih => intro x3 x4 h r hr; exact wX7_lay_101B O N rec89 x0 x1 (lf (fun _ _ _ => none) (BX7_lay_101 N rec89 x0 x1) n) hrec89 ih x3 x4 h r hr
def BX7_lay_89 (N : Nat) (x0 : Option Nat) (x1 : Option Nat) (rec89 : Int32 → AH → Option (AH)) : Int32 → AH → Option (AH) := fun x3 h =>
  if x3 = 0 then
    some h
  else
    (gI h f_House_many x1).bind fun v1 =>
    LX7_lay_101 N rec89 x0 x1 (0 : Int32) v1 h
def LX7_lay_89 (N : Nat) (x0 : Option Nat) (x1 : Option Nat) : Int32 → AH → Option (AH) := lf (fun _ _ => none) (BX7_lay_89 N x0 x1) N
theorem wX7_lay_89B {K : ZC} (O : ZOk K cX7_lay RX7 "lay" 5 (none : Option Jvm.ClassFile.FieldType) 6 162) (N : Nat) (x0 : Option Nat) (x1 : Option Nat) (rec89 : Int32 → AH → Option (AH)) (hrec89 : ∀ (y3 : Int32) (hy : AH) (ry : AH), rec89 y3 hy = some ry → Zw K (eH ry) hy 89 [(0, vr x0), (1, vr x1), (3, vi y3)] []) (x3 : Int32) (h : AH) (r : AH) (hr : BX7_lay_89 N x0 x1 rec89 x3 h = some r) : Zw K (eH r) h 89 [(0, vr x0), (1, vr x1), (3, vi x3)] [] := by
  unfold BX7_lay_89 at hr
  refine z_iload_n O 2 dX7_lay_89 rfl rfl ?_
  refine z_if_eq (tgt := 134) O dX7_lay_90 (by decide) hr (fun hr => ?_) (fun hr => ?_)
  · exact z_vret O dX7_lay_134 (by cases hr; rfl)
  · refine z_iconst O dX7_lay_93 kic_0 ?_
    refine z_istore_n O [(3, vi (0 : Int32)), (0, vr x0), (1, vr x1)] dX7_lay_94 rfl (by decide) rfl ?_
    refine z_aload_n O 2 dX7_lay_95 rfl rfl ?_
    refine z_getI O o_House_many q312 dX7_lay_96 hr (fun v1 hr => ?_)
    refine z_istore O [(4, vi v1), (3, vi (0 : Int32)), (0, vr x0), (1, vr x1)] dX7_lay_99 (by decide) rfl ?_
    refine z_sub [2, 3, 1, 0] rfl ?_
    exact wX7_lay_101 O N rec89 x0 x1 hrec89 _ (0 : Int32) v1 h _ hr
theorem wX7_lay_89 {K : ZC} (O : ZOk K cX7_lay RX7 "lay" 5 (none : Option Jvm.ClassFile.FieldType) 6 162) (N : Nat) (x0 : Option Nat) (x1 : Option Nat) : ∀ (n : Nat) (x3 : Int32) (h : AH) (r : AH), lf (fun _ _ => none) (BX7_lay_89 N x0 x1) n x3 h = some r → Zw K (eH r) h 89 [(0, vr x0), (1, vr x1), (3, vi x3)] [] := by
  intro n
  induction n with
  | zero => intro x3 h r hr; cases hr
  | succ n ih => intro x3 h r hr; exact wX7_lay_89B O N x0 x1 (lf (fun _ _ => none) (BX7_lay_89 N x0 x1) n)  ih x3 h r hr
def BX7_lay_7 (N : Nat) (x0 : Option Nat) (x1 : Option Nat) (rec7 : Int32 → AH → Option (AH)) : Int32 → AH → Option (AH) := fun x2 h =>
  if (168 : Int32) ≤ x2 then
    (gI h f_House_many x1).bind fun v1 =>
    if v1 = 0 then
      some h
    else
      (gI h f_House_many x1).bind fun v2 =>
      (F_X5_skin x1 v2 h).bind fun v3 =>
      (gR h f_Through_best x0).bind fun v4 =>
      (gI h f_House_many x1).bind fun v5 =>
      (F_X7_first v5).bind fun v6 =>
      (gI h f_House_many x1).bind fun v7 =>
      (F_X5_doorOf x1 v7 h).bind fun v8 =>
      (F_X6_atDoor v3 h).bind fun v9 =>
      (F_X6_thick v3 h).bind fun v10 =>
      (sA h 0 v4 (v6 + v8) (jmin ((1000 : Int32) * v9) (((1000 : Int32) * v10) + (1 : Int32)))).bind fun h11 =>
      LX7_lay_89 N x0 x1 (1 : Int32) h11
  else
    (gR h f_Through_best x0).bind fun v12 =>
    (sA h 0 v12 x2 (100000000 : Int32)).bind fun h13 =>
    jlet (x2 + (1 : Int32)) fun v14 =>
    rec7 v14 h13
def LX7_lay_7 (N : Nat) (x0 : Option Nat) (x1 : Option Nat) : Int32 → AH → Option (AH) := lf (fun _ _ => none) (BX7_lay_7 N x0 x1) N
theorem wX7_lay_7B {K : ZC} (O : ZOk K cX7_lay RX7 "lay" 5 (none : Option Jvm.ClassFile.FieldType) 6 162) (N : Nat) (x0 : Option Nat) (x1 : Option Nat) (rec7 : Int32 → AH → Option (AH)) (hrec7 : ∀ (y2 : Int32) (hy : AH) (ry : AH), rec7 y2 hy = some ry → Zw K (eH ry) hy 7 [(0, vr x0), (1, vr x1), (2, vi y2)] []) (x2 : Int32) (h : AH) (r : AH) (hr : BX7_lay_7 N x0 x1 rec7 x2 h = some r) : Zw K (eH r) h 7 [(0, vr x0), (1, vr x1), (2, vi x2)] [] := by
  unfold BX7_lay_7 at hr
  refine z_iload_n O 2 dX7_lay_7 rfl rfl ?_
  refine z_sipush O dX7_lay_8 ksi_168 ?_
  refine z_icmp_ge (tgt := 28) O dX7_lay_11 (by decide) hr (fun hr => ?_) (fun hr => ?_)
  · refine z_aload_n O 1 dX7_lay_28 rfl rfl ?_
    refine z_getI O o_House_many q312 dX7_lay_29 hr (fun v1 hr => ?_)
    refine z_if_ne (tgt := 36) O dX7_lay_32 (by decide) hr (fun hr => ?_) (fun hr => ?_)
    · exact z_vret O dX7_lay_35 (by cases hr; rfl)
    · refine z_aload_n O 1 dX7_lay_36 rfl rfl ?_
      refine z_aload_n O 1 dX7_lay_37 rfl rfl ?_
      refine z_getI O o_House_many q312 dX7_lay_38 hr (fun v2 hr => ?_)
      refine bs hr (fun v3 hF hr => ?_)
      refine z_callV O [vi v2] (vr v3) fV_X5_skin q1387 (fun l G => mX5_skin l G x1 v2 h _ hF) (zck hF) rfl rfl ⟨Nat.le_of_ble_eq_true rfl, Nat.le_of_ble_eq_true rfl⟩ (Nat.le_of_ble_eq_true rfl) dX7_lay_41 ?_
      refine z_astore_n O [(2, vr v3), (0, vr x0), (1, vr x1)] dX7_lay_44 rfl (by decide) rfl ?_
      refine z_aload_n O 1 dX7_lay_45 rfl rfl ?_
      refine z_getR O o_Through_best q423 dX7_lay_46 hr (fun v4 hr => ?_)
      refine z_aload_n O 2 dX7_lay_49 rfl rfl ?_
      refine z_getI O o_House_many q312 dX7_lay_50 hr (fun v5 hr => ?_)
      refine bs hr (fun v6 hF hr => ?_)
      refine z_callS O [vi v5] (vi v6) fS_X7_first q1388 (fun l G => mX7_first l G v5 h _ hF) rfl ⟨Nat.le_of_ble_eq_true rfl, Nat.le_of_ble_eq_true rfl⟩ (Nat.le_of_ble_eq_true rfl) dX7_lay_53 ?_
      refine z_aload_n O 2 dX7_lay_56 rfl rfl ?_
      refine z_aload_n O 2 dX7_lay_57 rfl rfl ?_
      refine z_getI O o_House_many q312 dX7_lay_58 hr (fun v7 hr => ?_)
      refine bs hr (fun v8 hF hr => ?_)
      refine z_callV O [vi v7] (vi v8) fV_X5_doorOf q1391 (fun l G => mX5_doorOf l G x1 v7 h _ hF) (zck hF) rfl rfl ⟨Nat.le_of_ble_eq_true rfl, Nat.le_of_ble_eq_true rfl⟩ (Nat.le_of_ble_eq_true rfl) dX7_lay_61 ?_
      refine z_iadd O dX7_lay_64 ?_
      refine z_sipush O dX7_lay_65 ksi_1000 ?_
      refine z_aload_n O 0 dX7_lay_68 rfl rfl ?_
      refine bs hr (fun v9 hF hr => ?_)
      refine z_callV O [] (vi v9) fV_X6_atDoor q1392 (fun l G => mX6_atDoor l G v3 h _ hF) (zck hF) rfl rfl ⟨Nat.le_of_ble_eq_true rfl, Nat.le_of_ble_eq_true rfl⟩ (Nat.le_of_ble_eq_true rfl) dX7_lay_69 ?_
      refine z_imul O dX7_lay_72 ?_
      refine z_sipush O dX7_lay_73 ksi_1000 ?_
      refine z_aload_n O 0 dX7_lay_76 rfl rfl ?_
      refine bs hr (fun v10 hF hr => ?_)
      refine z_callV O [] (vi v10) fV_X6_thick q1396 (fun l G => mX6_thick l G v3 h _ hF) (zck hF) rfl rfl ⟨Nat.le_of_ble_eq_true rfl, Nat.le_of_ble_eq_true rfl⟩ (Nat.le_of_ble_eq_true rfl) dX7_lay_77 ?_
      refine z_imul O dX7_lay_80 ?_
      refine z_iconst O dX7_lay_81 kic_1 ?_
      refine z_iadd O dX7_lay_82 ?_
      refine z_mmin O q1401 ⟨Nat.le_of_ble_eq_true rfl, Nat.le_of_ble_eq_true rfl⟩ (Nat.le_of_ble_eq_true rfl) dX7_lay_83 ?_
      refine z_iastore O dX7_lay_86 hr (fun h11 hr => ?_)
      refine z_iconst O dX7_lay_87 kic_1 ?_
      refine z_istore_n O [(3, vi (1 : Int32)), (2, vr v3), (0, vr x0), (1, vr x1)] dX7_lay_88 rfl (by decide) rfl ?_
      refine z_sub [2, 3, 0] rfl ?_
      exact wX7_lay_89 O N x0 x1 _ (1 : Int32) h11 _ hr
  · refine z_aload_n O 0 dX7_lay_14 rfl rfl ?_
    refine z_getR O o_Through_best q423 dX7_lay_15 hr (fun v12 hr => ?_)
    refine z_iload_n O 2 dX7_lay_18 rfl rfl ?_
    refine z_ldc O q1386 dX7_lay_19 ?_
    refine z_iastore O dX7_lay_21 hr (fun h13 hr => ?_)
    refine z_iincL O 2 (fun v14 => [(2, vi v14), (0, vr x0), (1, vr x1)]) dX7_lay_22 rfl rfl (by decide) (fun _ => rfl) hr (fun v14 hr => ?_)
    refine z_goto (tgt := 7) O dX7_lay_25 (by decide) ?_
    refine z_sub [1, 2, 0] rfl ?_
    exact hrec7 v14 h13 _ hr
theorem wX7_lay_7 {K : ZC} (O : ZOk K cX7_lay RX7 "lay" 5 (none : Option Jvm.ClassFile.FieldType) 6 162) (N : Nat) (x0 : Option Nat) (x1 : Option Nat) : ∀ (n : Nat) (x2 : Int32) (h : AH) (r : AH), lf (fun _ _ => none) (BX7_lay_7 N x0 x1) n x2 h = some r → Zw K (eH r) h 7 [(0, vr x0), (1, vr x1), (2, vi x2)] [] := by
  intro n
  induction n with
  | zero => intro x2 h r hr; cases hr
  | succ n ih => intro x2 h r hr; exact wX7_lay_7B O N x0 x1 (lf (fun _ _ => none) (BX7_lay_7 N x0 x1) n)  ih x2 h r hr
def F_X7_lay (N : Nat) (x0 : Option Nat) (x1 : Option Nat) (h : AH) : Option (AH) :=
  (ck h [7] x0).bind fun _ =>
  (pR h f_Through_house x0 x1).bind fun h1 =>
  LX7_lay_7 N x0 x1 (0 : Int32) h1
theorem mX7_lay (l : Launch) (G : ZG) (N : Nat) (x0 : Option Nat) (x1 : Option Nat) (h : AH) (r : AH) (hr : F_X7_lay N x0 x1 h = some r) : MZ l G yX7_lay cX7_lay 5 (none : Option Jvm.ClassFile.FieldType) 6 162 [vr x0, vr x1] h (eH r) := by
  unfold F_X7_lay at hr
  refine MZ.of (by decide) [(0, vr x0), (1, vr x1)] rfl (Nat.le_of_ble_eq_true rfl) (fun K O => ?_)
  have O : ZOk K cX7_lay RX7 "lay" 5 (none : Option Jvm.ClassFile.FieldType) 6 162 := O
  refine bs hr (fun _ hck hr => ?_)
  refine z_aload_n O 0 dX7_lay_0 rfl rfl ?_
  refine z_aload_n O 1 dX7_lay_1 rfl rfl ?_
  refine z_putR O rfl o_Through_house (w_Through_house _) q424 dX7_lay_2 hr (fun h1 hr => ?_)
  refine z_iconst O dX7_lay_5 kic_0 ?_
  refine z_istore_n O [(2, vi (0 : Int32)), (0, vr x0), (1, vr x1)] dX7_lay_6 rfl (by decide) rfl ?_
  refine z_sub [1, 2, 0] rfl ?_
  exact wX7_lay_7 O N x0 x1 _ (0 : Int32) h1 _ hr
