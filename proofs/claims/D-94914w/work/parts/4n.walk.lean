set_option maxRecDepth 100000
set_option maxHeartbeats 4000000
theorem fV_X9_isWall : CVf RX9 yX9_isWall cX9_isWall 2 (some .boolean) 1 := ⟨q2549, qs121, q137, q2550, ⟨⟨by decide +kernel, by decide +kernel⟩, by decide +kernel⟩⟩
def F_X9_isWall (x0 : Option Nat) (x1 : Int32) (h : AH) : Option (Int32) :=
  (ck h [9] x0).bind fun _ =>
  (gR h f_Model_land x0).bind fun v1 =>
  if v1 = none then
    zb (0 : Int32)
  else
    if x1 < 0 then
      zb (0 : Int32)
    else
      (gR h f_Model_land x0).bind fun v2 =>
      (gI h f_MLand_walls v2).bind fun v3 =>
      if v3 ≤ x1 then
        zb (0 : Int32)
      else
        zb (1 : Int32)
theorem mX9_isWall (l : Launch) (G : ZG) (x0 : Option Nat) (x1 : Int32) (h : AH) (r : Int32) (hr : F_X9_isWall x0 x1 h = some r) : MZ l G yX9_isWall cX9_isWall 2 (some .boolean) 1 48 [vr x0, vi x1] h (eI h r) := by
  unfold F_X9_isWall at hr
  refine MZ.of (by decide) [(0, vr x0), (1, vi x1)] rfl (Nat.le_of_ble_eq_true rfl) (fun K O => ?_)
  have O : ZOk K cX9_isWall RX9 "isWall" 2 (some .boolean) 1 48 := O
  refine bs hr (fun _ hck hr => ?_)
  refine z_aload_n O 0 dX9_isWall_0 rfl rfl ?_
  refine z_getR O o_Model_land q1765 dX9_isWall_1 hr (fun v1 hr => ?_)
  refine z_ifnull (tgt := 26) O dX9_isWall_4 (by decide) hr (fun hr => ?_) (fun hr => ?_)
  · refine z_iconst O dX9_isWall_26 kic_0 ?_
    obtain ⟨e1, e2, -⟩ := zb_spec hr
    exact z_zret O e2 dX9_isWall_27 (by cases e1; rfl)
  · refine z_iload_n O 1 dX9_isWall_7 rfl rfl ?_
    refine z_if_lt (tgt := 26) O dX9_isWall_8 (by decide) hr (fun hr => ?_) (fun hr => ?_)
    · refine z_iconst O dX9_isWall_26 kic_0 ?_
      obtain ⟨e1, e2, -⟩ := zb_spec hr
      exact z_zret O e2 dX9_isWall_27 (by cases e1; rfl)
    · refine z_iload_n O 1 dX9_isWall_11 rfl rfl ?_
      refine z_aload_n O 0 dX9_isWall_12 rfl rfl ?_
      refine z_getR O o_Model_land q1765 dX9_isWall_13 hr (fun v2 hr => ?_)
      refine z_getIN O o_MLand_walls zn1909 dX9_isWall_16 hr (fun v3 hr => ?_)
      refine z_icmp_ge (tgt := 26) O dX9_isWall_19 (by decide) hr (fun hr => ?_) (fun hr => ?_)
      · refine z_iconst O dX9_isWall_26 kic_0 ?_
        obtain ⟨e1, e2, -⟩ := zb_spec hr
        exact z_zret O e2 dX9_isWall_27 (by cases e1; rfl)
      · refine z_iconst O dX9_isWall_22 kic_1 ?_
        refine z_goto (tgt := 27) O dX9_isWall_23 (by decide) ?_
        obtain ⟨e1, e2, -⟩ := zb_spec hr
        exact z_zret O e2 dX9_isWall_27 (by cases e1; rfl)
theorem fV_X9_latest : CVf RX9 yX9_latest cX9_latest 2 (some .int) 1 := ⟨q2556, q2557, q137, q2558, ⟨⟨by decide +kernel, by decide +kernel⟩, by decide +kernel⟩⟩
def F_X9_latest (N : Nat) (x0 : Option Nat) (x1 : Int32) (h : AH) : Option (Int32 × AH) :=
  (ck h [9] x0).bind fun _ =>
  (pI h f_Model_thrown x0 (0 : Int32)).bind fun h1 =>
  (F_X9_isWall x0 x1 h1).bind fun v2 =>
  if v2 = 0 then
    b2 (F_X9_refused x0 (1 : Int32) h1) fun v9 h8 =>
    some (v9, h8)
  else
    (F_X9_findsOrders N x0 (-1 : Int32) h1).bind fun h3 =>
    (gR h3 f_Model_latest x0).bind fun v4 =>
    (aI h3 0 v4 x1).bind fun v5 =>
    b2 (F_X9_good x0 v5 h3) fun v7 h6 =>
    some (v7, h6)
theorem mX9_latest (l : Launch) (G : ZG) (N : Nat) (x0 : Option Nat) (x1 : Int32) (h : AH) (r : Int32 × AH) (hr : F_X9_latest N x0 x1 h = some r) : MZ l G yX9_latest cX9_latest 2 (some .int) 5 139 [vr x0, vi x1] h (eIH r) := by
  unfold F_X9_latest at hr
  refine MZ.of (by decide) [(0, vr x0), (1, vi x1)] rfl (Nat.le_of_ble_eq_true rfl) (fun K O => ?_)
  have O : ZOk K cX9_latest RX9 "latest" 2 (some .int) 5 139 := O
  refine bs hr (fun _ hck hr => ?_)
  refine z_aload_n O 0 dX9_latest_0 rfl rfl ?_
  refine z_iconst O dX9_latest_1 kic_0 ?_
  refine z_putI O o_Model_thrown (w_Model_thrown _) q1762 dX9_latest_2 hr (fun h1 hr => ?_)
  refine z_aload_n O 0 dX9_latest_5 rfl rfl ?_
  refine z_iload_n O 1 dX9_latest_6 rfl rfl ?_
  refine bs hr (fun v2 hF hr => ?_)
  refine z_callV O [vi x1] (vi v2) fV_X9_isWall q2547 (fun l G => mX9_isWall l G x0 x1 h1 _ hF) (zck hF) rfl rfl ⟨Nat.le_of_ble_eq_true rfl, Nat.le_of_ble_eq_true rfl⟩ (Nat.le_of_ble_eq_true rfl) dX9_latest_7 ?_
  refine z_if_ne (tgt := 19) O dX9_latest_10 (by decide) hr (fun hr => ?_) (fun hr => ?_)
  · refine z_aload_n O 0 dX9_latest_13 rfl rfl ?_
    refine z_iconst O dX9_latest_14 kic_1 ?_
    refine b2s hr (fun v9 h8 hF hr => ?_)
    refine z_callV O [vi (1 : Int32)] (vi v9) fV_X9_refused q1886 (fun l G => mX9_refused l G x0 (1 : Int32) h1 _ hF) (zck hF) rfl rfl ⟨Nat.le_of_ble_eq_true rfl, Nat.le_of_ble_eq_true rfl⟩ (Nat.le_of_ble_eq_true rfl) dX9_latest_15 ?_
    exact z_iret O dX9_latest_18 (by cases hr; rfl)
  · refine z_aload_n O 0 dX9_latest_19 rfl rfl ?_
    refine z_iconst O dX9_latest_20 kic_m1 ?_
    refine bs hr (fun h3 hF hr => ?_)
    refine z_callVv O [vi (-1 : Int32)] fV_X9_findsOrders q2531 (fun l G => mX9_findsOrders l G N x0 (-1 : Int32) h1 _ hF) (zck hF) rfl rfl ⟨Nat.le_of_ble_eq_true rfl, Nat.le_of_ble_eq_true rfl⟩ (Nat.le_of_ble_eq_true rfl) dX9_latest_21 ?_
    refine z_aload_n O 0 dX9_latest_24 rfl rfl ?_
    refine z_aload_n O 0 dX9_latest_25 rfl rfl ?_
    refine z_getR O o_Model_latest q1793 dX9_latest_26 hr (fun v4 hr => ?_)
    refine z_iload_n O 1 dX9_latest_29 rfl rfl ?_
    refine z_iaload O dX9_latest_30 hr (fun v5 hr => ?_)
    refine b2s hr (fun v7 h6 hF hr => ?_)
    refine z_callV O [vi v5] (vi v7) fV_X9_good q2249 (fun l G => mX9_good l G x0 v5 h3 _ hF) (zck hF) rfl rfl ⟨Nat.le_of_ble_eq_true rfl, Nat.le_of_ble_eq_true rfl⟩ (Nat.le_of_ble_eq_true rfl) dX9_latest_31 ?_
    exact z_iret O dX9_latest_34 (by cases hr; rfl)
theorem fV_X9_led : CVf RX9 yX9_led cX9_led 4 (some .int) 1 := ⟨q2624, q2625, q137, q2626, ⟨⟨by decide +kernel, by decide +kernel⟩, by decide +kernel⟩⟩
def BX9_led_9 (N : Nat) (x0 : Option Nat) (x1 : Int32) (rec9 : Int32 → Int32 → AH → Option (Int32 × AH)) : Int32 → Int32 → AH → Option (Int32 × AH) := fun x2 x3 h =>
  (gR h f_Model_land x0).bind fun v1 =>
  if v1 = none then
    (pI h f_Model_thrown x0 (1 : Int32)).bind fun h2 =>
    some ((0 : Int32), h2)
  else
    (gR h f_Model_land x0).bind fun v3 =>
    (gI h f_MLand_houses v3).bind fun v4 =>
    if v4 ≤ x3 then
      (pI h f_Model_thrown x0 (1 : Int32)).bind fun h5 =>
      some ((0 : Int32), h5)
    else
      (gR h f_Model_v x0).bind fun v6 =>
      (F_X9_isShut N x0 v6 x3 h).bind fun v7 =>
      if v7 = 0 then
        jlet (x3 + (1 : Int32)) fun v10 =>
        rec9 x2 v10 h
      else
        if x2 = x1 then
          some (x3, h)
        else
          jlet (x2 + (1 : Int32)) fun v8 =>
          jlet (x3 + (1 : Int32)) fun v9 =>
          rec9 v8 v9 h
def LX9_led_9 (N : Nat) (x0 : Option Nat) (x1 : Int32) : Int32 → Int32 → AH → Option (Int32 × AH) := lf (fun _ _ _ => none) (BX9_led_9 N x0 x1) N
theorem wX9_led_9B {K : ZC} (O : ZOk K cX9_led RX9 "led" 4 (some .int) 6 169) (N : Nat) (x0 : Option Nat) (x1 : Int32) (rec9 : Int32 → Int32 → AH → Option (Int32 × AH)) (hrec9 : ∀ (y2 : Int32) (y3 : Int32) (hy : AH) (ry : Int32 × AH), rec9 y2 y3 hy = some ry → Zw K (eIH ry) hy 9 [(0, vr x0), (1, vi x1), (2, vi y2), (3, vi y3)] []) (x2 : Int32) (x3 : Int32) (h : AH) (r : Int32 × AH) (hr : BX9_led_9 N x0 x1 rec9 x2 x3 h = some r) : Zw K (eIH r) h 9 [(0, vr x0), (1, vi x1), (2, vi x2), (3, vi x3)] [] := by
  unfold BX9_led_9 at hr
  refine z_aload_n O 0 dX9_led_9 rfl rfl ?_
  refine z_getR O o_Model_land q1765 dX9_led_10 hr (fun v1 hr => ?_)
  refine z_ifnull (tgt := 58) O dX9_led_13 (by decide) hr (fun hr => ?_) (fun hr => ?_)
  · refine z_aload_n O 0 dX9_led_58 rfl rfl ?_
    refine z_iconst O dX9_led_59 kic_1 ?_
    refine z_putI O o_Model_thrown (w_Model_thrown _) q1762 dX9_led_60 hr (fun h2 hr => ?_)
    refine z_iconst O dX9_led_63 kic_0 ?_
    exact z_iret O dX9_led_64 (by cases hr; rfl)
  · refine z_iload_n O 3 dX9_led_16 rfl rfl ?_
    refine z_aload_n O 0 dX9_led_17 rfl rfl ?_
    refine z_getR O o_Model_land q1765 dX9_led_18 hr (fun v3 hr => ?_)
    refine z_getIN O o_MLand_houses zn1907 dX9_led_21 hr (fun v4 hr => ?_)
    refine z_icmp_ge (tgt := 58) O dX9_led_24 (by decide) hr (fun hr => ?_) (fun hr => ?_)
    · refine z_aload_n O 0 dX9_led_58 rfl rfl ?_
      refine z_iconst O dX9_led_59 kic_1 ?_
      refine z_putI O o_Model_thrown (w_Model_thrown _) q1762 dX9_led_60 hr (fun h5 hr => ?_)
      refine z_iconst O dX9_led_63 kic_0 ?_
      exact z_iret O dX9_led_64 (by cases hr; rfl)
    · refine z_aload_n O 0 dX9_led_27 rfl rfl ?_
      refine z_aload_n O 0 dX9_led_28 rfl rfl ?_
      refine z_getR O o_Model_v q1778 dX9_led_29 hr (fun v6 hr => ?_)
      refine z_iload_n O 3 dX9_led_32 rfl rfl ?_
      refine bs hr (fun v7 hF hr => ?_)
      refine z_callV O [vr v6, vi x3] (vi v7) fV_X9_isShut q2296 (fun l G => mX9_isShut l G N x0 v6 x3 h _ hF) (zck hF) rfl rfl ⟨Nat.le_of_ble_eq_true rfl, Nat.le_of_ble_eq_true rfl⟩ (Nat.le_of_ble_eq_true rfl) dX9_led_33 ?_
      refine z_if_ne (tgt := 42) O dX9_led_36 (by decide) hr (fun hr => ?_) (fun hr => ?_)
      · refine z_goto (tgt := 52) O dX9_led_39 (by decide) ?_
        refine z_iincL O 3 (fun v10 => [(3, vi v10), (0, vr x0), (1, vi x1), (2, vi x2)]) dX9_led_52 rfl rfl (by decide) (fun _ => rfl) hr (fun v10 hr => ?_)
        refine z_goto (tgt := 9) O dX9_led_55 (by decide) ?_
        refine z_sub [1, 2, 3, 0] rfl ?_
        exact hrec9 x2 v10 h _ hr
      · refine z_iload_n O 2 dX9_led_42 rfl rfl ?_
        refine z_iload_n O 1 dX9_led_43 rfl rfl ?_
        refine z_icmp_ne (tgt := 49) O dX9_led_44 (by decide) hr (fun hr => ?_) (fun hr => ?_)
        · refine z_iload_n O 3 dX9_led_47 rfl rfl ?_
          exact z_iret O dX9_led_48 (by cases hr; rfl)
        · refine z_iincL O 2 (fun v8 => [(2, vi v8), (0, vr x0), (1, vi x1), (3, vi x3)]) dX9_led_49 rfl rfl (by decide) (fun _ => rfl) hr (fun v8 hr => ?_)
          refine z_iincL O 3 (fun v9 => [(3, vi v9), (2, vi v8), (0, vr x0), (1, vi x1)]) dX9_led_52 rfl rfl (by decide) (fun _ => rfl) hr (fun v9 hr => ?_)
          refine z_goto (tgt := 9) O dX9_led_55 (by decide) ?_
          refine z_sub [2, 3, 1, 0] rfl ?_
          exact hrec9 v8 v9 h _ hr
theorem wX9_led_9 {K : ZC} (O : ZOk K cX9_led RX9 "led" 4 (some .int) 6 169) (N : Nat) (x0 : Option Nat) (x1 : Int32) : ∀ (n : Nat) (x2 : Int32) (x3 : Int32) (h : AH) (r : Int32 × AH), lf (fun _ _ _ => none) (BX9_led_9 N x0 x1) n x2 x3 h = some r → Zw K (eIH r) h 9 [(0, vr x0), (1, vi x1), (2, vi x2), (3, vi x3)] [] := by
  intro n
  induction n with
  | zero => intro x2 x3 h r hr; cases hr
  | succ n ih => intro x2 x3 h r hr; exact wX9_led_9B O N x0 x1 (lf (fun _ _ _ => none) (BX9_led_9 N x0 x1) n)  ih x2 x3 h r hr
def F_X9_led (N : Nat) (x0 : Option Nat) (x1 : Int32) (h : AH) : Option (Int32 × AH) :=
  (ck h [9] x0).bind fun _ =>
  (pI h f_Model_thrown x0 (0 : Int32)).bind fun h1 =>
  LX9_led_9 N x0 x1 (0 : Int32) (0 : Int32) h1
theorem mX9_led (l : Launch) (G : ZG) (N : Nat) (x0 : Option Nat) (x1 : Int32) (h : AH) (r : Int32 × AH) (hr : F_X9_led N x0 x1 h = some r) : MZ l G yX9_led cX9_led 4 (some .int) 6 169 [vr x0, vi x1] h (eIH r) := by
  unfold F_X9_led at hr
  refine MZ.of (by decide) [(0, vr x0), (1, vi x1)] rfl (Nat.le_of_ble_eq_true rfl) (fun K O => ?_)
  have O : ZOk K cX9_led RX9 "led" 4 (some .int) 6 169 := O
  refine bs hr (fun _ hck hr => ?_)
  refine z_aload_n O 0 dX9_led_0 rfl rfl ?_
  refine z_iconst O dX9_led_1 kic_0 ?_
  refine z_putI O o_Model_thrown (w_Model_thrown _) q1762 dX9_led_2 hr (fun h1 hr => ?_)
  refine z_iconst O dX9_led_5 kic_0 ?_
  refine z_istore_n O [(2, vi (0 : Int32)), (0, vr x0), (1, vi x1)] dX9_led_6 rfl (by decide) rfl ?_
  refine z_iconst O dX9_led_7 kic_0 ?_
  refine z_istore_n O [(3, vi (0 : Int32)), (2, vi (0 : Int32)), (0, vr x0), (1, vi x1)] dX9_led_8 rfl (by decide) rfl ?_
  refine z_sub [2, 3, 1, 0] rfl ?_
  exact wX9_led_9 O N x0 x1 _ (0 : Int32) (0 : Int32) h1 _ hr
theorem fV_X9_light : CVf RX9 yX9_light cX9_light 4 (some .int) 2 := ⟨q2336, q2337, q137, q2338, ⟨⟨by decide +kernel, by decide +kernel⟩, by decide +kernel⟩⟩
def F_X9_light (x0 : Option Nat) (x1 : Int32) (x2 : Int32) (h : AH) : Option (Int32 × AH) :=
  (ck h [9] x0).bind fun _ =>
  (pI h f_Model_thrown x0 (0 : Int32)).bind fun h1 =>
  (F_X9_isDepth x0 x1 x2 h1).bind fun v2 =>
  if v2 = 0 then
    b2 (F_X9_refused x0 (1 : Int32) h1) fun v11 h10 =>
    some (v11, h10)
  else
    (gR h1 f_Model_v x0).bind fun v3 =>
    (aI h1 0 v3 ((0 : Int32) + x1)).bind fun v4 =>
    jlet ((9 : Int32) - ((3 : Int32) * (v4 - x2))) fun v5 =>
    if v5 ≤ 0 then
      b2 (F_X9_good x0 (0 : Int32) h1) fun v7 h6 =>
      some (v7, h6)
    else
      b2 (F_X9_good x0 v5 h1) fun v9 h8 =>
      some (v9, h8)
theorem mX9_light (l : Launch) (G : ZG) (x0 : Option Nat) (x1 : Int32) (x2 : Int32) (h : AH) (r : Int32 × AH) (hr : F_X9_light x0 x1 x2 h = some r) : MZ l G yX9_light cX9_light 4 (some .int) 3 91 [vr x0, vi x1, vi x2] h (eIH r) := by
  unfold F_X9_light at hr
  refine MZ.of (by decide) [(0, vr x0), (1, vi x1), (2, vi x2)] rfl (Nat.le_of_ble_eq_true rfl) (fun K O => ?_)
  have O : ZOk K cX9_light RX9 "light" 4 (some .int) 3 91 := O
  refine bs hr (fun _ hck hr => ?_)
  refine z_aload_n O 0 dX9_light_0 rfl rfl ?_
  refine z_iconst O dX9_light_1 kic_0 ?_
  refine z_putI O o_Model_thrown (w_Model_thrown _) q1762 dX9_light_2 hr (fun h1 hr => ?_)
  refine z_aload_n O 0 dX9_light_5 rfl rfl ?_
  refine z_iload_n O 1 dX9_light_6 rfl rfl ?_
  refine z_iload_n O 2 dX9_light_7 rfl rfl ?_
  refine bs hr (fun v2 hF hr => ?_)
  refine z_callV O [vi x1, vi x2] (vi v2) fV_X9_isDepth q2327 (fun l G => mX9_isDepth l G x0 x1 x2 h1 _ hF) (zck hF) rfl rfl ⟨Nat.le_of_ble_eq_true rfl, Nat.le_of_ble_eq_true rfl⟩ (Nat.le_of_ble_eq_true rfl) dX9_light_8 ?_
  refine z_if_ne (tgt := 20) O dX9_light_11 (by decide) hr (fun hr => ?_) (fun hr => ?_)
  · refine z_aload_n O 0 dX9_light_14 rfl rfl ?_
    refine z_iconst O dX9_light_15 kic_1 ?_
    refine b2s hr (fun v11 h10 hF hr => ?_)
    refine z_callV O [vi (1 : Int32)] (vi v11) fV_X9_refused q1886 (fun l G => mX9_refused l G x0 (1 : Int32) h1 _ hF) (zck hF) rfl rfl ⟨Nat.le_of_ble_eq_true rfl, Nat.le_of_ble_eq_true rfl⟩ (Nat.le_of_ble_eq_true rfl) dX9_light_16 ?_
    exact z_iret O dX9_light_19 (by cases hr; rfl)
  · refine z_bipush O dX9_light_20 kbi_9 ?_
    refine z_iconst O dX9_light_22 kic_3 ?_
    refine z_aload_n O 0 dX9_light_23 rfl rfl ?_
    refine z_getR O o_Model_v q1778 dX9_light_24 hr (fun v3 hr => ?_)
    refine z_iconst O dX9_light_27 kic_0 ?_
    refine z_iload_n O 1 dX9_light_28 rfl rfl ?_
    refine z_iadd O dX9_light_29 ?_
    refine z_iaload O dX9_light_30 hr (fun v4 hr => ?_)
    refine z_iload_n O 2 dX9_light_31 rfl rfl ?_
    refine z_isub O dX9_light_32 ?_
    refine z_imul O dX9_light_33 ?_
    refine z_isub O dX9_light_34 ?_
    refine z_letI hr (fun v5 hr => ?_)
    refine z_istore_n O [(3, vi v5), (0, vr x0), (1, vi x1), (2, vi x2)] dX9_light_35 rfl (by decide) rfl ?_
    refine z_aload_n O 1 dX9_light_36 rfl rfl ?_
    refine z_iload_n O 0 dX9_light_37 rfl rfl ?_
    refine z_if_le (tgt := 45) O dX9_light_38 (by decide) hr (fun hr => ?_) (fun hr => ?_)
    · refine z_iconst O dX9_light_45 kic_0 ?_
      refine b2s hr (fun v7 h6 hF hr => ?_)
      refine z_callV O [vi (0 : Int32)] (vi v7) fV_X9_good q2249 (fun l G => mX9_good l G x0 (0 : Int32) h1 _ hF) (zck hF) rfl rfl ⟨Nat.le_of_ble_eq_true rfl, Nat.le_of_ble_eq_true rfl⟩ (Nat.le_of_ble_eq_true rfl) dX9_light_46 ?_
      exact z_iret O dX9_light_49 (by cases hr; rfl)
    · refine z_iload_n O 0 dX9_light_41 rfl rfl ?_
      refine z_goto (tgt := 46) O dX9_light_42 (by decide) ?_
      refine b2s hr (fun v9 h8 hF hr => ?_)
      refine z_callV O [vi v5] (vi v9) fV_X9_good q2249 (fun l G => mX9_good l G x0 v5 h1 _ hF) (zck hF) rfl rfl ⟨Nat.le_of_ble_eq_true rfl, Nat.le_of_ble_eq_true rfl⟩ (Nat.le_of_ble_eq_true rfl) dX9_light_46 ?_
      exact z_iret O dX9_light_49 (by cases hr; rfl)
theorem fV_X9_lock : CVf RX9 yX9_lock cX9_lock 4 (some .boolean) 3 := ⟨q2592, q2593, q137, q2594, ⟨⟨by decide +kernel, by decide +kernel⟩, by decide +kernel⟩⟩
def F_X9_lock (N : Nat) (x0 : Option Nat) (x1 : Int32) (x2 : Int32) (x3 : Int32) (h : AH) : Option (Int32 × AH) :=
  (ck h [9] x0).bind fun _ =>
  (pI h f_Model_thrown x0 (0 : Int32)).bind fun h1 =>
  (F_X9_isSkin x0 x1 x2 h1).bind fun v2 =>
  if v2 = 0 then
    b2 (F_X9_denied x0 (1 : Int32) h1) fun v21 h20 =>
    (zb v21).bind fun v22 => some (v22, h20)
  else
    (F_X9_within x3 (0 : Int32) (99 : Int32)).bind fun v3 =>
    if v3 = 0 then
      b2 (F_X9_denied x0 (2 : Int32) h1) fun v18 h17 =>
      (zb v18).bind fun v19 => some (v19, h17)
    else
      (gR h1 f_Model_v x0).bind fun v4 =>
      (F_X9_part x1 x2 (3 : Int32)).bind fun v5 =>
      (aI h1 0 v4 v5).bind fun v6 =>
      if v6 = x3 then
        b2 (F_X9_denied x0 (5 : Int32) h1) fun v15 h14 =>
        (zb v15).bind fun v16 => some (v16, h14)
      else
        (F_X9_keeps N x0 h1).bind fun h7 =>
        (gR h7 f_Model_v x0).bind fun v8 =>
        (F_X9_part x1 x2 (3 : Int32)).bind fun v9 =>
        (sA h7 0 v8 v9 x3).bind fun h10 =>
        b2 (F_X9_granted x0 h10) fun v12 h11 =>
        (zb v12).bind fun v13 => some (v13, h11)
theorem mX9_lock (l : Launch) (G : ZG) (N : Nat) (x0 : Option Nat) (x1 : Int32) (x2 : Int32) (x3 : Int32) (h : AH) (r : Int32 × AH) (hr : F_X9_lock N x0 x1 x2 x3 h = some r) : MZ l G yX9_lock cX9_lock 4 (some .boolean) 3 91 [vr x0, vi x1, vi x2, vi x3] h (eIH r) := by
  unfold F_X9_lock at hr
  refine MZ.of (by decide) [(0, vr x0), (1, vi x1), (2, vi x2), (3, vi x3)] rfl (Nat.le_of_ble_eq_true rfl) (fun K O => ?_)
  have O : ZOk K cX9_lock RX9 "lock" 4 (some .boolean) 3 91 := O
  refine bs hr (fun _ hck hr => ?_)
  refine z_aload_n O 0 dX9_lock_0 rfl rfl ?_
  refine z_iconst O dX9_lock_1 kic_0 ?_
  refine z_putI O o_Model_thrown (w_Model_thrown _) q1762 dX9_lock_2 hr (fun h1 hr => ?_)
  refine z_aload_n O 0 dX9_lock_5 rfl rfl ?_
  refine z_iload_n O 1 dX9_lock_6 rfl rfl ?_
  refine z_iload_n O 2 dX9_lock_7 rfl rfl ?_
  refine bs hr (fun v2 hF hr => ?_)
  refine z_callV O [vi x1, vi x2] (vi v2) fV_X9_isSkin q2319 (fun l G => mX9_isSkin l G x0 x1 x2 h1 _ hF) (zck hF) rfl rfl ⟨Nat.le_of_ble_eq_true rfl, Nat.le_of_ble_eq_true rfl⟩ (Nat.le_of_ble_eq_true rfl) dX9_lock_8 ?_
  refine z_if_ne (tgt := 20) O dX9_lock_11 (by decide) hr (fun hr => ?_) (fun hr => ?_)
  · refine z_aload_n O 0 dX9_lock_14 rfl rfl ?_
    refine z_iconst O dX9_lock_15 kic_1 ?_
    refine b2s hr (fun v21 h20 hF hr => ?_)
    refine z_callV O [vi (1 : Int32)] (vi v21) fV_X9_denied q2579 (fun l G => mX9_denied l G x0 (1 : Int32) h1 _ hF) (zck hF) rfl rfl ⟨Nat.le_of_ble_eq_true rfl, Nat.le_of_ble_eq_true rfl⟩ (Nat.le_of_ble_eq_true rfl) dX9_lock_16 ?_
    refine bs hr (fun v22 e0 hr => ?_)
    obtain ⟨e1, e2, -⟩ := zb_spec e0
    exact z_zret O e2 dX9_lock_19 (by cases hr; cases e1; rfl)
  · refine z_iload_n O 3 dX9_lock_20 rfl rfl ?_
    refine z_iconst O dX9_lock_21 kic_0 ?_
    refine z_bipush O dX9_lock_22 kbi_99 ?_
    refine bs hr (fun v3 hF hr => ?_)
    refine z_callS O [vi x3, vi (0 : Int32), vi (99 : Int32)] (vi v3) fS_X9_within q2096 (fun l G => mX9_within l G x3 (0 : Int32) (99 : Int32) h1 _ hF) rfl ⟨Nat.le_of_ble_eq_true rfl, Nat.le_of_ble_eq_true rfl⟩ (Nat.le_of_ble_eq_true rfl) dX9_lock_24 ?_
    refine z_if_ne (tgt := 36) O dX9_lock_27 (by decide) hr (fun hr => ?_) (fun hr => ?_)
    · refine z_aload_n O 0 dX9_lock_30 rfl rfl ?_
      refine z_iconst O dX9_lock_31 kic_2 ?_
      refine b2s hr (fun v18 h17 hF hr => ?_)
      refine z_callV O [vi (2 : Int32)] (vi v18) fV_X9_denied q2579 (fun l G => mX9_denied l G x0 (2 : Int32) h1 _ hF) (zck hF) rfl rfl ⟨Nat.le_of_ble_eq_true rfl, Nat.le_of_ble_eq_true rfl⟩ (Nat.le_of_ble_eq_true rfl) dX9_lock_32 ?_
      refine bs hr (fun v19 e0 hr => ?_)
      obtain ⟨e1, e2, -⟩ := zb_spec e0
      exact z_zret O e2 dX9_lock_35 (by cases hr; cases e1; rfl)
    · refine z_aload_n O 0 dX9_lock_36 rfl rfl ?_
      refine z_getR O o_Model_v q1778 dX9_lock_37 hr (fun v4 hr => ?_)
      refine z_iload_n O 1 dX9_lock_40 rfl rfl ?_
      refine z_iload_n O 2 dX9_lock_41 rfl rfl ?_
      refine z_iconst O dX9_lock_42 kic_3 ?_
      refine bs hr (fun v5 hF hr => ?_)
      refine z_callS O [vi x1, vi x2, vi (3 : Int32)] (vi v5) fS_X9_part q2223 (fun l G => mX9_part l G x1 x2 (3 : Int32) h1 _ hF) rfl ⟨Nat.le_of_ble_eq_true rfl, Nat.le_of_ble_eq_true rfl⟩ (Nat.le_of_ble_eq_true rfl) dX9_lock_43 ?_
      refine z_iaload O dX9_lock_46 hr (fun v6 hr => ?_)
      refine z_iload_n O 3 dX9_lock_47 rfl rfl ?_
      refine z_icmp_ne (tgt := 57) O dX9_lock_48 (by decide) hr (fun hr => ?_) (fun hr => ?_)
      · refine z_aload_n O 0 dX9_lock_51 rfl rfl ?_
        refine z_iconst O dX9_lock_52 kic_5 ?_
        refine b2s hr (fun v15 h14 hF hr => ?_)
        refine z_callV O [vi (5 : Int32)] (vi v15) fV_X9_denied q2579 (fun l G => mX9_denied l G x0 (5 : Int32) h1 _ hF) (zck hF) rfl rfl ⟨Nat.le_of_ble_eq_true rfl, Nat.le_of_ble_eq_true rfl⟩ (Nat.le_of_ble_eq_true rfl) dX9_lock_53 ?_
        refine bs hr (fun v16 e0 hr => ?_)
        obtain ⟨e1, e2, -⟩ := zb_spec e0
        exact z_zret O e2 dX9_lock_56 (by cases hr; cases e1; rfl)
      · refine z_aload_n O 0 dX9_lock_57 rfl rfl ?_
        refine bs hr (fun h7 hF hr => ?_)
        refine z_callVv O [] fV_X9_keeps q2567 (fun l G => mX9_keeps l G N x0 h1 _ hF) (zck hF) rfl rfl ⟨Nat.le_of_ble_eq_true rfl, Nat.le_of_ble_eq_true rfl⟩ (Nat.le_of_ble_eq_true rfl) dX9_lock_58 ?_
        refine z_aload_n O 0 dX9_lock_61 rfl rfl ?_
        refine z_getR O o_Model_v q1778 dX9_lock_62 hr (fun v8 hr => ?_)
        refine z_iload_n O 1 dX9_lock_65 rfl rfl ?_
        refine z_iload_n O 2 dX9_lock_66 rfl rfl ?_
        refine z_iconst O dX9_lock_67 kic_3 ?_
        refine bs hr (fun v9 hF hr => ?_)
        refine z_callS O [vi x1, vi x2, vi (3 : Int32)] (vi v9) fS_X9_part q2223 (fun l G => mX9_part l G x1 x2 (3 : Int32) h7 _ hF) rfl ⟨Nat.le_of_ble_eq_true rfl, Nat.le_of_ble_eq_true rfl⟩ (Nat.le_of_ble_eq_true rfl) dX9_lock_68 ?_
        refine z_iload_n O 3 dX9_lock_71 rfl rfl ?_
        refine z_iastore O dX9_lock_72 hr (fun h10 hr => ?_)
        refine z_aload_n O 0 dX9_lock_73 rfl rfl ?_
        refine b2s hr (fun v12 h11 hF hr => ?_)
        refine z_callV O [] (vi v12) fV_X9_granted q2583 (fun l G => mX9_granted l G x0 h10 _ hF) (zck hF) rfl rfl ⟨Nat.le_of_ble_eq_true rfl, Nat.le_of_ble_eq_true rfl⟩ (Nat.le_of_ble_eq_true rfl) dX9_lock_74 ?_
        refine bs hr (fun v13 e0 hr => ?_)
        obtain ⟨e1, e2, -⟩ := zb_spec e0
        exact z_zret O e2 dX9_lock_77 (by cases hr; cases e1; rfl)
theorem fV_X9_mark : CVf RX9 yX9_mark cX9_mark 2 (some .int) 0 := ⟨q2612, q2613, q137, q2614, ⟨⟨by decide +kernel, by decide +kernel⟩, by decide +kernel⟩⟩
def BX9_mark_34 (N : Nat) (x0 : Option Nat) (rec34 : Int32 → AH → Option (Int32 × AH)) : Int32 → AH → Option (Int32 × AH) := fun x1 h =>
  if (212 : Int32) ≤ x1 then
    (gI h f_Model_marks x0).bind fun v1 =>
    (pI h f_Model_marks x0 (v1 + (1 : Int32))).bind fun h2 =>
    (gI h2 f_Model_marks x0).bind fun v3 =>
    b2 (F_X9_good x0 (v3 - (1 : Int32)) h2) fun v5 h4 =>
    some (v5, h4)
  else
    (gR h f_Model_kept x0).bind fun v6 =>
    (gI h f_Model_marks x0).bind fun v7 =>
    (gR h f_Model_v x0).bind fun v8 =>
    (aI h 0 v8 x1).bind fun v9 =>
    (sA h 0 v6 (((212 : Int32) * v7) + x1) v9).bind fun h10 =>
    jlet (x1 + (1 : Int32)) fun v11 =>
    rec34 v11 h10
def LX9_mark_34 (N : Nat) (x0 : Option Nat) : Int32 → AH → Option (Int32 × AH) := lf (fun _ _ => none) (BX9_mark_34 N x0) N
theorem wX9_mark_34B {K : ZC} (O : ZOk K cX9_mark RX9 "mark" 2 (some .int) 2 69) (N : Nat) (x0 : Option Nat) (rec34 : Int32 → AH → Option (Int32 × AH)) (hrec34 : ∀ (y1 : Int32) (hy : AH) (ry : Int32 × AH), rec34 y1 hy = some ry → Zw K (eIH ry) hy 34 [(0, vr x0), (1, vi y1)] []) (x1 : Int32) (h : AH) (r : Int32 × AH) (hr : BX9_mark_34 N x0 rec34 x1 h = some r) : Zw K (eIH r) h 34 [(0, vr x0), (1, vi x1)] [] := by
  unfold BX9_mark_34 at hr
  refine z_iload_n O 1 dX9_mark_34 rfl rfl ?_
  refine z_sipush O dX9_mark_35 ksi_212 ?_
  refine z_icmp_ge (tgt := 68) O dX9_mark_38 (by decide) hr (fun hr => ?_) (fun hr => ?_)
  · refine z_aload_n O 0 dX9_mark_68 rfl rfl ?_
    refine z_dup O dX9_mark_69 rfl ?_
    refine z_getI O o_Model_marks q1783 dX9_mark_70 hr (fun v1 hr => ?_)
    refine z_iconst O dX9_mark_73 kic_1 ?_
    refine z_iadd O dX9_mark_74 ?_
    refine z_putI O o_Model_marks (w_Model_marks _) q1783 dX9_mark_75 hr (fun h2 hr => ?_)
    refine z_aload_n O 0 dX9_mark_78 rfl rfl ?_
    refine z_aload_n O 0 dX9_mark_79 rfl rfl ?_
    refine z_getI O o_Model_marks q1783 dX9_mark_80 hr (fun v3 hr => ?_)
    refine z_iconst O dX9_mark_83 kic_1 ?_
    refine z_isub O dX9_mark_84 ?_
    refine b2s hr (fun v5 h4 hF hr => ?_)
    refine z_callV O [vi (v3 - (1 : Int32))] (vi v5) fV_X9_good q2249 (fun l G => mX9_good l G x0 (v3 - (1 : Int32)) h2 _ hF) (zck hF) rfl rfl ⟨Nat.le_of_ble_eq_true rfl, Nat.le_of_ble_eq_true rfl⟩ (Nat.le_of_ble_eq_true rfl) dX9_mark_85 ?_
    exact z_iret O dX9_mark_88 (by cases hr; rfl)
  · refine z_aload_n O 0 dX9_mark_41 rfl rfl ?_
    refine z_getR O o_Model_kept q1781 dX9_mark_42 hr (fun v6 hr => ?_)
    refine z_sipush O dX9_mark_45 ksi_212 ?_
    refine z_aload_n O 0 dX9_mark_48 rfl rfl ?_
    refine z_getI O o_Model_marks q1783 dX9_mark_49 hr (fun v7 hr => ?_)
    refine z_imul O dX9_mark_52 ?_
    refine z_iload_n O 1 dX9_mark_53 rfl rfl ?_
    refine z_iadd O dX9_mark_54 ?_
    refine z_aload_n O 0 dX9_mark_55 rfl rfl ?_
    refine z_getR O o_Model_v q1778 dX9_mark_56 hr (fun v8 hr => ?_)
    refine z_iload_n O 1 dX9_mark_59 rfl rfl ?_
    refine z_iaload O dX9_mark_60 hr (fun v9 hr => ?_)
    refine z_iastore O dX9_mark_61 hr (fun h10 hr => ?_)
    refine z_iincL O 1 (fun v11 => [(1, vi v11), (0, vr x0)]) dX9_mark_62 rfl rfl (by decide) (fun _ => rfl) hr (fun v11 hr => ?_)
    refine z_goto (tgt := 34) O dX9_mark_65 (by decide) ?_
    refine z_sub [1, 0] rfl ?_
    exact hrec34 v11 h10 _ hr
theorem wX9_mark_34 {K : ZC} (O : ZOk K cX9_mark RX9 "mark" 2 (some .int) 2 69) (N : Nat) (x0 : Option Nat) : ∀ (n : Nat) (x1 : Int32) (h : AH) (r : Int32 × AH), lf (fun _ _ => none) (BX9_mark_34 N x0) n x1 h = some r → Zw K (eIH r) h 34 [(0, vr x0), (1, vi x1)] [] := by
  intro n
  induction n with
  | zero => intro x1 h r hr; cases hr
  | succ n ih => intro x1 h r hr; exact wX9_mark_34B O N x0 (lf (fun _ _ => none) (BX9_mark_34 N x0) n)  ih x1 h r hr
def F_X9_mark (N : Nat) (x0 : Option Nat) (h : AH) : Option (Int32 × AH) :=
  (ck h [9] x0).bind fun _ =>
  (pI h f_Model_thrown x0 (0 : Int32)).bind fun h1 =>
  (gR h1 f_Model_land x0).bind fun v2 =>
  if v2 = none then
    b2 (F_X9_refused x0 (1 : Int32) h1) fun v7 h6 =>
    some (v7, h6)
  else
    (gI h1 f_Model_marks x0).bind fun v3 =>
    if v3 = (3 : Int32) then
      b2 (F_X9_refused x0 (3 : Int32) h1) fun v5 h4 =>
      some (v5, h4)
    else
      LX9_mark_34 N x0 (0 : Int32) h1
theorem mX9_mark (l : Launch) (G : ZG) (N : Nat) (x0 : Option Nat) (h : AH) (r : Int32 × AH) (hr : F_X9_mark N x0 h = some r) : MZ l G yX9_mark cX9_mark 2 (some .int) 2 69 [vr x0] h (eIH r) := by
  unfold F_X9_mark at hr
  refine MZ.of (by decide) [(0, vr x0)] rfl (Nat.le_of_ble_eq_true rfl) (fun K O => ?_)
  have O : ZOk K cX9_mark RX9 "mark" 2 (some .int) 2 69 := O
  refine bs hr (fun _ hck hr => ?_)
  refine z_aload_n O 0 dX9_mark_0 rfl rfl ?_
  refine z_iconst O dX9_mark_1 kic_0 ?_
  refine z_putI O o_Model_thrown (w_Model_thrown _) q1762 dX9_mark_2 hr (fun h1 hr => ?_)
  refine z_aload_n O 0 dX9_mark_5 rfl rfl ?_
  refine z_getR O o_Model_land q1765 dX9_mark_6 hr (fun v2 hr => ?_)
  refine z_ifnonnull (tgt := 18) O dX9_mark_9 (by decide) hr (fun hr => ?_) (fun hr => ?_)
  · refine z_aload_n O 0 dX9_mark_12 rfl rfl ?_
    refine z_iconst O dX9_mark_13 kic_1 ?_
    refine b2s hr (fun v7 h6 hF hr => ?_)
    refine z_callV O [vi (1 : Int32)] (vi v7) fV_X9_refused q1886 (fun l G => mX9_refused l G x0 (1 : Int32) h1 _ hF) (zck hF) rfl rfl ⟨Nat.le_of_ble_eq_true rfl, Nat.le_of_ble_eq_true rfl⟩ (Nat.le_of_ble_eq_true rfl) dX9_mark_14 ?_
    exact z_iret O dX9_mark_17 (by cases hr; rfl)
  · refine z_aload_n O 0 dX9_mark_18 rfl rfl ?_
    refine z_getI O o_Model_marks q1783 dX9_mark_19 hr (fun v3 hr => ?_)
    refine z_iconst O dX9_mark_22 kic_3 ?_
    refine z_icmp_ne (tgt := 32) O dX9_mark_23 (by decide) hr (fun hr => ?_) (fun hr => ?_)
    · refine z_aload_n O 0 dX9_mark_26 rfl rfl ?_
      refine z_iconst O dX9_mark_27 kic_3 ?_
      refine b2s hr (fun v5 h4 hF hr => ?_)
      refine z_callV O [vi (3 : Int32)] (vi v5) fV_X9_refused q1886 (fun l G => mX9_refused l G x0 (3 : Int32) h1 _ hF) (zck hF) rfl rfl ⟨Nat.le_of_ble_eq_true rfl, Nat.le_of_ble_eq_true rfl⟩ (Nat.le_of_ble_eq_true rfl) dX9_mark_28 ?_
      exact z_iret O dX9_mark_31 (by cases hr; rfl)
    · refine z_iconst O dX9_mark_32 kic_0 ?_
      refine z_istore_n O [(1, vi (0 : Int32)), (0, vr x0)] dX9_mark_33 rfl (by decide) rfl ?_
      refine z_sub [1, 0] rfl ?_
      exact wX9_mark_34 O N x0 _ (0 : Int32) h1 _ hr
theorem fV_X9_doMeet : CVf RX9 yX9_doMeet cX9_doMeet 8 (some .boolean) 3 := ⟨q2474, qs113, q137, q2475, ⟨⟨by decide +kernel, by decide +kernel⟩, by decide +kernel⟩⟩
def BX9_doMeet_87 (N : Nat) (rec3 : Int32 → Option (Int32)) (x0 : Option Nat) (x1 : Option Nat) (x2 : Int32) (x3 : Int32) (x4 : Int32) (x5 : Int32) (x6 : Int32) (h : AH) (rec87 : Int32 → Option (Int32)) : Int32 → Option (Int32) := fun x7 =>
  if (4 : Int32) ≤ x7 then
    jlet (x4 + (1 : Int32)) fun v1 =>
    rec3 v1
  else
    (gR h f_Model_land x0).bind fun v2 =>
    (F_X9_outX x7).bind fun v3 =>
    (F_X9_outY x7).bind fun v4 =>
    (F_X20_far v2 x3 (x5 + v3) (x6 + v4) h).bind fun v5 =>
    (aI h 0 x1 ((0 : Int32) + x3)).bind fun v6 =>
    if v6 < v5 then
      jlet (x7 + (1 : Int32)) fun v7 =>
      rec87 v7
    else
      zb (1 : Int32)
def LX9_doMeet_87 (N : Nat) (rec3 : Int32 → Option (Int32)) (x0 : Option Nat) (x1 : Option Nat) (x2 : Int32) (x3 : Int32) (x4 : Int32) (x5 : Int32) (x6 : Int32) (h : AH) : Int32 → Option (Int32) := lf (fun _ => none) (BX9_doMeet_87 N rec3 x0 x1 x2 x3 x4 x5 x6 h) N
theorem wX9_doMeet_87B {K : ZC} (O : ZOk K cX9_doMeet RX9 "doMeet" 8 (some .boolean) 3 94) (N : Nat) (rec3 : Int32 → Option (Int32)) (x0 : Option Nat) (x1 : Option Nat) (x2 : Int32) (x3 : Int32) (x4 : Int32) (x5 : Int32) (x6 : Int32) (h : AH) (rec87 : Int32 → Option (Int32)) (hrec3 : ∀ (y4 : Int32) (ry : Int32), rec3 y4 = some ry → Zw K (eI h ry) h 3 [(0, vr x0), (1, vr x1), (2, vi x2), (3, vi x3), (4, vi y4)] []) (hrec87 : ∀ (y7 : Int32) (ry : Int32), rec87 y7 = some ry → Zw K (eI h ry) h 87 [(0, vr x0), (1, vr x1), (2, vi x2), (3, vi x3), (4, vi x4), (5, vi x5), (6, vi x6), (7, vi y7)] []) (x7 : Int32) (r : Int32) (hr : BX9_doMeet_87 N rec3 x0 x1 x2 x3 x4 x5 x6 h rec87 x7 = some r) : Zw K (eI h r) h 87 [(0, vr x0), (1, vr x1), (2, vi x2), (3, vi x3), (4, vi x4), (5, vi x5), (6, vi x6), (7, vi x7)] [] := by
  unfold BX9_doMeet_87 at hr
  refine z_iload O 7 dX9_doMeet_87 rfl ?_
  refine z_iconst O dX9_doMeet_89 kic_4 ?_
  refine z_icmp_ge (tgt := 133) O dX9_doMeet_90 (by decide) hr (fun hr => ?_) (fun hr => ?_)
  · refine z_iincL O 4 (fun v1 => [(4, vi v1), (0, vr x0), (1, vr x1), (2, vi x2), (3, vi x3), (5, vi x5), (6, vi x6), (7, vi x7)]) dX9_doMeet_133 rfl rfl (by decide) (fun _ => rfl) hr (fun v1 hr => ?_)
    refine z_goto (tgt := 3) O dX9_doMeet_136 (by decide) ?_
    refine z_sub [1, 2, 3, 4, 0] rfl ?_
    exact hrec3 v1 _ hr
  · refine z_aload_n O 0 dX9_doMeet_93 rfl rfl ?_
    refine z_getR O o_Model_land q1765 dX9_doMeet_94 hr (fun v2 hr => ?_)
    refine z_iload_n O 3 dX9_doMeet_97 rfl rfl ?_
    refine z_iload O 5 dX9_doMeet_98 rfl ?_
    refine z_iload O 7 dX9_doMeet_100 rfl ?_
    refine bs hr (fun v3 hF hr => ?_)
    refine z_callS O [vi x7] (vi v3) fS_X9_outX q2306 (fun l G => mX9_outX l G x7 h _ hF) rfl ⟨Nat.le_of_ble_eq_true rfl, Nat.le_of_ble_eq_true rfl⟩ (Nat.le_of_ble_eq_true rfl) dX9_doMeet_102 ?_
    refine z_iadd O dX9_doMeet_105 ?_
    refine z_iload O 6 dX9_doMeet_106 rfl ?_
    refine z_iload O 7 dX9_doMeet_108 rfl ?_
    refine bs hr (fun v4 hF hr => ?_)
    refine z_callS O [vi x7] (vi v4) fS_X9_outY q2312 (fun l G => mX9_outY l G x7 h _ hF) rfl ⟨Nat.le_of_ble_eq_true rfl, Nat.le_of_ble_eq_true rfl⟩ (Nat.le_of_ble_eq_true rfl) dX9_doMeet_110 ?_
    refine z_iadd O dX9_doMeet_113 ?_
    refine bs hr (fun v5 hF hr => ?_)
    refine z_callV O [vi x3, vi (x5 + v3), vi (x6 + v4)] (vi v5) fV_X20_far q2174 (fun l G => mX20_far l G v2 x3 (x5 + v3) (x6 + v4) h _ hF) (zck hF) rfl rfl ⟨Nat.le_of_ble_eq_true rfl, Nat.le_of_ble_eq_true rfl⟩ (Nat.le_of_ble_eq_true rfl) dX9_doMeet_114 ?_
    refine z_aload_n O 1 dX9_doMeet_117 rfl rfl ?_
    refine z_iconst O dX9_doMeet_118 kic_0 ?_
    refine z_iload_n O 3 dX9_doMeet_119 rfl rfl ?_
    refine z_iadd O dX9_doMeet_120 ?_
    refine z_iaload O dX9_doMeet_121 hr (fun v6 hr => ?_)
    refine z_icmp_gt (tgt := 127) O dX9_doMeet_122 (by decide) hr (fun hr => ?_) (fun hr => ?_)
    · refine z_iincL O 7 (fun v7 => [(7, vi v7), (0, vr x0), (1, vr x1), (2, vi x2), (3, vi x3), (4, vi x4), (5, vi x5), (6, vi x6)]) dX9_doMeet_127 rfl rfl (by decide) (fun _ => rfl) hr (fun v7 hr => ?_)
      refine z_goto (tgt := 87) O dX9_doMeet_130 (by decide) ?_
      refine z_sub [1, 2, 3, 4, 5, 6, 7, 0] rfl ?_
      exact hrec87 v7 _ hr
    · refine z_iconst O dX9_doMeet_125 kic_1 ?_
      obtain ⟨e1, e2, -⟩ := zb_spec hr
      exact z_zret O e2 dX9_doMeet_126 (by cases e1; rfl)
theorem wX9_doMeet_87 {K : ZC} (O : ZOk K cX9_doMeet RX9 "doMeet" 8 (some .boolean) 3 94) (N : Nat) (rec3 : Int32 → Option (Int32)) (x0 : Option Nat) (x1 : Option Nat) (x2 : Int32) (x3 : Int32) (x4 : Int32) (x5 : Int32) (x6 : Int32) (h : AH) (hrec3 : ∀ (y4 : Int32) (ry : Int32), rec3 y4 = some ry → Zw K (eI h ry) h 3 [(0, vr x0), (1, vr x1), (2, vi x2), (3, vi x3), (4, vi y4)] []) : ∀ (n : Nat) (x7 : Int32) (r : Int32), lf (fun _ => none) (BX9_doMeet_87 N rec3 x0 x1 x2 x3 x4 x5 x6 h) n x7 = some r → Zw K (eI h r) h 87 [(0, vr x0), (1, vr x1), (2, vi x2), (3, vi x3), (4, vi x4), (5, vi x5), (6, vi x6), (7, vi x7)] [] := by
  intro n
  induction n with
  | zero => intro x7 r hr; cases hr
  | succ n ih => intro x7 r hr; exact wX9_doMeet_87B O N rec3 x0 x1 x2 x3 x4 x5 x6 h (lf (fun _ => none) (BX9_doMeet_87 N rec3 x0 x1 x2 x3 x4 x5 x6 h) n) hrec3 ih x7 r hr
def BX9_doMeet_3 (N : Nat) (x0 : Option Nat) (x1 : Option Nat) (x2 : Int32) (x3 : Int32) (h : AH) (rec3 : Int32 → Option (Int32)) : Int32 → Option (Int32) := fun x4 =>
  (gR h f_Model_land x0).bind fun v1 =>
  (F_X20_cells v1 h).bind fun v2 =>
  if v2 ≤ x4 then
    zb (0 : Int32)
  else
    (gR h f_Model_land x0).bind fun v3 =>
    (gI h f_MLand_wide v3).bind fun v4 =>
    (rm x4 v4).bind fun v5 =>
    (gR h f_Model_land x0).bind fun v6 =>
    (gI h f_MLand_wide v6).bind fun v7 =>
    (dv x4 v7).bind fun v8 =>
    (gR h f_Model_land x0).bind fun v9 =>
    (F_X20_far v9 x2 v5 v8 h).bind fun v10 =>
    (aI h 0 x1 ((0 : Int32) + x2)).bind fun v11 =>
    if v10 ≤ v11 then
      (gR h f_Model_land x0).bind fun v12 =>
      (F_X20_far v12 x3 v5 v8 h).bind fun v13 =>
      (aI h 0 x1 ((0 : Int32) + x3)).bind fun v14 =>
      if v14 < v13 then
        LX9_doMeet_87 N rec3 x0 x1 x2 x3 x4 v5 v8 h (0 : Int32)
      else
        zb (1 : Int32)
    else
      jlet (x4 + (1 : Int32)) fun v15 =>
      rec3 v15
def LX9_doMeet_3 (N : Nat) (x0 : Option Nat) (x1 : Option Nat) (x2 : Int32) (x3 : Int32) (h : AH) : Int32 → Option (Int32) := lf (fun _ => none) (BX9_doMeet_3 N x0 x1 x2 x3 h) N
theorem wX9_doMeet_3B {K : ZC} (O : ZOk K cX9_doMeet RX9 "doMeet" 8 (some .boolean) 3 94) (N : Nat) (x0 : Option Nat) (x1 : Option Nat) (x2 : Int32) (x3 : Int32) (h : AH) (rec3 : Int32 → Option (Int32)) (hrec3 : ∀ (y4 : Int32) (ry : Int32), rec3 y4 = some ry → Zw K (eI h ry) h 3 [(0, vr x0), (1, vr x1), (2, vi x2), (3, vi x3), (4, vi y4)] []) (x4 : Int32) (r : Int32) (hr : BX9_doMeet_3 N x0 x1 x2 x3 h rec3 x4 = some r) : Zw K (eI h r) h 3 [(0, vr x0), (1, vr x1), (2, vi x2), (3, vi x3), (4, vi x4)] [] := by
  unfold BX9_doMeet_3 at hr
  refine z_iload O 4 dX9_doMeet_3 rfl ?_
  refine z_aload_n O 0 dX9_doMeet_5 rfl rfl ?_
  refine z_getR O o_Model_land q1765 dX9_doMeet_6 hr (fun v1 hr => ?_)
  refine bs hr (fun v2 hF hr => ?_)
  refine z_callV O [] (vi v2) fV_X20_cells q2277 (fun l G => mX20_cells l G v1 h _ hF) (zck hF) rfl rfl ⟨Nat.le_of_ble_eq_true rfl, Nat.le_of_ble_eq_true rfl⟩ (Nat.le_of_ble_eq_true rfl) dX9_doMeet_9 ?_
  refine z_icmp_ge (tgt := 139) O dX9_doMeet_12 (by decide) hr (fun hr => ?_) (fun hr => ?_)
  · refine z_iconst O dX9_doMeet_139 kic_0 ?_
    obtain ⟨e1, e2, -⟩ := zb_spec hr
    exact z_zret O e2 dX9_doMeet_140 (by cases e1; rfl)
  · refine z_iload O 4 dX9_doMeet_15 rfl ?_
    refine z_aload_n O 0 dX9_doMeet_17 rfl rfl ?_
    refine z_getR O o_Model_land q1765 dX9_doMeet_18 hr (fun v3 hr => ?_)
    refine z_getIN O o_MLand_wide zn1897 dX9_doMeet_21 hr (fun v4 hr => ?_)
    refine z_irem O dX9_doMeet_24 hr (fun v5 hr => ?_)
    refine z_istore O [(5, vi v5), (0, vr x0), (1, vr x1), (2, vi x2), (3, vi x3), (4, vi x4)] dX9_doMeet_25 (by decide) rfl ?_
    refine z_iload O 5 dX9_doMeet_27 rfl ?_
    refine z_aload_n O 1 dX9_doMeet_29 rfl rfl ?_
    refine z_getR O o_Model_land q1765 dX9_doMeet_30 hr (fun v6 hr => ?_)
    refine z_getIN O o_MLand_wide zn1897 dX9_doMeet_33 hr (fun v7 hr => ?_)
    refine z_idiv O dX9_doMeet_36 hr (fun v8 hr => ?_)
    refine z_istore O [(6, vi v8), (5, vi v5), (0, vr x0), (1, vr x1), (2, vi x2), (3, vi x3), (4, vi x4)] dX9_doMeet_37 (by decide) rfl ?_
    refine z_aload_n O 2 dX9_doMeet_39 rfl rfl ?_
    refine z_getR O o_Model_land q1765 dX9_doMeet_40 hr (fun v9 hr => ?_)
    refine z_iload_n O 4 dX9_doMeet_43 rfl rfl ?_
    refine z_iload O 1 dX9_doMeet_44 rfl ?_
    refine z_iload O 0 dX9_doMeet_46 rfl ?_
    refine bs hr (fun v10 hF hr => ?_)
    refine z_callV O [vi x2, vi v5, vi v8] (vi v10) fV_X20_far q2174 (fun l G => mX20_far l G v9 x2 v5 v8 h _ hF) (zck hF) rfl rfl ⟨Nat.le_of_ble_eq_true rfl, Nat.le_of_ble_eq_true rfl⟩ (Nat.le_of_ble_eq_true rfl) dX9_doMeet_48 ?_
    refine z_aload_n O 3 dX9_doMeet_51 rfl rfl ?_
    refine z_iconst O dX9_doMeet_52 kic_0 ?_
    refine z_iload_n O 4 dX9_doMeet_53 rfl rfl ?_
    refine z_iadd O dX9_doMeet_54 ?_
    refine z_iaload O dX9_doMeet_55 hr (fun v11 hr => ?_)
    refine z_icmp_le (tgt := 62) O dX9_doMeet_56 (by decide) hr (fun hr => ?_) (fun hr => ?_)
    · refine z_aload_n O 2 dX9_doMeet_62 rfl rfl ?_
      refine z_getR O o_Model_land q1765 dX9_doMeet_63 hr (fun v12 hr => ?_)
      refine z_iload_n O 5 dX9_doMeet_66 rfl rfl ?_
      refine z_iload O 1 dX9_doMeet_67 rfl ?_
      refine z_iload O 0 dX9_doMeet_69 rfl ?_
      refine bs hr (fun v13 hF hr => ?_)
      refine z_callV O [vi x3, vi v5, vi v8] (vi v13) fV_X20_far q2174 (fun l G => mX20_far l G v12 x3 v5 v8 h _ hF) (zck hF) rfl rfl ⟨Nat.le_of_ble_eq_true rfl, Nat.le_of_ble_eq_true rfl⟩ (Nat.le_of_ble_eq_true rfl) dX9_doMeet_71 ?_
      refine z_aload_n O 3 dX9_doMeet_74 rfl rfl ?_
      refine z_iconst O dX9_doMeet_75 kic_0 ?_
      refine z_iload_n O 5 dX9_doMeet_76 rfl rfl ?_
      refine z_iadd O dX9_doMeet_77 ?_
      refine z_iaload O dX9_doMeet_78 hr (fun v14 hr => ?_)
      refine z_icmp_gt (tgt := 84) O dX9_doMeet_79 (by decide) hr (fun hr => ?_) (fun hr => ?_)
      · refine z_iconst O dX9_doMeet_84 kic_0 ?_
        refine z_istore O [(7, vi (0 : Int32)), (6, vi v8), (5, vi v5), (0, vr x0), (1, vr x1), (2, vi x2), (3, vi x3), (4, vi x4)] dX9_doMeet_85 (by decide) rfl ?_
        refine z_sub [3, 4, 5, 6, 7, 2, 1, 0] rfl ?_
        exact wX9_doMeet_87 O N rec3 x0 x1 x2 x3 x4 v5 v8 h hrec3 _ (0 : Int32) _ hr
      · refine z_iconst O dX9_doMeet_82 kic_1 ?_
        obtain ⟨e1, e2, -⟩ := zb_spec hr
        exact z_zret O e2 dX9_doMeet_83 (by cases e1; rfl)
    · refine z_goto (tgt := 133) O dX9_doMeet_59 (by decide) ?_
      refine z_iincL O 6 (fun v15 => [(4, vi v15), (6, vi v8), (5, vi v5), (0, vr x0), (1, vr x1), (2, vi x2), (3, vi x3)]) dX9_doMeet_133 rfl rfl (by decide) (fun _ => rfl) hr (fun v15 hr => ?_)
      refine z_goto (tgt := 3) O dX9_doMeet_136 (by decide) ?_
      refine z_sub [3, 4, 5, 6, 0] rfl ?_
      exact hrec3 v15 _ hr
theorem wX9_doMeet_3 {K : ZC} (O : ZOk K cX9_doMeet RX9 "doMeet" 8 (some .boolean) 3 94) (N : Nat) (x0 : Option Nat) (x1 : Option Nat) (x2 : Int32) (x3 : Int32) (h : AH) : ∀ (n : Nat) (x4 : Int32) (r : Int32), lf (fun _ => none) (BX9_doMeet_3 N x0 x1 x2 x3 h) n x4 = some r → Zw K (eI h r) h 3 [(0, vr x0), (1, vr x1), (2, vi x2), (3, vi x3), (4, vi x4)] [] := by
  intro n
  induction n with
  | zero => intro x4 r hr; cases hr
  | succ n ih => intro x4 r hr; exact wX9_doMeet_3B O N x0 x1 x2 x3 h (lf (fun _ => none) (BX9_doMeet_3 N x0 x1 x2 x3 h) n)  ih x4 r hr
def F_X9_doMeet (N : Nat) (x0 : Option Nat) (x1 : Option Nat) (x2 : Int32) (x3 : Int32) (h : AH) : Option (Int32) :=
  (ck h [9] x0).bind fun _ =>
  LX9_doMeet_3 N x0 x1 x2 x3 h (0 : Int32)
theorem mX9_doMeet (l : Launch) (G : ZG) (N : Nat) (x0 : Option Nat) (x1 : Option Nat) (x2 : Int32) (x3 : Int32) (h : AH) (r : Int32) (hr : F_X9_doMeet N x0 x1 x2 x3 h = some r) : MZ l G yX9_doMeet cX9_doMeet 8 (some .boolean) 3 94 [vr x0, vr x1, vi x2, vi x3] h (eI h r) := by
  unfold F_X9_doMeet at hr
  refine MZ.of (by decide) [(0, vr x0), (1, vr x1), (2, vi x2), (3, vi x3)] rfl (Nat.le_of_ble_eq_true rfl) (fun K O => ?_)
  have O : ZOk K cX9_doMeet RX9 "doMeet" 8 (some .boolean) 3 94 := O
  refine bs hr (fun _ hck hr => ?_)
  refine z_iconst O dX9_doMeet_0 kic_0 ?_
  refine z_istore O [(4, vi (0 : Int32)), (0, vr x0), (1, vr x1), (2, vi x2), (3, vi x3)] dX9_doMeet_1 (by decide) rfl ?_
  refine z_sub [1, 2, 3, 4, 0] rfl ?_
  exact wX9_doMeet_3 O N x0 x1 x2 x3 h _ (0 : Int32) _ hr
theorem fV_X9_meet : CVf RX9 yX9_meet cX9_meet 6 (some .int) 3 := ⟨q2469, q2470, q137, q2471, ⟨⟨by decide +kernel, by decide +kernel⟩, by decide +kernel⟩⟩
def BX9_meet_60 (N : Nat) (x0 : Option Nat) (x1 : Int32) (x2 : Int32) (x3 : Int32) (rec60 : Int32 → AH → Option (Int32 × AH)) : Int32 → AH → Option (Int32 × AH) := fun x5 h =>
  if x3 < x5 then
    b2 (F_X9_good x0 (-2 : Int32) h) fun v2 h1 =>
    some (v2, h1)
  else
    (gR h f_Model_w x0).bind fun v3 =>
    (F_X9_doMeet N x0 v3 x1 x2 h).bind fun v4 =>
    if v4 = 0 then
      (gR h f_Model_w x0).bind fun v5 =>
      (F_X9_goesBy N x0 v5 h).bind fun h6 =>
      jlet (x5 + (1 : Int32)) fun v7 =>
      rec60 v7 h6
    else
      b2 (F_X9_good x0 x5 h) fun v9 h8 =>
      some (v9, h8)
def LX9_meet_60 (N : Nat) (x0 : Option Nat) (x1 : Int32) (x2 : Int32) (x3 : Int32) : Int32 → AH → Option (Int32 × AH) := lf (fun _ _ => none) (BX9_meet_60 N x0 x1 x2 x3) N
theorem wX9_meet_60B {K : ZC} (O : ZOk K cX9_meet RX9 "meet" 6 (some .int) 9 240) (N : Nat) (x0 : Option Nat) (x1 : Int32) (x2 : Int32) (x3 : Int32) (rec60 : Int32 → AH → Option (Int32 × AH)) (hrec60 : ∀ (y5 : Int32) (hy : AH) (ry : Int32 × AH), rec60 y5 hy = some ry → Zw K (eIH ry) hy 60 [(0, vr x0), (1, vi x1), (2, vi x2), (3, vi x3), (5, vi y5)] []) (x5 : Int32) (h : AH) (r : Int32 × AH) (hr : BX9_meet_60 N x0 x1 x2 x3 rec60 x5 h = some r) : Zw K (eIH r) h 60 [(0, vr x0), (1, vi x1), (2, vi x2), (3, vi x3), (5, vi x5)] [] := by
  unfold BX9_meet_60 at hr
  refine z_iload O 4 dX9_meet_60 rfl ?_
  refine z_iload_n O 3 dX9_meet_62 rfl rfl ?_
  refine z_icmp_gt (tgt := 100) O dX9_meet_63 (by decide) hr (fun hr => ?_) (fun hr => ?_)
  · refine z_aload_n O 0 dX9_meet_100 rfl rfl ?_
    refine z_bipush O dX9_meet_101 kbi_m2 ?_
    refine b2s hr (fun v2 h1 hF hr => ?_)
    refine z_callV O [vi (-2 : Int32)] (vi v2) fV_X9_good q2249 (fun l G => mX9_good l G x0 (-2 : Int32) h _ hF) (zck hF) rfl rfl ⟨Nat.le_of_ble_eq_true rfl, Nat.le_of_ble_eq_true rfl⟩ (Nat.le_of_ble_eq_true rfl) dX9_meet_103 ?_
    exact z_iret O dX9_meet_106 (by cases hr; rfl)
  · refine z_aload_n O 0 dX9_meet_66 rfl rfl ?_
    refine z_aload_n O 0 dX9_meet_67 rfl rfl ?_
    refine z_getR O o_Model_w q1779 dX9_meet_68 hr (fun v3 hr => ?_)
    refine z_iload_n O 1 dX9_meet_71 rfl rfl ?_
    refine z_iload_n O 2 dX9_meet_72 rfl rfl ?_
    refine bs hr (fun v4 hF hr => ?_)
    refine z_callV O [vr v3, vi x1, vi x2] (vi v4) fV_X9_doMeet q2472 (fun l G => mX9_doMeet l G N x0 v3 x1 x2 h _ hF) (zck hF) rfl rfl ⟨Nat.le_of_ble_eq_true rfl, Nat.le_of_ble_eq_true rfl⟩ (Nat.le_of_ble_eq_true rfl) dX9_meet_73 ?_
    refine z_if_eq (tgt := 86) O dX9_meet_76 (by decide) hr (fun hr => ?_) (fun hr => ?_)
    · refine z_aload_n O 0 dX9_meet_86 rfl rfl ?_
      refine z_aload_n O 0 dX9_meet_87 rfl rfl ?_
      refine z_getR O o_Model_w q1779 dX9_meet_88 hr (fun v5 hr => ?_)
      refine bs hr (fun h6 hF hr => ?_)
      refine z_callVv O [vr v5] fV_X9_goesBy q2443 (fun l G => mX9_goesBy l G N x0 v5 h _ hF) (zck hF) rfl rfl ⟨Nat.le_of_ble_eq_true rfl, Nat.le_of_ble_eq_true rfl⟩ (Nat.le_of_ble_eq_true rfl) dX9_meet_91 ?_
      refine z_iincL O 4 (fun v7 => [(5, vi v7), (0, vr x0), (1, vi x1), (2, vi x2), (3, vi x3)]) dX9_meet_94 rfl rfl (by decide) (fun _ => rfl) hr (fun v7 hr => ?_)
      refine z_goto (tgt := 60) O dX9_meet_97 (by decide) ?_
      refine z_sub [1, 2, 3, 4, 0] rfl ?_
      exact hrec60 v7 h6 _ hr
    · refine z_aload_n O 0 dX9_meet_79 rfl rfl ?_
      refine z_iload O 4 dX9_meet_80 rfl ?_
      refine b2s hr (fun v9 h8 hF hr => ?_)
      refine z_callV O [vi x5] (vi v9) fV_X9_good q2249 (fun l G => mX9_good l G x0 x5 h _ hF) (zck hF) rfl rfl ⟨Nat.le_of_ble_eq_true rfl, Nat.le_of_ble_eq_true rfl⟩ (Nat.le_of_ble_eq_true rfl) dX9_meet_82 ?_
      exact z_iret O dX9_meet_85 (by cases hr; rfl)
theorem wX9_meet_60 {K : ZC} (O : ZOk K cX9_meet RX9 "meet" 6 (some .int) 9 240) (N : Nat) (x0 : Option Nat) (x1 : Int32) (x2 : Int32) (x3 : Int32) : ∀ (n : Nat) (x5 : Int32) (h : AH) (r : Int32 × AH), lf (fun _ _ => none) (BX9_meet_60 N x0 x1 x2 x3) n x5 h = some r → Zw K (eIH r) h 60 [(0, vr x0), (1, vi x1), (2, vi x2), (3, vi x3), (5, vi x5)] [] := by
  intro n
  induction n with
  | zero => intro x5 h r hr; cases hr
  | succ n ih => intro x5 h r hr; exact wX9_meet_60B O N x0 x1 x2 x3 (lf (fun _ _ => none) (BX9_meet_60 N x0 x1 x2 x3) n)  ih x5 h r hr
def bX9_meet_32 (N : Nat) (x0 : Option Nat) (x1 : Int32) (x2 : Int32) (x3 : Int32) (s0 : Option Nat) (s1 : Int32) (h : AH) : Option (Int32 × AH) :=
  (F_X9_refusesIn s0 s1 x3 (60 : Int32) h).bind fun v1 =>
  if v1 ≤ 0 then
    (F_X9_inYears N x0 (0 : Int32) h).bind fun h2 =>
    LX9_meet_60 N x0 x1 x2 x3 (0 : Int32) h2
  else
    b2 (F_X9_refused x0 v1 h) fun v4 h3 =>
    some (v4, h3)
theorem wX9_meet_32 {K : ZC} (O : ZOk K cX9_meet RX9 "meet" 6 (some .int) 9 240) (N : Nat) (x0 : Option Nat) (x1 : Int32) (x2 : Int32) (x3 : Int32) (s0 : Option Nat) (s1 : Int32) (h : AH) (r : Int32 × AH) (hr : bX9_meet_32 N x0 x1 x2 x3 s0 s1 h = some r) : Zw K (eIH r) h 32 [(0, vr x0), (1, vi x1), (2, vi x2), (3, vi x3)] [vi s1, vr s0] := by
  unfold bX9_meet_32 at hr
  refine z_iload_n O 3 dX9_meet_32 rfl rfl ?_
  refine z_bipush O dX9_meet_33 kbi_60 ?_
  refine bs hr (fun v1 hF hr => ?_)
  refine z_callV O [vi s1, vi x3, vi (60 : Int32)] (vi v1) fV_X9_refusesIn q2427 (fun l G => mX9_refusesIn l G s0 s1 x3 (60 : Int32) h _ hF) (zck hF) rfl rfl ⟨Nat.le_of_ble_eq_true rfl, Nat.le_of_ble_eq_true rfl⟩ (Nat.le_of_ble_eq_true rfl) dX9_meet_35 ?_
  refine z_istore O [(4, vi v1), (0, vr x0), (1, vi x1), (2, vi x2), (3, vi x3)] dX9_meet_38 (by decide) rfl ?_
  refine z_iload O 0 dX9_meet_40 rfl ?_
  refine z_if_le (tgt := 52) O dX9_meet_42 (by decide) hr (fun hr => ?_) (fun hr => ?_)
  · refine z_aload_n O 1 dX9_meet_52 rfl rfl ?_
    refine z_iconst O dX9_meet_53 kic_0 ?_
    refine bs hr (fun h2 hF hr => ?_)
    refine z_callVv O [vi (0 : Int32)] fV_X9_inYears q2431 (fun l G => mX9_inYears l G N x0 (0 : Int32) h _ hF) (zck hF) rfl rfl ⟨Nat.le_of_ble_eq_true rfl, Nat.le_of_ble_eq_true rfl⟩ (Nat.le_of_ble_eq_true rfl) dX9_meet_54 ?_
    refine z_iconst O dX9_meet_57 kic_0 ?_
    refine z_istore O [(5, vi (0 : Int32)), (4, vi v1), (0, vr x0), (1, vi x1), (2, vi x2), (3, vi x3)] dX9_meet_58 (by decide) rfl ?_
    refine z_sub [2, 3, 4, 5, 0] rfl ?_
    exact wX9_meet_60 O N x0 x1 x2 x3 _ (0 : Int32) h2 _ hr
  · refine z_aload_n O 1 dX9_meet_45 rfl rfl ?_
    refine z_iload O 0 dX9_meet_46 rfl ?_
    refine b2s hr (fun v4 h3 hF hr => ?_)
    refine z_callV O [vi v1] (vi v4) fV_X9_refused q1886 (fun l G => mX9_refused l G x0 v1 h _ hF) (zck hF) rfl rfl ⟨Nat.le_of_ble_eq_true rfl, Nat.le_of_ble_eq_true rfl⟩ (Nat.le_of_ble_eq_true rfl) dX9_meet_48 ?_
    exact z_iret O dX9_meet_51 (by cases hr; rfl)
def F_X9_meet (N : Nat) (x0 : Option Nat) (x1 : Int32) (x2 : Int32) (x3 : Int32) (h : AH) : Option (Int32 × AH) :=
  (ck h [9] x0).bind fun _ =>
  (pI h f_Model_thrown x0 (0 : Int32)).bind fun h1 =>
  (F_X9_isHouse x0 x1 h1).bind fun v2 =>
  if v2 = 0 then
    bX9_meet_32 N x0 x1 x2 x3 x0 (0 : Int32) h1
  else
    (F_X9_isHouse x0 x2 h1).bind fun v3 =>
    if v3 = 0 then
      bX9_meet_32 N x0 x1 x2 x3 x0 (0 : Int32) h1
    else
      if x1 = x2 then
        bX9_meet_32 N x0 x1 x2 x3 x0 (0 : Int32) h1
      else
        bX9_meet_32 N x0 x1 x2 x3 x0 (1 : Int32) h1
theorem mX9_meet (l : Launch) (G : ZG) (N : Nat) (x0 : Option Nat) (x1 : Int32) (x2 : Int32) (x3 : Int32) (h : AH) (r : Int32 × AH) (hr : F_X9_meet N x0 x1 x2 x3 h = some r) : MZ l G yX9_meet cX9_meet 6 (some .int) 9 240 [vr x0, vi x1, vi x2, vi x3] h (eIH r) := by
  unfold F_X9_meet at hr
  refine MZ.of (by decide) [(0, vr x0), (1, vi x1), (2, vi x2), (3, vi x3)] rfl (Nat.le_of_ble_eq_true rfl) (fun K O => ?_)
  have O : ZOk K cX9_meet RX9 "meet" 6 (some .int) 9 240 := O
  refine bs hr (fun _ hck hr => ?_)
  refine z_aload_n O 0 dX9_meet_0 rfl rfl ?_
  refine z_iconst O dX9_meet_1 kic_0 ?_
  refine z_putI O o_Model_thrown (w_Model_thrown _) q1762 dX9_meet_2 hr (fun h1 hr => ?_)
  refine z_aload_n O 0 dX9_meet_5 rfl rfl ?_
  refine z_aload_n O 0 dX9_meet_6 rfl rfl ?_
  refine z_iload_n O 1 dX9_meet_7 rfl rfl ?_
  refine bs hr (fun v2 hF hr => ?_)
  refine z_callV O [vi x1] (vi v2) fV_X9_isHouse q2292 (fun l G => mX9_isHouse l G x0 x1 h1 _ hF) (zck hF) rfl rfl ⟨Nat.le_of_ble_eq_true rfl, Nat.le_of_ble_eq_true rfl⟩ (Nat.le_of_ble_eq_true rfl) dX9_meet_8 ?_
  refine z_if_eq (tgt := 31) O dX9_meet_11 (by decide) hr (fun hr => ?_) (fun hr => ?_)
  · refine z_iconst O dX9_meet_31 kic_0 ?_
    exact wX9_meet_32 O N x0 x1 x2 x3 x0 (0 : Int32) h1 _ hr
  · refine z_aload_n O 0 dX9_meet_14 rfl rfl ?_
    refine z_iload_n O 2 dX9_meet_15 rfl rfl ?_
    refine bs hr (fun v3 hF hr => ?_)
    refine z_callV O [vi x2] (vi v3) fV_X9_isHouse q2292 (fun l G => mX9_isHouse l G x0 x2 h1 _ hF) (zck hF) rfl rfl ⟨Nat.le_of_ble_eq_true rfl, Nat.le_of_ble_eq_true rfl⟩ (Nat.le_of_ble_eq_true rfl) dX9_meet_16 ?_
    refine z_if_eq (tgt := 31) O dX9_meet_19 (by decide) hr (fun hr => ?_) (fun hr => ?_)
    · refine z_iconst O dX9_meet_31 kic_0 ?_
      exact wX9_meet_32 O N x0 x1 x2 x3 x0 (0 : Int32) h1 _ hr
    · refine z_iload_n O 1 dX9_meet_22 rfl rfl ?_
      refine z_iload_n O 2 dX9_meet_23 rfl rfl ?_
      refine z_icmp_eq (tgt := 31) O dX9_meet_24 (by decide) hr (fun hr => ?_) (fun hr => ?_)
      · refine z_iconst O dX9_meet_31 kic_0 ?_
        exact wX9_meet_32 O N x0 x1 x2 x3 x0 (0 : Int32) h1 _ hr
      · refine z_iconst O dX9_meet_27 kic_1 ?_
        refine z_goto (tgt := 32) O dX9_meet_28 (by decide) ?_
        exact wX9_meet_32 O N x0 x1 x2 x3 x0 (1 : Int32) h1 _ hr
theorem fV_X9_move : CVf RX9 yX9_move cX9_move 4 (some .boolean) 2 := ⟨q2596, q2597, q137, q2598, ⟨⟨by decide +kernel, by decide +kernel⟩, by decide +kernel⟩⟩
def bX9_move_101 (N : Nat) (x0 : Option Nat) (x1 : Int32) (x2 : Int32) (h : AH) : Option (Int32 × AH) :=
  (F_X9_keeps N x0 h).bind fun h1 =>
  (gR h1 f_Model_v x0).bind fun v2 =>
  (sA h1 0 v2 ((204 : Int32) + x1) x2).bind fun h3 =>
  b2 (F_X9_granted x0 h3) fun v5 h4 =>
  (zb v5).bind fun v6 => some (v6, h4)
theorem wX9_move_101 {K : ZC} (O : ZOk K cX9_move RX9 "move" 4 (some .boolean) 3 91) (N : Nat) (x0 : Option Nat) (x1 : Int32) (x2 : Int32) (h : AH) (r : Int32 × AH) (hr : bX9_move_101 N x0 x1 x2 h = some r) : Zw K (eIH r) h 101 [(0, vr x0), (1, vi x1), (2, vi x2)] [] := by
  unfold bX9_move_101 at hr
  refine z_aload_n O 0 dX9_move_101 rfl rfl ?_
  refine bs hr (fun h1 hF hr => ?_)
  refine z_callVv O [] fV_X9_keeps q2567 (fun l G => mX9_keeps l G N x0 h _ hF) (zck hF) rfl rfl ⟨Nat.le_of_ble_eq_true rfl, Nat.le_of_ble_eq_true rfl⟩ (Nat.le_of_ble_eq_true rfl) dX9_move_102 ?_
  refine z_aload_n O 0 dX9_move_105 rfl rfl ?_
  refine z_getR O o_Model_v q1778 dX9_move_106 hr (fun v2 hr => ?_)
  refine z_sipush O dX9_move_109 ksi_204 ?_
  refine z_iload_n O 1 dX9_move_112 rfl rfl ?_
  refine z_iadd O dX9_move_113 ?_
  refine z_iload_n O 2 dX9_move_114 rfl rfl ?_
  refine z_iastore O dX9_move_115 hr (fun h3 hr => ?_)
  refine z_aload_n O 0 dX9_move_116 rfl rfl ?_
  refine b2s hr (fun v5 h4 hF hr => ?_)
  refine z_callV O [] (vi v5) fV_X9_granted q2583 (fun l G => mX9_granted l G x0 h3 _ hF) (zck hF) rfl rfl ⟨Nat.le_of_ble_eq_true rfl, Nat.le_of_ble_eq_true rfl⟩ (Nat.le_of_ble_eq_true rfl) dX9_move_117 ?_
  refine bs hr (fun v6 e0 hr => ?_)
  obtain ⟨e1, e2, -⟩ := zb_spec e0
  exact z_zret O e2 dX9_move_120 (by cases hr; cases e1; rfl)
def F_X9_move (N : Nat) (x0 : Option Nat) (x1 : Int32) (x2 : Int32) (h : AH) : Option (Int32 × AH) :=
  (ck h [9] x0).bind fun _ =>
  (pI h f_Model_thrown x0 (0 : Int32)).bind fun h1 =>
  (F_X9_isHeir x0 x1 h1).bind fun v2 =>
  if v2 = 0 then
    b2 (F_X9_denied x0 (1 : Int32) h1) fun v4 h3 =>
    (zb v4).bind fun v5 => some (v5, h3)
  else
    (gR h1 f_Model_land x0).bind fun v6 =>
    (gR h1 f_MLand_heirHouse v6).bind fun v7 =>
    (aI h1 0 v7 x1).bind fun v8 =>
    (F_X9_isDepth x0 v8 x2 h1).bind fun v9 =>
    if v9 = 0 then
      b2 (F_X9_denied x0 (1 : Int32) h1) fun v31 h30 =>
      (zb v31).bind fun v32 => some (v32, h30)
    else
      (gR h1 f_Model_land x0).bind fun v10 =>
      (gR h1 f_MLand_heirHouse v10).bind fun v11 =>
      (aI h1 0 v11 x1).bind fun v12 =>
      (gR h1 f_Model_v x0).bind fun v13 =>
      (aI h1 0 v13 ((204 : Int32) + x1)).bind fun v14 =>
      if v14 = x2 then
        b2 (F_X9_denied x0 (5 : Int32) h1) fun v16 h15 =>
        (zb v16).bind fun v17 => some (v17, h15)
      else
        if x2 ≤ 0 then
          bX9_move_101 N x0 x1 x2 h1
        else
          (gR h1 f_Model_v x0).bind fun v18 =>
          (F_X9_part v12 x2 (5 : Int32)).bind fun v19 =>
          (aI h1 0 v18 v19).bind fun v20 =>
          if v20 = (1 : Int32) then
            b2 (F_X9_denied x0 (5 : Int32) h1) fun v22 h21 =>
            (zb v22).bind fun v23 => some (v23, h21)
          else
            (gR h1 f_Model_v x0).bind fun v24 =>
            (F_X9_part v12 x2 (6 : Int32)).bind fun v25 =>
            (aI h1 0 v24 v25).bind fun v26 =>
            if v26 = (1 : Int32) then
              b2 (F_X9_denied x0 (5 : Int32) h1) fun v28 h27 =>
              (zb v28).bind fun v29 => some (v29, h27)
            else
              bX9_move_101 N x0 x1 x2 h1
theorem mX9_move (l : Launch) (G : ZG) (N : Nat) (x0 : Option Nat) (x1 : Int32) (x2 : Int32) (h : AH) (r : Int32 × AH) (hr : F_X9_move N x0 x1 x2 h = some r) : MZ l G yX9_move cX9_move 4 (some .boolean) 3 91 [vr x0, vi x1, vi x2] h (eIH r) := by
  unfold F_X9_move at hr
  refine MZ.of (by decide) [(0, vr x0), (1, vi x1), (2, vi x2)] rfl (Nat.le_of_ble_eq_true rfl) (fun K O => ?_)
  have O : ZOk K cX9_move RX9 "move" 4 (some .boolean) 3 91 := O
  refine bs hr (fun _ hck hr => ?_)
  refine z_aload_n O 0 dX9_move_0 rfl rfl ?_
  refine z_iconst O dX9_move_1 kic_0 ?_
  refine z_putI O o_Model_thrown (w_Model_thrown _) q1762 dX9_move_2 hr (fun h1 hr => ?_)
  refine z_aload_n O 0 dX9_move_5 rfl rfl ?_
  refine z_iload_n O 1 dX9_move_6 rfl rfl ?_
  refine bs hr (fun v2 hF hr => ?_)
  refine z_callV O [vi x1] (vi v2) fV_X9_isHeir q2343 (fun l G => mX9_isHeir l G x0 x1 h1 _ hF) (zck hF) rfl rfl ⟨Nat.le_of_ble_eq_true rfl, Nat.le_of_ble_eq_true rfl⟩ (Nat.le_of_ble_eq_true rfl) dX9_move_7 ?_
  refine z_if_eq (tgt := 30) O dX9_move_10 (by decide) hr (fun hr => ?_) (fun hr => ?_)
  · refine z_aload_n O 0 dX9_move_30 rfl rfl ?_
    refine z_iconst O dX9_move_31 kic_1 ?_
    refine b2s hr (fun v4 h3 hF hr => ?_)
    refine z_callV O [vi (1 : Int32)] (vi v4) fV_X9_denied q2579 (fun l G => mX9_denied l G x0 (1 : Int32) h1 _ hF) (zck hF) rfl rfl ⟨Nat.le_of_ble_eq_true rfl, Nat.le_of_ble_eq_true rfl⟩ (Nat.le_of_ble_eq_true rfl) dX9_move_32 ?_
    refine bs hr (fun v5 e0 hr => ?_)
    obtain ⟨e1, e2, -⟩ := zb_spec e0
    exact z_zret O e2 dX9_move_35 (by cases hr; cases e1; rfl)
  · refine z_aload_n O 0 dX9_move_13 rfl rfl ?_
    refine z_aload_n O 0 dX9_move_14 rfl rfl ?_
    refine z_getR O o_Model_land q1765 dX9_move_15 hr (fun v6 hr => ?_)
    refine z_getRN O o_MLand_heirHouse zn1932 dX9_move_18 hr (fun v7 hr => ?_)
    refine z_iload_n O 1 dX9_move_21 rfl rfl ?_
    refine z_iaload O dX9_move_22 hr (fun v8 hr => ?_)
    refine z_iload_n O 2 dX9_move_23 rfl rfl ?_
    refine bs hr (fun v9 hF hr => ?_)
    refine z_callV O [vi v8, vi x2] (vi v9) fV_X9_isDepth q2327 (fun l G => mX9_isDepth l G x0 v8 x2 h1 _ hF) (zck hF) rfl rfl ⟨Nat.le_of_ble_eq_true rfl, Nat.le_of_ble_eq_true rfl⟩ (Nat.le_of_ble_eq_true rfl) dX9_move_24 ?_
    refine z_if_ne (tgt := 36) O dX9_move_27 (by decide) hr (fun hr => ?_) (fun hr => ?_)
    · refine z_aload_n O 0 dX9_move_30 rfl rfl ?_
      refine z_iconst O dX9_move_31 kic_1 ?_
      refine b2s hr (fun v31 h30 hF hr => ?_)
      refine z_callV O [vi (1 : Int32)] (vi v31) fV_X9_denied q2579 (fun l G => mX9_denied l G x0 (1 : Int32) h1 _ hF) (zck hF) rfl rfl ⟨Nat.le_of_ble_eq_true rfl, Nat.le_of_ble_eq_true rfl⟩ (Nat.le_of_ble_eq_true rfl) dX9_move_32 ?_
      refine bs hr (fun v32 e0 hr => ?_)
      obtain ⟨e1, e2, -⟩ := zb_spec e0
      exact z_zret O e2 dX9_move_35 (by cases hr; cases e1; rfl)
    · refine z_aload_n O 0 dX9_move_36 rfl rfl ?_
      refine z_getR O o_Model_land q1765 dX9_move_37 hr (fun v10 hr => ?_)
      refine z_getRN O o_MLand_heirHouse zn1932 dX9_move_40 hr (fun v11 hr => ?_)
      refine z_iload_n O 1 dX9_move_43 rfl rfl ?_
      refine z_iaload O dX9_move_44 hr (fun v12 hr => ?_)
      refine z_istore_n O [(3, vi v12), (0, vr x0), (1, vi x1), (2, vi x2)] dX9_move_45 rfl (by decide) rfl ?_
      refine z_aload_n O 1 dX9_move_46 rfl rfl ?_
      refine z_getR O o_Model_v q1778 dX9_move_47 hr (fun v13 hr => ?_)
      refine z_sipush O dX9_move_50 ksi_204 ?_
      refine z_iload_n O 2 dX9_move_53 rfl rfl ?_
      refine z_iadd O dX9_move_54 ?_
      refine z_iaload O dX9_move_55 hr (fun v14 hr => ?_)
      refine z_iload_n O 3 dX9_move_56 rfl rfl ?_
      refine z_icmp_eq (tgt := 95) O dX9_move_57 (by decide) hr (fun hr => ?_) (fun hr => ?_)
      · refine z_aload_n O 1 dX9_move_95 rfl rfl ?_
        refine z_iconst O dX9_move_96 kic_5 ?_
        refine b2s hr (fun v16 h15 hF hr => ?_)
        refine z_callV O [vi (5 : Int32)] (vi v16) fV_X9_denied q2579 (fun l G => mX9_denied l G x0 (5 : Int32) h1 _ hF) (zck hF) rfl rfl ⟨Nat.le_of_ble_eq_true rfl, Nat.le_of_ble_eq_true rfl⟩ (Nat.le_of_ble_eq_true rfl) dX9_move_97 ?_
        refine bs hr (fun v17 e0 hr => ?_)
        obtain ⟨e1, e2, -⟩ := zb_spec e0
        exact z_zret O e2 dX9_move_100 (by cases hr; cases e1; rfl)
      · refine z_iload_n O 3 dX9_move_60 rfl rfl ?_
        refine z_if_le (tgt := 101) O dX9_move_61 (by decide) hr (fun hr => ?_) (fun hr => ?_)
        · refine z_sub [1, 2, 3] rfl ?_
          exact wX9_move_101 O N x0 x1 x2 h1 _ hr
        · refine z_aload_n O 1 dX9_move_64 rfl rfl ?_
          refine z_getR O o_Model_v q1778 dX9_move_65 hr (fun v18 hr => ?_)
          refine z_iload_n O 0 dX9_move_68 rfl rfl ?_
          refine z_iload_n O 3 dX9_move_69 rfl rfl ?_
          refine z_iconst O dX9_move_70 kic_5 ?_
          refine bs hr (fun v19 hF hr => ?_)
          refine z_callS O [vi v12, vi x2, vi (5 : Int32)] (vi v19) fS_X9_part q2223 (fun l G => mX9_part l G v12 x2 (5 : Int32) h1 _ hF) rfl ⟨Nat.le_of_ble_eq_true rfl, Nat.le_of_ble_eq_true rfl⟩ (Nat.le_of_ble_eq_true rfl) dX9_move_71 ?_
          refine z_iaload O dX9_move_74 hr (fun v20 hr => ?_)
          refine z_iconst O dX9_move_75 kic_1 ?_
          refine z_icmp_eq (tgt := 95) O dX9_move_76 (by decide) hr (fun hr => ?_) (fun hr => ?_)
          · refine z_aload_n O 1 dX9_move_95 rfl rfl ?_
            refine z_iconst O dX9_move_96 kic_5 ?_
            refine b2s hr (fun v22 h21 hF hr => ?_)
            refine z_callV O [vi (5 : Int32)] (vi v22) fV_X9_denied q2579 (fun l G => mX9_denied l G x0 (5 : Int32) h1 _ hF) (zck hF) rfl rfl ⟨Nat.le_of_ble_eq_true rfl, Nat.le_of_ble_eq_true rfl⟩ (Nat.le_of_ble_eq_true rfl) dX9_move_97 ?_
            refine bs hr (fun v23 e0 hr => ?_)
            obtain ⟨e1, e2, -⟩ := zb_spec e0
            exact z_zret O e2 dX9_move_100 (by cases hr; cases e1; rfl)
          · refine z_aload_n O 1 dX9_move_79 rfl rfl ?_
            refine z_getR O o_Model_v q1778 dX9_move_80 hr (fun v24 hr => ?_)
            refine z_iload_n O 0 dX9_move_83 rfl rfl ?_
            refine z_iload_n O 3 dX9_move_84 rfl rfl ?_
            refine z_bipush O dX9_move_85 kbi_6 ?_
            refine bs hr (fun v25 hF hr => ?_)
            refine z_callS O [vi v12, vi x2, vi (6 : Int32)] (vi v25) fS_X9_part q2223 (fun l G => mX9_part l G v12 x2 (6 : Int32) h1 _ hF) rfl ⟨Nat.le_of_ble_eq_true rfl, Nat.le_of_ble_eq_true rfl⟩ (Nat.le_of_ble_eq_true rfl) dX9_move_87 ?_
            refine z_iaload O dX9_move_90 hr (fun v26 hr => ?_)
            refine z_iconst O dX9_move_91 kic_1 ?_
            refine z_icmp_ne (tgt := 101) O dX9_move_92 (by decide) hr (fun hr => ?_) (fun hr => ?_)
            · refine z_aload_n O 1 dX9_move_95 rfl rfl ?_
              refine z_iconst O dX9_move_96 kic_5 ?_
              refine b2s hr (fun v28 h27 hF hr => ?_)
              refine z_callV O [vi (5 : Int32)] (vi v28) fV_X9_denied q2579 (fun l G => mX9_denied l G x0 (5 : Int32) h1 _ hF) (zck hF) rfl rfl ⟨Nat.le_of_ble_eq_true rfl, Nat.le_of_ble_eq_true rfl⟩ (Nat.le_of_ble_eq_true rfl) dX9_move_97 ?_
              refine bs hr (fun v29 e0 hr => ?_)
              obtain ⟨e1, e2, -⟩ := zb_spec e0
              exact z_zret O e2 dX9_move_100 (by cases hr; cases e1; rfl)
            · refine z_sub [1, 2, 3] rfl ?_
              exact wX9_move_101 O N x0 x1 x2 h1 _ hr
theorem fV_X9_order : CVf RX9 yX9_order cX9_order 3 (some .int) 2 := ⟨q2544, q2545, q137, q2546, ⟨⟨by decide +kernel, by decide +kernel⟩, by decide +kernel⟩⟩
def F_X9_order (N : Nat) (x0 : Option Nat) (x1 : Int32) (x2 : Int32) (h : AH) : Option (Int32 × AH) :=
  (ck h [9] x0).bind fun _ =>
  (pI h f_Model_thrown x0 (0 : Int32)).bind fun h1 =>
  (F_X9_isWall x0 x2 h1).bind fun v2 =>
  if v2 = 0 then
    b2 (F_X9_refused x0 (1 : Int32) h1) fun v4 h3 =>
    some (v4, h3)
  else
    if 0 ≤ x1 then
      (F_X9_findsOrders N x0 x1 h1).bind fun h5 =>
      (gI h5 f_Model_many x0).bind fun v6 =>
      if v6 ≤ x1 then
        b2 (F_X9_refused x0 (1 : Int32) h5) fun v8 h7 =>
        some (v8, h7)
      else
        (gR h5 f_Model_wanted x0).bind fun v9 =>
        (aI h5 0 v9 x2).bind fun v10 =>
        b2 (F_X9_good x0 v10 h5) fun v12 h11 =>
        some (v12, h11)
    else
      b2 (F_X9_refused x0 (1 : Int32) h1) fun v14 h13 =>
      some (v14, h13)
theorem mX9_order (l : Launch) (G : ZG) (N : Nat) (x0 : Option Nat) (x1 : Int32) (x2 : Int32) (h : AH) (r : Int32 × AH) (hr : F_X9_order N x0 x1 x2 h = some r) : MZ l G yX9_order cX9_order 3 (some .int) 5 139 [vr x0, vi x1, vi x2] h (eIH r) := by
  unfold F_X9_order at hr
  refine MZ.of (by decide) [(0, vr x0), (1, vi x1), (2, vi x2)] rfl (Nat.le_of_ble_eq_true rfl) (fun K O => ?_)
  have O : ZOk K cX9_order RX9 "order" 3 (some .int) 5 139 := O
  refine bs hr (fun _ hck hr => ?_)
  refine z_aload_n O 0 dX9_order_0 rfl rfl ?_
  refine z_iconst O dX9_order_1 kic_0 ?_
  refine z_putI O o_Model_thrown (w_Model_thrown _) q1762 dX9_order_2 hr (fun h1 hr => ?_)
  refine z_aload_n O 0 dX9_order_5 rfl rfl ?_
  refine z_iload_n O 2 dX9_order_6 rfl rfl ?_
  refine bs hr (fun v2 hF hr => ?_)
  refine z_callV O [vi x2] (vi v2) fV_X9_isWall q2547 (fun l G => mX9_isWall l G x0 x2 h1 _ hF) (zck hF) rfl rfl ⟨Nat.le_of_ble_eq_true rfl, Nat.le_of_ble_eq_true rfl⟩ (Nat.le_of_ble_eq_true rfl) dX9_order_7 ?_
  refine z_if_eq (tgt := 17) O dX9_order_10 (by decide) hr (fun hr => ?_) (fun hr => ?_)
  · refine z_aload_n O 0 dX9_order_17 rfl rfl ?_
    refine z_iconst O dX9_order_18 kic_1 ?_
    refine b2s hr (fun v4 h3 hF hr => ?_)
    refine z_callV O [vi (1 : Int32)] (vi v4) fV_X9_refused q1886 (fun l G => mX9_refused l G x0 (1 : Int32) h1 _ hF) (zck hF) rfl rfl ⟨Nat.le_of_ble_eq_true rfl, Nat.le_of_ble_eq_true rfl⟩ (Nat.le_of_ble_eq_true rfl) dX9_order_19 ?_
    exact z_iret O dX9_order_22 (by cases hr; rfl)
  · refine z_iload_n O 1 dX9_order_13 rfl rfl ?_
    refine z_if_ge (tgt := 23) O dX9_order_14 (by decide) hr (fun hr => ?_) (fun hr => ?_)
    · refine z_aload_n O 0 dX9_order_23 rfl rfl ?_
      refine z_iload_n O 1 dX9_order_24 rfl rfl ?_
      refine bs hr (fun h5 hF hr => ?_)
      refine z_callVv O [vi x1] fV_X9_findsOrders q2531 (fun l G => mX9_findsOrders l G N x0 x1 h1 _ hF) (zck hF) rfl rfl ⟨Nat.le_of_ble_eq_true rfl, Nat.le_of_ble_eq_true rfl⟩ (Nat.le_of_ble_eq_true rfl) dX9_order_25 ?_
      refine z_iload_n O 1 dX9_order_28 rfl rfl ?_
      refine z_aload_n O 0 dX9_order_29 rfl rfl ?_
      refine z_getI O o_Model_many q1798 dX9_order_30 hr (fun v6 hr => ?_)
      refine z_icmp_ge (tgt := 49) O dX9_order_33 (by decide) hr (fun hr => ?_) (fun hr => ?_)
      · refine z_aload_n O 0 dX9_order_49 rfl rfl ?_
        refine z_iconst O dX9_order_50 kic_1 ?_
        refine b2s hr (fun v8 h7 hF hr => ?_)
        refine z_callV O [vi (1 : Int32)] (vi v8) fV_X9_refused q1886 (fun l G => mX9_refused l G x0 (1 : Int32) h5 _ hF) (zck hF) rfl rfl ⟨Nat.le_of_ble_eq_true rfl, Nat.le_of_ble_eq_true rfl⟩ (Nat.le_of_ble_eq_true rfl) dX9_order_51 ?_
        exact z_iret O dX9_order_54 (by cases hr; rfl)
      · refine z_aload_n O 0 dX9_order_36 rfl rfl ?_
        refine z_aload_n O 0 dX9_order_37 rfl rfl ?_
        refine z_getR O o_Model_wanted q1797 dX9_order_38 hr (fun v9 hr => ?_)
        refine z_iload_n O 2 dX9_order_41 rfl rfl ?_
        refine z_iaload O dX9_order_42 hr (fun v10 hr => ?_)
        refine b2s hr (fun v12 h11 hF hr => ?_)
        refine z_callV O [vi v10] (vi v12) fV_X9_good q2249 (fun l G => mX9_good l G x0 v10 h5 _ hF) (zck hF) rfl rfl ⟨Nat.le_of_ble_eq_true rfl, Nat.le_of_ble_eq_true rfl⟩ (Nat.le_of_ble_eq_true rfl) dX9_order_43 ?_
        refine z_goto (tgt := 54) O dX9_order_46 (by decide) ?_
        exact z_iret O dX9_order_54 (by cases hr; rfl)
    · refine z_aload_n O 0 dX9_order_17 rfl rfl ?_
      refine z_iconst O dX9_order_18 kic_1 ?_
      refine b2s hr (fun v14 h13 hF hr => ?_)
      refine z_callV O [vi (1 : Int32)] (vi v14) fV_X9_refused q1886 (fun l G => mX9_refused l G x0 (1 : Int32) h1 _ hF) (zck hF) rfl rfl ⟨Nat.le_of_ble_eq_true rfl, Nat.le_of_ble_eq_true rfl⟩ (Nat.le_of_ble_eq_true rfl) dX9_order_19 ?_
      exact z_iret O dX9_order_22 (by cases hr; rfl)
theorem fV_X9_orders : CVf RX9 yX9_orders cX9_orders 1 (some .int) 0 := ⟨q2528, q2529, q137, q2530, ⟨⟨by decide +kernel, by decide +kernel⟩, by decide +kernel⟩⟩
def F_X9_orders (N : Nat) (x0 : Option Nat) (h : AH) : Option (Int32 × AH) :=
  (ck h [9] x0).bind fun _ =>
  (pI h f_Model_thrown x0 (0 : Int32)).bind fun h1 =>
  (gR h1 f_Model_land x0).bind fun v2 =>
  if v2 = none then
    b2 (F_X9_refused x0 (1 : Int32) h1) fun v8 h7 =>
    some (v8, h7)
  else
    (F_X9_findsOrders N x0 (-1 : Int32) h1).bind fun h3 =>
    (gI h3 f_Model_many x0).bind fun v4 =>
    b2 (F_X9_good x0 v4 h3) fun v6 h5 =>
    some (v6, h5)
theorem mX9_orders (l : Launch) (G : ZG) (N : Nat) (x0 : Option Nat) (h : AH) (r : Int32 × AH) (hr : F_X9_orders N x0 h = some r) : MZ l G yX9_orders cX9_orders 1 (some .int) 5 139 [vr x0] h (eIH r) := by
  unfold F_X9_orders at hr
  refine MZ.of (by decide) [(0, vr x0)] rfl (Nat.le_of_ble_eq_true rfl) (fun K O => ?_)
  have O : ZOk K cX9_orders RX9 "orders" 1 (some .int) 5 139 := O
  refine bs hr (fun _ hck hr => ?_)
  refine z_aload_n O 0 dX9_orders_0 rfl rfl ?_
  refine z_iconst O dX9_orders_1 kic_0 ?_
  refine z_putI O o_Model_thrown (w_Model_thrown _) q1762 dX9_orders_2 hr (fun h1 hr => ?_)
  refine z_aload_n O 0 dX9_orders_5 rfl rfl ?_
  refine z_getR O o_Model_land q1765 dX9_orders_6 hr (fun v2 hr => ?_)
  refine z_ifnonnull (tgt := 18) O dX9_orders_9 (by decide) hr (fun hr => ?_) (fun hr => ?_)
  · refine z_aload_n O 0 dX9_orders_12 rfl rfl ?_
    refine z_iconst O dX9_orders_13 kic_1 ?_
    refine b2s hr (fun v8 h7 hF hr => ?_)
    refine z_callV O [vi (1 : Int32)] (vi v8) fV_X9_refused q1886 (fun l G => mX9_refused l G x0 (1 : Int32) h1 _ hF) (zck hF) rfl rfl ⟨Nat.le_of_ble_eq_true rfl, Nat.le_of_ble_eq_true rfl⟩ (Nat.le_of_ble_eq_true rfl) dX9_orders_14 ?_
    exact z_iret O dX9_orders_17 (by cases hr; rfl)
  · refine z_aload_n O 0 dX9_orders_18 rfl rfl ?_
    refine z_iconst O dX9_orders_19 kic_m1 ?_
    refine bs hr (fun h3 hF hr => ?_)
    refine z_callVv O [vi (-1 : Int32)] fV_X9_findsOrders q2531 (fun l G => mX9_findsOrders l G N x0 (-1 : Int32) h1 _ hF) (zck hF) rfl rfl ⟨Nat.le_of_ble_eq_true rfl, Nat.le_of_ble_eq_true rfl⟩ (Nat.le_of_ble_eq_true rfl) dX9_orders_20 ?_
    refine z_aload_n O 0 dX9_orders_23 rfl rfl ?_
    refine z_aload_n O 0 dX9_orders_24 rfl rfl ?_
    refine z_getI O o_Model_many q1798 dX9_orders_25 hr (fun v4 hr => ?_)
    refine b2s hr (fun v6 h5 hF hr => ?_)
    refine z_callV O [vi v4] (vi v6) fV_X9_good q2249 (fun l G => mX9_good l G x0 v4 h3 _ hF) (zck hF) rfl rfl ⟨Nat.le_of_ble_eq_true rfl, Nat.le_of_ble_eq_true rfl⟩ (Nat.le_of_ble_eq_true rfl) dX9_orders_28 ?_
    exact z_iret O dX9_orders_31 (by cases hr; rfl)
theorem fV_X9_room : CVf RX9 yX9_room cX9_room 3 (some .int) 1 := ⟨q2481, q2482, q137, q2483, ⟨⟨by decide +kernel, by decide +kernel⟩, by decide +kernel⟩⟩
def BX9_room_25 (N : Nat) (x0 : Option Nat) (x1 : Int32) (rec25 : Int32 → AH → Option (Int32 × AH)) : Int32 → AH → Option (Int32 × AH) := fun x2 h =>
  (gR h f_Model_w x0).bind fun v1 =>
  b2 (F_X9_findsDoor N x0 v1 x1 h) fun v3 h2 =>
  if v3 = 0 then
    b2 (F_X9_good x0 x2 h2) fun v5 h4 =>
    some (v5, h4)
  else
    (gR h2 f_Model_w x0).bind fun v6 =>
    (gR h2 f_Model_land x0).bind fun v7 =>
    (gR h2 f_MLand_stoneOf v7).bind fun v8 =>
    (aI h2 0 v8 x1).bind fun v9 =>
    (gI h2 f_Model_newSide x0).bind fun v10 =>
    (gI h2 f_Model_newPlace x0).bind fun v11 =>
    (F_X9_adds v6 x1 v9 v10 v11 (0 : Int32) (0 : Int32) h2).bind fun h12 =>
    jlet (x2 + (1 : Int32)) fun v13 =>
    rec25 v13 h12
def LX9_room_25 (N : Nat) (x0 : Option Nat) (x1 : Int32) : Int32 → AH → Option (Int32 × AH) := lf (fun _ _ => none) (BX9_room_25 N x0 x1) N
theorem wX9_room_25B {K : ZC} (O : ZOk K cX9_room RX9 "room" 3 (some .int) 6 173) (N : Nat) (x0 : Option Nat) (x1 : Int32) (rec25 : Int32 → AH → Option (Int32 × AH)) (hrec25 : ∀ (y2 : Int32) (hy : AH) (ry : Int32 × AH), rec25 y2 hy = some ry → Zw K (eIH ry) hy 25 [(0, vr x0), (1, vi x1), (2, vi y2)] []) (x2 : Int32) (h : AH) (r : Int32 × AH) (hr : BX9_room_25 N x0 x1 rec25 x2 h = some r) : Zw K (eIH r) h 25 [(0, vr x0), (1, vi x1), (2, vi x2)] [] := by
  unfold BX9_room_25 at hr
  refine z_aload_n O 0 dX9_room_25 rfl rfl ?_
  refine z_aload_n O 0 dX9_room_26 rfl rfl ?_
  refine z_getR O o_Model_w q1779 dX9_room_27 hr (fun v1 hr => ?_)
  refine z_iload_n O 1 dX9_room_30 rfl rfl ?_
  refine b2s hr (fun v3 h2 hF hr => ?_)
  refine z_callV O [vr v1, vi x1] (vi v3) fV_X9_findsDoor q2355 (fun l G => mX9_findsDoor l G N x0 v1 x1 h _ hF) (zck hF) rfl rfl ⟨Nat.le_of_ble_eq_true rfl, Nat.le_of_ble_eq_true rfl⟩ (Nat.le_of_ble_eq_true rfl) dX9_room_31 ?_
  refine z_if_eq (tgt := 70) O dX9_room_34 (by decide) hr (fun hr => ?_) (fun hr => ?_)
  · refine z_aload_n O 0 dX9_room_70 rfl rfl ?_
    refine z_iload_n O 2 dX9_room_71 rfl rfl ?_
    refine b2s hr (fun v5 h4 hF hr => ?_)
    refine z_callV O [vi x2] (vi v5) fV_X9_good q2249 (fun l G => mX9_good l G x0 x2 h2 _ hF) (zck hF) rfl rfl ⟨Nat.le_of_ble_eq_true rfl, Nat.le_of_ble_eq_true rfl⟩ (Nat.le_of_ble_eq_true rfl) dX9_room_72 ?_
    exact z_iret O dX9_room_75 (by cases hr; rfl)
  · refine z_aload_n O 0 dX9_room_37 rfl rfl ?_
    refine z_getR O o_Model_w q1779 dX9_room_38 hr (fun v6 hr => ?_)
    refine z_iload_n O 1 dX9_room_41 rfl rfl ?_
    refine z_aload_n O 0 dX9_room_42 rfl rfl ?_
    refine z_getR O o_Model_land q1765 dX9_room_43 hr (fun v7 hr => ?_)
    refine z_getRN O o_MLand_stoneOf zn1930 dX9_room_46 hr (fun v8 hr => ?_)
    refine z_iload_n O 1 dX9_room_49 rfl rfl ?_
    refine z_iaload O dX9_room_50 hr (fun v9 hr => ?_)
    refine z_aload_n O 0 dX9_room_51 rfl rfl ?_
    refine z_getI O o_Model_newSide q1784 dX9_room_52 hr (fun v10 hr => ?_)
    refine z_aload_n O 0 dX9_room_55 rfl rfl ?_
    refine z_getI O o_Model_newPlace q1785 dX9_room_56 hr (fun v11 hr => ?_)
    refine z_iconst O dX9_room_59 kic_0 ?_
    refine z_iconst O dX9_room_60 kic_0 ?_
    refine bs hr (fun h12 hF hr => ?_)
    refine z_callSv O [vr v6, vi x1, vi v9, vi v10, vi v11, vi (0 : Int32), vi (0 : Int32)] fS_X9_adds q2220 (fun l G => mX9_adds l G v6 x1 v9 v10 v11 (0 : Int32) (0 : Int32) h2 _ hF) rfl ⟨Nat.le_of_ble_eq_true rfl, Nat.le_of_ble_eq_true rfl⟩ (Nat.le_of_ble_eq_true rfl) dX9_room_61 ?_
    refine z_iincL O 2 (fun v13 => [(2, vi v13), (0, vr x0), (1, vi x1)]) dX9_room_64 rfl rfl (by decide) (fun _ => rfl) hr (fun v13 hr => ?_)
    refine z_goto (tgt := 25) O dX9_room_67 (by decide) ?_
    refine z_sub [1, 2, 0] rfl ?_
    exact hrec25 v13 h12 _ hr
theorem wX9_room_25 {K : ZC} (O : ZOk K cX9_room RX9 "room" 3 (some .int) 6 173) (N : Nat) (x0 : Option Nat) (x1 : Int32) : ∀ (n : Nat) (x2 : Int32) (h : AH) (r : Int32 × AH), lf (fun _ _ => none) (BX9_room_25 N x0 x1) n x2 h = some r → Zw K (eIH r) h 25 [(0, vr x0), (1, vi x1), (2, vi x2)] [] := by
  intro n
  induction n with
  | zero => intro x2 h r hr; cases hr
  | succ n ih => intro x2 h r hr; exact wX9_room_25B O N x0 x1 (lf (fun _ _ => none) (BX9_room_25 N x0 x1) n)  ih x2 h r hr
def F_X9_room (N : Nat) (x0 : Option Nat) (x1 : Int32) (h : AH) : Option (Int32 × AH) :=
  (ck h [9] x0).bind fun _ =>
  (pI h f_Model_thrown x0 (0 : Int32)).bind fun h1 =>
  (F_X9_isHouse x0 x1 h1).bind fun v2 =>
  if v2 = 0 then
    b2 (F_X9_refused x0 (1 : Int32) h1) fun v5 h4 =>
    some (v5, h4)
  else
    (F_X9_copies N x0 h1).bind fun h3 =>
    LX9_room_25 N x0 x1 (0 : Int32) h3
theorem mX9_room (l : Launch) (G : ZG) (N : Nat) (x0 : Option Nat) (x1 : Int32) (h : AH) (r : Int32 × AH) (hr : F_X9_room N x0 x1 h = some r) : MZ l G yX9_room cX9_room 3 (some .int) 6 173 [vr x0, vi x1] h (eIH r) := by
  unfold F_X9_room at hr
  refine MZ.of (by decide) [(0, vr x0), (1, vi x1)] rfl (Nat.le_of_ble_eq_true rfl) (fun K O => ?_)
  have O : ZOk K cX9_room RX9 "room" 3 (some .int) 6 173 := O
  refine bs hr (fun _ hck hr => ?_)
  refine z_aload_n O 0 dX9_room_0 rfl rfl ?_
  refine z_iconst O dX9_room_1 kic_0 ?_
  refine z_putI O o_Model_thrown (w_Model_thrown _) q1762 dX9_room_2 hr (fun h1 hr => ?_)
  refine z_aload_n O 0 dX9_room_5 rfl rfl ?_
  refine z_iload_n O 1 dX9_room_6 rfl rfl ?_
  refine bs hr (fun v2 hF hr => ?_)
  refine z_callV O [vi x1] (vi v2) fV_X9_isHouse q2292 (fun l G => mX9_isHouse l G x0 x1 h1 _ hF) (zck hF) rfl rfl ⟨Nat.le_of_ble_eq_true rfl, Nat.le_of_ble_eq_true rfl⟩ (Nat.le_of_ble_eq_true rfl) dX9_room_7 ?_
  refine z_if_ne (tgt := 19) O dX9_room_10 (by decide) hr (fun hr => ?_) (fun hr => ?_)
  · refine z_aload_n O 0 dX9_room_13 rfl rfl ?_
    refine z_iconst O dX9_room_14 kic_1 ?_
    refine b2s hr (fun v5 h4 hF hr => ?_)
    refine z_callV O [vi (1 : Int32)] (vi v5) fV_X9_refused q1886 (fun l G => mX9_refused l G x0 (1 : Int32) h1 _ hF) (zck hF) rfl rfl ⟨Nat.le_of_ble_eq_true rfl, Nat.le_of_ble_eq_true rfl⟩ (Nat.le_of_ble_eq_true rfl) dX9_room_15 ?_
    exact z_iret O dX9_room_18 (by cases hr; rfl)
  · refine z_aload_n O 0 dX9_room_19 rfl rfl ?_
    refine bs hr (fun h3 hF hr => ?_)
    refine z_callVv O [] fV_X9_copies q2435 (fun l G => mX9_copies l G N x0 h1 _ hF) (zck hF) rfl rfl ⟨Nat.le_of_ble_eq_true rfl, Nat.le_of_ble_eq_true rfl⟩ (Nat.le_of_ble_eq_true rfl) dX9_room_20 ?_
    refine z_iconst O dX9_room_23 kic_0 ?_
    refine z_istore_n O [(2, vi (0 : Int32)), (0, vr x0), (1, vi x1)] dX9_room_24 rfl (by decide) rfl ?_
    refine z_sub [1, 2, 0] rfl ?_
    exact wX9_room_25 O N x0 x1 _ (0 : Int32) h3 _ hr
theorem fS_X9_roundIn : CSf yX9_roundIn cX9_roundIn 3 (some .int) 3 := ⟨q2394, q137, q2395, ⟨⟨by decide +kernel, by decide +kernel⟩, by decide +kernel⟩⟩
def F_X9_roundIn (x0 : Option Nat) (x1 : Int32) (x2 : Int32) (h : AH) : Option (Int32) :=
  (F_X9_part x1 x2 (1 : Int32)).bind fun v1 =>
  (aI h 0 x0 v1).bind fun v2 =>
  (F_X9_part x1 x2 (2 : Int32)).bind fun v3 =>
  (aI h 0 x0 v3).bind fun v4 =>
  (F_X9_doorPlace x2 v2 v4).bind fun v5 =>
  (F_X9_part x1 (x2 - (1 : Int32)) (1 : Int32)).bind fun v6 =>
  (aI h 0 x0 v6).bind fun v7 =>
  (F_X9_part x1 (x2 - (1 : Int32)) (2 : Int32)).bind fun v8 =>
  (aI h 0 x0 v8).bind fun v9 =>
  (F_X9_frontPlace (x2 - (1 : Int32)) v7 v9).bind fun v10 =>
  (F_X9_roundOf x2 v5 v10).bind fun v11 =>
  some v11
theorem mX9_roundIn (l : Launch) (G : ZG) (x0 : Option Nat) (x1 : Int32) (x2 : Int32) (h : AH) (r : Int32) (hr : F_X9_roundIn x0 x1 x2 h = some r) : MZ l G yX9_roundIn cX9_roundIn 3 (some .int) 3 92 [vr x0, vi x1, vi x2] h (eI h r) := by
  unfold F_X9_roundIn at hr
  refine MZ.of (by decide) [(0, vr x0), (1, vi x1), (2, vi x2)] rfl (Nat.le_of_ble_eq_true rfl) (fun K O => ?_)
  have O : ZOk K cX9_roundIn RX9 "roundIn" 3 (some .int) 3 92 := O
  refine z_iload_n O 2 dX9_roundIn_0 rfl rfl ?_
  refine z_iload_n O 2 dX9_roundIn_1 rfl rfl ?_
  refine z_aload_n O 0 dX9_roundIn_2 rfl rfl ?_
  refine z_iload_n O 1 dX9_roundIn_3 rfl rfl ?_
  refine z_iload_n O 2 dX9_roundIn_4 rfl rfl ?_
  refine z_iconst O dX9_roundIn_5 kic_1 ?_
  refine bs hr (fun v1 hF hr => ?_)
  refine z_callS O [vi x1, vi x2, vi (1 : Int32)] (vi v1) fS_X9_part q2223 (fun l G => mX9_part l G x1 x2 (1 : Int32) h _ hF) rfl ⟨Nat.le_of_ble_eq_true rfl, Nat.le_of_ble_eq_true rfl⟩ (Nat.le_of_ble_eq_true rfl) dX9_roundIn_6 ?_
  refine z_iaload O dX9_roundIn_9 hr (fun v2 hr => ?_)
  refine z_aload_n O 0 dX9_roundIn_10 rfl rfl ?_
  refine z_iload_n O 1 dX9_roundIn_11 rfl rfl ?_
  refine z_iload_n O 2 dX9_roundIn_12 rfl rfl ?_
  refine z_iconst O dX9_roundIn_13 kic_2 ?_
  refine bs hr (fun v3 hF hr => ?_)
  refine z_callS O [vi x1, vi x2, vi (2 : Int32)] (vi v3) fS_X9_part q2223 (fun l G => mX9_part l G x1 x2 (2 : Int32) h _ hF) rfl ⟨Nat.le_of_ble_eq_true rfl, Nat.le_of_ble_eq_true rfl⟩ (Nat.le_of_ble_eq_true rfl) dX9_roundIn_14 ?_
  refine z_iaload O dX9_roundIn_17 hr (fun v4 hr => ?_)
  refine bs hr (fun v5 hF hr => ?_)
  refine z_callS O [vi x2, vi v2, vi v4] (vi v5) fS_X9_doorPlace q2359 (fun l G => mX9_doorPlace l G x2 v2 v4 h _ hF) rfl ⟨Nat.le_of_ble_eq_true rfl, Nat.le_of_ble_eq_true rfl⟩ (Nat.le_of_ble_eq_true rfl) dX9_roundIn_18 ?_
  refine z_iload_n O 2 dX9_roundIn_21 rfl rfl ?_
  refine z_iconst O dX9_roundIn_22 kic_1 ?_
  refine z_isub O dX9_roundIn_23 ?_
  refine z_aload_n O 0 dX9_roundIn_24 rfl rfl ?_
  refine z_iload_n O 1 dX9_roundIn_25 rfl rfl ?_
  refine z_iload_n O 2 dX9_roundIn_26 rfl rfl ?_
  refine z_iconst O dX9_roundIn_27 kic_1 ?_
  refine z_isub O dX9_roundIn_28 ?_
  refine z_iconst O dX9_roundIn_29 kic_1 ?_
  refine bs hr (fun v6 hF hr => ?_)
  refine z_callS O [vi x1, vi (x2 - (1 : Int32)), vi (1 : Int32)] (vi v6) fS_X9_part q2223 (fun l G => mX9_part l G x1 (x2 - (1 : Int32)) (1 : Int32) h _ hF) rfl ⟨Nat.le_of_ble_eq_true rfl, Nat.le_of_ble_eq_true rfl⟩ (Nat.le_of_ble_eq_true rfl) dX9_roundIn_30 ?_
  refine z_iaload O dX9_roundIn_33 hr (fun v7 hr => ?_)
  refine z_aload_n O 0 dX9_roundIn_34 rfl rfl ?_
  refine z_iload_n O 1 dX9_roundIn_35 rfl rfl ?_
  refine z_iload_n O 2 dX9_roundIn_36 rfl rfl ?_
  refine z_iconst O dX9_roundIn_37 kic_1 ?_
  refine z_isub O dX9_roundIn_38 ?_
  refine z_iconst O dX9_roundIn_39 kic_2 ?_
  refine bs hr (fun v8 hF hr => ?_)
  refine z_callS O [vi x1, vi (x2 - (1 : Int32)), vi (2 : Int32)] (vi v8) fS_X9_part q2223 (fun l G => mX9_part l G x1 (x2 - (1 : Int32)) (2 : Int32) h _ hF) rfl ⟨Nat.le_of_ble_eq_true rfl, Nat.le_of_ble_eq_true rfl⟩ (Nat.le_of_ble_eq_true rfl) dX9_roundIn_40 ?_
  refine z_iaload O dX9_roundIn_43 hr (fun v9 hr => ?_)
  refine bs hr (fun v10 hF hr => ?_)
  refine z_callS O [vi (x2 - (1 : Int32)), vi v7, vi v9] (vi v10) fS_X9_frontPlace q2365 (fun l G => mX9_frontPlace l G (x2 - (1 : Int32)) v7 v9 h _ hF) rfl ⟨Nat.le_of_ble_eq_true rfl, Nat.le_of_ble_eq_true rfl⟩ (Nat.le_of_ble_eq_true rfl) dX9_roundIn_44 ?_
  refine bs hr (fun v11 hF hr => ?_)
  refine z_callS O [vi x2, vi v5, vi v10] (vi v11) fS_X9_roundOf q2368 (fun l G => mX9_roundOf l G x2 v5 v10 h _ hF) rfl ⟨Nat.le_of_ble_eq_true rfl, Nat.le_of_ble_eq_true rfl⟩ (Nat.le_of_ble_eq_true rfl) dX9_roundIn_47 ?_
  exact z_iret O dX9_roundIn_50 (by cases hr; rfl)
theorem fV_X9_round : CVf RX9 yX9_round cX9_round 3 (some .int) 2 := ⟨q2420, q2421, q137, q2422, ⟨⟨by decide +kernel, by decide +kernel⟩, by decide +kernel⟩⟩
def F_X9_round (x0 : Option Nat) (x1 : Int32) (x2 : Int32) (h : AH) : Option (Int32 × AH) :=
  (ck h [9] x0).bind fun _ =>
  (pI h f_Model_thrown x0 (0 : Int32)).bind fun h1 =>
  (F_X9_isSkin x0 x1 x2 h1).bind fun v2 =>
  if v2 = 0 then
    b2 (F_X9_refused x0 (1 : Int32) h1) fun v4 h3 =>
    some (v4, h3)
  else
    if x2 ≤ (1 : Int32) then
      b2 (F_X9_refused x0 (1 : Int32) h1) fun v6 h5 =>
      some (v6, h5)
    else
      (gR h1 f_Model_v x0).bind fun v7 =>
      (F_X9_roundIn v7 x1 x2 h1).bind fun v8 =>
      b2 (F_X9_good x0 v8 h1) fun v10 h9 =>
      some (v10, h9)
theorem mX9_round (l : Launch) (G : ZG) (x0 : Option Nat) (x1 : Int32) (x2 : Int32) (h : AH) (r : Int32 × AH) (hr : F_X9_round x0 x1 x2 h = some r) : MZ l G yX9_round cX9_round 3 (some .int) 4 114 [vr x0, vi x1, vi x2] h (eIH r) := by
  unfold F_X9_round at hr
  refine MZ.of (by decide) [(0, vr x0), (1, vi x1), (2, vi x2)] rfl (Nat.le_of_ble_eq_true rfl) (fun K O => ?_)
  have O : ZOk K cX9_round RX9 "round" 3 (some .int) 4 114 := O
  refine bs hr (fun _ hck hr => ?_)
  refine z_aload_n O 0 dX9_round_0 rfl rfl ?_
  refine z_iconst O dX9_round_1 kic_0 ?_
  refine z_putI O o_Model_thrown (w_Model_thrown _) q1762 dX9_round_2 hr (fun h1 hr => ?_)
  refine z_aload_n O 0 dX9_round_5 rfl rfl ?_
  refine z_iload_n O 1 dX9_round_6 rfl rfl ?_
  refine z_iload_n O 2 dX9_round_7 rfl rfl ?_
  refine bs hr (fun v2 hF hr => ?_)
  refine z_callV O [vi x1, vi x2] (vi v2) fV_X9_isSkin q2319 (fun l G => mX9_isSkin l G x0 x1 x2 h1 _ hF) (zck hF) rfl rfl ⟨Nat.le_of_ble_eq_true rfl, Nat.le_of_ble_eq_true rfl⟩ (Nat.le_of_ble_eq_true rfl) dX9_round_8 ?_
  refine z_if_eq (tgt := 35) O dX9_round_11 (by decide) hr (fun hr => ?_) (fun hr => ?_)
  · refine z_aload_n O 0 dX9_round_35 rfl rfl ?_
    refine z_iconst O dX9_round_36 kic_1 ?_
    refine b2s hr (fun v4 h3 hF hr => ?_)
    refine z_callV O [vi (1 : Int32)] (vi v4) fV_X9_refused q1886 (fun l G => mX9_refused l G x0 (1 : Int32) h1 _ hF) (zck hF) rfl rfl ⟨Nat.le_of_ble_eq_true rfl, Nat.le_of_ble_eq_true rfl⟩ (Nat.le_of_ble_eq_true rfl) dX9_round_37 ?_
    exact z_iret O dX9_round_40 (by cases hr; rfl)
  · refine z_iload_n O 2 dX9_round_14 rfl rfl ?_
    refine z_iconst O dX9_round_15 kic_1 ?_
    refine z_icmp_le (tgt := 35) O dX9_round_16 (by decide) hr (fun hr => ?_) (fun hr => ?_)
    · refine z_aload_n O 0 dX9_round_35 rfl rfl ?_
      refine z_iconst O dX9_round_36 kic_1 ?_
      refine b2s hr (fun v6 h5 hF hr => ?_)
      refine z_callV O [vi (1 : Int32)] (vi v6) fV_X9_refused q1886 (fun l G => mX9_refused l G x0 (1 : Int32) h1 _ hF) (zck hF) rfl rfl ⟨Nat.le_of_ble_eq_true rfl, Nat.le_of_ble_eq_true rfl⟩ (Nat.le_of_ble_eq_true rfl) dX9_round_37 ?_
      exact z_iret O dX9_round_40 (by cases hr; rfl)
    · refine z_aload_n O 0 dX9_round_19 rfl rfl ?_
      refine z_aload_n O 0 dX9_round_20 rfl rfl ?_
      refine z_getR O o_Model_v q1778 dX9_round_21 hr (fun v7 hr => ?_)
      refine z_iload_n O 1 dX9_round_24 rfl rfl ?_
      refine z_iload_n O 2 dX9_round_25 rfl rfl ?_
      refine bs hr (fun v8 hF hr => ?_)
      refine z_callS O [vr v7, vi x1, vi x2] (vi v8) fS_X9_roundIn q2393 (fun l G => mX9_roundIn l G v7 x1 x2 h1 _ hF) rfl ⟨Nat.le_of_ble_eq_true rfl, Nat.le_of_ble_eq_true rfl⟩ (Nat.le_of_ble_eq_true rfl) dX9_round_26 ?_
      refine b2s hr (fun v10 h9 hF hr => ?_)
      refine z_callV O [vi v8] (vi v10) fV_X9_good q2249 (fun l G => mX9_good l G x0 v8 h1 _ hF) (zck hF) rfl rfl ⟨Nat.le_of_ble_eq_true rfl, Nat.le_of_ble_eq_true rfl⟩ (Nat.le_of_ble_eq_true rfl) dX9_round_29 ?_
      refine z_goto (tgt := 40) O dX9_round_32 (by decide) ?_
      exact z_iret O dX9_round_40 (by cases hr; rfl)
theorem fV_X9_seed : CVf RX9 yX9_seed cX9_seed 2 (some .boolean) 1 := ⟨q2604, q2605, q137, q2606, ⟨⟨by decide +kernel, by decide +kernel⟩, by decide +kernel⟩⟩
def F_X9_seed (x0 : Option Nat) (x1 : Int32) (h : AH) : Option (Int32 × AH) :=
  (ck h [9] x0).bind fun _ =>
  (pI h f_Model_thrown x0 (0 : Int32)).bind fun h1 =>
  (gR h1 f_Model_land x0).bind fun v2 =>
  if v2 = none then
    b2 (F_X9_denied x0 (1 : Int32) h1) fun v13 h12 =>
    (zb v13).bind fun v14 => some (v14, h12)
  else
    (F_X9_within x1 (0 : Int32) (65536 : Int32)).bind fun v3 =>
    if v3 = 0 then
      b2 (F_X9_denied x0 (2 : Int32) h1) fun v10 h9 =>
      (zb v10).bind fun v11 => some (v11, h9)
    else
      (gR h1 f_Model_v x0).bind fun v4 =>
      (sA h1 0 v4 (211 : Int32) x1).bind fun h5 =>
      b2 (F_X9_granted x0 h5) fun v7 h6 =>
      (zb v7).bind fun v8 => some (v8, h6)
theorem mX9_seed (l : Launch) (G : ZG) (x0 : Option Nat) (x1 : Int32) (h : AH) (r : Int32 × AH) (hr : F_X9_seed x0 x1 h = some r) : MZ l G yX9_seed cX9_seed 2 (some .boolean) 3 90 [vr x0, vi x1] h (eIH r) := by
  unfold F_X9_seed at hr
  refine MZ.of (by decide) [(0, vr x0), (1, vi x1)] rfl (Nat.le_of_ble_eq_true rfl) (fun K O => ?_)
  have O : ZOk K cX9_seed RX9 "seed" 2 (some .boolean) 3 90 := O
  refine bs hr (fun _ hck hr => ?_)
  refine z_aload_n O 0 dX9_seed_0 rfl rfl ?_
  refine z_iconst O dX9_seed_1 kic_0 ?_
  refine z_putI O o_Model_thrown (w_Model_thrown _) q1762 dX9_seed_2 hr (fun h1 hr => ?_)
  refine z_aload_n O 0 dX9_seed_5 rfl rfl ?_
  refine z_getR O o_Model_land q1765 dX9_seed_6 hr (fun v2 hr => ?_)
  refine z_ifnonnull (tgt := 18) O dX9_seed_9 (by decide) hr (fun hr => ?_) (fun hr => ?_)
  · refine z_aload_n O 0 dX9_seed_12 rfl rfl ?_
    refine z_iconst O dX9_seed_13 kic_1 ?_
    refine b2s hr (fun v13 h12 hF hr => ?_)
    refine z_callV O [vi (1 : Int32)] (vi v13) fV_X9_denied q2579 (fun l G => mX9_denied l G x0 (1 : Int32) h1 _ hF) (zck hF) rfl rfl ⟨Nat.le_of_ble_eq_true rfl, Nat.le_of_ble_eq_true rfl⟩ (Nat.le_of_ble_eq_true rfl) dX9_seed_14 ?_
    refine bs hr (fun v14 e0 hr => ?_)
    obtain ⟨e1, e2, -⟩ := zb_spec e0
    exact z_zret O e2 dX9_seed_17 (by cases hr; cases e1; rfl)
  · refine z_iload_n O 1 dX9_seed_18 rfl rfl ?_
    refine z_iconst O dX9_seed_19 kic_0 ?_
    refine z_ldcw O q2506 dX9_seed_20 ?_
    refine bs hr (fun v3 hF hr => ?_)
    refine z_callS O [vi x1, vi (0 : Int32), vi (65536 : Int32)] (vi v3) fS_X9_within q2096 (fun l G => mX9_within l G x1 (0 : Int32) (65536 : Int32) h1 _ hF) rfl ⟨Nat.le_of_ble_eq_true rfl, Nat.le_of_ble_eq_true rfl⟩ (Nat.le_of_ble_eq_true rfl) dX9_seed_23 ?_
    refine z_if_ne (tgt := 35) O dX9_seed_26 (by decide) hr (fun hr => ?_) (fun hr => ?_)
    · refine z_aload_n O 0 dX9_seed_29 rfl rfl ?_
      refine z_iconst O dX9_seed_30 kic_2 ?_
      refine b2s hr (fun v10 h9 hF hr => ?_)
      refine z_callV O [vi (2 : Int32)] (vi v10) fV_X9_denied q2579 (fun l G => mX9_denied l G x0 (2 : Int32) h1 _ hF) (zck hF) rfl rfl ⟨Nat.le_of_ble_eq_true rfl, Nat.le_of_ble_eq_true rfl⟩ (Nat.le_of_ble_eq_true rfl) dX9_seed_31 ?_
      refine bs hr (fun v11 e0 hr => ?_)
      obtain ⟨e1, e2, -⟩ := zb_spec e0
      exact z_zret O e2 dX9_seed_34 (by cases hr; cases e1; rfl)
    · refine z_aload_n O 0 dX9_seed_35 rfl rfl ?_
      refine z_getR O o_Model_v q1778 dX9_seed_36 hr (fun v4 hr => ?_)
      refine z_sipush O dX9_seed_39 ksi_211 ?_
      refine z_iload_n O 1 dX9_seed_42 rfl rfl ?_
      refine z_iastore O dX9_seed_43 hr (fun h5 hr => ?_)
      refine z_aload_n O 0 dX9_seed_44 rfl rfl ?_
      refine b2s hr (fun v7 h6 hF hr => ?_)
      refine z_callV O [] (vi v7) fV_X9_granted q2583 (fun l G => mX9_granted l G x0 h5 _ hF) (zck hF) rfl rfl ⟨Nat.le_of_ble_eq_true rfl, Nat.le_of_ble_eq_true rfl⟩ (Nat.le_of_ble_eq_true rfl) dX9_seed_45 ?_
      refine bs hr (fun v8 e0 hr => ?_)
      obtain ⟨e1, e2, -⟩ := zb_spec e0
      exact z_zret O e2 dX9_seed_48 (by cases hr; cases e1; rfl)
theorem fV_X9_shared : CVf RX9 yX9_shared cX9_shared 1 (some .int) 0 := ⟨q2270, q2271, q137, q2272, ⟨⟨by decide +kernel, by decide +kernel⟩, by decide +kernel⟩⟩
def F_X9_shared (N : Nat) (x0 : Option Nat) (h : AH) : Option (Int32 × AH) :=
  (ck h [9] x0).bind fun _ =>
  (pI h f_Model_thrown x0 (0 : Int32)).bind fun h1 =>
  (gR h1 f_Model_land x0).bind fun v2 =>
  if v2 = none then
    b2 (F_X9_refused x0 (1 : Int32) h1) fun v7 h6 =>
    some (v7, h6)
  else
    (F_X9_owned N x0 (2 : Int32) (4 : Int32) (0 : Int32) h1).bind fun v3 =>
    b2 (F_X9_good x0 v3 h1) fun v5 h4 =>
    some (v5, h4)
theorem mX9_shared (l : Launch) (G : ZG) (N : Nat) (x0 : Option Nat) (h : AH) (r : Int32 × AH) (hr : F_X9_shared N x0 h = some r) : MZ l G yX9_shared cX9_shared 1 (some .int) 5 144 [vr x0] h (eIH r) := by
  unfold F_X9_shared at hr
  refine MZ.of (by decide) [(0, vr x0)] rfl (Nat.le_of_ble_eq_true rfl) (fun K O => ?_)
  have O : ZOk K cX9_shared RX9 "shared" 1 (some .int) 5 144 := O
  refine bs hr (fun _ hck hr => ?_)
  refine z_aload_n O 0 dX9_shared_0 rfl rfl ?_
  refine z_iconst O dX9_shared_1 kic_0 ?_
  refine z_putI O o_Model_thrown (w_Model_thrown _) q1762 dX9_shared_2 hr (fun h1 hr => ?_)
  refine z_aload_n O 0 dX9_shared_5 rfl rfl ?_
  refine z_getR O o_Model_land q1765 dX9_shared_6 hr (fun v2 hr => ?_)
  refine z_ifnonnull (tgt := 20) O dX9_shared_9 (by decide) hr (fun hr => ?_) (fun hr => ?_)
  · refine z_aload_n O 0 dX9_shared_12 rfl rfl ?_
    refine z_iconst O dX9_shared_13 kic_1 ?_
    refine b2s hr (fun v7 h6 hF hr => ?_)
    refine z_callV O [vi (1 : Int32)] (vi v7) fV_X9_refused q1886 (fun l G => mX9_refused l G x0 (1 : Int32) h1 _ hF) (zck hF) rfl rfl ⟨Nat.le_of_ble_eq_true rfl, Nat.le_of_ble_eq_true rfl⟩ (Nat.le_of_ble_eq_true rfl) dX9_shared_14 ?_
    refine z_goto (tgt := 31) O dX9_shared_17 (by decide) ?_
    exact z_iret O dX9_shared_31 (by cases hr; rfl)
  · refine z_aload_n O 0 dX9_shared_20 rfl rfl ?_
    refine z_aload_n O 0 dX9_shared_21 rfl rfl ?_
    refine z_iconst O dX9_shared_22 kic_2 ?_
    refine z_iconst O dX9_shared_23 kic_4 ?_
    refine z_iconst O dX9_shared_24 kic_0 ?_
    refine bs hr (fun v3 hF hr => ?_)
    refine z_callV O [vi (2 : Int32), vi (4 : Int32), vi (0 : Int32)] (vi v3) fV_X9_owned q2273 (fun l G => mX9_owned l G N x0 (2 : Int32) (4 : Int32) (0 : Int32) h1 _ hF) (zck hF) rfl rfl ⟨Nat.le_of_ble_eq_true rfl, Nat.le_of_ble_eq_true rfl⟩ (Nat.le_of_ble_eq_true rfl) dX9_shared_25 ?_
    refine b2s hr (fun v5 h4 hF hr => ?_)
    refine z_callV O [vi v3] (vi v5) fV_X9_good q2249 (fun l G => mX9_good l G x0 v3 h1 _ hF) (zck hF) rfl rfl ⟨Nat.le_of_ble_eq_true rfl, Nat.le_of_ble_eq_true rfl⟩ (Nat.le_of_ble_eq_true rfl) dX9_shared_28 ?_
    exact z_iret O dX9_shared_31 (by cases hr; rfl)
theorem fV_X9_size : CVf RX9 yX9_size cX9_size 2 (some .int) 1 := ⟨q2628, q2629, q137, q2630, ⟨⟨by decide +kernel, by decide +kernel⟩, by decide +kernel⟩⟩
def F_X9_size (x0 : Option Nat) (x1 : Int32) (h : AH) : Option (Int32 × AH) :=
  (ck h [9] x0).bind fun _ =>
  (pI h f_Model_thrown x0 (0 : Int32)).bind fun h1 =>
  if x1 = (12 : Int32) then
    (gI h1 f_Model_taped x0).bind fun v37 =>
    some (v37, h1)
  else
    (F_X9_within x1 (0 : Int32) (11 : Int32)).bind fun v2 =>
    if v2 = 0 then
      some ((-1 : Int32), h1)
    else
      (gR h1 f_Model_land x0).bind fun v3 =>
      if v3 = none then
        some ((0 : Int32), h1)
      else
        if x1 = (0 : Int32) then
          (gR h1 f_Model_land x0).bind fun v15 =>
          (gI h1 f_MLand_wide v15).bind fun v16 =>
          some (v16, h1)
        else if x1 = (1 : Int32) then
          (gR h1 f_Model_land x0).bind fun v17 =>
          (gI h1 f_MLand_high v17).bind fun v18 =>
          some (v18, h1)
        else if x1 = (2 : Int32) then
          (gR h1 f_Model_land x0).bind fun v19 =>
          (gI h1 f_MLand_far v19).bind fun v20 =>
          if v20 = 0 then
            some ((0 : Int32), h1)
          else
            some ((1 : Int32), h1)
        else if x1 = (3 : Int32) then
          (gR h1 f_Model_land x0).bind fun v21 =>
          (gI h1 f_MLand_share v21).bind fun v22 =>
          if v22 = 0 then
            some ((0 : Int32), h1)
          else
            some ((1 : Int32), h1)
        else if x1 = (4 : Int32) then
          (gR h1 f_Model_land x0).bind fun v23 =>
          (gI h1 f_MLand_stones v23).bind fun v24 =>
          some (v24, h1)
        else if x1 = (5 : Int32) then
          (gR h1 f_Model_land x0).bind fun v25 =>
          (gI h1 f_MLand_houses v25).bind fun v26 =>
          some (v26, h1)
        else if x1 = (6 : Int32) then
          (gR h1 f_Model_land x0).bind fun v27 =>
          (gI h1 f_MLand_heirs v27).bind fun v28 =>
          some (v28, h1)
        else if x1 = (7 : Int32) then
          (gR h1 f_Model_land x0).bind fun v29 =>
          (gI h1 f_MLand_walls v29).bind fun v30 =>
          some (v30, h1)
        else if x1 = (8 : Int32) then
          (gR h1 f_Model_v x0).bind fun v31 =>
          (aI h1 0 v31 (210 : Int32)).bind fun v32 =>
          some (v32, h1)
        else if x1 = (9 : Int32) then
          (gR h1 f_Model_v x0).bind fun v33 =>
          (aI h1 0 v33 (211 : Int32)).bind fun v34 =>
          some (v34, h1)
        else if x1 = (10 : Int32) then
          (gI h1 f_Model_acts x0).bind fun v35 =>
          some (v35, h1)
        else 
          (gI h1 f_Model_marks x0).bind fun v36 =>
          some (v36, h1)
theorem mX9_size (l : Launch) (G : ZG) (x0 : Option Nat) (x1 : Int32) (h : AH) (r : Int32 × AH) (hr : F_X9_size x0 x1 h = some r) : MZ l G yX9_size cX9_size 2 (some .int) 2 70 [vr x0, vi x1] h (eIH r) := by
  unfold F_X9_size at hr
  refine MZ.of (by decide) [(0, vr x0), (1, vi x1)] rfl (Nat.le_of_ble_eq_true rfl) (fun K O => ?_)
  have O : ZOk K cX9_size RX9 "size" 2 (some .int) 2 70 := O
  refine bs hr (fun _ hck hr => ?_)
  refine z_aload_n O 0 dX9_size_0 rfl rfl ?_
  refine z_iconst O dX9_size_1 kic_0 ?_
  refine z_putI O o_Model_thrown (w_Model_thrown _) q1762 dX9_size_2 hr (fun h1 hr => ?_)
  refine z_iload_n O 1 dX9_size_5 rfl rfl ?_
  refine z_bipush O dX9_size_6 kbi_12 ?_
  refine z_icmp_ne (tgt := 16) O dX9_size_8 (by decide) hr (fun hr => ?_) (fun hr => ?_)
  · refine z_aload_n O 0 dX9_size_11 rfl rfl ?_
    refine z_getI O o_Model_taped q1768 dX9_size_12 hr (fun v37 hr => ?_)
    exact z_iret O dX9_size_15 (by cases hr; rfl)
  · refine z_iload_n O 1 dX9_size_16 rfl rfl ?_
    refine z_iconst O dX9_size_17 kic_0 ?_
    refine z_bipush O dX9_size_18 kbi_11 ?_
    refine bs hr (fun v2 hF hr => ?_)
    refine z_callS O [vi x1, vi (0 : Int32), vi (11 : Int32)] (vi v2) fS_X9_within q2096 (fun l G => mX9_within l G x1 (0 : Int32) (11 : Int32) h1 _ hF) rfl ⟨Nat.le_of_ble_eq_true rfl, Nat.le_of_ble_eq_true rfl⟩ (Nat.le_of_ble_eq_true rfl) dX9_size_20 ?_
    refine z_if_ne (tgt := 28) O dX9_size_23 (by decide) hr (fun hr => ?_) (fun hr => ?_)
    · refine z_iconst O dX9_size_26 kic_m1 ?_
      exact z_iret O dX9_size_27 (by cases hr; rfl)
    · refine z_aload_n O 0 dX9_size_28 rfl rfl ?_
      refine z_getR O o_Model_land q1765 dX9_size_29 hr (fun v3 hr => ?_)
      refine z_ifnonnull (tgt := 37) O dX9_size_32 (by decide) hr (fun hr => ?_) (fun hr => ?_)
      · refine z_iconst O dX9_size_35 kic_0 ?_
        exact z_iret O dX9_size_36 (by cases hr; rfl)
      · refine z_iload_n O 1 dX9_size_37 rfl rfl ?_
        refine zite hr (fun c4 hr => ?_) (fun c4 hr => ?_)
        · refine z_tabIn (v := (0 : Int32)) (off := 58) (tgt := 96) O dX9_size_38 c4 (by decide) (by decide +kernel) (by decide) ?_
          refine z_aload_n O 0 dX9_size_96 rfl rfl ?_
          refine z_getR O o_Model_land q1765 dX9_size_97 hr (fun v15 hr => ?_)
          refine z_getIN O o_MLand_wide zn1897 dX9_size_100 hr (fun v16 hr => ?_)
          exact z_iret O dX9_size_103 (by cases hr; rfl)
        refine zite hr (fun c5 hr => ?_) (fun c5 hr => ?_)
        · refine z_tabIn (v := (1 : Int32)) (off := 66) (tgt := 104) O dX9_size_38 c5 (by decide) (by decide +kernel) (by decide) ?_
          refine z_aload_n O 0 dX9_size_104 rfl rfl ?_
          refine z_getR O o_Model_land q1765 dX9_size_105 hr (fun v17 hr => ?_)
          refine z_getIN O o_MLand_high zn1899 dX9_size_108 hr (fun v18 hr => ?_)
          exact z_iret O dX9_size_111 (by cases hr; rfl)
        refine zite hr (fun c6 hr => ?_) (fun c6 hr => ?_)
        · refine z_tabIn (v := (2 : Int32)) (off := 74) (tgt := 112) O dX9_size_38 c6 (by decide) (by decide +kernel) (by decide) ?_
          refine z_aload_n O 0 dX9_size_112 rfl rfl ?_
          refine z_getR O o_Model_land q1765 dX9_size_113 hr (fun v19 hr => ?_)
          refine z_getIN O o_MLand_far zn1913 dX9_size_116 hr (fun v20 hr => ?_)
          refine z_if_eq (tgt := 126) O dX9_size_119 (by decide) hr (fun hr => ?_) (fun hr => ?_)
          · refine z_iconst O dX9_size_126 kic_0 ?_
            exact z_iret O dX9_size_127 (by cases hr; rfl)
          · refine z_iconst O dX9_size_122 kic_1 ?_
            refine z_goto (tgt := 127) O dX9_size_123 (by decide) ?_
            exact z_iret O dX9_size_127 (by cases hr; rfl)
        refine zite hr (fun c7 hr => ?_) (fun c7 hr => ?_)
        · refine z_tabIn (v := (3 : Int32)) (off := 90) (tgt := 128) O dX9_size_38 c7 (by decide) (by decide +kernel) (by decide) ?_
          refine z_aload_n O 0 dX9_size_128 rfl rfl ?_
          refine z_getR O o_Model_land q1765 dX9_size_129 hr (fun v21 hr => ?_)
          refine z_getIN O o_MLand_share zn1914 dX9_size_132 hr (fun v22 hr => ?_)
          refine z_if_eq (tgt := 142) O dX9_size_135 (by decide) hr (fun hr => ?_) (fun hr => ?_)
          · refine z_iconst O dX9_size_142 kic_0 ?_
            exact z_iret O dX9_size_143 (by cases hr; rfl)
          · refine z_iconst O dX9_size_138 kic_1 ?_
            refine z_goto (tgt := 143) O dX9_size_139 (by decide) ?_
            exact z_iret O dX9_size_143 (by cases hr; rfl)
        refine zite hr (fun c8 hr => ?_) (fun c8 hr => ?_)
        · refine z_tabIn (v := (4 : Int32)) (off := 106) (tgt := 144) O dX9_size_38 c8 (by decide) (by decide +kernel) (by decide) ?_
          refine z_aload_n O 0 dX9_size_144 rfl rfl ?_
          refine z_getR O o_Model_land q1765 dX9_size_145 hr (fun v23 hr => ?_)
          refine z_getIN O o_MLand_stones zn1906 dX9_size_148 hr (fun v24 hr => ?_)
          exact z_iret O dX9_size_151 (by cases hr; rfl)
        refine zite hr (fun c9 hr => ?_) (fun c9 hr => ?_)
        · refine z_tabIn (v := (5 : Int32)) (off := 114) (tgt := 152) O dX9_size_38 c9 (by decide) (by decide +kernel) (by decide) ?_
          refine z_aload_n O 0 dX9_size_152 rfl rfl ?_
          refine z_getR O o_Model_land q1765 dX9_size_153 hr (fun v25 hr => ?_)
          refine z_getIN O o_MLand_houses zn1907 dX9_size_156 hr (fun v26 hr => ?_)
          exact z_iret O dX9_size_159 (by cases hr; rfl)
        refine zite hr (fun c10 hr => ?_) (fun c10 hr => ?_)
        · refine z_tabIn (v := (6 : Int32)) (off := 122) (tgt := 160) O dX9_size_38 c10 (by decide) (by decide +kernel) (by decide) ?_
          refine z_aload_n O 0 dX9_size_160 rfl rfl ?_
          refine z_getR O o_Model_land q1765 dX9_size_161 hr (fun v27 hr => ?_)
          refine z_getIN O o_MLand_heirs zn1908 dX9_size_164 hr (fun v28 hr => ?_)
          exact z_iret O dX9_size_167 (by cases hr; rfl)
        refine zite hr (fun c11 hr => ?_) (fun c11 hr => ?_)
        · refine z_tabIn (v := (7 : Int32)) (off := 130) (tgt := 168) O dX9_size_38 c11 (by decide) (by decide +kernel) (by decide) ?_
          refine z_aload_n O 0 dX9_size_168 rfl rfl ?_
          refine z_getR O o_Model_land q1765 dX9_size_169 hr (fun v29 hr => ?_)
          refine z_getIN O o_MLand_walls zn1909 dX9_size_172 hr (fun v30 hr => ?_)
          exact z_iret O dX9_size_175 (by cases hr; rfl)
        refine zite hr (fun c12 hr => ?_) (fun c12 hr => ?_)
        · refine z_tabIn (v := (8 : Int32)) (off := 138) (tgt := 176) O dX9_size_38 c12 (by decide) (by decide +kernel) (by decide) ?_
          refine z_aload_n O 0 dX9_size_176 rfl rfl ?_
          refine z_getR O o_Model_v q1778 dX9_size_177 hr (fun v31 hr => ?_)
          refine z_sipush O dX9_size_180 ksi_210 ?_
          refine z_iaload O dX9_size_183 hr (fun v32 hr => ?_)
          exact z_iret O dX9_size_184 (by cases hr; rfl)
        refine zite hr (fun c13 hr => ?_) (fun c13 hr => ?_)
        · refine z_tabIn (v := (9 : Int32)) (off := 147) (tgt := 185) O dX9_size_38 c13 (by decide) (by decide +kernel) (by decide) ?_
          refine z_aload_n O 0 dX9_size_185 rfl rfl ?_
          refine z_getR O o_Model_v q1778 dX9_size_186 hr (fun v33 hr => ?_)
          refine z_sipush O dX9_size_189 ksi_211 ?_
          refine z_iaload O dX9_size_192 hr (fun v34 hr => ?_)
          exact z_iret O dX9_size_193 (by cases hr; rfl)
        refine zite hr (fun c14 hr => ?_) (fun c14 hr => ?_)
        · refine z_tabIn (v := (10 : Int32)) (off := 156) (tgt := 194) O dX9_size_38 c14 (by decide) (by decide +kernel) (by decide) ?_
          refine z_aload_n O 0 dX9_size_194 rfl rfl ?_
          refine z_getI O o_Model_acts q1782 dX9_size_195 hr (fun v35 hr => ?_)
          exact z_iret O dX9_size_198 (by cases hr; rfl)
        refine z_tabOut (tgt := 199) O dX9_size_38 (zt_out 11 (by decide) (lt_s (p := fun j : Nat => ¬ x1.toInt = (0 : Int) + (j : Int)) (lt_s (p := fun j : Nat => ¬ x1.toInt = (0 : Int) + (j : Int)) (lt_s (p := fun j : Nat => ¬ x1.toInt = (0 : Int) + (j : Int)) (lt_s (p := fun j : Nat => ¬ x1.toInt = (0 : Int) + (j : Int)) (lt_s (p := fun j : Nat => ¬ x1.toInt = (0 : Int) + (j : Int)) (lt_s (p := fun j : Nat => ¬ x1.toInt = (0 : Int) + (j : Int)) (lt_s (p := fun j : Nat => ¬ x1.toInt = (0 : Int) + (j : Int)) (lt_s (p := fun j : Nat => ¬ x1.toInt = (0 : Int) + (j : Int)) (lt_s (p := fun j : Nat => ¬ x1.toInt = (0 : Int) + (j : Int)) (lt_s (p := fun j : Nat => ¬ x1.toInt = (0 : Int) + (j : Int)) (lt_s (p := fun j : Nat => ¬ x1.toInt = (0 : Int) + (j : Int)) lt_0 (lv_neT c4 (by decide))) (lv_neT c5 (by decide))) (lv_neT c6 (by decide))) (lv_neT c7 (by decide))) (lv_neT c8 (by decide))) (lv_neT c9 (by decide))) (lv_neT c10 (by decide))) (lv_neT c11 (by decide))) (lv_neT c12 (by decide))) (lv_neT c13 (by decide))) (lv_neT c14 (by decide)))) (by decide) ?_
        refine z_aload_n O 0 dX9_size_199 rfl rfl ?_
        refine z_getI O o_Model_marks q1783 dX9_size_200 hr (fun v36 hr => ?_)
        exact z_iret O dX9_size_203 (by cases hr; rfl)
theorem fV_X9_skin : CVf RX9 yX9_skin cX9_skin 4 (some .int) 3 := ⟨q2316, q2317, q137, q2318, ⟨⟨by decide +kernel, by decide +kernel⟩, by decide +kernel⟩⟩
def F_X9_skin (x0 : Option Nat) (x1 : Int32) (x2 : Int32) (x3 : Int32) (h : AH) : Option (Int32 × AH) :=
  (ck h [9] x0).bind fun _ =>
  (pI h f_Model_thrown x0 (0 : Int32)).bind fun h1 =>
  (F_X9_isSkin x0 x1 x2 h1).bind fun v2 =>
  if v2 = 0 then
    b2 (F_X9_refused x0 (1 : Int32) h1) fun v4 h3 =>
    some (v4, h3)
  else
    (F_X9_within x3 (0 : Int32) (7 : Int32)).bind fun v5 =>
    if v5 = 0 then
      b2 (F_X9_refused x0 (1 : Int32) h1) fun v7 h6 =>
      some (v7, h6)
    else
      (gR h1 f_Model_v x0).bind fun v8 =>
      (F_X9_part x1 x2 x3).bind fun v9 =>
      (aI h1 0 v8 v9).bind fun v10 =>
      b2 (F_X9_good x0 v10 h1) fun v12 h11 =>
      some (v12, h11)
theorem mX9_skin (l : Launch) (G : ZG) (x0 : Option Nat) (x1 : Int32) (x2 : Int32) (x3 : Int32) (h : AH) (r : Int32 × AH) (hr : F_X9_skin x0 x1 x2 x3 h = some r) : MZ l G yX9_skin cX9_skin 4 (some .int) 3 91 [vr x0, vi x1, vi x2, vi x3] h (eIH r) := by
  unfold F_X9_skin at hr
  refine MZ.of (by decide) [(0, vr x0), (1, vi x1), (2, vi x2), (3, vi x3)] rfl (Nat.le_of_ble_eq_true rfl) (fun K O => ?_)
  have O : ZOk K cX9_skin RX9 "skin" 4 (some .int) 3 91 := O
  refine bs hr (fun _ hck hr => ?_)
  refine z_aload_n O 0 dX9_skin_0 rfl rfl ?_
  refine z_iconst O dX9_skin_1 kic_0 ?_
  refine z_putI O o_Model_thrown (w_Model_thrown _) q1762 dX9_skin_2 hr (fun h1 hr => ?_)
  refine z_aload_n O 0 dX9_skin_5 rfl rfl ?_
  refine z_iload_n O 1 dX9_skin_6 rfl rfl ?_
  refine z_iload_n O 2 dX9_skin_7 rfl rfl ?_
  refine bs hr (fun v2 hF hr => ?_)
  refine z_callV O [vi x1, vi x2] (vi v2) fV_X9_isSkin q2319 (fun l G => mX9_isSkin l G x0 x1 x2 h1 _ hF) (zck hF) rfl rfl ⟨Nat.le_of_ble_eq_true rfl, Nat.le_of_ble_eq_true rfl⟩ (Nat.le_of_ble_eq_true rfl) dX9_skin_8 ?_
  refine z_if_eq (tgt := 42) O dX9_skin_11 (by decide) hr (fun hr => ?_) (fun hr => ?_)
  · refine z_aload_n O 0 dX9_skin_42 rfl rfl ?_
    refine z_iconst O dX9_skin_43 kic_1 ?_
    refine b2s hr (fun v4 h3 hF hr => ?_)
    refine z_callV O [vi (1 : Int32)] (vi v4) fV_X9_refused q1886 (fun l G => mX9_refused l G x0 (1 : Int32) h1 _ hF) (zck hF) rfl rfl ⟨Nat.le_of_ble_eq_true rfl, Nat.le_of_ble_eq_true rfl⟩ (Nat.le_of_ble_eq_true rfl) dX9_skin_44 ?_
    exact z_iret O dX9_skin_47 (by cases hr; rfl)
  · refine z_iload_n O 3 dX9_skin_14 rfl rfl ?_
    refine z_iconst O dX9_skin_15 kic_0 ?_
    refine z_bipush O dX9_skin_16 kbi_7 ?_
    refine bs hr (fun v5 hF hr => ?_)
    refine z_callS O [vi x3, vi (0 : Int32), vi (7 : Int32)] (vi v5) fS_X9_within q2096 (fun l G => mX9_within l G x3 (0 : Int32) (7 : Int32) h1 _ hF) rfl ⟨Nat.le_of_ble_eq_true rfl, Nat.le_of_ble_eq_true rfl⟩ (Nat.le_of_ble_eq_true rfl) dX9_skin_18 ?_
    refine z_if_eq (tgt := 42) O dX9_skin_21 (by decide) hr (fun hr => ?_) (fun hr => ?_)
    · refine z_aload_n O 0 dX9_skin_42 rfl rfl ?_
      refine z_iconst O dX9_skin_43 kic_1 ?_
      refine b2s hr (fun v7 h6 hF hr => ?_)
      refine z_callV O [vi (1 : Int32)] (vi v7) fV_X9_refused q1886 (fun l G => mX9_refused l G x0 (1 : Int32) h1 _ hF) (zck hF) rfl rfl ⟨Nat.le_of_ble_eq_true rfl, Nat.le_of_ble_eq_true rfl⟩ (Nat.le_of_ble_eq_true rfl) dX9_skin_44 ?_
      exact z_iret O dX9_skin_47 (by cases hr; rfl)
    · refine z_aload_n O 0 dX9_skin_24 rfl rfl ?_
      refine z_aload_n O 0 dX9_skin_25 rfl rfl ?_
      refine z_getR O o_Model_v q1778 dX9_skin_26 hr (fun v8 hr => ?_)
      refine z_iload_n O 1 dX9_skin_29 rfl rfl ?_
      refine z_iload_n O 2 dX9_skin_30 rfl rfl ?_
      refine z_iload_n O 3 dX9_skin_31 rfl rfl ?_
      refine bs hr (fun v9 hF hr => ?_)
      refine z_callS O [vi x1, vi x2, vi x3] (vi v9) fS_X9_part q2223 (fun l G => mX9_part l G x1 x2 x3 h1 _ hF) rfl ⟨Nat.le_of_ble_eq_true rfl, Nat.le_of_ble_eq_true rfl⟩ (Nat.le_of_ble_eq_true rfl) dX9_skin_32 ?_
      refine z_iaload O dX9_skin_35 hr (fun v10 hr => ?_)
      refine b2s hr (fun v12 h11 hF hr => ?_)
      refine z_callV O [vi v10] (vi v12) fV_X9_good q2249 (fun l G => mX9_good l G x0 v10 h1 _ hF) (zck hF) rfl rfl ⟨Nat.le_of_ble_eq_true rfl, Nat.le_of_ble_eq_true rfl⟩ (Nat.le_of_ble_eq_true rfl) dX9_skin_36 ?_
      refine z_goto (tgt := 47) O dX9_skin_39 (by decide) ?_
      exact z_iret O dX9_skin_47 (by cases hr; rfl)
theorem fV_X9_skinsIn : CVf RX9 yX9_skinsIn cX9_skinsIn 3 (some .int) 1 := ⟨q2462, q2463, q137, q2464, ⟨⟨by decide +kernel, by decide +kernel⟩, by decide +kernel⟩⟩
def F_X9_skinsIn (N : Nat) (x0 : Option Nat) (x1 : Int32) (h : AH) : Option (Int32 × AH) :=
  (ck h [9] x0).bind fun _ =>
  (pI h f_Model_thrown x0 (0 : Int32)).bind fun h1 =>
  (F_X9_refusesIn x0 (1 : Int32) x1 (60 : Int32) h1).bind fun v2 =>
  if v2 ≤ 0 then
    (F_X9_inYears N x0 x1 h1).bind fun h3 =>
    (gR h3 f_Model_w x0).bind fun v4 =>
    (F_X9_allSkins N v4 h3).bind fun v5 =>
    b2 (F_X9_good x0 v5 h3) fun v7 h6 =>
    some (v7, h6)
  else
    b2 (F_X9_refused x0 v2 h1) fun v9 h8 =>
    some (v9, h8)
theorem mX9_skinsIn (l : Launch) (G : ZG) (N : Nat) (x0 : Option Nat) (x1 : Int32) (h : AH) (r : Int32 × AH) (hr : F_X9_skinsIn N x0 x1 h = some r) : MZ l G yX9_skinsIn cX9_skinsIn 3 (some .int) 9 240 [vr x0, vi x1] h (eIH r) := by
  unfold F_X9_skinsIn at hr
  refine MZ.of (by decide) [(0, vr x0), (1, vi x1)] rfl (Nat.le_of_ble_eq_true rfl) (fun K O => ?_)
  have O : ZOk K cX9_skinsIn RX9 "skinsIn" 3 (some .int) 9 240 := O
  refine bs hr (fun _ hck hr => ?_)
  refine z_aload_n O 0 dX9_skinsIn_0 rfl rfl ?_
  refine z_iconst O dX9_skinsIn_1 kic_0 ?_
  refine z_putI O o_Model_thrown (w_Model_thrown _) q1762 dX9_skinsIn_2 hr (fun h1 hr => ?_)
  refine z_aload_n O 0 dX9_skinsIn_5 rfl rfl ?_
  refine z_iconst O dX9_skinsIn_6 kic_1 ?_
  refine z_iload_n O 1 dX9_skinsIn_7 rfl rfl ?_
  refine z_bipush O dX9_skinsIn_8 kbi_60 ?_
  refine bs hr (fun v2 hF hr => ?_)
  refine z_callV O [vi (1 : Int32), vi x1, vi (60 : Int32)] (vi v2) fV_X9_refusesIn q2427 (fun l G => mX9_refusesIn l G x0 (1 : Int32) x1 (60 : Int32) h1 _ hF) (zck hF) rfl rfl ⟨Nat.le_of_ble_eq_true rfl, Nat.le_of_ble_eq_true rfl⟩ (Nat.le_of_ble_eq_true rfl) dX9_skinsIn_10 ?_
  refine z_istore_n O [(2, vi v2), (0, vr x0), (1, vi x1)] dX9_skinsIn_13 rfl (by decide) rfl ?_
  refine z_iload_n O 0 dX9_skinsIn_14 rfl rfl ?_
  refine z_if_le (tgt := 24) O dX9_skinsIn_15 (by decide) hr (fun hr => ?_) (fun hr => ?_)
  · refine z_aload_n O 1 dX9_skinsIn_24 rfl rfl ?_
    refine z_iload_n O 2 dX9_skinsIn_25 rfl rfl ?_
    refine bs hr (fun h3 hF hr => ?_)
    refine z_callVv O [vi x1] fV_X9_inYears q2431 (fun l G => mX9_inYears l G N x0 x1 h1 _ hF) (zck hF) rfl rfl ⟨Nat.le_of_ble_eq_true rfl, Nat.le_of_ble_eq_true rfl⟩ (Nat.le_of_ble_eq_true rfl) dX9_skinsIn_26 ?_
    refine z_aload_n O 1 dX9_skinsIn_29 rfl rfl ?_
    refine z_aload_n O 1 dX9_skinsIn_30 rfl rfl ?_
    refine z_getR O o_Model_w q1779 dX9_skinsIn_31 hr (fun v4 hr => ?_)
    refine bs hr (fun v5 hF hr => ?_)
    refine z_callS O [vr v4] (vi v5) fS_X9_allSkins q2465 (fun l G => mX9_allSkins l G N v4 h3 _ hF) rfl ⟨Nat.le_of_ble_eq_true rfl, Nat.le_of_ble_eq_true rfl⟩ (Nat.le_of_ble_eq_true rfl) dX9_skinsIn_34 ?_
    refine b2s hr (fun v7 h6 hF hr => ?_)
    refine z_callV O [vi v5] (vi v7) fV_X9_good q2249 (fun l G => mX9_good l G x0 v5 h3 _ hF) (zck hF) rfl rfl ⟨Nat.le_of_ble_eq_true rfl, Nat.le_of_ble_eq_true rfl⟩ (Nat.le_of_ble_eq_true rfl) dX9_skinsIn_37 ?_
    exact z_iret O dX9_skinsIn_40 (by cases hr; rfl)
  · refine z_aload_n O 1 dX9_skinsIn_18 rfl rfl ?_
    refine z_iload_n O 0 dX9_skinsIn_19 rfl rfl ?_
    refine b2s hr (fun v9 h8 hF hr => ?_)
    refine z_callV O [vi v2] (vi v9) fV_X9_refused q1886 (fun l G => mX9_refused l G x0 v2 h1 _ hF) (zck hF) rfl rfl ⟨Nat.le_of_ble_eq_true rfl, Nat.le_of_ble_eq_true rfl⟩ (Nat.le_of_ble_eq_true rfl) dX9_skinsIn_20 ?_
    exact z_iret O dX9_skinsIn_23 (by cases hr; rfl)
theorem fV_X9_soonest : CVf RX9 yX9_soonest cX9_soonest 2 (some .int) 1 := ⟨q2552, q2553, q137, q2554, ⟨⟨by decide +kernel, by decide +kernel⟩, by decide +kernel⟩⟩
def F_X9_soonest (N : Nat) (x0 : Option Nat) (x1 : Int32) (h : AH) : Option (Int32 × AH) :=
  (ck h [9] x0).bind fun _ =>
  (pI h f_Model_thrown x0 (0 : Int32)).bind fun h1 =>
  (F_X9_isWall x0 x1 h1).bind fun v2 =>
  if v2 = 0 then
    b2 (F_X9_refused x0 (1 : Int32) h1) fun v9 h8 =>
    some (v9, h8)
  else
    (F_X9_findsOrders N x0 (-1 : Int32) h1).bind fun h3 =>
    (gR h3 f_Model_soonest x0).bind fun v4 =>
    (aI h3 0 v4 x1).bind fun v5 =>
    b2 (F_X9_good x0 v5 h3) fun v7 h6 =>
    some (v7, h6)
theorem mX9_soonest (l : Launch) (G : ZG) (N : Nat) (x0 : Option Nat) (x1 : Int32) (h : AH) (r : Int32 × AH) (hr : F_X9_soonest N x0 x1 h = some r) : MZ l G yX9_soonest cX9_soonest 2 (some .int) 5 139 [vr x0, vi x1] h (eIH r) := by
  unfold F_X9_soonest at hr
  refine MZ.of (by decide) [(0, vr x0), (1, vi x1)] rfl (Nat.le_of_ble_eq_true rfl) (fun K O => ?_)
  have O : ZOk K cX9_soonest RX9 "soonest" 2 (some .int) 5 139 := O
  refine bs hr (fun _ hck hr => ?_)
  refine z_aload_n O 0 dX9_soonest_0 rfl rfl ?_
  refine z_iconst O dX9_soonest_1 kic_0 ?_
  refine z_putI O o_Model_thrown (w_Model_thrown _) q1762 dX9_soonest_2 hr (fun h1 hr => ?_)
  refine z_aload_n O 0 dX9_soonest_5 rfl rfl ?_
  refine z_iload_n O 1 dX9_soonest_6 rfl rfl ?_
  refine bs hr (fun v2 hF hr => ?_)
  refine z_callV O [vi x1] (vi v2) fV_X9_isWall q2547 (fun l G => mX9_isWall l G x0 x1 h1 _ hF) (zck hF) rfl rfl ⟨Nat.le_of_ble_eq_true rfl, Nat.le_of_ble_eq_true rfl⟩ (Nat.le_of_ble_eq_true rfl) dX9_soonest_7 ?_
  refine z_if_ne (tgt := 19) O dX9_soonest_10 (by decide) hr (fun hr => ?_) (fun hr => ?_)
  · refine z_aload_n O 0 dX9_soonest_13 rfl rfl ?_
    refine z_iconst O dX9_soonest_14 kic_1 ?_
    refine b2s hr (fun v9 h8 hF hr => ?_)
    refine z_callV O [vi (1 : Int32)] (vi v9) fV_X9_refused q1886 (fun l G => mX9_refused l G x0 (1 : Int32) h1 _ hF) (zck hF) rfl rfl ⟨Nat.le_of_ble_eq_true rfl, Nat.le_of_ble_eq_true rfl⟩ (Nat.le_of_ble_eq_true rfl) dX9_soonest_15 ?_
    exact z_iret O dX9_soonest_18 (by cases hr; rfl)
  · refine z_aload_n O 0 dX9_soonest_19 rfl rfl ?_
    refine z_iconst O dX9_soonest_20 kic_m1 ?_
    refine bs hr (fun h3 hF hr => ?_)
    refine z_callVv O [vi (-1 : Int32)] fV_X9_findsOrders q2531 (fun l G => mX9_findsOrders l G N x0 (-1 : Int32) h1 _ hF) (zck hF) rfl rfl ⟨Nat.le_of_ble_eq_true rfl, Nat.le_of_ble_eq_true rfl⟩ (Nat.le_of_ble_eq_true rfl) dX9_soonest_21 ?_
    refine z_aload_n O 0 dX9_soonest_24 rfl rfl ?_
    refine z_aload_n O 0 dX9_soonest_25 rfl rfl ?_
    refine z_getR O o_Model_soonest q1792 dX9_soonest_26 hr (fun v4 hr => ?_)
    refine z_iload_n O 1 dX9_soonest_29 rfl rfl ?_
    refine z_iaload O dX9_soonest_30 hr (fun v5 hr => ?_)
    refine b2s hr (fun v7 h6 hF hr => ?_)
    refine z_callV O [vi v5] (vi v7) fV_X9_good q2249 (fun l G => mX9_good l G x0 v5 h3 _ hF) (zck hF) rfl rfl ⟨Nat.le_of_ble_eq_true rfl, Nat.le_of_ble_eq_true rfl⟩ (Nat.le_of_ble_eq_true rfl) dX9_soonest_31 ?_
    exact z_iret O dX9_soonest_34 (by cases hr; rfl)
theorem fV_X9_stone : CVf RX9 yX9_stone cX9_stone 3 (some .int) 2 := ⟨q2620, q2621, q137, q2622, ⟨⟨by decide +kernel, by decide +kernel⟩, by decide +kernel⟩⟩
def F_X9_stone (x0 : Option Nat) (x1 : Int32) (x2 : Int32) (h : AH) : Option (Int32 × AH) :=
  (ck h [9] x0).bind fun _ =>
  (pI h f_Model_thrown x0 (0 : Int32)).bind fun h1 =>
  (F_X9_isStone x0 x1 h1).bind fun v2 =>
  if v2 = 0 then
    b2 (F_X9_refused x0 (1 : Int32) h1) fun v4 h3 =>
    some (v4, h3)
  else
    (F_X9_within x2 (0 : Int32) (4 : Int32)).bind fun v5 =>
    if v5 = 0 then
      b2 (F_X9_refused x0 (1 : Int32) h1) fun v36 h35 =>
      some (v36, h35)
    else
      if x2 = (0 : Int32) then
        (gR h1 f_Model_land x0).bind fun v10 =>
        (gR h1 f_MLand_kind v10).bind fun v11 =>
        (aI h1 0 v11 x1).bind fun v12 =>
        b2 (F_X9_good x0 v12 h1) fun v14 h13 =>
        some (v14, h13)
      else if x2 = (1 : Int32) then
        (gR h1 f_Model_land x0).bind fun v15 =>
        (gR h1 f_MLand_costs v15).bind fun v16 =>
        (aI h1 0 v16 x1).bind fun v17 =>
        b2 (F_X9_good x0 v17 h1) fun v19 h18 =>
        some (v19, h18)
      else if x2 = (2 : Int32) then
        (gR h1 f_Model_land x0).bind fun v20 =>
        (gR h1 f_MLand_warm v20).bind fun v21 =>
        (aI h1 0 v21 x1).bind fun v22 =>
        b2 (F_X9_good x0 v22 h1) fun v24 h23 =>
        some (v24, h23)
      else if x2 = (3 : Int32) then
        (gR h1 f_Model_land x0).bind fun v25 =>
        (gR h1 f_MLand_rots v25).bind fun v26 =>
        (aI h1 0 v26 x1).bind fun v27 =>
        b2 (F_X9_good x0 v27 h1) fun v29 h28 =>
        some (v29, h28)
      else 
        (gR h1 f_Model_land x0).bind fun v30 =>
        (gR h1 f_MLand_strong v30).bind fun v31 =>
        (aI h1 0 v31 x1).bind fun v32 =>
        b2 (F_X9_good x0 v32 h1) fun v34 h33 =>
        some (v34, h33)
theorem mX9_stone (l : Launch) (G : ZG) (x0 : Option Nat) (x1 : Int32) (x2 : Int32) (h : AH) (r : Int32 × AH) (hr : F_X9_stone x0 x1 x2 h = some r) : MZ l G yX9_stone cX9_stone 3 (some .int) 2 70 [vr x0, vi x1, vi x2] h (eIH r) := by
  unfold F_X9_stone at hr
  refine MZ.of (by decide) [(0, vr x0), (1, vi x1), (2, vi x2)] rfl (Nat.le_of_ble_eq_true rfl) (fun K O => ?_)
  have O : ZOk K cX9_stone RX9 "stone" 3 (some .int) 2 70 := O
  refine bs hr (fun _ hck hr => ?_)
  refine z_aload_n O 0 dX9_stone_0 rfl rfl ?_
  refine z_iconst O dX9_stone_1 kic_0 ?_
  refine z_putI O o_Model_thrown (w_Model_thrown _) q1762 dX9_stone_2 hr (fun h1 hr => ?_)
  refine z_aload_n O 0 dX9_stone_5 rfl rfl ?_
  refine z_iload_n O 1 dX9_stone_6 rfl rfl ?_
  refine bs hr (fun v2 hF hr => ?_)
  refine z_callV O [vi x1] (vi v2) fV_X9_isStone q2375 (fun l G => mX9_isStone l G x0 x1 h1 _ hF) (zck hF) rfl rfl ⟨Nat.le_of_ble_eq_true rfl, Nat.le_of_ble_eq_true rfl⟩ (Nat.le_of_ble_eq_true rfl) dX9_stone_7 ?_
  refine z_if_eq (tgt := 22) O dX9_stone_10 (by decide) hr (fun hr => ?_) (fun hr => ?_)
  · refine z_aload_n O 0 dX9_stone_22 rfl rfl ?_
    refine z_iconst O dX9_stone_23 kic_1 ?_
    refine b2s hr (fun v4 h3 hF hr => ?_)
    refine z_callV O [vi (1 : Int32)] (vi v4) fV_X9_refused q1886 (fun l G => mX9_refused l G x0 (1 : Int32) h1 _ hF) (zck hF) rfl rfl ⟨Nat.le_of_ble_eq_true rfl, Nat.le_of_ble_eq_true rfl⟩ (Nat.le_of_ble_eq_true rfl) dX9_stone_24 ?_
    exact z_iret O dX9_stone_27 (by cases hr; rfl)
  · refine z_iload_n O 2 dX9_stone_13 rfl rfl ?_
    refine z_iconst O dX9_stone_14 kic_0 ?_
    refine z_iconst O dX9_stone_15 kic_4 ?_
    refine bs hr (fun v5 hF hr => ?_)
    refine z_callS O [vi x2, vi (0 : Int32), vi (4 : Int32)] (vi v5) fS_X9_within q2096 (fun l G => mX9_within l G x2 (0 : Int32) (4 : Int32) h1 _ hF) rfl ⟨Nat.le_of_ble_eq_true rfl, Nat.le_of_ble_eq_true rfl⟩ (Nat.le_of_ble_eq_true rfl) dX9_stone_16 ?_
    refine z_if_ne (tgt := 28) O dX9_stone_19 (by decide) hr (fun hr => ?_) (fun hr => ?_)
    · refine z_aload_n O 0 dX9_stone_22 rfl rfl ?_
      refine z_iconst O dX9_stone_23 kic_1 ?_
      refine b2s hr (fun v36 h35 hF hr => ?_)
      refine z_callV O [vi (1 : Int32)] (vi v36) fV_X9_refused q1886 (fun l G => mX9_refused l G x0 (1 : Int32) h1 _ hF) (zck hF) rfl rfl ⟨Nat.le_of_ble_eq_true rfl, Nat.le_of_ble_eq_true rfl⟩ (Nat.le_of_ble_eq_true rfl) dX9_stone_24 ?_
      exact z_iret O dX9_stone_27 (by cases hr; rfl)
    · refine z_iload_n O 2 dX9_stone_28 rfl rfl ?_
      refine zite hr (fun c6 hr => ?_) (fun c6 hr => ?_)
      · refine z_tabIn (v := (0 : Int32)) (off := 31) (tgt := 60) O dX9_stone_29 c6 (by decide) (by decide +kernel) (by decide) ?_
        refine z_aload_n O 0 dX9_stone_60 rfl rfl ?_
        refine z_aload_n O 0 dX9_stone_61 rfl rfl ?_
        refine z_getR O o_Model_land q1765 dX9_stone_62 hr (fun v10 hr => ?_)
        refine z_getRN O o_MLand_kind zn1918 dX9_stone_65 hr (fun v11 hr => ?_)
        refine z_iload_n O 1 dX9_stone_68 rfl rfl ?_
        refine z_iaload O dX9_stone_69 hr (fun v12 hr => ?_)
        refine b2s hr (fun v14 h13 hF hr => ?_)
        refine z_callV O [vi v12] (vi v14) fV_X9_good q2249 (fun l G => mX9_good l G x0 v12 h1 _ hF) (zck hF) rfl rfl ⟨Nat.le_of_ble_eq_true rfl, Nat.le_of_ble_eq_true rfl⟩ (Nat.le_of_ble_eq_true rfl) dX9_stone_70 ?_
        exact z_iret O dX9_stone_73 (by cases hr; rfl)
      refine zite hr (fun c7 hr => ?_) (fun c7 hr => ?_)
      · refine z_tabIn (v := (1 : Int32)) (off := 45) (tgt := 74) O dX9_stone_29 c7 (by decide) (by decide +kernel) (by decide) ?_
        refine z_aload_n O 0 dX9_stone_74 rfl rfl ?_
        refine z_aload_n O 0 dX9_stone_75 rfl rfl ?_
        refine z_getR O o_Model_land q1765 dX9_stone_76 hr (fun v15 hr => ?_)
        refine z_getRN O o_MLand_costs zn1920 dX9_stone_79 hr (fun v16 hr => ?_)
        refine z_iload_n O 1 dX9_stone_82 rfl rfl ?_
        refine z_iaload O dX9_stone_83 hr (fun v17 hr => ?_)
        refine b2s hr (fun v19 h18 hF hr => ?_)
        refine z_callV O [vi v17] (vi v19) fV_X9_good q2249 (fun l G => mX9_good l G x0 v17 h1 _ hF) (zck hF) rfl rfl ⟨Nat.le_of_ble_eq_true rfl, Nat.le_of_ble_eq_true rfl⟩ (Nat.le_of_ble_eq_true rfl) dX9_stone_84 ?_
        exact z_iret O dX9_stone_87 (by cases hr; rfl)
      refine zite hr (fun c8 hr => ?_) (fun c8 hr => ?_)
      · refine z_tabIn (v := (2 : Int32)) (off := 59) (tgt := 88) O dX9_stone_29 c8 (by decide) (by decide +kernel) (by decide) ?_
        refine z_aload_n O 0 dX9_stone_88 rfl rfl ?_
        refine z_aload_n O 0 dX9_stone_89 rfl rfl ?_
        refine z_getR O o_Model_land q1765 dX9_stone_90 hr (fun v20 hr => ?_)
        refine z_getRN O o_MLand_warm zn1922 dX9_stone_93 hr (fun v21 hr => ?_)
        refine z_iload_n O 1 dX9_stone_96 rfl rfl ?_
        refine z_iaload O dX9_stone_97 hr (fun v22 hr => ?_)
        refine b2s hr (fun v24 h23 hF hr => ?_)
        refine z_callV O [vi v22] (vi v24) fV_X9_good q2249 (fun l G => mX9_good l G x0 v22 h1 _ hF) (zck hF) rfl rfl ⟨Nat.le_of_ble_eq_true rfl, Nat.le_of_ble_eq_true rfl⟩ (Nat.le_of_ble_eq_true rfl) dX9_stone_98 ?_
        exact z_iret O dX9_stone_101 (by cases hr; rfl)
      refine zite hr (fun c9 hr => ?_) (fun c9 hr => ?_)
      · refine z_tabIn (v := (3 : Int32)) (off := 73) (tgt := 102) O dX9_stone_29 c9 (by decide) (by decide +kernel) (by decide) ?_
        refine z_aload_n O 0 dX9_stone_102 rfl rfl ?_
        refine z_aload_n O 0 dX9_stone_103 rfl rfl ?_
        refine z_getR O o_Model_land q1765 dX9_stone_104 hr (fun v25 hr => ?_)
        refine z_getRN O o_MLand_rots zn1924 dX9_stone_107 hr (fun v26 hr => ?_)
        refine z_iload_n O 1 dX9_stone_110 rfl rfl ?_
        refine z_iaload O dX9_stone_111 hr (fun v27 hr => ?_)
        refine b2s hr (fun v29 h28 hF hr => ?_)
        refine z_callV O [vi v27] (vi v29) fV_X9_good q2249 (fun l G => mX9_good l G x0 v27 h1 _ hF) (zck hF) rfl rfl ⟨Nat.le_of_ble_eq_true rfl, Nat.le_of_ble_eq_true rfl⟩ (Nat.le_of_ble_eq_true rfl) dX9_stone_112 ?_
        exact z_iret O dX9_stone_115 (by cases hr; rfl)
      refine z_tabOut (tgt := 116) O dX9_stone_29 (zt_out 4 (by decide) (lt_s (p := fun j : Nat => ¬ x2.toInt = (0 : Int) + (j : Int)) (lt_s (p := fun j : Nat => ¬ x2.toInt = (0 : Int) + (j : Int)) (lt_s (p := fun j : Nat => ¬ x2.toInt = (0 : Int) + (j : Int)) (lt_s (p := fun j : Nat => ¬ x2.toInt = (0 : Int) + (j : Int)) lt_0 (lv_neT c6 (by decide))) (lv_neT c7 (by decide))) (lv_neT c8 (by decide))) (lv_neT c9 (by decide)))) (by decide) ?_
      refine z_aload_n O 0 dX9_stone_116 rfl rfl ?_
      refine z_aload_n O 0 dX9_stone_117 rfl rfl ?_
      refine z_getR O o_Model_land q1765 dX9_stone_118 hr (fun v30 hr => ?_)
      refine z_getRN O o_MLand_strong zn1926 dX9_stone_121 hr (fun v31 hr => ?_)
      refine z_iload_n O 1 dX9_stone_124 rfl rfl ?_
      refine z_iaload O dX9_stone_125 hr (fun v32 hr => ?_)
      refine b2s hr (fun v34 h33 hF hr => ?_)
      refine z_callV O [vi v32] (vi v34) fV_X9_good q2249 (fun l G => mX9_good l G x0 v32 h1 _ hF) (zck hF) rfl rfl ⟨Nat.le_of_ble_eq_true rfl, Nat.le_of_ble_eq_true rfl⟩ (Nat.le_of_ble_eq_true rfl) dX9_stone_126 ?_
      exact z_iret O dX9_stone_129 (by cases hr; rfl)
theorem fV_X9_surely : CVf RX9 yX9_surely cX9_surely 3 (some .int) 2 := ⟨q2560, q2561, q137, q2562, ⟨⟨by decide +kernel, by decide +kernel⟩, by decide +kernel⟩⟩
def F_X9_surely (N : Nat) (x0 : Option Nat) (x1 : Int32) (x2 : Int32) (h : AH) : Option (Int32 × AH) :=
  (ck h [9] x0).bind fun _ =>
  (pI h f_Model_thrown x0 (0 : Int32)).bind fun h1 =>
  (F_X9_isWall x0 x1 h1).bind fun v2 =>
  if v2 = 0 then
    b2 (F_X9_refused x0 (1 : Int32) h1) fun v4 h3 =>
    some (v4, h3)
  else
    (F_X9_isWall x0 x2 h1).bind fun v5 =>
    if v5 = 0 then
      b2 (F_X9_refused x0 (1 : Int32) h1) fun v7 h6 =>
      some (v7, h6)
    else
      if x1 = x2 then
        b2 (F_X9_refused x0 (1 : Int32) h1) fun v20 h19 =>
        some (v20, h19)
      else
        (F_X9_findsOrders N x0 (-1 : Int32) h1).bind fun h8 =>
        (gI h8 f_Model_many x0).bind fun v9 =>
        if v9 ≤ 0 then
          b2 (F_X9_good x0 (0 : Int32) h8) fun v11 h10 =>
          some (v11, h10)
        else
          (gR h8 f_Model_ahead x0).bind fun v12 =>
          (aI h8 0 v12 x2).bind fun v13 =>
          (F_X9_bit v13 x1).bind fun v14 =>
          if v14 = 0 then
            b2 (F_X9_good x0 (0 : Int32) h8) fun v16 h15 =>
            some (v16, h15)
          else
            b2 (F_X9_good x0 (1 : Int32) h8) fun v18 h17 =>
            some (v18, h17)
theorem mX9_surely (l : Launch) (G : ZG) (N : Nat) (x0 : Option Nat) (x1 : Int32) (x2 : Int32) (h : AH) (r : Int32 × AH) (hr : F_X9_surely N x0 x1 x2 h = some r) : MZ l G yX9_surely cX9_surely 3 (some .int) 5 139 [vr x0, vi x1, vi x2] h (eIH r) := by
  unfold F_X9_surely at hr
  refine MZ.of (by decide) [(0, vr x0), (1, vi x1), (2, vi x2)] rfl (Nat.le_of_ble_eq_true rfl) (fun K O => ?_)
  have O : ZOk K cX9_surely RX9 "surely" 3 (some .int) 5 139 := O
  refine bs hr (fun _ hck hr => ?_)
  refine z_aload_n O 0 dX9_surely_0 rfl rfl ?_
  refine z_iconst O dX9_surely_1 kic_0 ?_
  refine z_putI O o_Model_thrown (w_Model_thrown _) q1762 dX9_surely_2 hr (fun h1 hr => ?_)
  refine z_aload_n O 0 dX9_surely_5 rfl rfl ?_
  refine z_iload_n O 1 dX9_surely_6 rfl rfl ?_
  refine bs hr (fun v2 hF hr => ?_)
  refine z_callV O [vi x1] (vi v2) fV_X9_isWall q2547 (fun l G => mX9_isWall l G x0 x1 h1 _ hF) (zck hF) rfl rfl ⟨Nat.le_of_ble_eq_true rfl, Nat.le_of_ble_eq_true rfl⟩ (Nat.le_of_ble_eq_true rfl) dX9_surely_7 ?_
  refine z_if_eq (tgt := 26) O dX9_surely_10 (by decide) hr (fun hr => ?_) (fun hr => ?_)
  · refine z_aload_n O 0 dX9_surely_26 rfl rfl ?_
    refine z_iconst O dX9_surely_27 kic_1 ?_
    refine b2s hr (fun v4 h3 hF hr => ?_)
    refine z_callV O [vi (1 : Int32)] (vi v4) fV_X9_refused q1886 (fun l G => mX9_refused l G x0 (1 : Int32) h1 _ hF) (zck hF) rfl rfl ⟨Nat.le_of_ble_eq_true rfl, Nat.le_of_ble_eq_true rfl⟩ (Nat.le_of_ble_eq_true rfl) dX9_surely_28 ?_
    exact z_iret O dX9_surely_31 (by cases hr; rfl)
  · refine z_aload_n O 0 dX9_surely_13 rfl rfl ?_
    refine z_iload_n O 2 dX9_surely_14 rfl rfl ?_
    refine bs hr (fun v5 hF hr => ?_)
    refine z_callV O [vi x2] (vi v5) fV_X9_isWall q2547 (fun l G => mX9_isWall l G x0 x2 h1 _ hF) (zck hF) rfl rfl ⟨Nat.le_of_ble_eq_true rfl, Nat.le_of_ble_eq_true rfl⟩ (Nat.le_of_ble_eq_true rfl) dX9_surely_15 ?_
    refine z_if_eq (tgt := 26) O dX9_surely_18 (by decide) hr (fun hr => ?_) (fun hr => ?_)
    · refine z_aload_n O 0 dX9_surely_26 rfl rfl ?_
      refine z_iconst O dX9_surely_27 kic_1 ?_
      refine b2s hr (fun v7 h6 hF hr => ?_)
      refine z_callV O [vi (1 : Int32)] (vi v7) fV_X9_refused q1886 (fun l G => mX9_refused l G x0 (1 : Int32) h1 _ hF) (zck hF) rfl rfl ⟨Nat.le_of_ble_eq_true rfl, Nat.le_of_ble_eq_true rfl⟩ (Nat.le_of_ble_eq_true rfl) dX9_surely_28 ?_
      exact z_iret O dX9_surely_31 (by cases hr; rfl)
    · refine z_iload_n O 1 dX9_surely_21 rfl rfl ?_
      refine z_iload_n O 2 dX9_surely_22 rfl rfl ?_
      refine z_icmp_ne (tgt := 32) O dX9_surely_23 (by decide) hr (fun hr => ?_) (fun hr => ?_)
      · refine z_aload_n O 0 dX9_surely_26 rfl rfl ?_
        refine z_iconst O dX9_surely_27 kic_1 ?_
        refine b2s hr (fun v20 h19 hF hr => ?_)
        refine z_callV O [vi (1 : Int32)] (vi v20) fV_X9_refused q1886 (fun l G => mX9_refused l G x0 (1 : Int32) h1 _ hF) (zck hF) rfl rfl ⟨Nat.le_of_ble_eq_true rfl, Nat.le_of_ble_eq_true rfl⟩ (Nat.le_of_ble_eq_true rfl) dX9_surely_28 ?_
        exact z_iret O dX9_surely_31 (by cases hr; rfl)
      · refine z_aload_n O 0 dX9_surely_32 rfl rfl ?_
        refine z_iconst O dX9_surely_33 kic_m1 ?_
        refine bs hr (fun h8 hF hr => ?_)
        refine z_callVv O [vi (-1 : Int32)] fV_X9_findsOrders q2531 (fun l G => mX9_findsOrders l G N x0 (-1 : Int32) h1 _ hF) (zck hF) rfl rfl ⟨Nat.le_of_ble_eq_true rfl, Nat.le_of_ble_eq_true rfl⟩ (Nat.le_of_ble_eq_true rfl) dX9_surely_34 ?_
        refine z_aload_n O 0 dX9_surely_37 rfl rfl ?_
        refine z_aload_n O 0 dX9_surely_38 rfl rfl ?_
        refine z_getI O o_Model_many q1798 dX9_surely_39 hr (fun v9 hr => ?_)
        refine z_if_le (tgt := 62) O dX9_surely_42 (by decide) hr (fun hr => ?_) (fun hr => ?_)
        · refine z_iconst O dX9_surely_62 kic_0 ?_
          refine b2s hr (fun v11 h10 hF hr => ?_)
          refine z_callV O [vi (0 : Int32)] (vi v11) fV_X9_good q2249 (fun l G => mX9_good l G x0 (0 : Int32) h8 _ hF) (zck hF) rfl rfl ⟨Nat.le_of_ble_eq_true rfl, Nat.le_of_ble_eq_true rfl⟩ (Nat.le_of_ble_eq_true rfl) dX9_surely_63 ?_
          exact z_iret O dX9_surely_66 (by cases hr; rfl)
        · refine z_aload_n O 0 dX9_surely_45 rfl rfl ?_
          refine z_getR O o_Model_ahead q1794 dX9_surely_46 hr (fun v12 hr => ?_)
          refine z_iload_n O 2 dX9_surely_49 rfl rfl ?_
          refine z_iaload O dX9_surely_50 hr (fun v13 hr => ?_)
          refine z_iload_n O 1 dX9_surely_51 rfl rfl ?_
          refine bs hr (fun v14 hF hr => ?_)
          refine z_callS O [vi v13, vi x1] (vi v14) fS_X9_bit q2238 (fun l G => mX9_bit l G v13 x1 h8 _ hF) rfl ⟨Nat.le_of_ble_eq_true rfl, Nat.le_of_ble_eq_true rfl⟩ (Nat.le_of_ble_eq_true rfl) dX9_surely_52 ?_
          refine z_if_eq (tgt := 62) O dX9_surely_55 (by decide) hr (fun hr => ?_) (fun hr => ?_)
          · refine z_iconst O dX9_surely_62 kic_0 ?_
            refine b2s hr (fun v16 h15 hF hr => ?_)
            refine z_callV O [vi (0 : Int32)] (vi v16) fV_X9_good q2249 (fun l G => mX9_good l G x0 (0 : Int32) h8 _ hF) (zck hF) rfl rfl ⟨Nat.le_of_ble_eq_true rfl, Nat.le_of_ble_eq_true rfl⟩ (Nat.le_of_ble_eq_true rfl) dX9_surely_63 ?_
            exact z_iret O dX9_surely_66 (by cases hr; rfl)
          · refine z_iconst O dX9_surely_58 kic_1 ?_
            refine z_goto (tgt := 63) O dX9_surely_59 (by decide) ?_
            refine b2s hr (fun v18 h17 hF hr => ?_)
            refine z_callV O [vi (1 : Int32)] (vi v18) fV_X9_good q2249 (fun l G => mX9_good l G x0 (1 : Int32) h8 _ hF) (zck hF) rfl rfl ⟨Nat.le_of_ble_eq_true rfl, Nat.le_of_ble_eq_true rfl⟩ (Nat.le_of_ble_eq_true rfl) dX9_surely_63 ?_
            exact z_iret O dX9_surely_66 (by cases hr; rfl)
