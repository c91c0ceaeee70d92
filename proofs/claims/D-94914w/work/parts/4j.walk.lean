set_option maxRecDepth 100000
set_option maxHeartbeats 4000000
theorem fV_X9_costs : CVf RX9 yX9_costs cX9_costs 3 (some .int) 2 := ⟨q2372, q2373, q137, q2374, ⟨⟨by decide +kernel, by decide +kernel⟩, by decide +kernel⟩⟩
def F_X9_costs (x0 : Option Nat) (x1 : Int32) (x2 : Int32) (h : AH) : Option (Int32 × AH) :=
  (ck h [9] x0).bind fun _ =>
  (pI h f_Model_thrown x0 (0 : Int32)).bind fun h1 =>
  (F_X9_isHouse x0 x1 h1).bind fun v2 =>
  if v2 = 0 then
    b2 (F_X9_refused x0 (1 : Int32) h1) fun v4 h3 =>
    some (v4, h3)
  else
    (F_X9_isStone x0 x2 h1).bind fun v5 =>
    if v5 = 0 then
      b2 (F_X9_refused x0 (1 : Int32) h1) fun v15 h14 =>
      some (v15, h14)
    else
      (gR h1 f_Model_v x0).bind fun v6 =>
      (aI h1 0 v6 ((0 : Int32) + x1)).bind fun v7 =>
      if v7 = (6 : Int32) then
        b2 (F_X9_refused x0 (3 : Int32) h1) fun v13 h12 =>
        some (v13, h12)
      else
        (gR h1 f_Model_v x0).bind fun v8 =>
        (F_X9_costOf x0 v8 x1 x2 h1).bind fun v9 =>
        b2 (F_X9_good x0 v9 h1) fun v11 h10 =>
        some (v11, h10)
theorem mX9_costs (l : Launch) (G : ZG) (x0 : Option Nat) (x1 : Int32) (x2 : Int32) (h : AH) (r : Int32 × AH) (hr : F_X9_costs x0 x1 x2 h = some r) : MZ l G yX9_costs cX9_costs 3 (some .int) 2 71 [vr x0, vi x1, vi x2] h (eIH r) := by
  unfold F_X9_costs at hr
  refine MZ.of (by decide) [(0, vr x0), (1, vi x1), (2, vi x2)] rfl (Nat.le_of_ble_eq_true rfl) (fun K O => ?_)
  have O : ZOk K cX9_costs RX9 "costs" 3 (some .int) 2 71 := O
  refine bs hr (fun _ hck hr => ?_)
  refine z_aload_n O 0 dX9_costs_0 rfl rfl ?_
  refine z_iconst O dX9_costs_1 kic_0 ?_
  refine z_putI O o_Model_thrown (w_Model_thrown _) q1762 dX9_costs_2 hr (fun h1 hr => ?_)
  refine z_aload_n O 0 dX9_costs_5 rfl rfl ?_
  refine z_iload_n O 1 dX9_costs_6 rfl rfl ?_
  refine bs hr (fun v2 hF hr => ?_)
  refine z_callV O [vi x1] (vi v2) fV_X9_isHouse q2292 (fun l G => mX9_isHouse l G x0 x1 h1 _ hF) (zck hF) rfl rfl ⟨Nat.le_of_ble_eq_true rfl, Nat.le_of_ble_eq_true rfl⟩ (Nat.le_of_ble_eq_true rfl) dX9_costs_7 ?_
  refine z_if_eq (tgt := 21) O dX9_costs_10 (by decide) hr (fun hr => ?_) (fun hr => ?_)
  · refine z_aload_n O 0 dX9_costs_21 rfl rfl ?_
    refine z_iconst O dX9_costs_22 kic_1 ?_
    refine b2s hr (fun v4 h3 hF hr => ?_)
    refine z_callV O [vi (1 : Int32)] (vi v4) fV_X9_refused q1886 (fun l G => mX9_refused l G x0 (1 : Int32) h1 _ hF) (zck hF) rfl rfl ⟨Nat.le_of_ble_eq_true rfl, Nat.le_of_ble_eq_true rfl⟩ (Nat.le_of_ble_eq_true rfl) dX9_costs_23 ?_
    exact z_iret O dX9_costs_26 (by cases hr; rfl)
  · refine z_aload_n O 0 dX9_costs_13 rfl rfl ?_
    refine z_iload_n O 2 dX9_costs_14 rfl rfl ?_
    refine bs hr (fun v5 hF hr => ?_)
    refine z_callV O [vi x2] (vi v5) fV_X9_isStone q2375 (fun l G => mX9_isStone l G x0 x2 h1 _ hF) (zck hF) rfl rfl ⟨Nat.le_of_ble_eq_true rfl, Nat.le_of_ble_eq_true rfl⟩ (Nat.le_of_ble_eq_true rfl) dX9_costs_15 ?_
    refine z_if_ne (tgt := 27) O dX9_costs_18 (by decide) hr (fun hr => ?_) (fun hr => ?_)
    · refine z_aload_n O 0 dX9_costs_21 rfl rfl ?_
      refine z_iconst O dX9_costs_22 kic_1 ?_
      refine b2s hr (fun v15 h14 hF hr => ?_)
      refine z_callV O [vi (1 : Int32)] (vi v15) fV_X9_refused q1886 (fun l G => mX9_refused l G x0 (1 : Int32) h1 _ hF) (zck hF) rfl rfl ⟨Nat.le_of_ble_eq_true rfl, Nat.le_of_ble_eq_true rfl⟩ (Nat.le_of_ble_eq_true rfl) dX9_costs_23 ?_
      exact z_iret O dX9_costs_26 (by cases hr; rfl)
    · refine z_aload_n O 0 dX9_costs_27 rfl rfl ?_
      refine z_getR O o_Model_v q1778 dX9_costs_28 hr (fun v6 hr => ?_)
      refine z_iconst O dX9_costs_31 kic_0 ?_
      refine z_iload_n O 1 dX9_costs_32 rfl rfl ?_
      refine z_iadd O dX9_costs_33 ?_
      refine z_iaload O dX9_costs_34 hr (fun v7 hr => ?_)
      refine z_bipush O dX9_costs_35 kbi_6 ?_
      refine z_icmp_ne (tgt := 48) O dX9_costs_37 (by decide) hr (fun hr => ?_) (fun hr => ?_)
      · refine z_aload_n O 0 dX9_costs_40 rfl rfl ?_
        refine z_iconst O dX9_costs_41 kic_3 ?_
        refine b2s hr (fun v13 h12 hF hr => ?_)
        refine z_callV O [vi (3 : Int32)] (vi v13) fV_X9_refused q1886 (fun l G => mX9_refused l G x0 (3 : Int32) h1 _ hF) (zck hF) rfl rfl ⟨Nat.le_of_ble_eq_true rfl, Nat.le_of_ble_eq_true rfl⟩ (Nat.le_of_ble_eq_true rfl) dX9_costs_42 ?_
        refine z_goto (tgt := 62) O dX9_costs_45 (by decide) ?_
        exact z_iret O dX9_costs_62 (by cases hr; rfl)
      · refine z_aload_n O 0 dX9_costs_48 rfl rfl ?_
        refine z_aload_n O 0 dX9_costs_49 rfl rfl ?_
        refine z_aload_n O 0 dX9_costs_50 rfl rfl ?_
        refine z_getR O o_Model_v q1778 dX9_costs_51 hr (fun v8 hr => ?_)
        refine z_iload_n O 1 dX9_costs_54 rfl rfl ?_
        refine z_iload_n O 2 dX9_costs_55 rfl rfl ?_
        refine bs hr (fun v9 hF hr => ?_)
        refine z_callV O [vr v8, vi x1, vi x2] (vi v9) fV_X9_costOf q2379 (fun l G => mX9_costOf l G x0 v8 x1 x2 h1 _ hF) (zck hF) rfl rfl ⟨Nat.le_of_ble_eq_true rfl, Nat.le_of_ble_eq_true rfl⟩ (Nat.le_of_ble_eq_true rfl) dX9_costs_56 ?_
        refine b2s hr (fun v11 h10 hF hr => ?_)
        refine z_callV O [vi v9] (vi v11) fV_X9_good q2249 (fun l G => mX9_good l G x0 v9 h1 _ hF) (zck hF) rfl rfl ⟨Nat.le_of_ble_eq_true rfl, Nat.le_of_ble_eq_true rfl⟩ (Nat.le_of_ble_eq_true rfl) dX9_costs_59 ?_
        exact z_iret O dX9_costs_62 (by cases hr; rfl)
theorem fS_X9_frontPlace : CSf yX9_frontPlace cX9_frontPlace 3 (some .int) 3 := ⟨q2366, q137, q2367, ⟨⟨by decide +kernel, by decide +kernel⟩, by decide +kernel⟩⟩
def F_X9_frontPlace (x0 : Int32) (x1 : Int32) (x2 : Int32) : Option (Int32) :=
  (F_X9_doorX x0 x1 x2).bind fun v1 =>
  (F_X9_outX x1).bind fun v2 =>
  (F_X9_doorY x0 x1 x2).bind fun v3 =>
  (F_X9_outY x1).bind fun v4 =>
  (F_X9_placeOf (x0 + (1 : Int32)) (v1 + v2) (v3 + v4)).bind fun v5 =>
  some v5
theorem mX9_frontPlace (l : Launch) (G : ZG) (x0 : Int32) (x1 : Int32) (x2 : Int32) (h : AH) (r : Int32) (hr : F_X9_frontPlace x0 x1 x2 = some r) : MZ l G yX9_frontPlace cX9_frontPlace 3 (some .int) 2 70 [vi x0, vi x1, vi x2] h (eI h r) := by
  unfold F_X9_frontPlace at hr
  refine MZ.of (by decide) [(0, vi x0), (1, vi x1), (2, vi x2)] rfl (Nat.le_of_ble_eq_true rfl) (fun K O => ?_)
  have O : ZOk K cX9_frontPlace RX9 "frontPlace" 3 (some .int) 2 70 := O
  refine z_iload_n O 0 dX9_frontPlace_0 rfl rfl ?_
  refine z_iconst O dX9_frontPlace_1 kic_1 ?_
  refine z_iadd O dX9_frontPlace_2 ?_
  refine z_iload_n O 0 dX9_frontPlace_3 rfl rfl ?_
  refine z_iload_n O 1 dX9_frontPlace_4 rfl rfl ?_
  refine z_iload_n O 2 dX9_frontPlace_5 rfl rfl ?_
  refine bs hr (fun v1 hF hr => ?_)
  refine z_callS O [vi x0, vi x1, vi x2] (vi v1) fS_X9_doorX q2303 (fun l G => mX9_doorX l G x0 x1 x2 h _ hF) rfl ⟨Nat.le_of_ble_eq_true rfl, Nat.le_of_ble_eq_true rfl⟩ (Nat.le_of_ble_eq_true rfl) dX9_frontPlace_6 ?_
  refine z_iload_n O 1 dX9_frontPlace_9 rfl rfl ?_
  refine bs hr (fun v2 hF hr => ?_)
  refine z_callS O [vi x1] (vi v2) fS_X9_outX q2306 (fun l G => mX9_outX l G x1 h _ hF) rfl ⟨Nat.le_of_ble_eq_true rfl, Nat.le_of_ble_eq_true rfl⟩ (Nat.le_of_ble_eq_true rfl) dX9_frontPlace_10 ?_
  refine z_iadd O dX9_frontPlace_13 ?_
  refine z_iload_n O 0 dX9_frontPlace_14 rfl rfl ?_
  refine z_iload_n O 1 dX9_frontPlace_15 rfl rfl ?_
  refine z_iload_n O 2 dX9_frontPlace_16 rfl rfl ?_
  refine bs hr (fun v3 hF hr => ?_)
  refine z_callS O [vi x0, vi x1, vi x2] (vi v3) fS_X9_doorY q2309 (fun l G => mX9_doorY l G x0 x1 x2 h _ hF) rfl ⟨Nat.le_of_ble_eq_true rfl, Nat.le_of_ble_eq_true rfl⟩ (Nat.le_of_ble_eq_true rfl) dX9_frontPlace_17 ?_
  refine z_iload_n O 1 dX9_frontPlace_20 rfl rfl ?_
  refine bs hr (fun v4 hF hr => ?_)
  refine z_callS O [vi x1] (vi v4) fS_X9_outY q2312 (fun l G => mX9_outY l G x1 h _ hF) rfl ⟨Nat.le_of_ble_eq_true rfl, Nat.le_of_ble_eq_true rfl⟩ (Nat.le_of_ble_eq_true rfl) dX9_frontPlace_21 ?_
  refine z_iadd O dX9_frontPlace_24 ?_
  refine bs hr (fun v5 hF hr => ?_)
  refine z_callS O [vi (x0 + (1 : Int32)), vi (v1 + v2), vi (v3 + v4)] (vi v5) fS_X9_placeOf q2362 (fun l G => mX9_placeOf l G (x0 + (1 : Int32)) (v1 + v2) (v3 + v4) h _ hF) rfl ⟨Nat.le_of_ble_eq_true rfl, Nat.le_of_ble_eq_true rfl⟩ (Nat.le_of_ble_eq_true rfl) dX9_frontPlace_25 ?_
  exact z_iret O dX9_frontPlace_28 (by cases hr; rfl)
theorem fV_X9_findsDoor : CVf RX9 yX9_findsDoor cX9_findsDoor 8 (some .boolean) 2 := ⟨q2357, qs101, q137, q2358, ⟨⟨by decide +kernel, by decide +kernel⟩, by decide +kernel⟩⟩
def bX9_findsDoor_164 (N : Nat) (rec39 : Int32 → Int32 → AH → Option (Int32 × AH)) (rec48 : Int32 → Int32 → AH → Option (Int32 × AH)) (x0 : Option Nat) (x1 : Option Nat) (x2 : Int32) (x3 : Int32) (x5 : Int32) (x6 : Int32) (x7 : Int32) (h : AH) : Option (Int32 × AH) :=
  (pI h f_Model_newSide x0 x5).bind fun h1 =>
  (pI h1 f_Model_newPlace x0 x6).bind fun h2 =>
  jlet (x6 + (1 : Int32)) fun v3 =>
  rec48 x7 v3 h2
theorem wX9_findsDoor_164 {K : ZC} (O : ZOk K cX9_findsDoor RX9 "findsDoor" 8 (some .boolean) 5 146) (N : Nat) (rec39 : Int32 → Int32 → AH → Option (Int32 × AH)) (rec48 : Int32 → Int32 → AH → Option (Int32 × AH)) (x0 : Option Nat) (x1 : Option Nat) (x2 : Int32) (x3 : Int32) (x5 : Int32) (x6 : Int32) (x7 : Int32) (h : AH) (hrec39 : ∀ (y4 : Int32) (y5 : Int32) (hy : AH) (ry : Int32 × AH), rec39 y4 y5 hy = some ry → Zw K (eIH ry) hy 39 [(0, vr x0), (1, vr x1), (2, vi x2), (3, vi x3), (4, vi y4), (5, vi y5)] []) (hrec48 : ∀ (y4 : Int32) (y6 : Int32) (hy : AH) (ry : Int32 × AH), rec48 y4 y6 hy = some ry → Zw K (eIH ry) hy 48 [(0, vr x0), (1, vr x1), (2, vi x2), (3, vi x3), (4, vi y4), (5, vi x5), (6, vi y6)] []) (r : Int32 × AH) (hr : bX9_findsDoor_164 N rec39 rec48 x0 x1 x2 x3 x5 x6 x7 h = some r) : Zw K (eIH r) h 164 [(0, vr x0), (1, vr x1), (2, vi x2), (3, vi x3), (5, vi x5), (6, vi x6), (7, vi x7)] [] := by
  unfold bX9_findsDoor_164 at hr
  refine z_iload O 6 dX9_findsDoor_164 rfl ?_
  refine z_istore O [(4, vi x7), (0, vr x0), (1, vr x1), (2, vi x2), (3, vi x3), (5, vi x5), (6, vi x6), (7, vi x7)] dX9_findsDoor_166 (by decide) rfl ?_
  refine z_aload_n O 1 dX9_findsDoor_168 rfl rfl ?_
  refine z_iload O 5 dX9_findsDoor_169 rfl ?_
  refine z_putI O o_Model_newSide (w_Model_newSide _) q1784 dX9_findsDoor_171 hr (fun h1 hr => ?_)
  refine z_aload_n O 1 dX9_findsDoor_174 rfl rfl ?_
  refine z_iload O 6 dX9_findsDoor_175 rfl ?_
  refine z_putI O o_Model_newPlace (w_Model_newPlace _) q1785 dX9_findsDoor_177 hr (fun h2 hr => ?_)
  refine z_iincL O 6 (fun v3 => [(6, vi v3), (4, vi x7), (0, vr x0), (1, vr x1), (2, vi x2), (3, vi x3), (5, vi x5), (7, vi x7)]) dX9_findsDoor_180 rfl rfl (by decide) (fun _ => rfl) hr (fun v3 hr => ?_)
  refine z_goto (tgt := 48) O dX9_findsDoor_183 (by decide) ?_
  refine z_sub [2, 3, 4, 5, 1, 6, 0] rfl ?_
  exact hrec48 x7 v3 h2 _ hr
def bX9_findsDoor_125 (N : Nat) (rec39 : Int32 → Int32 → AH → Option (Int32 × AH)) (rec48 : Int32 → Int32 → AH → Option (Int32 × AH)) (x0 : Option Nat) (x1 : Option Nat) (x2 : Int32) (x3 : Int32) (x4 : Int32) (x5 : Int32) (x6 : Int32) (s0 : Int32) (h : AH) : Option (Int32 × AH) :=
  if x4 = (-2 : Int32) then
    bX9_findsDoor_164 N rec39 rec48 x0 x1 x2 x3 x5 x6 s0 h
  else
    (gR h f_Model_land x0).bind fun v1 =>
    (gI h f_MLand_far v1).bind fun v2 =>
    if v2 = 0 then
      if s0 < x4 then
        bX9_findsDoor_164 N rec39 rec48 x0 x1 x2 x3 x5 x6 s0 h
      else
        jlet (x6 + (1 : Int32)) fun v3 =>
        rec48 x4 v3 h
    else
      if x4 < s0 then
        bX9_findsDoor_164 N rec39 rec48 x0 x1 x2 x3 x5 x6 s0 h
      else
        jlet (x6 + (1 : Int32)) fun v4 =>
        rec48 x4 v4 h
theorem wX9_findsDoor_125 {K : ZC} (O : ZOk K cX9_findsDoor RX9 "findsDoor" 8 (some .boolean) 5 146) (N : Nat) (rec39 : Int32 → Int32 → AH → Option (Int32 × AH)) (rec48 : Int32 → Int32 → AH → Option (Int32 × AH)) (x0 : Option Nat) (x1 : Option Nat) (x2 : Int32) (x3 : Int32) (x4 : Int32) (x5 : Int32) (x6 : Int32) (s0 : Int32) (h : AH) (hrec39 : ∀ (y4 : Int32) (y5 : Int32) (hy : AH) (ry : Int32 × AH), rec39 y4 y5 hy = some ry → Zw K (eIH ry) hy 39 [(0, vr x0), (1, vr x1), (2, vi x2), (3, vi x3), (4, vi y4), (5, vi y5)] []) (hrec48 : ∀ (y4 : Int32) (y6 : Int32) (hy : AH) (ry : Int32 × AH), rec48 y4 y6 hy = some ry → Zw K (eIH ry) hy 48 [(0, vr x0), (1, vr x1), (2, vi x2), (3, vi x3), (4, vi y4), (5, vi x5), (6, vi y6)] []) (r : Int32 × AH) (hr : bX9_findsDoor_125 N rec39 rec48 x0 x1 x2 x3 x4 x5 x6 s0 h = some r) : Zw K (eIH r) h 125 [(0, vr x0), (1, vr x1), (2, vi x2), (3, vi x3), (4, vi x4), (5, vi x5), (6, vi x6)] [vi s0] := by
  unfold bX9_findsDoor_125 at hr
  refine z_istore O [(7, vi s0), (0, vr x0), (1, vr x1), (2, vi x2), (3, vi x3), (4, vi x4), (5, vi x5), (6, vi x6)] dX9_findsDoor_125 (by decide) rfl ?_
  refine z_iload O 5 dX9_findsDoor_127 rfl ?_
  refine z_bipush O dX9_findsDoor_129 kbi_m2 ?_
  refine z_icmp_eq (tgt := 164) O dX9_findsDoor_131 (by decide) hr (fun hr => ?_) (fun hr => ?_)
  · refine z_sub [1, 2, 3, 4, 6, 7, 0] rfl ?_
    exact wX9_findsDoor_164 O N rec39 rec48 x0 x1 x2 x3 x5 x6 s0 h hrec39 hrec48 _ hr
  · refine z_aload_n O 1 dX9_findsDoor_134 rfl rfl ?_
    refine z_getR O o_Model_land q1765 dX9_findsDoor_135 hr (fun v1 hr => ?_)
    refine z_getIN O o_MLand_far zn1913 dX9_findsDoor_138 hr (fun v2 hr => ?_)
    refine z_if_eq (tgt := 154) O dX9_findsDoor_141 (by decide) hr (fun hr => ?_) (fun hr => ?_)
    · refine z_iload O 0 dX9_findsDoor_154 rfl ?_
      refine z_iload O 5 dX9_findsDoor_156 rfl ?_
      refine z_icmp_lt (tgt := 164) O dX9_findsDoor_158 (by decide) hr (fun hr => ?_) (fun hr => ?_)
      · refine z_sub [1, 2, 3, 4, 6, 7, 0] rfl ?_
        exact wX9_findsDoor_164 O N rec39 rec48 x0 x1 x2 x3 x5 x6 s0 h hrec39 hrec48 _ hr
      · refine z_goto (tgt := 180) O dX9_findsDoor_161 (by decide) ?_
        refine z_iincL O 7 (fun v3 => [(6, vi v3), (7, vi s0), (0, vr x0), (1, vr x1), (2, vi x2), (3, vi x3), (4, vi x4), (5, vi x5)]) dX9_findsDoor_180 rfl rfl (by decide) (fun _ => rfl) hr (fun v3 hr => ?_)
        refine z_goto (tgt := 48) O dX9_findsDoor_183 (by decide) ?_
        refine z_sub [2, 3, 4, 5, 6, 7, 0] rfl ?_
        exact hrec48 x4 v3 h _ hr
    · refine z_iload O 0 dX9_findsDoor_144 rfl ?_
      refine z_iload O 5 dX9_findsDoor_146 rfl ?_
      refine z_icmp_gt (tgt := 164) O dX9_findsDoor_148 (by decide) hr (fun hr => ?_) (fun hr => ?_)
      · refine z_sub [1, 2, 3, 4, 6, 7, 0] rfl ?_
        exact wX9_findsDoor_164 O N rec39 rec48 x0 x1 x2 x3 x5 x6 s0 h hrec39 hrec48 _ hr
      · refine z_goto (tgt := 180) O dX9_findsDoor_151 (by decide) ?_
        refine z_iincL O 7 (fun v4 => [(6, vi v4), (7, vi s0), (0, vr x0), (1, vr x1), (2, vi x2), (3, vi x3), (4, vi x4), (5, vi x5)]) dX9_findsDoor_180 rfl rfl (by decide) (fun _ => rfl) hr (fun v4 hr => ?_)
        refine z_goto (tgt := 48) O dX9_findsDoor_183 (by decide) ?_
        refine z_sub [2, 3, 4, 5, 6, 7, 0] rfl ?_
        exact hrec48 x4 v4 h _ hr
def BX9_findsDoor_48 (N : Nat) (rec39 : Int32 → Int32 → AH → Option (Int32 × AH)) (x0 : Option Nat) (x1 : Option Nat) (x2 : Int32) (x3 : Int32) (x5 : Int32) (rec48 : Int32 → Int32 → AH → Option (Int32 × AH)) : Int32 → Int32 → AH → Option (Int32 × AH) := fun x4 x6 h =>
  if (((2 : Int32) * x3) - (1 : Int32)) ≤ x6 then
    jlet (x5 + (1 : Int32)) fun v1 =>
    rec39 x4 v1 h
  else
    (gR h f_Model_land x0).bind fun v2 =>
    (F_X9_isFree N v2 x1 x2 x3 x5 x6 h).bind fun v3 =>
    if v3 = 0 then
      jlet (x6 + (1 : Int32)) fun v11 =>
      rec48 x4 v11 h
    else
      if x3 = (1 : Int32) then
        bX9_findsDoor_125 N rec39 rec48 x0 x1 x2 x3 x4 x5 x6 (0 : Int32) h
      else
        (F_X9_doorPlace x3 x5 x6).bind fun v4 =>
        (F_X9_part x2 (x3 - (1 : Int32)) (1 : Int32)).bind fun v5 =>
        (aI h 0 x1 v5).bind fun v6 =>
        (F_X9_part x2 (x3 - (1 : Int32)) (2 : Int32)).bind fun v7 =>
        (aI h 0 x1 v7).bind fun v8 =>
        (F_X9_frontPlace (x3 - (1 : Int32)) v6 v8).bind fun v9 =>
        (F_X9_roundOf x3 v4 v9).bind fun v10 =>
        bX9_findsDoor_125 N rec39 rec48 x0 x1 x2 x3 x4 x5 x6 v10 h
def LX9_findsDoor_48 (N : Nat) (rec39 : Int32 → Int32 → AH → Option (Int32 × AH)) (x0 : Option Nat) (x1 : Option Nat) (x2 : Int32) (x3 : Int32) (x5 : Int32) : Int32 → Int32 → AH → Option (Int32 × AH) := lf (fun _ _ _ => none) (BX9_findsDoor_48 N rec39 x0 x1 x2 x3 x5) N
theorem wX9_findsDoor_48B {K : ZC} (O : ZOk K cX9_findsDoor RX9 "findsDoor" 8 (some .boolean) 5 146) (N : Nat) (rec39 : Int32 → Int32 → AH → Option (Int32 × AH)) (x0 : Option Nat) (x1 : Option Nat) (x2 : Int32) (x3 : Int32) (x5 : Int32) (rec48 : Int32 → Int32 → AH → Option (Int32 × AH)) (hrec39 : ∀ (y4 : Int32) (y5 : Int32) (hy : AH) (ry : Int32 × AH), rec39 y4 y5 hy = some ry → Zw K (eIH ry) hy 39 [(0, vr x0), (1, vr x1), (2, vi x2), (3, vi x3), (4, vi y4), (5, vi y5)] []) (hrec48 : ∀ (y4 : Int32) (y6 : Int32) (hy : AH) (ry : Int32 × AH), rec48 y4 y6 hy = some ry → Zw K (eIH ry) hy 48 [(0, vr x0), (1, vr x1), (2, vi x2), (3, vi x3), (4, vi y4), (5, vi x5), (6, vi y6)] []) (x4 : Int32) (x6 : Int32) (h : AH) (r : Int32 × AH) (hr : BX9_findsDoor_48 N rec39 x0 x1 x2 x3 x5 rec48 x4 x6 h = some r) : Zw K (eIH r) h 48 [(0, vr x0), (1, vr x1), (2, vi x2), (3, vi x3), (4, vi x4), (5, vi x5), (6, vi x6)] [] := by
  unfold BX9_findsDoor_48 at hr
  refine z_iload O 6 dX9_findsDoor_48 rfl ?_
  refine z_iconst O dX9_findsDoor_50 kic_2 ?_
  refine z_iload_n O 3 dX9_findsDoor_51 rfl rfl ?_
  refine z_imul O dX9_findsDoor_52 ?_
  refine z_iconst O dX9_findsDoor_53 kic_1 ?_
  refine z_isub O dX9_findsDoor_54 ?_
  refine z_icmp_ge (tgt := 186) O dX9_findsDoor_55 (by decide) hr (fun hr => ?_) (fun hr => ?_)
  · refine z_iincL O 5 (fun v1 => [(5, vi v1), (0, vr x0), (1, vr x1), (2, vi x2), (3, vi x3), (4, vi x4), (6, vi x6)]) dX9_findsDoor_186 rfl rfl (by decide) (fun _ => rfl) hr (fun v1 hr => ?_)
    refine z_goto (tgt := 39) O dX9_findsDoor_189 (by decide) ?_
    refine z_sub [1, 2, 3, 4, 5, 0] rfl ?_
    exact hrec39 x4 v1 h _ hr
  · refine z_aload_n O 0 dX9_findsDoor_58 rfl rfl ?_
    refine z_getR O o_Model_land q1765 dX9_findsDoor_59 hr (fun v2 hr => ?_)
    refine z_aload_n O 1 dX9_findsDoor_62 rfl rfl ?_
    refine z_iload_n O 2 dX9_findsDoor_63 rfl rfl ?_
    refine z_iload_n O 3 dX9_findsDoor_64 rfl rfl ?_
    refine z_iload O 5 dX9_findsDoor_65 rfl ?_
    refine z_iload O 6 dX9_findsDoor_67 rfl ?_
    refine bs hr (fun v3 hF hr => ?_)
    refine z_callS O [vr v2, vr x1, vi x2, vi x3, vi x5, vi x6] (vi v3) fS_X9_isFree q2300 (fun l G => mX9_isFree l G N v2 x1 x2 x3 x5 x6 h _ hF) rfl ⟨Nat.le_of_ble_eq_true rfl, Nat.le_of_ble_eq_true rfl⟩ (Nat.le_of_ble_eq_true rfl) dX9_findsDoor_69 ?_
    refine z_if_ne (tgt := 78) O dX9_findsDoor_72 (by decide) hr (fun hr => ?_) (fun hr => ?_)
    · refine z_goto (tgt := 180) O dX9_findsDoor_75 (by decide) ?_
      refine z_iincL O 6 (fun v11 => [(6, vi v11), (0, vr x0), (1, vr x1), (2, vi x2), (3, vi x3), (4, vi x4), (5, vi x5)]) dX9_findsDoor_180 rfl rfl (by decide) (fun _ => rfl) hr (fun v11 hr => ?_)
      refine z_goto (tgt := 48) O dX9_findsDoor_183 (by decide) ?_
      refine z_sub [1, 2, 3, 4, 5, 6, 0] rfl ?_
      exact hrec48 x4 v11 h _ hr
    · refine z_iload_n O 3 dX9_findsDoor_78 rfl rfl ?_
      refine z_iconst O dX9_findsDoor_79 kic_1 ?_
      refine z_icmp_ne (tgt := 87) O dX9_findsDoor_80 (by decide) hr (fun hr => ?_) (fun hr => ?_)
      · refine z_iconst O dX9_findsDoor_83 kic_0 ?_
        refine z_goto (tgt := 125) O dX9_findsDoor_84 (by decide) ?_
        exact wX9_findsDoor_125 O N rec39 rec48 x0 x1 x2 x3 x4 x5 x6 (0 : Int32) h hrec39 hrec48 _ hr
      · refine z_iload_n O 3 dX9_findsDoor_87 rfl rfl ?_
        refine z_iload_n O 3 dX9_findsDoor_88 rfl rfl ?_
        refine z_iload O 5 dX9_findsDoor_89 rfl ?_
        refine z_iload O 6 dX9_findsDoor_91 rfl ?_
        refine bs hr (fun v4 hF hr => ?_)
        refine z_callS O [vi x3, vi x5, vi x6] (vi v4) fS_X9_doorPlace q2359 (fun l G => mX9_doorPlace l G x3 x5 x6 h _ hF) rfl ⟨Nat.le_of_ble_eq_true rfl, Nat.le_of_ble_eq_true rfl⟩ (Nat.le_of_ble_eq_true rfl) dX9_findsDoor_93 ?_
        refine z_iload_n O 3 dX9_findsDoor_96 rfl rfl ?_
        refine z_iconst O dX9_findsDoor_97 kic_1 ?_
        refine z_isub O dX9_findsDoor_98 ?_
        refine z_aload_n O 1 dX9_findsDoor_99 rfl rfl ?_
        refine z_iload_n O 2 dX9_findsDoor_100 rfl rfl ?_
        refine z_iload_n O 3 dX9_findsDoor_101 rfl rfl ?_
        refine z_iconst O dX9_findsDoor_102 kic_1 ?_
        refine z_isub O dX9_findsDoor_103 ?_
        refine z_iconst O dX9_findsDoor_104 kic_1 ?_
        refine bs hr (fun v5 hF hr => ?_)
        refine z_callS O [vi x2, vi (x3 - (1 : Int32)), vi (1 : Int32)] (vi v5) fS_X9_part q2223 (fun l G => mX9_part l G x2 (x3 - (1 : Int32)) (1 : Int32) h _ hF) rfl ⟨Nat.le_of_ble_eq_true rfl, Nat.le_of_ble_eq_true rfl⟩ (Nat.le_of_ble_eq_true rfl) dX9_findsDoor_105 ?_
        refine z_iaload O dX9_findsDoor_108 hr (fun v6 hr => ?_)
        refine z_aload_n O 1 dX9_findsDoor_109 rfl rfl ?_
        refine z_iload_n O 2 dX9_findsDoor_110 rfl rfl ?_
        refine z_iload_n O 3 dX9_findsDoor_111 rfl rfl ?_
        refine z_iconst O dX9_findsDoor_112 kic_1 ?_
        refine z_isub O dX9_findsDoor_113 ?_
        refine z_iconst O dX9_findsDoor_114 kic_2 ?_
        refine bs hr (fun v7 hF hr => ?_)
        refine z_callS O [vi x2, vi (x3 - (1 : Int32)), vi (2 : Int32)] (vi v7) fS_X9_part q2223 (fun l G => mX9_part l G x2 (x3 - (1 : Int32)) (2 : Int32) h _ hF) rfl ⟨Nat.le_of_ble_eq_true rfl, Nat.le_of_ble_eq_true rfl⟩ (Nat.le_of_ble_eq_true rfl) dX9_findsDoor_115 ?_
        refine z_iaload O dX9_findsDoor_118 hr (fun v8 hr => ?_)
        refine bs hr (fun v9 hF hr => ?_)
        refine z_callS O [vi (x3 - (1 : Int32)), vi v6, vi v8] (vi v9) fS_X9_frontPlace q2365 (fun l G => mX9_frontPlace l G (x3 - (1 : Int32)) v6 v8 h _ hF) rfl ⟨Nat.le_of_ble_eq_true rfl, Nat.le_of_ble_eq_true rfl⟩ (Nat.le_of_ble_eq_true rfl) dX9_findsDoor_119 ?_
        refine bs hr (fun v10 hF hr => ?_)
        refine z_callS O [vi x3, vi v4, vi v9] (vi v10) fS_X9_roundOf q2368 (fun l G => mX9_roundOf l G x3 v4 v9 h _ hF) rfl ⟨Nat.le_of_ble_eq_true rfl, Nat.le_of_ble_eq_true rfl⟩ (Nat.le_of_ble_eq_true rfl) dX9_findsDoor_122 ?_
        exact wX9_findsDoor_125 O N rec39 rec48 x0 x1 x2 x3 x4 x5 x6 v10 h hrec39 hrec48 _ hr
theorem wX9_findsDoor_48 {K : ZC} (O : ZOk K cX9_findsDoor RX9 "findsDoor" 8 (some .boolean) 5 146) (N : Nat) (rec39 : Int32 → Int32 → AH → Option (Int32 × AH)) (x0 : Option Nat) (x1 : Option Nat) (x2 : Int32) (x3 : Int32) (x5 : Int32) (hrec39 : ∀ (y4 : Int32) (y5 : Int32) (hy : AH) (ry : Int32 × AH), rec39 y4 y5 hy = some ry → Zw K (eIH ry) hy 39 [(0, vr x0), (1, vr x1), (2, vi x2), (3, vi x3), (4, vi y4), (5, vi y5)] []) : ∀ (n : Nat) (x4 : Int32) (x6 : Int32) (h : AH) (r : Int32 × AH), lf (fun _ _ _ => none) (BX9_findsDoor_48 N rec39 x0 x1 x2 x3 x5) n x4 x6 h = some r → Zw K (eIH r) h 48 [(0, vr x0), (1, vr x1), (2, vi x2), (3, vi x3), (4, vi x4), (5, vi x5), (6, vi x6)] [] := by
  intro n
  induction n with
  | zero => intro x4 x6 h r hr; cases hr
  | succ n ih => intro x4 x6 h r hr; exact wX9_findsDoor_48B O N rec39 x0 x1 x2 x3 x5 (lf (fun _ _ _ => none) (BX9_findsDoor_48 N rec39 x0 x1 x2 x3 x5) n) hrec39 ih x4 x6 h r hr
def BX9_findsDoor_39 (N : Nat) (x0 : Option Nat) (x1 : Option Nat) (x2 : Int32) (x3 : Int32) (rec39 : Int32 → Int32 → AH → Option (Int32 × AH)) : Int32 → Int32 → AH → Option (Int32 × AH) := fun x4 x5 h =>
  if (4 : Int32) ≤ x5 then
    if x4 = (-2 : Int32) then
      (zb (0 : Int32)).bind fun v1 => some (v1, h)
    else
      (zb (1 : Int32)).bind fun v2 => some (v2, h)
  else
    LX9_findsDoor_48 N rec39 x0 x1 x2 x3 x5 x4 (0 : Int32) h
def LX9_findsDoor_39 (N : Nat) (x0 : Option Nat) (x1 : Option Nat) (x2 : Int32) (x3 : Int32) : Int32 → Int32 → AH → Option (Int32 × AH) := lf (fun _ _ _ => none) (BX9_findsDoor_39 N x0 x1 x2 x3) N
theorem wX9_findsDoor_39B {K : ZC} (O : ZOk K cX9_findsDoor RX9 "findsDoor" 8 (some .boolean) 5 146) (N : Nat) (x0 : Option Nat) (x1 : Option Nat) (x2 : Int32) (x3 : Int32) (rec39 : Int32 → Int32 → AH → Option (Int32 × AH)) (hrec39 : ∀ (y4 : Int32) (y5 : Int32) (hy : AH) (ry : Int32 × AH), rec39 y4 y5 hy = some ry → Zw K (eIH ry) hy 39 [(0, vr x0), (1, vr x1), (2, vi x2), (3, vi x3), (4, vi y4), (5, vi y5)] []) (x4 : Int32) (x5 : Int32) (h : AH) (r : Int32 × AH) (hr : BX9_findsDoor_39 N x0 x1 x2 x3 rec39 x4 x5 h = some r) : Zw K (eIH r) h 39 [(0, vr x0), (1, vr x1), (2, vi x2), (3, vi x3), (4, vi x4), (5, vi x5)] [] := by
  unfold BX9_findsDoor_39 at hr
  refine z_iload O 5 dX9_findsDoor_39 rfl ?_
  refine z_iconst O dX9_findsDoor_41 kic_4 ?_
  refine z_icmp_ge (tgt := 192) O dX9_findsDoor_42 (by decide) hr (fun hr => ?_) (fun hr => ?_)
  · refine z_iload O 4 dX9_findsDoor_192 rfl ?_
    refine z_bipush O dX9_findsDoor_194 kbi_m2 ?_
    refine z_icmp_eq (tgt := 203) O dX9_findsDoor_196 (by decide) hr (fun hr => ?_) (fun hr => ?_)
    · refine z_iconst O dX9_findsDoor_203 kic_0 ?_
      refine bs hr (fun v1 e0 hr => ?_)
      obtain ⟨e1, e2, -⟩ := zb_spec e0
      exact z_zret O e2 dX9_findsDoor_204 (by cases hr; cases e1; rfl)
    · refine z_iconst O dX9_findsDoor_199 kic_1 ?_
      refine z_goto (tgt := 204) O dX9_findsDoor_200 (by decide) ?_
      refine bs hr (fun v2 e0 hr => ?_)
      obtain ⟨e1, e2, -⟩ := zb_spec e0
      exact z_zret O e2 dX9_findsDoor_204 (by cases hr; cases e1; rfl)
  · refine z_iconst O dX9_findsDoor_45 kic_0 ?_
    refine z_istore O [(6, vi (0 : Int32)), (0, vr x0), (1, vr x1), (2, vi x2), (3, vi x3), (4, vi x4), (5, vi x5)] dX9_findsDoor_46 (by decide) rfl ?_
    refine z_sub [1, 2, 3, 4, 5, 6, 0] rfl ?_
    exact wX9_findsDoor_48 O N rec39 x0 x1 x2 x3 x5 hrec39 _ x4 (0 : Int32) h _ hr
theorem wX9_findsDoor_39 {K : ZC} (O : ZOk K cX9_findsDoor RX9 "findsDoor" 8 (some .boolean) 5 146) (N : Nat) (x0 : Option Nat) (x1 : Option Nat) (x2 : Int32) (x3 : Int32) : ∀ (n : Nat) (x4 : Int32) (x5 : Int32) (h : AH) (r : Int32 × AH), lf (fun _ _ _ => none) (BX9_findsDoor_39 N x0 x1 x2 x3) n x4 x5 h = some r → Zw K (eIH r) h 39 [(0, vr x0), (1, vr x1), (2, vi x2), (3, vi x3), (4, vi x4), (5, vi x5)] [] := by
  intro n
  induction n with
  | zero => intro x4 x5 h r hr; cases hr
  | succ n ih => intro x4 x5 h r hr; exact wX9_findsDoor_39B O N x0 x1 x2 x3 (lf (fun _ _ _ => none) (BX9_findsDoor_39 N x0 x1 x2 x3) n)  ih x4 x5 h r hr
def F_X9_findsDoor (N : Nat) (x0 : Option Nat) (x1 : Option Nat) (x2 : Int32) (h : AH) : Option (Int32 × AH) :=
  (ck h [9] x0).bind fun _ =>
  (aI h 0 x1 ((0 : Int32) + x2)).bind fun v1 =>
  if v1 = (6 : Int32) then
    (zb (0 : Int32)).bind fun v2 => some (v2, h)
  else
    (gR h f_Model_land x0).bind fun v3 =>
    (F_X9_fitsIn N v3 x1 x2 h).bind fun v4 =>
    if v4 = 0 then
      (zb (0 : Int32)).bind fun v7 => some (v7, h)
    else
      (aI h 0 x1 ((0 : Int32) + x2)).bind fun v5 =>
      jlet (v5 + (1 : Int32)) fun v6 =>
      LX9_findsDoor_39 N x0 x1 x2 v6 (-2 : Int32) (0 : Int32) h
theorem mX9_findsDoor (l : Launch) (G : ZG) (N : Nat) (x0 : Option Nat) (x1 : Option Nat) (x2 : Int32) (h : AH) (r : Int32 × AH) (hr : F_X9_findsDoor N x0 x1 x2 h = some r) : MZ l G yX9_findsDoor cX9_findsDoor 8 (some .boolean) 5 146 [vr x0, vr x1, vi x2] h (eIH r) := by
  unfold F_X9_findsDoor at hr
  refine MZ.of (by decide) [(0, vr x0), (1, vr x1), (2, vi x2)] rfl (Nat.le_of_ble_eq_true rfl) (fun K O => ?_)
  have O : ZOk K cX9_findsDoor RX9 "findsDoor" 8 (some .boolean) 5 146 := O
  refine bs hr (fun _ hck hr => ?_)
  refine z_aload_n O 1 dX9_findsDoor_0 rfl rfl ?_
  refine z_iconst O dX9_findsDoor_1 kic_0 ?_
  refine z_iload_n O 2 dX9_findsDoor_2 rfl rfl ?_
  refine z_iadd O dX9_findsDoor_3 ?_
  refine z_iaload O dX9_findsDoor_4 hr (fun v1 hr => ?_)
  refine z_bipush O dX9_findsDoor_5 kbi_6 ?_
  refine z_icmp_eq (tgt := 22) O dX9_findsDoor_7 (by decide) hr (fun hr => ?_) (fun hr => ?_)
  · refine z_iconst O dX9_findsDoor_22 kic_0 ?_
    refine bs hr (fun v2 e0 hr => ?_)
    obtain ⟨e1, e2, -⟩ := zb_spec e0
    exact z_zret O e2 dX9_findsDoor_23 (by cases hr; cases e1; rfl)
  · refine z_aload_n O 0 dX9_findsDoor_10 rfl rfl ?_
    refine z_getR O o_Model_land q1765 dX9_findsDoor_11 hr (fun v3 hr => ?_)
    refine z_aload_n O 1 dX9_findsDoor_14 rfl rfl ?_
    refine z_iload_n O 2 dX9_findsDoor_15 rfl rfl ?_
    refine bs hr (fun v4 hF hr => ?_)
    refine z_callS O [vr v3, vr x1, vi x2] (vi v4) fS_X9_fitsIn q2201 (fun l G => mX9_fitsIn l G N v3 x1 x2 h _ hF) rfl ⟨Nat.le_of_ble_eq_true rfl, Nat.le_of_ble_eq_true rfl⟩ (Nat.le_of_ble_eq_true rfl) dX9_findsDoor_16 ?_
    refine z_if_ne (tgt := 24) O dX9_findsDoor_19 (by decide) hr (fun hr => ?_) (fun hr => ?_)
    · refine z_iconst O dX9_findsDoor_22 kic_0 ?_
      refine bs hr (fun v7 e0 hr => ?_)
      obtain ⟨e1, e2, -⟩ := zb_spec e0
      exact z_zret O e2 dX9_findsDoor_23 (by cases hr; cases e1; rfl)
    · refine z_aload_n O 1 dX9_findsDoor_24 rfl rfl ?_
      refine z_iconst O dX9_findsDoor_25 kic_0 ?_
      refine z_iload_n O 2 dX9_findsDoor_26 rfl rfl ?_
      refine z_iadd O dX9_findsDoor_27 ?_
      refine z_iaload O dX9_findsDoor_28 hr (fun v5 hr => ?_)
      refine z_iconst O dX9_findsDoor_29 kic_1 ?_
      refine z_iadd O dX9_findsDoor_30 ?_
      refine z_letI hr (fun v6 hr => ?_)
      refine z_istore_n O [(3, vi v6), (0, vr x0), (1, vr x1), (2, vi x2)] dX9_findsDoor_31 rfl (by decide) rfl ?_
      refine z_bipush O dX9_findsDoor_32 kbi_m2 ?_
      refine z_istore O [(4, vi (-2 : Int32)), (3, vi v6), (0, vr x0), (1, vr x1), (2, vi x2)] dX9_findsDoor_34 (by decide) rfl ?_
      refine z_iconst O dX9_findsDoor_36 kic_0 ?_
      refine z_istore O [(5, vi (0 : Int32)), (4, vi (-2 : Int32)), (3, vi v6), (0, vr x0), (1, vr x1), (2, vi x2)] dX9_findsDoor_37 (by decide) rfl ?_
      refine z_sub [3, 4, 5, 2, 1, 0] rfl ?_
      exact wX9_findsDoor_39 O N x0 x1 x2 v6 _ (-2 : Int32) (0 : Int32) h _ hr
theorem fV_X9_door : CVf RX9 yX9_door cX9_door 2 (some .int) 1 := ⟨q2352, q2353, q137, q2354, ⟨⟨by decide +kernel, by decide +kernel⟩, by decide +kernel⟩⟩
def F_X9_door (N : Nat) (x0 : Option Nat) (x1 : Int32) (h : AH) : Option (Int32 × AH) :=
  (ck h [9] x0).bind fun _ =>
  (pI h f_Model_thrown x0 (0 : Int32)).bind fun h1 =>
  (F_X9_isHouse x0 x1 h1).bind fun v2 =>
  if v2 = 0 then
    b2 (F_X9_refused x0 (1 : Int32) h1) fun v13 h12 =>
    some (v13, h12)
  else
    (gR h1 f_Model_v x0).bind fun v3 =>
    b2 (F_X9_findsDoor N x0 v3 x1 h1) fun v5 h4 =>
    if v5 = 0 then
      b2 (F_X9_good x0 (-2 : Int32) h4) fun v7 h6 =>
      some (v7, h6)
    else
      (gI h4 f_Model_newSide x0).bind fun v8 =>
      (gI h4 f_Model_newPlace x0).bind fun v9 =>
      b2 (F_X9_good x0 (((100 : Int32) * v8) + v9) h4) fun v11 h10 =>
      some (v11, h10)
theorem mX9_door (l : Launch) (G : ZG) (N : Nat) (x0 : Option Nat) (x1 : Int32) (h : AH) (r : Int32 × AH) (hr : F_X9_door N x0 x1 h = some r) : MZ l G yX9_door cX9_door 2 (some .int) 6 173 [vr x0, vi x1] h (eIH r) := by
  unfold F_X9_door at hr
  refine MZ.of (by decide) [(0, vr x0), (1, vi x1)] rfl (Nat.le_of_ble_eq_true rfl) (fun K O => ?_)
  have O : ZOk K cX9_door RX9 "door" 2 (some .int) 6 173 := O
  refine bs hr (fun _ hck hr => ?_)
  refine z_aload_n O 0 dX9_door_0 rfl rfl ?_
  refine z_iconst O dX9_door_1 kic_0 ?_
  refine z_putI O o_Model_thrown (w_Model_thrown _) q1762 dX9_door_2 hr (fun h1 hr => ?_)
  refine z_aload_n O 0 dX9_door_5 rfl rfl ?_
  refine z_iload_n O 1 dX9_door_6 rfl rfl ?_
  refine bs hr (fun v2 hF hr => ?_)
  refine z_callV O [vi x1] (vi v2) fV_X9_isHouse q2292 (fun l G => mX9_isHouse l G x0 x1 h1 _ hF) (zck hF) rfl rfl ⟨Nat.le_of_ble_eq_true rfl, Nat.le_of_ble_eq_true rfl⟩ (Nat.le_of_ble_eq_true rfl) dX9_door_7 ?_
  refine z_if_ne (tgt := 19) O dX9_door_10 (by decide) hr (fun hr => ?_) (fun hr => ?_)
  · refine z_aload_n O 0 dX9_door_13 rfl rfl ?_
    refine z_iconst O dX9_door_14 kic_1 ?_
    refine b2s hr (fun v13 h12 hF hr => ?_)
    refine z_callV O [vi (1 : Int32)] (vi v13) fV_X9_refused q1886 (fun l G => mX9_refused l G x0 (1 : Int32) h1 _ hF) (zck hF) rfl rfl ⟨Nat.le_of_ble_eq_true rfl, Nat.le_of_ble_eq_true rfl⟩ (Nat.le_of_ble_eq_true rfl) dX9_door_15 ?_
    exact z_iret O dX9_door_18 (by cases hr; rfl)
  · refine z_aload_n O 0 dX9_door_19 rfl rfl ?_
    refine z_aload_n O 0 dX9_door_20 rfl rfl ?_
    refine z_aload_n O 0 dX9_door_21 rfl rfl ?_
    refine z_getR O o_Model_v q1778 dX9_door_22 hr (fun v3 hr => ?_)
    refine z_iload_n O 1 dX9_door_25 rfl rfl ?_
    refine b2s hr (fun v5 h4 hF hr => ?_)
    refine z_callV O [vr v3, vi x1] (vi v5) fV_X9_findsDoor q2355 (fun l G => mX9_findsDoor l G N x0 v3 x1 h1 _ hF) (zck hF) rfl rfl ⟨Nat.le_of_ble_eq_true rfl, Nat.le_of_ble_eq_true rfl⟩ (Nat.le_of_ble_eq_true rfl) dX9_door_26 ?_
    refine z_if_eq (tgt := 47) O dX9_door_29 (by decide) hr (fun hr => ?_) (fun hr => ?_)
    · refine z_bipush O dX9_door_47 kbi_m2 ?_
      refine b2s hr (fun v7 h6 hF hr => ?_)
      refine z_callV O [vi (-2 : Int32)] (vi v7) fV_X9_good q2249 (fun l G => mX9_good l G x0 (-2 : Int32) h4 _ hF) (zck hF) rfl rfl ⟨Nat.le_of_ble_eq_true rfl, Nat.le_of_ble_eq_true rfl⟩ (Nat.le_of_ble_eq_true rfl) dX9_door_49 ?_
      exact z_iret O dX9_door_52 (by cases hr; rfl)
    · refine z_bipush O dX9_door_32 kbi_100 ?_
      refine z_aload_n O 0 dX9_door_34 rfl rfl ?_
      refine z_getI O o_Model_newSide q1784 dX9_door_35 hr (fun v8 hr => ?_)
      refine z_imul O dX9_door_38 ?_
      refine z_aload_n O 0 dX9_door_39 rfl rfl ?_
      refine z_getI O o_Model_newPlace q1785 dX9_door_40 hr (fun v9 hr => ?_)
      refine z_iadd O dX9_door_43 ?_
      refine z_goto (tgt := 49) O dX9_door_44 (by decide) ?_
      refine b2s hr (fun v11 h10 hF hr => ?_)
      refine z_callV O [vi (((100 : Int32) * v8) + v9)] (vi v11) fV_X9_good q2249 (fun l G => mX9_good l G x0 (((100 : Int32) * v8) + v9) h4 _ hF) (zck hF) rfl rfl ⟨Nat.le_of_ble_eq_true rfl, Nat.le_of_ble_eq_true rfl⟩ (Nat.le_of_ble_eq_true rfl) dX9_door_49 ?_
      exact z_iret O dX9_door_52 (by cases hr; rfl)
theorem fS_X9_drawn : CSf yX9_drawn cX9_drawn 1 (some .int) 1 := ⟨q2452, q137, q2453, ⟨⟨by decide +kernel, by decide +kernel⟩, by decide +kernel⟩⟩
def F_X9_drawn (x0 : Option Nat) (h : AH) : Option (Int32 × AH) :=
  (aI h 0 x0 (211 : Int32)).bind fun v1 =>
  (rmL (((75 : Int64) * v1.toInt64) + (74 : Int64)) (65537 : Int64)).bind fun v2 =>
  (sA h 0 x0 (211 : Int32) v2.toInt32).bind fun h3 =>
  (aI h3 0 x0 (211 : Int32)).bind fun v4 =>
  (rm v4 (100 : Int32)).bind fun v5 =>
  some (v5, h3)
theorem mX9_drawn (l : Launch) (G : ZG) (x0 : Option Nat) (h : AH) (r : Int32 × AH) (hr : F_X9_drawn x0 h = some r) : MZ l G yX9_drawn cX9_drawn 1 (some .int) 1 48 [vr x0] h (eIH r) := by
  unfold F_X9_drawn at hr
  refine MZ.of (by decide) [(0, vr x0)] rfl (Nat.le_of_ble_eq_true rfl) (fun K O => ?_)
  have O : ZOk K cX9_drawn RX9 "drawn" 1 (some .int) 1 48 := O
  refine z_aload_n O 0 dX9_drawn_0 rfl rfl ?_
  refine z_sipush O dX9_drawn_1 ksi_211 ?_
  refine z_ldc2 O q2454 dX9_drawn_4 ?_
  refine z_aload_n O 0 dX9_drawn_7 rfl rfl ?_
  refine z_sipush O dX9_drawn_8 ksi_211 ?_
  refine z_iaload O dX9_drawn_11 hr (fun v1 hr => ?_)
  refine z_i2l O dX9_drawn_12 ?_
  refine z_lmul O dX9_drawn_13 ?_
  refine z_ldc2 O q2455 dX9_drawn_14 ?_
  refine z_ladd O dX9_drawn_17 ?_
  refine z_ldc2 O q2456 dX9_drawn_18 ?_
  refine z_lrem O dX9_drawn_21 hr (fun v2 hr => ?_)
  refine z_l2i O dX9_drawn_22 ?_
  refine z_iastore O dX9_drawn_23 hr (fun h3 hr => ?_)
  refine z_aload_n O 0 dX9_drawn_24 rfl rfl ?_
  refine z_sipush O dX9_drawn_25 ksi_211 ?_
  refine z_iaload O dX9_drawn_28 hr (fun v4 hr => ?_)
  refine z_bipush O dX9_drawn_29 kbi_100 ?_
  refine z_irem O dX9_drawn_31 hr (fun v5 hr => ?_)
  exact z_iret O dX9_drawn_32 (by cases hr; rfl)
theorem fV_X9_rots : CVf RX9 yX9_rots cX9_rots 5 (none : Option Jvm.ClassFile.FieldType) 3 := ⟨q2459, qs112, q137, q2460, ⟨⟨by decide +kernel, by decide +kernel⟩, by decide +kernel⟩⟩
def bX9_rots_106 (x0 : Option Nat) (x1 : Option Nat) (x2 : Int32) (x3 : Int32) (x4 : Int32) (h : AH) : Option (AH) :=
  (F_X9_part x2 x3 (4 : Int32)).bind fun v1 =>
  (aI h 0 x1 v1).bind fun v2 =>
  (gR h f_Model_land x0).bind fun v3 =>
  (gR h f_MLand_strong v3).bind fun v4 =>
  (aI h 0 v4 x4).bind fun v5 =>
  if v2 < v5 then
    some h
  else
    (F_X9_part x2 x3 (5 : Int32)).bind fun v6 =>
    (sA h 0 x1 v6 (1 : Int32)).bind fun h7 =>
    some h7
theorem wX9_rots_106 {K : ZC} (O : ZOk K cX9_rots RX9 "rots" 5 (none : Option Jvm.ClassFile.FieldType) 2 70) (x0 : Option Nat) (x1 : Option Nat) (x2 : Int32) (x3 : Int32) (x4 : Int32) (h : AH) (r : AH) (hr : bX9_rots_106 x0 x1 x2 x3 x4 h = some r) : Zw K (eH r) h 106 [(0, vr x0), (1, vr x1), (2, vi x2), (3, vi x3), (4, vi x4)] [] := by
  unfold bX9_rots_106 at hr
  refine z_aload_n O 1 dX9_rots_106 rfl rfl ?_
  refine z_iload_n O 2 dX9_rots_107 rfl rfl ?_
  refine z_iload_n O 3 dX9_rots_108 rfl rfl ?_
  refine z_iconst O dX9_rots_109 kic_4 ?_
  refine bs hr (fun v1 hF hr => ?_)
  refine z_callS O [vi x2, vi x3, vi (4 : Int32)] (vi v1) fS_X9_part q2223 (fun l G => mX9_part l G x2 x3 (4 : Int32) h _ hF) rfl ⟨Nat.le_of_ble_eq_true rfl, Nat.le_of_ble_eq_true rfl⟩ (Nat.le_of_ble_eq_true rfl) dX9_rots_110 ?_
  refine z_iaload O dX9_rots_113 hr (fun v2 hr => ?_)
  refine z_aload_n O 0 dX9_rots_114 rfl rfl ?_
  refine z_getR O o_Model_land q1765 dX9_rots_115 hr (fun v3 hr => ?_)
  refine z_getRN O o_MLand_strong zn1926 dX9_rots_118 hr (fun v4 hr => ?_)
  refine z_iload O 4 dX9_rots_121 rfl ?_
  refine z_iaload O dX9_rots_123 hr (fun v5 hr => ?_)
  refine z_icmp_lt (tgt := 136) O dX9_rots_124 (by decide) hr (fun hr => ?_) (fun hr => ?_)
  · exact z_vret O dX9_rots_136 (by cases hr; rfl)
  · refine z_aload_n O 1 dX9_rots_127 rfl rfl ?_
    refine z_iload_n O 2 dX9_rots_128 rfl rfl ?_
    refine z_iload_n O 3 dX9_rots_129 rfl rfl ?_
    refine z_iconst O dX9_rots_130 kic_5 ?_
    refine bs hr (fun v6 hF hr => ?_)
    refine z_callS O [vi x2, vi x3, vi (5 : Int32)] (vi v6) fS_X9_part q2223 (fun l G => mX9_part l G x2 x3 (5 : Int32) h _ hF) rfl ⟨Nat.le_of_ble_eq_true rfl, Nat.le_of_ble_eq_true rfl⟩ (Nat.le_of_ble_eq_true rfl) dX9_rots_131 ?_
    refine z_iconst O dX9_rots_134 kic_1 ?_
    refine z_iastore O dX9_rots_135 hr (fun h7 hr => ?_)
    exact z_vret O dX9_rots_136 (by cases hr; rfl)
def F_X9_rots (x0 : Option Nat) (x1 : Option Nat) (x2 : Int32) (x3 : Int32) (h : AH) : Option (AH) :=
  (ck h [9] x0).bind fun _ =>
  (F_X9_part x2 x3 (5 : Int32)).bind fun v1 =>
  (aI h 0 x1 v1).bind fun v2 =>
  if v2 = (1 : Int32) then
    some h
  else
    (F_X9_part x2 x3 (6 : Int32)).bind fun v3 =>
    (aI h 0 x1 v3).bind fun v4 =>
    if v4 = (1 : Int32) then
      some h
    else
      (F_X9_part x2 x3 (0 : Int32)).bind fun v5 =>
      (aI h 0 x1 v5).bind fun v6 =>
      (F_X9_part x2 x3 (4 : Int32)).bind fun v7 =>
      (aI h 0 x1 v7).bind fun v8 =>
      (gR h f_Model_land x0).bind fun v9 =>
      (gR h f_MLand_rots v9).bind fun v10 =>
      (aI h 0 v10 v6).bind fun v11 =>
      (sA h 0 x1 v7 (v8 + v11)).bind fun h12 =>
      if x3 ≤ (1 : Int32) then
        bX9_rots_106 x0 x1 x2 x3 v6 h12
      else
        (F_X9_part x2 (x3 - (1 : Int32)) (5 : Int32)).bind fun v13 =>
        (aI h12 0 x1 v13).bind fun v14 =>
        if v14 = (1 : Int32) then
          (F_X9_part x2 x3 (4 : Int32)).bind fun v15 =>
          (aI h12 0 x1 v15).bind fun v16 =>
          (gR h12 f_Model_land x0).bind fun v17 =>
          (gR h12 f_MLand_kind v17).bind fun v18 =>
          (aI h12 0 v18 v6).bind fun v19 =>
          if v19 = (1 : Int32) then
            (sA h12 0 x1 v15 (v16 + (2 : Int32))).bind fun h21 =>
            bX9_rots_106 x0 x1 x2 x3 v6 h21
          else
            (sA h12 0 x1 v15 (v16 + (1 : Int32))).bind fun h20 =>
            bX9_rots_106 x0 x1 x2 x3 v6 h20
        else
          bX9_rots_106 x0 x1 x2 x3 v6 h12
theorem mX9_rots (l : Launch) (G : ZG) (x0 : Option Nat) (x1 : Option Nat) (x2 : Int32) (x3 : Int32) (h : AH) (r : AH) (hr : F_X9_rots x0 x1 x2 x3 h = some r) : MZ l G yX9_rots cX9_rots 5 (none : Option Jvm.ClassFile.FieldType) 2 70 [vr x0, vr x1, vi x2, vi x3] h (eH r) := by
  unfold F_X9_rots at hr
  refine MZ.of (by decide) [(0, vr x0), (1, vr x1), (2, vi x2), (3, vi x3)] rfl (Nat.le_of_ble_eq_true rfl) (fun K O => ?_)
  have O : ZOk K cX9_rots RX9 "rots" 5 (none : Option Jvm.ClassFile.FieldType) 2 70 := O
  refine bs hr (fun _ hck hr => ?_)
  refine z_aload_n O 1 dX9_rots_0 rfl rfl ?_
  refine z_iload_n O 2 dX9_rots_1 rfl rfl ?_
  refine z_iload_n O 3 dX9_rots_2 rfl rfl ?_
  refine z_iconst O dX9_rots_3 kic_5 ?_
  refine bs hr (fun v1 hF hr => ?_)
  refine z_callS O [vi x2, vi x3, vi (5 : Int32)] (vi v1) fS_X9_part q2223 (fun l G => mX9_part l G x2 x3 (5 : Int32) h _ hF) rfl ⟨Nat.le_of_ble_eq_true rfl, Nat.le_of_ble_eq_true rfl⟩ (Nat.le_of_ble_eq_true rfl) dX9_rots_4 ?_
  refine z_iaload O dX9_rots_7 hr (fun v2 hr => ?_)
  refine z_iconst O dX9_rots_8 kic_1 ?_
  refine z_icmp_eq (tgt := 25) O dX9_rots_9 (by decide) hr (fun hr => ?_) (fun hr => ?_)
  · exact z_vret O dX9_rots_25 (by cases hr; rfl)
  · refine z_aload_n O 1 dX9_rots_12 rfl rfl ?_
    refine z_iload_n O 2 dX9_rots_13 rfl rfl ?_
    refine z_iload_n O 3 dX9_rots_14 rfl rfl ?_
    refine z_bipush O dX9_rots_15 kbi_6 ?_
    refine bs hr (fun v3 hF hr => ?_)
    refine z_callS O [vi x2, vi x3, vi (6 : Int32)] (vi v3) fS_X9_part q2223 (fun l G => mX9_part l G x2 x3 (6 : Int32) h _ hF) rfl ⟨Nat.le_of_ble_eq_true rfl, Nat.le_of_ble_eq_true rfl⟩ (Nat.le_of_ble_eq_true rfl) dX9_rots_17 ?_
    refine z_iaload O dX9_rots_20 hr (fun v4 hr => ?_)
    refine z_iconst O dX9_rots_21 kic_1 ?_
    refine z_icmp_ne (tgt := 26) O dX9_rots_22 (by decide) hr (fun hr => ?_) (fun hr => ?_)
    · exact z_vret O dX9_rots_25 (by cases hr; rfl)
    · refine z_aload_n O 1 dX9_rots_26 rfl rfl ?_
      refine z_iload_n O 2 dX9_rots_27 rfl rfl ?_
      refine z_iload_n O 3 dX9_rots_28 rfl rfl ?_
      refine z_iconst O dX9_rots_29 kic_0 ?_
      refine bs hr (fun v5 hF hr => ?_)
      refine z_callS O [vi x2, vi x3, vi (0 : Int32)] (vi v5) fS_X9_part q2223 (fun l G => mX9_part l G x2 x3 (0 : Int32) h _ hF) rfl ⟨Nat.le_of_ble_eq_true rfl, Nat.le_of_ble_eq_true rfl⟩ (Nat.le_of_ble_eq_true rfl) dX9_rots_30 ?_
      refine z_iaload O dX9_rots_33 hr (fun v6 hr => ?_)
      refine z_istore O [(4, vi v6), (0, vr x0), (1, vr x1), (2, vi x2), (3, vi x3)] dX9_rots_34 (by decide) rfl ?_
      refine z_aload_n O 2 dX9_rots_36 rfl rfl ?_
      refine z_iload_n O 3 dX9_rots_37 rfl rfl ?_
      refine z_iload_n O 4 dX9_rots_38 rfl rfl ?_
      refine z_iconst O dX9_rots_39 kic_4 ?_
      refine bs hr (fun v7 hF hr => ?_)
      refine z_callS O [vi x2, vi x3, vi (4 : Int32)] (vi v7) fS_X9_part q2223 (fun l G => mX9_part l G x2 x3 (4 : Int32) h _ hF) rfl ⟨Nat.le_of_ble_eq_true rfl, Nat.le_of_ble_eq_true rfl⟩ (Nat.le_of_ble_eq_true rfl) dX9_rots_40 ?_
      refine z_dup2 O dX9_rots_43 rfl rfl ?_
      refine z_iaload O dX9_rots_44 hr (fun v8 hr => ?_)
      refine z_aload_n O 1 dX9_rots_45 rfl rfl ?_
      refine z_getR O o_Model_land q1765 dX9_rots_46 hr (fun v9 hr => ?_)
      refine z_getRN O o_MLand_rots zn1924 dX9_rots_49 hr (fun v10 hr => ?_)
      refine z_iload O 0 dX9_rots_52 rfl ?_
      refine z_iaload O dX9_rots_54 hr (fun v11 hr => ?_)
      refine z_iadd O dX9_rots_55 ?_
      refine z_iastore O dX9_rots_56 hr (fun h12 hr => ?_)
      refine z_iload_n O 4 dX9_rots_57 rfl rfl ?_
      refine z_iconst O dX9_rots_58 kic_1 ?_
      refine z_icmp_le (tgt := 106) O dX9_rots_59 (by decide) hr (fun hr => ?_) (fun hr => ?_)
      · refine z_sub [1, 2, 3, 4, 0] rfl ?_
        exact wX9_rots_106 O x0 x1 x2 x3 v6 h12 _ hr
      · refine z_aload_n O 2 dX9_rots_62 rfl rfl ?_
        refine z_iload_n O 3 dX9_rots_63 rfl rfl ?_
        refine z_iload_n O 4 dX9_rots_64 rfl rfl ?_
        refine z_iconst O dX9_rots_65 kic_1 ?_
        refine z_isub O dX9_rots_66 ?_
        refine z_iconst O dX9_rots_67 kic_5 ?_
        refine bs hr (fun v13 hF hr => ?_)
        refine z_callS O [vi x2, vi (x3 - (1 : Int32)), vi (5 : Int32)] (vi v13) fS_X9_part q2223 (fun l G => mX9_part l G x2 (x3 - (1 : Int32)) (5 : Int32) h12 _ hF) rfl ⟨Nat.le_of_ble_eq_true rfl, Nat.le_of_ble_eq_true rfl⟩ (Nat.le_of_ble_eq_true rfl) dX9_rots_68 ?_
        refine z_iaload O dX9_rots_71 hr (fun v14 hr => ?_)
        refine z_iconst O dX9_rots_72 kic_1 ?_
        refine z_icmp_ne (tgt := 106) O dX9_rots_73 (by decide) hr (fun hr => ?_) (fun hr => ?_)
        · refine z_aload_n O 2 dX9_rots_76 rfl rfl ?_
          refine z_iload_n O 3 dX9_rots_77 rfl rfl ?_
          refine z_iload_n O 4 dX9_rots_78 rfl rfl ?_
          refine z_iconst O dX9_rots_79 kic_4 ?_
          refine bs hr (fun v15 hF hr => ?_)
          refine z_callS O [vi x2, vi x3, vi (4 : Int32)] (vi v15) fS_X9_part q2223 (fun l G => mX9_part l G x2 x3 (4 : Int32) h12 _ hF) rfl ⟨Nat.le_of_ble_eq_true rfl, Nat.le_of_ble_eq_true rfl⟩ (Nat.le_of_ble_eq_true rfl) dX9_rots_80 ?_
          refine z_dup2 O dX9_rots_83 rfl rfl ?_
          refine z_iaload O dX9_rots_84 hr (fun v16 hr => ?_)
          refine z_aload_n O 1 dX9_rots_85 rfl rfl ?_
          refine z_getR O o_Model_land q1765 dX9_rots_86 hr (fun v17 hr => ?_)
          refine z_getRN O o_MLand_kind zn1918 dX9_rots_89 hr (fun v18 hr => ?_)
          refine z_iload O 0 dX9_rots_92 rfl ?_
          refine z_iaload O dX9_rots_94 hr (fun v19 hr => ?_)
          refine z_iconst O dX9_rots_95 kic_1 ?_
          refine z_icmp_ne (tgt := 103) O dX9_rots_96 (by decide) hr (fun hr => ?_) (fun hr => ?_)
          · refine z_iconst O dX9_rots_99 kic_2 ?_
            refine z_goto (tgt := 104) O dX9_rots_100 (by decide) ?_
            refine z_iadd O dX9_rots_104 ?_
            refine z_iastore O dX9_rots_105 hr (fun h21 hr => ?_)
            refine z_sub [1, 2, 3, 4, 0] rfl ?_
            exact wX9_rots_106 O x0 x1 x2 x3 v6 h21 _ hr
          · refine z_iconst O dX9_rots_103 kic_1 ?_
            refine z_iadd O dX9_rots_104 ?_
            refine z_iastore O dX9_rots_105 hr (fun h20 hr => ?_)
            refine z_sub [1, 2, 3, 4, 0] rfl ?_
            exact wX9_rots_106 O x0 x1 x2 x3 v6 h20 _ hr
        · refine z_sub [1, 2, 3, 4, 0] rfl ?_
          exact wX9_rots_106 O x0 x1 x2 x3 v6 h12 _ hr
theorem fV_X9_yearOf : CVf RX9 yX9_yearOf cX9_yearOf 4 (none : Option Jvm.ClassFile.FieldType) 2 := ⟨q2449, qs111, q137, q2450, ⟨⟨by decide +kernel, by decide +kernel⟩, by decide +kernel⟩⟩
def bX9_yearOf_168 (N : Nat) (x0 : Option Nat) (x1 : Option Nat) (x2 : Int32) (h : AH) : Option (AH) :=
  b2 (F_X9_findsDoor N x0 x1 x2 h) fun v2 h1 =>
  if v2 = 0 then
    some h1
  else
    (aI h1 0 x1 ((8 : Int32) + x2)).bind fun v3 =>
    (gR h1 f_Model_land x0).bind fun v4 =>
    (gR h1 f_MLand_stoneOf v4).bind fun v5 =>
    (aI h1 0 v5 x2).bind fun v6 =>
    (F_X9_costOf x0 x1 x2 v6 h1).bind fun v7 =>
    if v7 ≤ v3 then
      (aI h1 0 x1 ((8 : Int32) + x2)).bind fun v8 =>
      (gR h1 f_Model_land x0).bind fun v9 =>
      (gR h1 f_MLand_stoneOf v9).bind fun v10 =>
      (aI h1 0 v10 x2).bind fun v11 =>
      (F_X9_costOf x0 x1 x2 v11 h1).bind fun v12 =>
      (sA h1 0 x1 ((8 : Int32) + x2) (v8 - v12)).bind fun h13 =>
      (gR h13 f_Model_land x0).bind fun v14 =>
      (gR h13 f_MLand_stoneOf v14).bind fun v15 =>
      (aI h13 0 v15 x2).bind fun v16 =>
      (gI h13 f_Model_newSide x0).bind fun v17 =>
      (gI h13 f_Model_newPlace x0).bind fun v18 =>
      (aI h13 0 x1 ((4 : Int32) + x2)).bind fun v19 =>
      (rm v19 (10 : Int32)).bind fun v20 =>
      (aI h13 0 x1 (210 : Int32)).bind fun v21 =>
      (F_X9_adds x1 x2 v16 v17 v18 v20 v21 h13).bind fun h22 =>
      some h22
    else
      some h1
theorem wX9_yearOf_168 {K : ZC} (O : ZOk K cX9_yearOf RX9 "yearOf" 4 (none : Option Jvm.ClassFile.FieldType) 6 173) (N : Nat) (x0 : Option Nat) (x1 : Option Nat) (x2 : Int32) (h : AH) (r : AH) (hr : bX9_yearOf_168 N x0 x1 x2 h = some r) : Zw K (eH r) h 168 [(0, vr x0), (1, vr x1), (2, vi x2)] [] := by
  unfold bX9_yearOf_168 at hr
  refine z_aload_n O 0 dX9_yearOf_168 rfl rfl ?_
  refine z_aload_n O 1 dX9_yearOf_169 rfl rfl ?_
  refine z_iload_n O 2 dX9_yearOf_170 rfl rfl ?_
  refine b2s hr (fun v2 h1 hF hr => ?_)
  refine z_callV O [vr x1, vi x2] (vi v2) fV_X9_findsDoor q2355 (fun l G => mX9_findsDoor l G N x0 x1 x2 h _ hF) (zck hF) rfl rfl ⟨Nat.le_of_ble_eq_true rfl, Nat.le_of_ble_eq_true rfl⟩ (Nat.le_of_ble_eq_true rfl) dX9_yearOf_171 ?_
  refine z_if_eq (tgt := 201) O dX9_yearOf_174 (by decide) hr (fun hr => ?_) (fun hr => ?_)
  · exact z_vret O dX9_yearOf_201 (by cases hr; rfl)
  · refine z_aload_n O 1 dX9_yearOf_177 rfl rfl ?_
    refine z_bipush O dX9_yearOf_178 kbi_8 ?_
    refine z_iload_n O 2 dX9_yearOf_180 rfl rfl ?_
    refine z_iadd O dX9_yearOf_181 ?_
    refine z_iaload O dX9_yearOf_182 hr (fun v3 hr => ?_)
    refine z_aload_n O 0 dX9_yearOf_183 rfl rfl ?_
    refine z_aload_n O 1 dX9_yearOf_184 rfl rfl ?_
    refine z_iload_n O 2 dX9_yearOf_185 rfl rfl ?_
    refine z_aload_n O 0 dX9_yearOf_186 rfl rfl ?_
    refine z_getR O o_Model_land q1765 dX9_yearOf_187 hr (fun v4 hr => ?_)
    refine z_getRN O o_MLand_stoneOf zn1930 dX9_yearOf_190 hr (fun v5 hr => ?_)
    refine z_iload_n O 2 dX9_yearOf_193 rfl rfl ?_
    refine z_iaload O dX9_yearOf_194 hr (fun v6 hr => ?_)
    refine bs hr (fun v7 hF hr => ?_)
    refine z_callV O [vr x1, vi x2, vi v6] (vi v7) fV_X9_costOf q2379 (fun l G => mX9_costOf l G x0 x1 x2 v6 h1 _ hF) (zck hF) rfl rfl ⟨Nat.le_of_ble_eq_true rfl, Nat.le_of_ble_eq_true rfl⟩ (Nat.le_of_ble_eq_true rfl) dX9_yearOf_195 ?_
    refine z_icmp_ge (tgt := 202) O dX9_yearOf_198 (by decide) hr (fun hr => ?_) (fun hr => ?_)
    · refine z_aload_n O 1 dX9_yearOf_202 rfl rfl ?_
      refine z_bipush O dX9_yearOf_203 kbi_8 ?_
      refine z_iload_n O 2 dX9_yearOf_205 rfl rfl ?_
      refine z_iadd O dX9_yearOf_206 ?_
      refine z_dup2 O dX9_yearOf_207 rfl rfl ?_
      refine z_iaload O dX9_yearOf_208 hr (fun v8 hr => ?_)
      refine z_aload_n O 0 dX9_yearOf_209 rfl rfl ?_
      refine z_aload_n O 1 dX9_yearOf_210 rfl rfl ?_
      refine z_iload_n O 2 dX9_yearOf_211 rfl rfl ?_
      refine z_aload_n O 0 dX9_yearOf_212 rfl rfl ?_
      refine z_getR O o_Model_land q1765 dX9_yearOf_213 hr (fun v9 hr => ?_)
      refine z_getRN O o_MLand_stoneOf zn1930 dX9_yearOf_216 hr (fun v10 hr => ?_)
      refine z_iload_n O 2 dX9_yearOf_219 rfl rfl ?_
      refine z_iaload O dX9_yearOf_220 hr (fun v11 hr => ?_)
      refine bs hr (fun v12 hF hr => ?_)
      refine z_callV O [vr x1, vi x2, vi v11] (vi v12) fV_X9_costOf q2379 (fun l G => mX9_costOf l G x0 x1 x2 v11 h1 _ hF) (zck hF) rfl rfl ⟨Nat.le_of_ble_eq_true rfl, Nat.le_of_ble_eq_true rfl⟩ (Nat.le_of_ble_eq_true rfl) dX9_yearOf_221 ?_
      refine z_isub O dX9_yearOf_224 ?_
      refine z_iastore O dX9_yearOf_225 hr (fun h13 hr => ?_)
      refine z_aload_n O 1 dX9_yearOf_226 rfl rfl ?_
      refine z_iload_n O 2 dX9_yearOf_227 rfl rfl ?_
      refine z_aload_n O 0 dX9_yearOf_228 rfl rfl ?_
      refine z_getR O o_Model_land q1765 dX9_yearOf_229 hr (fun v14 hr => ?_)
      refine z_getRN O o_MLand_stoneOf zn1930 dX9_yearOf_232 hr (fun v15 hr => ?_)
      refine z_iload_n O 2 dX9_yearOf_235 rfl rfl ?_
      refine z_iaload O dX9_yearOf_236 hr (fun v16 hr => ?_)
      refine z_aload_n O 0 dX9_yearOf_237 rfl rfl ?_
      refine z_getI O o_Model_newSide q1784 dX9_yearOf_238 hr (fun v17 hr => ?_)
      refine z_aload_n O 0 dX9_yearOf_241 rfl rfl ?_
      refine z_getI O o_Model_newPlace q1785 dX9_yearOf_242 hr (fun v18 hr => ?_)
      refine z_aload_n O 1 dX9_yearOf_245 rfl rfl ?_
      refine z_iconst O dX9_yearOf_246 kic_4 ?_
      refine z_iload_n O 2 dX9_yearOf_247 rfl rfl ?_
      refine z_iadd O dX9_yearOf_248 ?_
      refine z_iaload O dX9_yearOf_249 hr (fun v19 hr => ?_)
      refine z_bipush O dX9_yearOf_250 kbi_10 ?_
      refine z_irem O dX9_yearOf_252 hr (fun v20 hr => ?_)
      refine z_aload_n O 1 dX9_yearOf_253 rfl rfl ?_
      refine z_sipush O dX9_yearOf_254 ksi_210 ?_
      refine z_iaload O dX9_yearOf_257 hr (fun v21 hr => ?_)
      refine bs hr (fun h22 hF hr => ?_)
      refine z_callSv O [vr x1, vi x2, vi v16, vi v17, vi v18, vi v20, vi v21] fS_X9_adds q2220 (fun l G => mX9_adds l G x1 x2 v16 v17 v18 v20 v21 h13 _ hF) rfl ⟨Nat.le_of_ble_eq_true rfl, Nat.le_of_ble_eq_true rfl⟩ (Nat.le_of_ble_eq_true rfl) dX9_yearOf_258 ?_
      exact z_vret O dX9_yearOf_261 (by cases hr; rfl)
    · exact z_vret O dX9_yearOf_201 (by cases hr; rfl)
def BX9_yearOf_112 (N : Nat) (x0 : Option Nat) (x1 : Option Nat) (x2 : Int32) (rec112 : Int32 → AH → Option (AH)) : Int32 → AH → Option (AH) := fun x3 h =>
  (aI h 0 x1 ((0 : Int32) + x2)).bind fun v1 =>
  if v1 < x3 then
    bX9_yearOf_168 N x0 x1 x2 h
  else
    (gR h f_Model_land x0).bind fun v2 =>
    (gR h f_MLand_kind v2).bind fun v3 =>
    (F_X9_part x2 x3 (0 : Int32)).bind fun v4 =>
    (aI h 0 x1 v4).bind fun v5 =>
    (aI h 0 v3 v5).bind fun v6 =>
    if v6 = (2 : Int32) then
      (F_X9_part x2 x3 (6 : Int32)).bind fun v8 =>
      (aI h 0 x1 v8).bind fun v9 =>
      if v9 = 0 then
        (F_X9_part x2 x3 (5 : Int32)).bind fun v11 =>
        (sA h 0 x1 v11 (1 : Int32)).bind fun h12 =>
        jlet (x3 + (1 : Int32)) fun v13 =>
        rec112 v13 h12
      else
        jlet (x3 + (1 : Int32)) fun v10 =>
        rec112 v10 h
    else
      jlet (x3 + (1 : Int32)) fun v7 =>
      rec112 v7 h
def LX9_yearOf_112 (N : Nat) (x0 : Option Nat) (x1 : Option Nat) (x2 : Int32) : Int32 → AH → Option (AH) := lf (fun _ _ => none) (BX9_yearOf_112 N x0 x1 x2) N
theorem wX9_yearOf_112B {K : ZC} (O : ZOk K cX9_yearOf RX9 "yearOf" 4 (none : Option Jvm.ClassFile.FieldType) 6 173) (N : Nat) (x0 : Option Nat) (x1 : Option Nat) (x2 : Int32) (rec112 : Int32 → AH → Option (AH)) (hrec112 : ∀ (y3 : Int32) (hy : AH) (ry : AH), rec112 y3 hy = some ry → Zw K (eH ry) hy 112 [(0, vr x0), (1, vr x1), (2, vi x2), (3, vi y3)] []) (x3 : Int32) (h : AH) (r : AH) (hr : BX9_yearOf_112 N x0 x1 x2 rec112 x3 h = some r) : Zw K (eH r) h 112 [(0, vr x0), (1, vr x1), (2, vi x2), (3, vi x3)] [] := by
  unfold BX9_yearOf_112 at hr
  refine z_iload_n O 3 dX9_yearOf_112 rfl rfl ?_
  refine z_aload_n O 1 dX9_yearOf_113 rfl rfl ?_
  refine z_iconst O dX9_yearOf_114 kic_0 ?_
  refine z_iload_n O 2 dX9_yearOf_115 rfl rfl ?_
  refine z_iadd O dX9_yearOf_116 ?_
  refine z_iaload O dX9_yearOf_117 hr (fun v1 hr => ?_)
  refine z_icmp_gt (tgt := 168) O dX9_yearOf_118 (by decide) hr (fun hr => ?_) (fun hr => ?_)
  · refine z_sub [0, 1, 2] rfl ?_
    exact wX9_yearOf_168 O N x0 x1 x2 h _ hr
  · refine z_aload_n O 0 dX9_yearOf_121 rfl rfl ?_
    refine z_getR O o_Model_land q1765 dX9_yearOf_122 hr (fun v2 hr => ?_)
    refine z_getRN O o_MLand_kind zn1918 dX9_yearOf_125 hr (fun v3 hr => ?_)
    refine z_aload_n O 1 dX9_yearOf_128 rfl rfl ?_
    refine z_iload_n O 2 dX9_yearOf_129 rfl rfl ?_
    refine z_iload_n O 3 dX9_yearOf_130 rfl rfl ?_
    refine z_iconst O dX9_yearOf_131 kic_0 ?_
    refine bs hr (fun v4 hF hr => ?_)
    refine z_callS O [vi x2, vi x3, vi (0 : Int32)] (vi v4) fS_X9_part q2223 (fun l G => mX9_part l G x2 x3 (0 : Int32) h _ hF) rfl ⟨Nat.le_of_ble_eq_true rfl, Nat.le_of_ble_eq_true rfl⟩ (Nat.le_of_ble_eq_true rfl) dX9_yearOf_132 ?_
    refine z_iaload O dX9_yearOf_135 hr (fun v5 hr => ?_)
    refine z_iaload O dX9_yearOf_136 hr (fun v6 hr => ?_)
    refine z_iconst O dX9_yearOf_137 kic_2 ?_
    refine z_icmp_ne (tgt := 162) O dX9_yearOf_138 (by decide) hr (fun hr => ?_) (fun hr => ?_)
    · refine z_aload_n O 1 dX9_yearOf_141 rfl rfl ?_
      refine z_iload_n O 2 dX9_yearOf_142 rfl rfl ?_
      refine z_iload_n O 3 dX9_yearOf_143 rfl rfl ?_
      refine z_bipush O dX9_yearOf_144 kbi_6 ?_
      refine bs hr (fun v8 hF hr => ?_)
      refine z_callS O [vi x2, vi x3, vi (6 : Int32)] (vi v8) fS_X9_part q2223 (fun l G => mX9_part l G x2 x3 (6 : Int32) h _ hF) rfl ⟨Nat.le_of_ble_eq_true rfl, Nat.le_of_ble_eq_true rfl⟩ (Nat.le_of_ble_eq_true rfl) dX9_yearOf_146 ?_
      refine z_iaload O dX9_yearOf_149 hr (fun v9 hr => ?_)
      refine z_if_ne (tgt := 162) O dX9_yearOf_150 (by decide) hr (fun hr => ?_) (fun hr => ?_)
      · refine z_aload_n O 1 dX9_yearOf_153 rfl rfl ?_
        refine z_iload_n O 2 dX9_yearOf_154 rfl rfl ?_
        refine z_iload_n O 3 dX9_yearOf_155 rfl rfl ?_
        refine z_iconst O dX9_yearOf_156 kic_5 ?_
        refine bs hr (fun v11 hF hr => ?_)
        refine z_callS O [vi x2, vi x3, vi (5 : Int32)] (vi v11) fS_X9_part q2223 (fun l G => mX9_part l G x2 x3 (5 : Int32) h _ hF) rfl ⟨Nat.le_of_ble_eq_true rfl, Nat.le_of_ble_eq_true rfl⟩ (Nat.le_of_ble_eq_true rfl) dX9_yearOf_157 ?_
        refine z_iconst O dX9_yearOf_160 kic_1 ?_
        refine z_iastore O dX9_yearOf_161 hr (fun h12 hr => ?_)
        refine z_iincL O 3 (fun v13 => [(3, vi v13), (0, vr x0), (1, vr x1), (2, vi x2)]) dX9_yearOf_162 rfl rfl (by decide) (fun _ => rfl) hr (fun v13 hr => ?_)
        refine z_goto (tgt := 112) O dX9_yearOf_165 (by decide) ?_
        refine z_sub [1, 2, 3, 0] rfl ?_
        exact hrec112 v13 h12 _ hr
      · refine z_iincL O 3 (fun v10 => [(3, vi v10), (0, vr x0), (1, vr x1), (2, vi x2)]) dX9_yearOf_162 rfl rfl (by decide) (fun _ => rfl) hr (fun v10 hr => ?_)
        refine z_goto (tgt := 112) O dX9_yearOf_165 (by decide) ?_
        refine z_sub [1, 2, 3, 0] rfl ?_
        exact hrec112 v10 h _ hr
    · refine z_iincL O 3 (fun v7 => [(3, vi v7), (0, vr x0), (1, vr x1), (2, vi x2)]) dX9_yearOf_162 rfl rfl (by decide) (fun _ => rfl) hr (fun v7 hr => ?_)
      refine z_goto (tgt := 112) O dX9_yearOf_165 (by decide) ?_
      refine z_sub [1, 2, 3, 0] rfl ?_
      exact hrec112 v7 h _ hr
theorem wX9_yearOf_112 {K : ZC} (O : ZOk K cX9_yearOf RX9 "yearOf" 4 (none : Option Jvm.ClassFile.FieldType) 6 173) (N : Nat) (x0 : Option Nat) (x1 : Option Nat) (x2 : Int32) : ∀ (n : Nat) (x3 : Int32) (h : AH) (r : AH), lf (fun _ _ => none) (BX9_yearOf_112 N x0 x1 x2) n x3 h = some r → Zw K (eH r) h 112 [(0, vr x0), (1, vr x1), (2, vi x2), (3, vi x3)] [] := by
  intro n
  induction n with
  | zero => intro x3 h r hr; cases hr
  | succ n ih => intro x3 h r hr; exact wX9_yearOf_112B O N x0 x1 x2 (lf (fun _ _ => none) (BX9_yearOf_112 N x0 x1 x2) n)  ih x3 h r hr
def BX9_yearOf_74 (N : Nat) (x0 : Option Nat) (x1 : Option Nat) (x2 : Int32) (rec74 : Int32 → AH → Option (AH)) : Int32 → AH → Option (AH) := fun x3 h =>
  (aI h 0 x1 ((0 : Int32) + x2)).bind fun v1 =>
  if v1 < x3 then
    b2 (F_X9_drawn x1 h) fun v3 h2 =>
    (gR h2 f_Model_land x0).bind fun v4 =>
    (gI h2 f_MLand_fire v4).bind fun v5 =>
    if v5 ≤ v3 then
      bX9_yearOf_168 N x0 x1 x2 h2
    else
      LX9_yearOf_112 N x0 x1 x2 (1 : Int32) h2
  else
    (F_X9_rots x0 x1 x2 x3 h).bind fun h6 =>
    jlet (x3 + (1 : Int32)) fun v7 =>
    rec74 v7 h6
def LX9_yearOf_74 (N : Nat) (x0 : Option Nat) (x1 : Option Nat) (x2 : Int32) : Int32 → AH → Option (AH) := lf (fun _ _ => none) (BX9_yearOf_74 N x0 x1 x2) N
theorem wX9_yearOf_74B {K : ZC} (O : ZOk K cX9_yearOf RX9 "yearOf" 4 (none : Option Jvm.ClassFile.FieldType) 6 173) (N : Nat) (x0 : Option Nat) (x1 : Option Nat) (x2 : Int32) (rec74 : Int32 → AH → Option (AH)) (hrec74 : ∀ (y3 : Int32) (hy : AH) (ry : AH), rec74 y3 hy = some ry → Zw K (eH ry) hy 74 [(0, vr x0), (1, vr x1), (2, vi x2), (3, vi y3)] []) (x3 : Int32) (h : AH) (r : AH) (hr : BX9_yearOf_74 N x0 x1 x2 rec74 x3 h = some r) : Zw K (eH r) h 74 [(0, vr x0), (1, vr x1), (2, vi x2), (3, vi x3)] [] := by
  unfold BX9_yearOf_74 at hr
  refine z_iload_n O 3 dX9_yearOf_74 rfl rfl ?_
  refine z_aload_n O 1 dX9_yearOf_75 rfl rfl ?_
  refine z_iconst O dX9_yearOf_76 kic_0 ?_
  refine z_iload_n O 2 dX9_yearOf_77 rfl rfl ?_
  refine z_iadd O dX9_yearOf_78 ?_
  refine z_iaload O dX9_yearOf_79 hr (fun v1 hr => ?_)
  refine z_icmp_gt (tgt := 96) O dX9_yearOf_80 (by decide) hr (fun hr => ?_) (fun hr => ?_)
  · refine z_aload_n O 1 dX9_yearOf_96 rfl rfl ?_
    refine b2s hr (fun v3 h2 hF hr => ?_)
    refine z_callS O [vr x1] (vi v3) fS_X9_drawn q2451 (fun l G => mX9_drawn l G x1 h _ hF) rfl ⟨Nat.le_of_ble_eq_true rfl, Nat.le_of_ble_eq_true rfl⟩ (Nat.le_of_ble_eq_true rfl) dX9_yearOf_97 ?_
    refine z_aload_n O 0 dX9_yearOf_100 rfl rfl ?_
    refine z_getR O o_Model_land q1765 dX9_yearOf_101 hr (fun v4 hr => ?_)
    refine z_getIN O o_MLand_fire zn1903 dX9_yearOf_104 hr (fun v5 hr => ?_)
    refine z_icmp_ge (tgt := 168) O dX9_yearOf_107 (by decide) hr (fun hr => ?_) (fun hr => ?_)
    · refine z_sub [0, 1, 2] rfl ?_
      exact wX9_yearOf_168 O N x0 x1 x2 h2 _ hr
    · refine z_iconst O dX9_yearOf_110 kic_1 ?_
      refine z_istore_n O [(3, vi (1 : Int32)), (0, vr x0), (1, vr x1), (2, vi x2)] dX9_yearOf_111 rfl (by decide) rfl ?_
      refine z_sub [1, 2, 3, 0] rfl ?_
      exact wX9_yearOf_112 O N x0 x1 x2 _ (1 : Int32) h2 _ hr
  · refine z_aload_n O 0 dX9_yearOf_83 rfl rfl ?_
    refine z_aload_n O 1 dX9_yearOf_84 rfl rfl ?_
    refine z_iload_n O 2 dX9_yearOf_85 rfl rfl ?_
    refine z_iload_n O 3 dX9_yearOf_86 rfl rfl ?_
    refine bs hr (fun h6 hF hr => ?_)
    refine z_callVv O [vr x1, vi x2, vi x3] fV_X9_rots q2457 (fun l G => mX9_rots l G x0 x1 x2 x3 h _ hF) (zck hF) rfl rfl ⟨Nat.le_of_ble_eq_true rfl, Nat.le_of_ble_eq_true rfl⟩ (Nat.le_of_ble_eq_true rfl) dX9_yearOf_87 ?_
    refine z_iincL O 3 (fun v7 => [(3, vi v7), (0, vr x0), (1, vr x1), (2, vi x2)]) dX9_yearOf_90 rfl rfl (by decide) (fun _ => rfl) hr (fun v7 hr => ?_)
    refine z_goto (tgt := 74) O dX9_yearOf_93 (by decide) ?_
    refine z_sub [1, 2, 3, 0] rfl ?_
    exact hrec74 v7 h6 _ hr
theorem wX9_yearOf_74 {K : ZC} (O : ZOk K cX9_yearOf RX9 "yearOf" 4 (none : Option Jvm.ClassFile.FieldType) 6 173) (N : Nat) (x0 : Option Nat) (x1 : Option Nat) (x2 : Int32) : ∀ (n : Nat) (x3 : Int32) (h : AH) (r : AH), lf (fun _ _ => none) (BX9_yearOf_74 N x0 x1 x2) n x3 h = some r → Zw K (eH r) h 74 [(0, vr x0), (1, vr x1), (2, vi x2), (3, vi x3)] [] := by
  intro n
  induction n with
  | zero => intro x3 h r hr; cases hr
  | succ n ih => intro x3 h r hr; exact wX9_yearOf_74B O N x0 x1 x2 (lf (fun _ _ => none) (BX9_yearOf_74 N x0 x1 x2) n)  ih x3 h r hr
def F_X9_yearOf (N : Nat) (x0 : Option Nat) (x1 : Option Nat) (x2 : Int32) (h : AH) : Option (AH) :=
  (ck h [9] x0).bind fun _ =>
  (aI h 0 x1 ((4 : Int32) + x2)).bind fun v1 =>
  if v1 = 0 then
    some h
  else
    (aI h 0 x1 ((8 : Int32) + x2)).bind fun v2 =>
    (aI h 0 x1 ((4 : Int32) + x2)).bind fun v3 =>
    (gR h f_Model_land x0).bind fun v4 =>
    (gI h f_MLand_earns v4).bind fun v5 =>
    (F_X9_least (999 : Int32) (v2 + (v3 * v5))).bind fun v6 =>
    (sA h 0 x1 ((8 : Int32) + x2) v6).bind fun h7 =>
    b2 (F_X9_drawn x1 h7) fun v9 h8 =>
    (gR h8 f_Model_land x0).bind fun v10 =>
    (gI h8 f_MLand_births v10).bind fun v11 =>
    if v11 ≤ v9 then
      LX9_yearOf_74 N x0 x1 x2 (1 : Int32) h8
    else
      (aI h8 0 x1 ((4 : Int32) + x2)).bind fun v12 =>
      (F_X9_least (99 : Int32) (v12 + (1 : Int32))).bind fun v13 =>
      (sA h8 0 x1 ((4 : Int32) + x2) v13).bind fun h14 =>
      LX9_yearOf_74 N x0 x1 x2 (1 : Int32) h14
theorem mX9_yearOf (l : Launch) (G : ZG) (N : Nat) (x0 : Option Nat) (x1 : Option Nat) (x2 : Int32) (h : AH) (r : AH) (hr : F_X9_yearOf N x0 x1 x2 h = some r) : MZ l G yX9_yearOf cX9_yearOf 4 (none : Option Jvm.ClassFile.FieldType) 6 173 [vr x0, vr x1, vi x2] h (eH r) := by
  unfold F_X9_yearOf at hr
  refine MZ.of (by decide) [(0, vr x0), (1, vr x1), (2, vi x2)] rfl (Nat.le_of_ble_eq_true rfl) (fun K O => ?_)
  have O : ZOk K cX9_yearOf RX9 "yearOf" 4 (none : Option Jvm.ClassFile.FieldType) 6 173 := O
  refine bs hr (fun _ hck hr => ?_)
  refine z_aload_n O 1 dX9_yearOf_0 rfl rfl ?_
  refine z_iconst O dX9_yearOf_1 kic_4 ?_
  refine z_iload_n O 2 dX9_yearOf_2 rfl rfl ?_
  refine z_iadd O dX9_yearOf_3 ?_
  refine z_iaload O dX9_yearOf_4 hr (fun v1 hr => ?_)
  refine z_if_ne (tgt := 9) O dX9_yearOf_5 (by decide) hr (fun hr => ?_) (fun hr => ?_)
  · exact z_vret O dX9_yearOf_8 (by cases hr; rfl)
  · refine z_aload_n O 1 dX9_yearOf_9 rfl rfl ?_
    refine z_bipush O dX9_yearOf_10 kbi_8 ?_
    refine z_iload_n O 2 dX9_yearOf_12 rfl rfl ?_
    refine z_iadd O dX9_yearOf_13 ?_
    refine z_sipush O dX9_yearOf_14 ksi_999 ?_
    refine z_aload_n O 1 dX9_yearOf_17 rfl rfl ?_
    refine z_bipush O dX9_yearOf_18 kbi_8 ?_
    refine z_iload_n O 2 dX9_yearOf_20 rfl rfl ?_
    refine z_iadd O dX9_yearOf_21 ?_
    refine z_iaload O dX9_yearOf_22 hr (fun v2 hr => ?_)
    refine z_aload_n O 1 dX9_yearOf_23 rfl rfl ?_
    refine z_iconst O dX9_yearOf_24 kic_4 ?_
    refine z_iload_n O 2 dX9_yearOf_25 rfl rfl ?_
    refine z_iadd O dX9_yearOf_26 ?_
    refine z_iaload O dX9_yearOf_27 hr (fun v3 hr => ?_)
    refine z_aload_n O 0 dX9_yearOf_28 rfl rfl ?_
    refine z_getR O o_Model_land q1765 dX9_yearOf_29 hr (fun v4 hr => ?_)
    refine z_getIN O o_MLand_earns zn1904 dX9_yearOf_32 hr (fun v5 hr => ?_)
    refine z_imul O dX9_yearOf_35 ?_
    refine z_iadd O dX9_yearOf_36 ?_
    refine bs hr (fun v6 hF hr => ?_)
    refine z_callS O [vi (999 : Int32), vi (v2 + (v3 * v5))] (vi v6) fS_X9_least q2409 (fun l G => mX9_least l G (999 : Int32) (v2 + (v3 * v5)) h _ hF) rfl ⟨Nat.le_of_ble_eq_true rfl, Nat.le_of_ble_eq_true rfl⟩ (Nat.le_of_ble_eq_true rfl) dX9_yearOf_37 ?_
    refine z_iastore O dX9_yearOf_40 hr (fun h7 hr => ?_)
    refine z_aload_n O 1 dX9_yearOf_41 rfl rfl ?_
    refine b2s hr (fun v9 h8 hF hr => ?_)
    refine z_callS O [vr x1] (vi v9) fS_X9_drawn q2451 (fun l G => mX9_drawn l G x1 h7 _ hF) rfl ⟨Nat.le_of_ble_eq_true rfl, Nat.le_of_ble_eq_true rfl⟩ (Nat.le_of_ble_eq_true rfl) dX9_yearOf_42 ?_
    refine z_aload_n O 0 dX9_yearOf_45 rfl rfl ?_
    refine z_getR O o_Model_land q1765 dX9_yearOf_46 hr (fun v10 hr => ?_)
    refine z_getIN O o_MLand_births zn1902 dX9_yearOf_49 hr (fun v11 hr => ?_)
    refine z_icmp_ge (tgt := 72) O dX9_yearOf_52 (by decide) hr (fun hr => ?_) (fun hr => ?_)
    · refine z_iconst O dX9_yearOf_72 kic_1 ?_
      refine z_istore_n O [(3, vi (1 : Int32)), (0, vr x0), (1, vr x1), (2, vi x2)] dX9_yearOf_73 rfl (by decide) rfl ?_
      refine z_sub [1, 2, 3, 0] rfl ?_
      exact wX9_yearOf_74 O N x0 x1 x2 _ (1 : Int32) h8 _ hr
    · refine z_aload_n O 1 dX9_yearOf_55 rfl rfl ?_
      refine z_iconst O dX9_yearOf_56 kic_4 ?_
      refine z_iload_n O 2 dX9_yearOf_57 rfl rfl ?_
      refine z_iadd O dX9_yearOf_58 ?_
      refine z_bipush O dX9_yearOf_59 kbi_99 ?_
      refine z_aload_n O 1 dX9_yearOf_61 rfl rfl ?_
      refine z_iconst O dX9_yearOf_62 kic_4 ?_
      refine z_iload_n O 2 dX9_yearOf_63 rfl rfl ?_
      refine z_iadd O dX9_yearOf_64 ?_
      refine z_iaload O dX9_yearOf_65 hr (fun v12 hr => ?_)
      refine z_iconst O dX9_yearOf_66 kic_1 ?_
      refine z_iadd O dX9_yearOf_67 ?_
      refine bs hr (fun v13 hF hr => ?_)
      refine z_callS O [vi (99 : Int32), vi (v12 + (1 : Int32))] (vi v13) fS_X9_least q2409 (fun l G => mX9_least l G (99 : Int32) (v12 + (1 : Int32)) h8 _ hF) rfl ⟨Nat.le_of_ble_eq_true rfl, Nat.le_of_ble_eq_true rfl⟩ (Nat.le_of_ble_eq_true rfl) dX9_yearOf_68 ?_
      refine z_iastore O dX9_yearOf_71 hr (fun h14 hr => ?_)
      refine z_iconst O dX9_yearOf_72 kic_1 ?_
      refine z_istore_n O [(3, vi (1 : Int32)), (0, vr x0), (1, vr x1), (2, vi x2)] dX9_yearOf_73 rfl (by decide) rfl ?_
      refine z_sub [1, 2, 3, 0] rfl ?_
      exact wX9_yearOf_74 O N x0 x1 x2 _ (1 : Int32) h14 _ hr
theorem fV_X9_goesBy : CVf RX9 yX9_goesBy cX9_goesBy 3 (none : Option Jvm.ClassFile.FieldType) 1 := ⟨q2445, qs110, q137, q2446, ⟨⟨by decide +kernel, by decide +kernel⟩, by decide +kernel⟩⟩
def BX9_goesBy_2 (N : Nat) (x0 : Option Nat) (x1 : Option Nat) (rec2 : Int32 → AH → Option (AH)) : Int32 → AH → Option (AH) := fun x2 h =>
  (gR h f_Model_land x0).bind fun v1 =>
  (gI h f_MLand_houses v1).bind fun v2 =>
  if v2 ≤ x2 then
    (aI h 0 x1 (210 : Int32)).bind fun v3 =>
    (sA h 0 x1 (210 : Int32) (v3 + (1 : Int32))).bind fun h4 =>
    some h4
  else
    (gR h f_Model_order x0).bind fun v5 =>
    (aI h 0 v5 x2).bind fun v6 =>
    (F_X9_yearOf N x0 x1 v6 h).bind fun h7 =>
    jlet (x2 + (1 : Int32)) fun v8 =>
    rec2 v8 h7
def LX9_goesBy_2 (N : Nat) (x0 : Option Nat) (x1 : Option Nat) : Int32 → AH → Option (AH) := lf (fun _ _ => none) (BX9_goesBy_2 N x0 x1) N
theorem wX9_goesBy_2B {K : ZC} (O : ZOk K cX9_goesBy RX9 "goesBy" 3 (none : Option Jvm.ClassFile.FieldType) 7 196) (N : Nat) (x0 : Option Nat) (x1 : Option Nat) (rec2 : Int32 → AH → Option (AH)) (hrec2 : ∀ (y2 : Int32) (hy : AH) (ry : AH), rec2 y2 hy = some ry → Zw K (eH ry) hy 2 [(0, vr x0), (1, vr x1), (2, vi y2)] []) (x2 : Int32) (h : AH) (r : AH) (hr : BX9_goesBy_2 N x0 x1 rec2 x2 h = some r) : Zw K (eH r) h 2 [(0, vr x0), (1, vr x1), (2, vi x2)] [] := by
  unfold BX9_goesBy_2 at hr
  refine z_iload_n O 2 dX9_goesBy_2 rfl rfl ?_
  refine z_aload_n O 0 dX9_goesBy_3 rfl rfl ?_
  refine z_getR O o_Model_land q1765 dX9_goesBy_4 hr (fun v1 hr => ?_)
  refine z_getIN O o_MLand_houses zn1907 dX9_goesBy_7 hr (fun v2 hr => ?_)
  refine z_icmp_ge (tgt := 30) O dX9_goesBy_10 (by decide) hr (fun hr => ?_) (fun hr => ?_)
  · refine z_aload_n O 1 dX9_goesBy_30 rfl rfl ?_
    refine z_sipush O dX9_goesBy_31 ksi_210 ?_
    refine z_dup2 O dX9_goesBy_34 rfl rfl ?_
    refine z_iaload O dX9_goesBy_35 hr (fun v3 hr => ?_)
    refine z_iconst O dX9_goesBy_36 kic_1 ?_
    refine z_iadd O dX9_goesBy_37 ?_
    refine z_iastore O dX9_goesBy_38 hr (fun h4 hr => ?_)
    exact z_vret O dX9_goesBy_39 (by cases hr; rfl)
  · refine z_aload_n O 0 dX9_goesBy_13 rfl rfl ?_
    refine z_aload_n O 1 dX9_goesBy_14 rfl rfl ?_
    refine z_aload_n O 0 dX9_goesBy_15 rfl rfl ?_
    refine z_getR O o_Model_order q1786 dX9_goesBy_16 hr (fun v5 hr => ?_)
    refine z_iload_n O 2 dX9_goesBy_19 rfl rfl ?_
    refine z_iaload O dX9_goesBy_20 hr (fun v6 hr => ?_)
    refine bs hr (fun h7 hF hr => ?_)
    refine z_callVv O [vr x1, vi v6] fV_X9_yearOf q2447 (fun l G => mX9_yearOf l G N x0 x1 v6 h _ hF) (zck hF) rfl rfl ⟨Nat.le_of_ble_eq_true rfl, Nat.le_of_ble_eq_true rfl⟩ (Nat.le_of_ble_eq_true rfl) dX9_goesBy_21 ?_
    refine z_iincL O 2 (fun v8 => [(2, vi v8), (0, vr x0), (1, vr x1)]) dX9_goesBy_24 rfl rfl (by decide) (fun _ => rfl) hr (fun v8 hr => ?_)
    refine z_goto (tgt := 2) O dX9_goesBy_27 (by decide) ?_
    refine z_sub [1, 2, 0] rfl ?_
    exact hrec2 v8 h7 _ hr
theorem wX9_goesBy_2 {K : ZC} (O : ZOk K cX9_goesBy RX9 "goesBy" 3 (none : Option Jvm.ClassFile.FieldType) 7 196) (N : Nat) (x0 : Option Nat) (x1 : Option Nat) : ∀ (n : Nat) (x2 : Int32) (h : AH) (r : AH), lf (fun _ _ => none) (BX9_goesBy_2 N x0 x1) n x2 h = some r → Zw K (eH r) h 2 [(0, vr x0), (1, vr x1), (2, vi x2)] [] := by
  intro n
  induction n with
  | zero => intro x2 h r hr; cases hr
  | succ n ih => intro x2 h r hr; exact wX9_goesBy_2B O N x0 x1 (lf (fun _ _ => none) (BX9_goesBy_2 N x0 x1) n)  ih x2 h r hr
def F_X9_goesBy (N : Nat) (x0 : Option Nat) (x1 : Option Nat) (h : AH) : Option (AH) :=
  (ck h [9] x0).bind fun _ =>
  LX9_goesBy_2 N x0 x1 (0 : Int32) h
theorem mX9_goesBy (l : Launch) (G : ZG) (N : Nat) (x0 : Option Nat) (x1 : Option Nat) (h : AH) (r : AH) (hr : F_X9_goesBy N x0 x1 h = some r) : MZ l G yX9_goesBy cX9_goesBy 3 (none : Option Jvm.ClassFile.FieldType) 7 196 [vr x0, vr x1] h (eH r) := by
  unfold F_X9_goesBy at hr
  refine MZ.of (by decide) [(0, vr x0), (1, vr x1)] rfl (Nat.le_of_ble_eq_true rfl) (fun K O => ?_)
  have O : ZOk K cX9_goesBy RX9 "goesBy" 3 (none : Option Jvm.ClassFile.FieldType) 7 196 := O
  refine bs hr (fun _ hck hr => ?_)
  refine z_iconst O dX9_goesBy_0 kic_0 ?_
  refine z_istore_n O [(2, vi (0 : Int32)), (0, vr x0), (1, vr x1)] dX9_goesBy_1 rfl (by decide) rfl ?_
  refine z_sub [1, 2, 0] rfl ?_
  exact wX9_goesBy_2 O N x0 x1 _ (0 : Int32) h _ hr
theorem fV_X9_byNumbers : CVf RX9 yX9_byNumbers cX9_byNumbers 2 (none : Option Jvm.ClassFile.FieldType) 0 := ⟨q2441, qs109, q137, q2442, ⟨⟨by decide +kernel, by decide +kernel⟩, by decide +kernel⟩⟩
def BX9_byNumbers_2 (N : Nat) (x0 : Option Nat) (rec2 : Int32 → AH → Option (AH)) : Int32 → AH → Option (AH) := fun x1 h =>
  if (4 : Int32) ≤ x1 then
    some h
  else
    (gR h f_Model_order x0).bind fun v1 =>
    (sA h 0 v1 x1 x1).bind fun h2 =>
    jlet (x1 + (1 : Int32)) fun v3 =>
    rec2 v3 h2
def LX9_byNumbers_2 (N : Nat) (x0 : Option Nat) : Int32 → AH → Option (AH) := lf (fun _ _ => none) (BX9_byNumbers_2 N x0) N
theorem wX9_byNumbers_2B {K : ZC} (O : ZOk K cX9_byNumbers RX9 "byNumbers" 2 (none : Option Jvm.ClassFile.FieldType) 1 48) (N : Nat) (x0 : Option Nat) (rec2 : Int32 → AH → Option (AH)) (hrec2 : ∀ (y1 : Int32) (hy : AH) (ry : AH), rec2 y1 hy = some ry → Zw K (eH ry) hy 2 [(0, vr x0), (1, vi y1)] []) (x1 : Int32) (h : AH) (r : AH) (hr : BX9_byNumbers_2 N x0 rec2 x1 h = some r) : Zw K (eH r) h 2 [(0, vr x0), (1, vi x1)] [] := by
  unfold BX9_byNumbers_2 at hr
  refine z_iload_n O 1 dX9_byNumbers_2 rfl rfl ?_
  refine z_iconst O dX9_byNumbers_3 kic_4 ?_
  refine z_icmp_ge (tgt := 20) O dX9_byNumbers_4 (by decide) hr (fun hr => ?_) (fun hr => ?_)
  · exact z_vret O dX9_byNumbers_20 (by cases hr; rfl)
  · refine z_aload_n O 0 dX9_byNumbers_7 rfl rfl ?_
    refine z_getR O o_Model_order q1786 dX9_byNumbers_8 hr (fun v1 hr => ?_)
    refine z_iload_n O 1 dX9_byNumbers_11 rfl rfl ?_
    refine z_iload_n O 1 dX9_byNumbers_12 rfl rfl ?_
    refine z_iastore O dX9_byNumbers_13 hr (fun h2 hr => ?_)
    refine z_iincL O 1 (fun v3 => [(1, vi v3), (0, vr x0)]) dX9_byNumbers_14 rfl rfl (by decide) (fun _ => rfl) hr (fun v3 hr => ?_)
    refine z_goto (tgt := 2) O dX9_byNumbers_17 (by decide) ?_
    refine z_sub [1, 0] rfl ?_
    exact hrec2 v3 h2 _ hr
theorem wX9_byNumbers_2 {K : ZC} (O : ZOk K cX9_byNumbers RX9 "byNumbers" 2 (none : Option Jvm.ClassFile.FieldType) 1 48) (N : Nat) (x0 : Option Nat) : ∀ (n : Nat) (x1 : Int32) (h : AH) (r : AH), lf (fun _ _ => none) (BX9_byNumbers_2 N x0) n x1 h = some r → Zw K (eH r) h 2 [(0, vr x0), (1, vi x1)] [] := by
  intro n
  induction n with
  | zero => intro x1 h r hr; cases hr
  | succ n ih => intro x1 h r hr; exact wX9_byNumbers_2B O N x0 (lf (fun _ _ => none) (BX9_byNumbers_2 N x0) n)  ih x1 h r hr
def F_X9_byNumbers (N : Nat) (x0 : Option Nat) (h : AH) : Option (AH) :=
  (ck h [9] x0).bind fun _ =>
  LX9_byNumbers_2 N x0 (0 : Int32) h
theorem mX9_byNumbers (l : Launch) (G : ZG) (N : Nat) (x0 : Option Nat) (h : AH) (r : AH) (hr : F_X9_byNumbers N x0 h = some r) : MZ l G yX9_byNumbers cX9_byNumbers 2 (none : Option Jvm.ClassFile.FieldType) 1 48 [vr x0] h (eH r) := by
  unfold F_X9_byNumbers at hr
  refine MZ.of (by decide) [(0, vr x0)] rfl (Nat.le_of_ble_eq_true rfl) (fun K O => ?_)
  have O : ZOk K cX9_byNumbers RX9 "byNumbers" 2 (none : Option Jvm.ClassFile.FieldType) 1 48 := O
  refine bs hr (fun _ hck hr => ?_)
  refine z_iconst O dX9_byNumbers_0 kic_0 ?_
  refine z_istore_n O [(1, vi (0 : Int32)), (0, vr x0)] dX9_byNumbers_1 rfl (by decide) rfl ?_
  refine z_sub [1, 0] rfl ?_
  exact wX9_byNumbers_2 O N x0 _ (0 : Int32) h _ hr
theorem fV_X9_copies : CVf RX9 yX9_copies cX9_copies 2 (none : Option Jvm.ClassFile.FieldType) 0 := ⟨q2437, qs108, q137, q2438, ⟨⟨by decide +kernel, by decide +kernel⟩, by decide +kernel⟩⟩
def BX9_copies_2 (N : Nat) (x0 : Option Nat) (rec2 : Int32 → AH → Option (AH)) : Int32 → AH → Option (AH) := fun x1 h =>
  if (212 : Int32) ≤ x1 then
    some h
  else
    (gR h f_Model_w x0).bind fun v1 =>
    (gR h f_Model_v x0).bind fun v2 =>
    (aI h 0 v2 x1).bind fun v3 =>
    (sA h 0 v1 x1 v3).bind fun h4 =>
    jlet (x1 + (1 : Int32)) fun v5 =>
    rec2 v5 h4
def LX9_copies_2 (N : Nat) (x0 : Option Nat) : Int32 → AH → Option (AH) := lf (fun _ _ => none) (BX9_copies_2 N x0) N
theorem wX9_copies_2B {K : ZC} (O : ZOk K cX9_copies RX9 "copies" 2 (none : Option Jvm.ClassFile.FieldType) 1 48) (N : Nat) (x0 : Option Nat) (rec2 : Int32 → AH → Option (AH)) (hrec2 : ∀ (y1 : Int32) (hy : AH) (ry : AH), rec2 y1 hy = some ry → Zw K (eH ry) hy 2 [(0, vr x0), (1, vi y1)] []) (x1 : Int32) (h : AH) (r : AH) (hr : BX9_copies_2 N x0 rec2 x1 h = some r) : Zw K (eH r) h 2 [(0, vr x0), (1, vi x1)] [] := by
  unfold BX9_copies_2 at hr
  refine z_iload_n O 1 dX9_copies_2 rfl rfl ?_
  refine z_sipush O dX9_copies_3 ksi_212 ?_
  refine z_icmp_ge (tgt := 27) O dX9_copies_6 (by decide) hr (fun hr => ?_) (fun hr => ?_)
  · exact z_vret O dX9_copies_27 (by cases hr; rfl)
  · refine z_aload_n O 0 dX9_copies_9 rfl rfl ?_
    refine z_getR O o_Model_w q1779 dX9_copies_10 hr (fun v1 hr => ?_)
    refine z_iload_n O 1 dX9_copies_13 rfl rfl ?_
    refine z_aload_n O 0 dX9_copies_14 rfl rfl ?_
    refine z_getR O o_Model_v q1778 dX9_copies_15 hr (fun v2 hr => ?_)
    refine z_iload_n O 1 dX9_copies_18 rfl rfl ?_
    refine z_iaload O dX9_copies_19 hr (fun v3 hr => ?_)
    refine z_iastore O dX9_copies_20 hr (fun h4 hr => ?_)
    refine z_iincL O 1 (fun v5 => [(1, vi v5), (0, vr x0)]) dX9_copies_21 rfl rfl (by decide) (fun _ => rfl) hr (fun v5 hr => ?_)
    refine z_goto (tgt := 2) O dX9_copies_24 (by decide) ?_
    refine z_sub [1, 0] rfl ?_
    exact hrec2 v5 h4 _ hr
theorem wX9_copies_2 {K : ZC} (O : ZOk K cX9_copies RX9 "copies" 2 (none : Option Jvm.ClassFile.FieldType) 1 48) (N : Nat) (x0 : Option Nat) : ∀ (n : Nat) (x1 : Int32) (h : AH) (r : AH), lf (fun _ _ => none) (BX9_copies_2 N x0) n x1 h = some r → Zw K (eH r) h 2 [(0, vr x0), (1, vi x1)] [] := by
  intro n
  induction n with
  | zero => intro x1 h r hr; cases hr
  | succ n ih => intro x1 h r hr; exact wX9_copies_2B O N x0 (lf (fun _ _ => none) (BX9_copies_2 N x0) n)  ih x1 h r hr
def F_X9_copies (N : Nat) (x0 : Option Nat) (h : AH) : Option (AH) :=
  (ck h [9] x0).bind fun _ =>
  LX9_copies_2 N x0 (0 : Int32) h
theorem mX9_copies (l : Launch) (G : ZG) (N : Nat) (x0 : Option Nat) (h : AH) (r : AH) (hr : F_X9_copies N x0 h = some r) : MZ l G yX9_copies cX9_copies 2 (none : Option Jvm.ClassFile.FieldType) 1 48 [vr x0] h (eH r) := by
  unfold F_X9_copies at hr
  refine MZ.of (by decide) [(0, vr x0)] rfl (Nat.le_of_ble_eq_true rfl) (fun K O => ?_)
  have O : ZOk K cX9_copies RX9 "copies" 2 (none : Option Jvm.ClassFile.FieldType) 1 48 := O
  refine bs hr (fun _ hck hr => ?_)
  refine z_iconst O dX9_copies_0 kic_0 ?_
  refine z_istore_n O [(1, vi (0 : Int32)), (0, vr x0)] dX9_copies_1 rfl (by decide) rfl ?_
  refine z_sub [1, 0] rfl ?_
  exact wX9_copies_2 O N x0 _ (0 : Int32) h _ hr
theorem fV_X9_inYears : CVf RX9 yX9_inYears cX9_inYears 3 (none : Option Jvm.ClassFile.FieldType) 1 := ⟨q2433, qs107, q137, q2434, ⟨⟨by decide +kernel, by decide +kernel⟩, by decide +kernel⟩⟩
def BX9_inYears_10 (N : Nat) (x0 : Option Nat) (x1 : Int32) (rec10 : Int32 → AH → Option (AH)) : Int32 → AH → Option (AH) := fun x2 h =>
  if x1 ≤ x2 then
    some h
  else
    (gR h f_Model_w x0).bind fun v1 =>
    (F_X9_goesBy N x0 v1 h).bind fun h2 =>
    jlet (x2 + (1 : Int32)) fun v3 =>
    rec10 v3 h2
def LX9_inYears_10 (N : Nat) (x0 : Option Nat) (x1 : Int32) : Int32 → AH → Option (AH) := lf (fun _ _ => none) (BX9_inYears_10 N x0 x1) N
theorem wX9_inYears_10B {K : ZC} (O : ZOk K cX9_inYears RX9 "inYears" 3 (none : Option Jvm.ClassFile.FieldType) 8 218) (N : Nat) (x0 : Option Nat) (x1 : Int32) (rec10 : Int32 → AH → Option (AH)) (hrec10 : ∀ (y2 : Int32) (hy : AH) (ry : AH), rec10 y2 hy = some ry → Zw K (eH ry) hy 10 [(0, vr x0), (1, vi x1), (2, vi y2)] []) (x2 : Int32) (h : AH) (r : AH) (hr : BX9_inYears_10 N x0 x1 rec10 x2 h = some r) : Zw K (eH r) h 10 [(0, vr x0), (1, vi x1), (2, vi x2)] [] := by
  unfold BX9_inYears_10 at hr
  refine z_iload_n O 2 dX9_inYears_10 rfl rfl ?_
  refine z_iload_n O 1 dX9_inYears_11 rfl rfl ?_
  refine z_icmp_ge (tgt := 29) O dX9_inYears_12 (by decide) hr (fun hr => ?_) (fun hr => ?_)
  · exact z_vret O dX9_inYears_29 (by cases hr; rfl)
  · refine z_aload_n O 0 dX9_inYears_15 rfl rfl ?_
    refine z_aload_n O 0 dX9_inYears_16 rfl rfl ?_
    refine z_getR O o_Model_w q1779 dX9_inYears_17 hr (fun v1 hr => ?_)
    refine bs hr (fun h2 hF hr => ?_)
    refine z_callVv O [vr v1] fV_X9_goesBy q2443 (fun l G => mX9_goesBy l G N x0 v1 h _ hF) (zck hF) rfl rfl ⟨Nat.le_of_ble_eq_true rfl, Nat.le_of_ble_eq_true rfl⟩ (Nat.le_of_ble_eq_true rfl) dX9_inYears_20 ?_
    refine z_iincL O 2 (fun v3 => [(2, vi v3), (0, vr x0), (1, vi x1)]) dX9_inYears_23 rfl rfl (by decide) (fun _ => rfl) hr (fun v3 hr => ?_)
    refine z_goto (tgt := 10) O dX9_inYears_26 (by decide) ?_
    refine z_sub [1, 2, 0] rfl ?_
    exact hrec10 v3 h2 _ hr
theorem wX9_inYears_10 {K : ZC} (O : ZOk K cX9_inYears RX9 "inYears" 3 (none : Option Jvm.ClassFile.FieldType) 8 218) (N : Nat) (x0 : Option Nat) (x1 : Int32) : ∀ (n : Nat) (x2 : Int32) (h : AH) (r : AH), lf (fun _ _ => none) (BX9_inYears_10 N x0 x1) n x2 h = some r → Zw K (eH r) h 10 [(0, vr x0), (1, vi x1), (2, vi x2)] [] := by
  intro n
  induction n with
  | zero => intro x2 h r hr; cases hr
  | succ n ih => intro x2 h r hr; exact wX9_inYears_10B O N x0 x1 (lf (fun _ _ => none) (BX9_inYears_10 N x0 x1) n)  ih x2 h r hr
def F_X9_inYears (N : Nat) (x0 : Option Nat) (x1 : Int32) (h : AH) : Option (AH) :=
  (ck h [9] x0).bind fun _ =>
  (F_X9_copies N x0 h).bind fun h1 =>
  (F_X9_byNumbers N x0 h1).bind fun h2 =>
  LX9_inYears_10 N x0 x1 (0 : Int32) h2
theorem mX9_inYears (l : Launch) (G : ZG) (N : Nat) (x0 : Option Nat) (x1 : Int32) (h : AH) (r : AH) (hr : F_X9_inYears N x0 x1 h = some r) : MZ l G yX9_inYears cX9_inYears 3 (none : Option Jvm.ClassFile.FieldType) 8 218 [vr x0, vi x1] h (eH r) := by
  unfold F_X9_inYears at hr
  refine MZ.of (by decide) [(0, vr x0), (1, vi x1)] rfl (Nat.le_of_ble_eq_true rfl) (fun K O => ?_)
  have O : ZOk K cX9_inYears RX9 "inYears" 3 (none : Option Jvm.ClassFile.FieldType) 8 218 := O
  refine bs hr (fun _ hck hr => ?_)
  refine z_aload_n O 0 dX9_inYears_0 rfl rfl ?_
  refine bs hr (fun h1 hF hr => ?_)
  refine z_callVv O [] fV_X9_copies q2435 (fun l G => mX9_copies l G N x0 h _ hF) (zck hF) rfl rfl ⟨Nat.le_of_ble_eq_true rfl, Nat.le_of_ble_eq_true rfl⟩ (Nat.le_of_ble_eq_true rfl) dX9_inYears_1 ?_
  refine z_aload_n O 0 dX9_inYears_4 rfl rfl ?_
  refine bs hr (fun h2 hF hr => ?_)
  refine z_callVv O [] fV_X9_byNumbers q2439 (fun l G => mX9_byNumbers l G N x0 h1 _ hF) (zck hF) rfl rfl ⟨Nat.le_of_ble_eq_true rfl, Nat.le_of_ble_eq_true rfl⟩ (Nat.le_of_ble_eq_true rfl) dX9_inYears_5 ?_
  refine z_iconst O dX9_inYears_8 kic_0 ?_
  refine z_istore_n O [(2, vi (0 : Int32)), (0, vr x0), (1, vi x1)] dX9_inYears_9 rfl (by decide) rfl ?_
  refine z_sub [1, 2, 0] rfl ?_
  exact wX9_inYears_10 O N x0 x1 _ (0 : Int32) h2 _ hr
theorem fV_X9_isSkin : CVf RX9 yX9_isSkin cX9_isSkin 3 (some .boolean) 2 := ⟨q2321, qs97, q137, q2322, ⟨⟨by decide +kernel, by decide +kernel⟩, by decide +kernel⟩⟩
def F_X9_isSkin (x0 : Option Nat) (x1 : Int32) (x2 : Int32) (h : AH) : Option (Int32) :=
  (ck h [9] x0).bind fun _ =>
  (F_X9_isHouse x0 x1 h).bind fun v1 =>
  if v1 = 0 then
    zb (0 : Int32)
  else
    if x2 < (1 : Int32) then
      zb (0 : Int32)
    else
      (gR h f_Model_v x0).bind fun v2 =>
      (aI h 0 v2 ((0 : Int32) + x1)).bind fun v3 =>
      if v3 < x2 then
        zb (0 : Int32)
      else
        zb (1 : Int32)
theorem mX9_isSkin (l : Launch) (G : ZG) (x0 : Option Nat) (x1 : Int32) (x2 : Int32) (h : AH) (r : Int32) (hr : F_X9_isSkin x0 x1 x2 h = some r) : MZ l G yX9_isSkin cX9_isSkin 3 (some .boolean) 2 69 [vr x0, vi x1, vi x2] h (eI h r) := by
  unfold F_X9_isSkin at hr
  refine MZ.of (by decide) [(0, vr x0), (1, vi x1), (2, vi x2)] rfl (Nat.le_of_ble_eq_true rfl) (fun K O => ?_)
  have O : ZOk K cX9_isSkin RX9 "isSkin" 3 (some .boolean) 2 69 := O
  refine bs hr (fun _ hck hr => ?_)
  refine z_aload_n O 0 dX9_isSkin_0 rfl rfl ?_
  refine z_iload_n O 1 dX9_isSkin_1 rfl rfl ?_
  refine bs hr (fun v1 hF hr => ?_)
  refine z_callV O [vi x1] (vi v1) fV_X9_isHouse q2292 (fun l G => mX9_isHouse l G x0 x1 h _ hF) (zck hF) rfl rfl ⟨Nat.le_of_ble_eq_true rfl, Nat.le_of_ble_eq_true rfl⟩ (Nat.le_of_ble_eq_true rfl) dX9_isSkin_2 ?_
  refine z_if_eq (tgt := 29) O dX9_isSkin_5 (by decide) hr (fun hr => ?_) (fun hr => ?_)
  · refine z_iconst O dX9_isSkin_29 kic_0 ?_
    obtain ⟨e1, e2, -⟩ := zb_spec hr
    exact z_zret O e2 dX9_isSkin_30 (by cases e1; rfl)
  · refine z_iload_n O 2 dX9_isSkin_8 rfl rfl ?_
    refine z_iconst O dX9_isSkin_9 kic_1 ?_
    refine z_icmp_lt (tgt := 29) O dX9_isSkin_10 (by decide) hr (fun hr => ?_) (fun hr => ?_)
    · refine z_iconst O dX9_isSkin_29 kic_0 ?_
      obtain ⟨e1, e2, -⟩ := zb_spec hr
      exact z_zret O e2 dX9_isSkin_30 (by cases e1; rfl)
    · refine z_iload_n O 2 dX9_isSkin_13 rfl rfl ?_
      refine z_aload_n O 0 dX9_isSkin_14 rfl rfl ?_
      refine z_getR O o_Model_v q1778 dX9_isSkin_15 hr (fun v2 hr => ?_)
      refine z_iconst O dX9_isSkin_18 kic_0 ?_
      refine z_iload_n O 1 dX9_isSkin_19 rfl rfl ?_
      refine z_iadd O dX9_isSkin_20 ?_
      refine z_iaload O dX9_isSkin_21 hr (fun v3 hr => ?_)
      refine z_icmp_gt (tgt := 29) O dX9_isSkin_22 (by decide) hr (fun hr => ?_) (fun hr => ?_)
      · refine z_iconst O dX9_isSkin_29 kic_0 ?_
        obtain ⟨e1, e2, -⟩ := zb_spec hr
        exact z_zret O e2 dX9_isSkin_30 (by cases e1; rfl)
      · refine z_iconst O dX9_isSkin_25 kic_1 ?_
        refine z_goto (tgt := 30) O dX9_isSkin_26 (by decide) ?_
        obtain ⟨e1, e2, -⟩ := zb_spec hr
        exact z_zret O e2 dX9_isSkin_30 (by cases e1; rfl)
theorem fV_X9_refusesIn : CVf RX9 yX9_refusesIn cX9_refusesIn 4 (some .int) 3 := ⟨q2429, qs106, q137, q2430, ⟨⟨by decide +kernel, by decide +kernel⟩, by decide +kernel⟩⟩
def F_X9_refusesIn (x0 : Option Nat) (x1 : Int32) (x2 : Int32) (x3 : Int32) (h : AH) : Option (Int32) :=
  (ck h [9] x0).bind fun _ =>
  (gR h f_Model_land x0).bind fun v1 =>
  if v1 = none then
    some (1 : Int32)
  else
    if x1 = 0 then
      some (1 : Int32)
    else
      (F_X9_within x2 (0 : Int32) x3).bind fun v2 =>
      if v2 = 0 then
        some (2 : Int32)
      else
        some (0 : Int32)
theorem mX9_refusesIn (l : Launch) (G : ZG) (x0 : Option Nat) (x1 : Int32) (x2 : Int32) (x3 : Int32) (h : AH) (r : Int32) (hr : F_X9_refusesIn x0 x1 x2 x3 h = some r) : MZ l G yX9_refusesIn cX9_refusesIn 4 (some .int) 2 70 [vr x0, vi x1, vi x2, vi x3] h (eI h r) := by
  unfold F_X9_refusesIn at hr
  refine MZ.of (by decide) [(0, vr x0), (1, vi x1), (2, vi x2), (3, vi x3)] rfl (Nat.le_of_ble_eq_true rfl) (fun K O => ?_)
  have O : ZOk K cX9_refusesIn RX9 "refusesIn" 4 (some .int) 2 70 := O
  refine bs hr (fun _ hck hr => ?_)
  refine z_aload_n O 0 dX9_refusesIn_0 rfl rfl ?_
  refine z_getR O o_Model_land q1765 dX9_refusesIn_1 hr (fun v1 hr => ?_)
  refine z_ifnull (tgt := 11) O dX9_refusesIn_4 (by decide) hr (fun hr => ?_) (fun hr => ?_)
  · refine z_iconst O dX9_refusesIn_11 kic_1 ?_
    refine z_goto (tgt := 29) O dX9_refusesIn_12 (by decide) ?_
    exact z_iret O dX9_refusesIn_29 (by cases hr; rfl)
  · refine z_iload_n O 1 dX9_refusesIn_7 rfl rfl ?_
    refine z_if_ne (tgt := 15) O dX9_refusesIn_8 (by decide) hr (fun hr => ?_) (fun hr => ?_)
    · refine z_iconst O dX9_refusesIn_11 kic_1 ?_
      refine z_goto (tgt := 29) O dX9_refusesIn_12 (by decide) ?_
      exact z_iret O dX9_refusesIn_29 (by cases hr; rfl)
    · refine z_iload_n O 2 dX9_refusesIn_15 rfl rfl ?_
      refine z_iconst O dX9_refusesIn_16 kic_0 ?_
      refine z_iload_n O 3 dX9_refusesIn_17 rfl rfl ?_
      refine bs hr (fun v2 hF hr => ?_)
      refine z_callS O [vi x2, vi (0 : Int32), vi x3] (vi v2) fS_X9_within q2096 (fun l G => mX9_within l G x2 (0 : Int32) x3 h _ hF) rfl ⟨Nat.le_of_ble_eq_true rfl, Nat.le_of_ble_eq_true rfl⟩ (Nat.le_of_ble_eq_true rfl) dX9_refusesIn_18 ?_
      refine z_if_eq (tgt := 28) O dX9_refusesIn_21 (by decide) hr (fun hr => ?_) (fun hr => ?_)
      · refine z_iconst O dX9_refusesIn_28 kic_2 ?_
        exact z_iret O dX9_refusesIn_29 (by cases hr; rfl)
      · refine z_iconst O dX9_refusesIn_24 kic_0 ?_
        refine z_goto (tgt := 29) O dX9_refusesIn_25 (by decide) ?_
        exact z_iret O dX9_refusesIn_29 (by cases hr; rfl)
theorem fV_X9_falls : CVf RX9 yX9_falls cX9_falls 6 (some .int) 3 := ⟨q2477, q2478, q137, q2479, ⟨⟨by decide +kernel, by decide +kernel⟩, by decide +kernel⟩⟩
def BX9_falls_40 (N : Nat) (x0 : Option Nat) (x1 : Int32) (x2 : Int32) (x3 : Int32) (rec40 : Int32 → AH → Option (Int32 × AH)) : Int32 → AH → Option (Int32 × AH) := fun x5 h =>
  if x3 < x5 then
    b2 (F_X9_good x0 (-2 : Int32) h) fun v2 h1 =>
    some (v2, h1)
  else
    (gR h f_Model_w x0).bind fun v3 =>
    (F_X9_part x1 x2 (5 : Int32)).bind fun v4 =>
    (aI h 0 v3 v4).bind fun v5 =>
    if v5 = (1 : Int32) then
      b2 (F_X9_good x0 x5 h) fun v10 h9 =>
      some (v10, h9)
    else
      (gR h f_Model_w x0).bind fun v6 =>
      (F_X9_goesBy N x0 v6 h).bind fun h7 =>
      jlet (x5 + (1 : Int32)) fun v8 =>
      rec40 v8 h7
def LX9_falls_40 (N : Nat) (x0 : Option Nat) (x1 : Int32) (x2 : Int32) (x3 : Int32) : Int32 → AH → Option (Int32 × AH) := lf (fun _ _ => none) (BX9_falls_40 N x0 x1 x2 x3) N
theorem wX9_falls_40B {K : ZC} (O : ZOk K cX9_falls RX9 "falls" 6 (some .int) 9 240) (N : Nat) (x0 : Option Nat) (x1 : Int32) (x2 : Int32) (x3 : Int32) (rec40 : Int32 → AH → Option (Int32 × AH)) (hrec40 : ∀ (y5 : Int32) (hy : AH) (ry : Int32 × AH), rec40 y5 hy = some ry → Zw K (eIH ry) hy 40 [(0, vr x0), (1, vi x1), (2, vi x2), (3, vi x3), (5, vi y5)] []) (x5 : Int32) (h : AH) (r : Int32 × AH) (hr : BX9_falls_40 N x0 x1 x2 x3 rec40 x5 h = some r) : Zw K (eIH r) h 40 [(0, vr x0), (1, vi x1), (2, vi x2), (3, vi x3), (5, vi x5)] [] := by
  unfold BX9_falls_40 at hr
  refine z_iload O 4 dX9_falls_40 rfl ?_
  refine z_iload_n O 3 dX9_falls_42 rfl rfl ?_
  refine z_icmp_gt (tgt := 82) O dX9_falls_43 (by decide) hr (fun hr => ?_) (fun hr => ?_)
  · refine z_aload_n O 0 dX9_falls_82 rfl rfl ?_
    refine z_bipush O dX9_falls_83 kbi_m2 ?_
    refine b2s hr (fun v2 h1 hF hr => ?_)
    refine z_callV O [vi (-2 : Int32)] (vi v2) fV_X9_good q2249 (fun l G => mX9_good l G x0 (-2 : Int32) h _ hF) (zck hF) rfl rfl ⟨Nat.le_of_ble_eq_true rfl, Nat.le_of_ble_eq_true rfl⟩ (Nat.le_of_ble_eq_true rfl) dX9_falls_85 ?_
    exact z_iret O dX9_falls_88 (by cases hr; rfl)
  · refine z_aload_n O 0 dX9_falls_46 rfl rfl ?_
    refine z_getR O o_Model_w q1779 dX9_falls_47 hr (fun v3 hr => ?_)
    refine z_iload_n O 1 dX9_falls_50 rfl rfl ?_
    refine z_iload_n O 2 dX9_falls_51 rfl rfl ?_
    refine z_iconst O dX9_falls_52 kic_5 ?_
    refine bs hr (fun v4 hF hr => ?_)
    refine z_callS O [vi x1, vi x2, vi (5 : Int32)] (vi v4) fS_X9_part q2223 (fun l G => mX9_part l G x1 x2 (5 : Int32) h _ hF) rfl ⟨Nat.le_of_ble_eq_true rfl, Nat.le_of_ble_eq_true rfl⟩ (Nat.le_of_ble_eq_true rfl) dX9_falls_53 ?_
    refine z_iaload O dX9_falls_56 hr (fun v5 hr => ?_)
    refine z_iconst O dX9_falls_57 kic_1 ?_
    refine z_icmp_ne (tgt := 68) O dX9_falls_58 (by decide) hr (fun hr => ?_) (fun hr => ?_)
    · refine z_aload_n O 0 dX9_falls_61 rfl rfl ?_
      refine z_iload O 4 dX9_falls_62 rfl ?_
      refine b2s hr (fun v10 h9 hF hr => ?_)
      refine z_callV O [vi x5] (vi v10) fV_X9_good q2249 (fun l G => mX9_good l G x0 x5 h _ hF) (zck hF) rfl rfl ⟨Nat.le_of_ble_eq_true rfl, Nat.le_of_ble_eq_true rfl⟩ (Nat.le_of_ble_eq_true rfl) dX9_falls_64 ?_
      exact z_iret O dX9_falls_67 (by cases hr; rfl)
    · refine z_aload_n O 0 dX9_falls_68 rfl rfl ?_
      refine z_aload_n O 0 dX9_falls_69 rfl rfl ?_
      refine z_getR O o_Model_w q1779 dX9_falls_70 hr (fun v6 hr => ?_)
      refine bs hr (fun h7 hF hr => ?_)
      refine z_callVv O [vr v6] fV_X9_goesBy q2443 (fun l G => mX9_goesBy l G N x0 v6 h _ hF) (zck hF) rfl rfl ⟨Nat.le_of_ble_eq_true rfl, Nat.le_of_ble_eq_true rfl⟩ (Nat.le_of_ble_eq_true rfl) dX9_falls_73 ?_
      refine z_iincL O 4 (fun v8 => [(5, vi v8), (0, vr x0), (1, vi x1), (2, vi x2), (3, vi x3)]) dX9_falls_76 rfl rfl (by decide) (fun _ => rfl) hr (fun v8 hr => ?_)
      refine z_goto (tgt := 40) O dX9_falls_79 (by decide) ?_
      refine z_sub [1, 2, 3, 4, 0] rfl ?_
      exact hrec40 v8 h7 _ hr
theorem wX9_falls_40 {K : ZC} (O : ZOk K cX9_falls RX9 "falls" 6 (some .int) 9 240) (N : Nat) (x0 : Option Nat) (x1 : Int32) (x2 : Int32) (x3 : Int32) : ∀ (n : Nat) (x5 : Int32) (h : AH) (r : Int32 × AH), lf (fun _ _ => none) (BX9_falls_40 N x0 x1 x2 x3) n x5 h = some r → Zw K (eIH r) h 40 [(0, vr x0), (1, vi x1), (2, vi x2), (3, vi x3), (5, vi x5)] [] := by
  intro n
  induction n with
  | zero => intro x5 h r hr; cases hr
  | succ n ih => intro x5 h r hr; exact wX9_falls_40B O N x0 x1 x2 x3 (lf (fun _ _ => none) (BX9_falls_40 N x0 x1 x2 x3) n)  ih x5 h r hr
def F_X9_falls (N : Nat) (x0 : Option Nat) (x1 : Int32) (x2 : Int32) (x3 : Int32) (h : AH) : Option (Int32 × AH) :=
  (ck h [9] x0).bind fun _ =>
  (pI h f_Model_thrown x0 (0 : Int32)).bind fun h1 =>
  (F_X9_isSkin x0 x1 x2 h1).bind fun v2 =>
  (F_X9_refusesIn x0 v2 x3 (60 : Int32) h1).bind fun v3 =>
  if v3 ≤ 0 then
    (F_X9_inYears N x0 (0 : Int32) h1).bind fun h4 =>
    LX9_falls_40 N x0 x1 x2 x3 (0 : Int32) h4
  else
    b2 (F_X9_refused x0 v3 h1) fun v6 h5 =>
    some (v6, h5)
theorem mX9_falls (l : Launch) (G : ZG) (N : Nat) (x0 : Option Nat) (x1 : Int32) (x2 : Int32) (x3 : Int32) (h : AH) (r : Int32 × AH) (hr : F_X9_falls N x0 x1 x2 x3 h = some r) : MZ l G yX9_falls cX9_falls 6 (some .int) 9 240 [vr x0, vi x1, vi x2, vi x3] h (eIH r) := by
  unfold F_X9_falls at hr
  refine MZ.of (by decide) [(0, vr x0), (1, vi x1), (2, vi x2), (3, vi x3)] rfl (Nat.le_of_ble_eq_true rfl) (fun K O => ?_)
  have O : ZOk K cX9_falls RX9 "falls" 6 (some .int) 9 240 := O
  refine bs hr (fun _ hck hr => ?_)
  refine z_aload_n O 0 dX9_falls_0 rfl rfl ?_
  refine z_iconst O dX9_falls_1 kic_0 ?_
  refine z_putI O o_Model_thrown (w_Model_thrown _) q1762 dX9_falls_2 hr (fun h1 hr => ?_)
  refine z_aload_n O 0 dX9_falls_5 rfl rfl ?_
  refine z_aload_n O 0 dX9_falls_6 rfl rfl ?_
  refine z_iload_n O 1 dX9_falls_7 rfl rfl ?_
  refine z_iload_n O 2 dX9_falls_8 rfl rfl ?_
  refine bs hr (fun v2 hF hr => ?_)
  refine z_callV O [vi x1, vi x2] (vi v2) fV_X9_isSkin q2319 (fun l G => mX9_isSkin l G x0 x1 x2 h1 _ hF) (zck hF) rfl rfl ⟨Nat.le_of_ble_eq_true rfl, Nat.le_of_ble_eq_true rfl⟩ (Nat.le_of_ble_eq_true rfl) dX9_falls_9 ?_
  refine z_iload_n O 3 dX9_falls_12 rfl rfl ?_
  refine z_bipush O dX9_falls_13 kbi_60 ?_
  refine bs hr (fun v3 hF hr => ?_)
  refine z_callV O [vi v2, vi x3, vi (60 : Int32)] (vi v3) fV_X9_refusesIn q2427 (fun l G => mX9_refusesIn l G x0 v2 x3 (60 : Int32) h1 _ hF) (zck hF) rfl rfl ⟨Nat.le_of_ble_eq_true rfl, Nat.le_of_ble_eq_true rfl⟩ (Nat.le_of_ble_eq_true rfl) dX9_falls_15 ?_
  refine z_istore O [(4, vi v3), (0, vr x0), (1, vi x1), (2, vi x2), (3, vi x3)] dX9_falls_18 (by decide) rfl ?_
  refine z_iload O 0 dX9_falls_20 rfl ?_
  refine z_if_le (tgt := 32) O dX9_falls_22 (by decide) hr (fun hr => ?_) (fun hr => ?_)
  · refine z_aload_n O 1 dX9_falls_32 rfl rfl ?_
    refine z_iconst O dX9_falls_33 kic_0 ?_
    refine bs hr (fun h4 hF hr => ?_)
    refine z_callVv O [vi (0 : Int32)] fV_X9_inYears q2431 (fun l G => mX9_inYears l G N x0 (0 : Int32) h1 _ hF) (zck hF) rfl rfl ⟨Nat.le_of_ble_eq_true rfl, Nat.le_of_ble_eq_true rfl⟩ (Nat.le_of_ble_eq_true rfl) dX9_falls_34 ?_
    refine z_iconst O dX9_falls_37 kic_0 ?_
    refine z_istore O [(5, vi (0 : Int32)), (4, vi v3), (0, vr x0), (1, vi x1), (2, vi x2), (3, vi x3)] dX9_falls_38 (by decide) rfl ?_
    refine z_sub [2, 3, 4, 5, 0] rfl ?_
    exact wX9_falls_40 O N x0 x1 x2 x3 _ (0 : Int32) h4 _ hr
  · refine z_aload_n O 1 dX9_falls_25 rfl rfl ?_
    refine z_iload O 0 dX9_falls_26 rfl ?_
    refine b2s hr (fun v6 h5 hF hr => ?_)
    refine z_callV O [vi v3] (vi v6) fV_X9_refused q1886 (fun l G => mX9_refused l G x0 v3 h1 _ hF) (zck hF) rfl rfl ⟨Nat.le_of_ble_eq_true rfl, Nat.le_of_ble_eq_true rfl⟩ (Nat.le_of_ble_eq_true rfl) dX9_falls_28 ?_
    exact z_iret O dX9_falls_31 (by cases hr; rfl)
theorem fV_X9_fault : CVf RX9 yX9_fault cX9_fault 1 (some .int) 0 := ⟨q2254, q2255, q137, q2256, ⟨⟨by decide +kernel, by decide +kernel⟩, by decide +kernel⟩⟩
def F_X9_fault (x0 : Option Nat) (h : AH) : Option (Int32 × AH) :=
  (ck h [9] x0).bind fun _ =>
  (pI h f_Model_thrown x0 (0 : Int32)).bind fun h1 =>
  (gI h1 f_Model_fault x0).bind fun v2 =>
  some (v2, h1)
theorem mX9_fault (l : Launch) (G : ZG) (x0 : Option Nat) (h : AH) (r : Int32 × AH) (hr : F_X9_fault x0 h = some r) : MZ l G yX9_fault cX9_fault 1 (some .int) 1 48 [vr x0] h (eIH r) := by
  unfold F_X9_fault at hr
  refine MZ.of (by decide) [(0, vr x0)] rfl (Nat.le_of_ble_eq_true rfl) (fun K O => ?_)
  have O : ZOk K cX9_fault RX9 "fault" 1 (some .int) 1 48 := O
  refine bs hr (fun _ hck hr => ?_)
  refine z_aload_n O 0 dX9_fault_0 rfl rfl ?_
  refine z_iconst O dX9_fault_1 kic_0 ?_
  refine z_putI O o_Model_thrown (w_Model_thrown _) q1762 dX9_fault_2 hr (fun h1 hr => ?_)
  refine z_aload_n O 0 dX9_fault_5 rfl rfl ?_
  refine z_getI O o_Model_fault q1775 dX9_fault_6 hr (fun v2 hr => ?_)
  exact z_iret O dX9_fault_9 (by cases hr; rfl)
theorem fV_X9_feed : CVf RX9 yX9_feed cX9_feed 8 (some .int) 5 := ⟨q1879, q1880, q137, q1881, ⟨⟨by decide +kernel, by decide +kernel⟩, by decide +kernel⟩⟩
def bX9_feed_76 (N : Nat) (rec23 : Int32 → AH → Option (Int32 × AH)) (x0 : Option Nat) (x1 : Int32) (x2 : Int32) (x3 : Int32) (x4 : Int32) (x5 : Int32) (x6 : Int32) (s0 : Int32) (h : AH) : Option (Int32 × AH) :=
  (gR h f_Model_tape x0).bind fun v1 =>
  (gI h f_Model_taped x0).bind fun v2 =>
  (rm x6 (4 : Int32)).bind fun v3 =>
  (sA h 1 v1 v2 ((s0 >>> (((24 : Int32) - ((8 : Int32) * v3)) &&& 31)).toInt8.toInt32).toInt8.toInt32).bind fun h4 =>
  (gI h4 f_Model_taped x0).bind fun v5 =>
  (pI h4 f_Model_taped x0 (v5 + (1 : Int32))).bind fun h6 =>
  jlet (x6 + (1 : Int32)) fun v7 =>
  rec23 v7 h6
theorem wX9_feed_76 {K : ZC} (O : ZOk K cX9_feed RX9 "feed" 8 (some .int) 1 48) (N : Nat) (rec23 : Int32 → AH → Option (Int32 × AH)) (x0 : Option Nat) (x1 : Int32) (x2 : Int32) (x3 : Int32) (x4 : Int32) (x5 : Int32) (x6 : Int32) (s0 : Int32) (h : AH) (hrec23 : ∀ (y6 : Int32) (hy : AH) (ry : Int32 × AH), rec23 y6 hy = some ry → Zw K (eIH ry) hy 23 [(0, vr x0), (1, vi x1), (2, vi x2), (3, vi x3), (4, vi x4), (5, vi x5), (6, vi y6)] []) (r : Int32 × AH) (hr : bX9_feed_76 N rec23 x0 x1 x2 x3 x4 x5 x6 s0 h = some r) : Zw K (eIH r) h 76 [(0, vr x0), (1, vi x1), (2, vi x2), (3, vi x3), (4, vi x4), (5, vi x5), (6, vi x6)] [vi s0] := by
  unfold bX9_feed_76 at hr
  refine z_istore O [(7, vi s0), (0, vr x0), (1, vi x1), (2, vi x2), (3, vi x3), (4, vi x4), (5, vi x5), (6, vi x6)] dX9_feed_76 (by decide) rfl ?_
  refine z_aload_n O 1 dX9_feed_78 rfl rfl ?_
  refine z_getR O o_Model_tape q1767 dX9_feed_79 hr (fun v1 hr => ?_)
  refine z_aload_n O 1 dX9_feed_82 rfl rfl ?_
  refine z_getI O o_Model_taped q1768 dX9_feed_83 hr (fun v2 hr => ?_)
  refine z_iload O 0 dX9_feed_86 rfl ?_
  refine z_bipush O dX9_feed_88 kbi_24 ?_
  refine z_bipush O dX9_feed_90 kbi_8 ?_
  refine z_iload O 7 dX9_feed_92 rfl ?_
  refine z_iconst O dX9_feed_94 kic_4 ?_
  refine z_irem O dX9_feed_95 hr (fun v3 hr => ?_)
  refine z_imul O dX9_feed_96 ?_
  refine z_isub O dX9_feed_97 ?_
  refine z_ishr O dX9_feed_98 ?_
  refine z_i2b O dX9_feed_99 ?_
  refine z_bastore O dX9_feed_100 hr (fun h4 hr => ?_)
  refine z_aload_n O 1 dX9_feed_101 rfl rfl ?_
  refine z_dup O dX9_feed_102 rfl ?_
  refine z_getI O o_Model_taped q1768 dX9_feed_103 hr (fun v5 hr => ?_)
  refine z_iconst O dX9_feed_106 kic_1 ?_
  refine z_iadd O dX9_feed_107 ?_
  refine z_putI O o_Model_taped (w_Model_taped _) q1768 dX9_feed_108 hr (fun h6 hr => ?_)
  refine z_iincL O 7 (fun v7 => [(6, vi v7), (7, vi s0), (0, vr x0), (1, vi x1), (2, vi x2), (3, vi x3), (4, vi x4), (5, vi x5)]) dX9_feed_111 rfl rfl (by decide) (fun _ => rfl) hr (fun v7 hr => ?_)
  refine z_goto (tgt := 23) O dX9_feed_114 (by decide) ?_
  refine z_sub [2, 3, 4, 5, 6, 7, 0] rfl ?_
  exact hrec23 v7 h6 _ hr
def BX9_feed_23 (N : Nat) (x0 : Option Nat) (x1 : Int32) (x2 : Int32) (x3 : Int32) (x4 : Int32) (x5 : Int32) (rec23 : Int32 → AH → Option (Int32 × AH)) : Int32 → AH → Option (Int32 × AH) := fun x6 h =>
  if (20 : Int32) ≤ x6 then
    (gI h f_Model_taped x0).bind fun v1 =>
    some (v1, h)
  else
    if (4 : Int32) ≤ x6 then
      if (8 : Int32) ≤ x6 then
        if (12 : Int32) ≤ x6 then
          if (16 : Int32) ≤ x6 then
            bX9_feed_76 N rec23 x0 x1 x2 x3 x4 x5 x6 x5 h
          else
            bX9_feed_76 N rec23 x0 x1 x2 x3 x4 x5 x6 x4 h
        else
          bX9_feed_76 N rec23 x0 x1 x2 x3 x4 x5 x6 x3 h
      else
        bX9_feed_76 N rec23 x0 x1 x2 x3 x4 x5 x6 x2 h
    else
      bX9_feed_76 N rec23 x0 x1 x2 x3 x4 x5 x6 x1 h
def LX9_feed_23 (N : Nat) (x0 : Option Nat) (x1 : Int32) (x2 : Int32) (x3 : Int32) (x4 : Int32) (x5 : Int32) : Int32 → AH → Option (Int32 × AH) := lf (fun _ _ => none) (BX9_feed_23 N x0 x1 x2 x3 x4 x5) N
theorem wX9_feed_23B {K : ZC} (O : ZOk K cX9_feed RX9 "feed" 8 (some .int) 1 48) (N : Nat) (x0 : Option Nat) (x1 : Int32) (x2 : Int32) (x3 : Int32) (x4 : Int32) (x5 : Int32) (rec23 : Int32 → AH → Option (Int32 × AH)) (hrec23 : ∀ (y6 : Int32) (hy : AH) (ry : Int32 × AH), rec23 y6 hy = some ry → Zw K (eIH ry) hy 23 [(0, vr x0), (1, vi x1), (2, vi x2), (3, vi x3), (4, vi x4), (5, vi x5), (6, vi y6)] []) (x6 : Int32) (h : AH) (r : Int32 × AH) (hr : BX9_feed_23 N x0 x1 x2 x3 x4 x5 rec23 x6 h = some r) : Zw K (eIH r) h 23 [(0, vr x0), (1, vi x1), (2, vi x2), (3, vi x3), (4, vi x4), (5, vi x5), (6, vi x6)] [] := by
  unfold BX9_feed_23 at hr
  refine z_iload O 6 dX9_feed_23 rfl ?_
  refine z_bipush O dX9_feed_25 kbi_20 ?_
  refine z_icmp_ge (tgt := 117) O dX9_feed_27 (by decide) hr (fun hr => ?_) (fun hr => ?_)
  · refine z_aload_n O 0 dX9_feed_117 rfl rfl ?_
    refine z_getI O o_Model_taped q1768 dX9_feed_118 hr (fun v1 hr => ?_)
    exact z_iret O dX9_feed_121 (by cases hr; rfl)
  · refine z_iload O 6 dX9_feed_30 rfl ?_
    refine z_iconst O dX9_feed_32 kic_4 ?_
    refine z_icmp_ge (tgt := 40) O dX9_feed_33 (by decide) hr (fun hr => ?_) (fun hr => ?_)
    · refine z_iload O 6 dX9_feed_40 rfl ?_
      refine z_bipush O dX9_feed_42 kbi_8 ?_
      refine z_icmp_ge (tgt := 51) O dX9_feed_44 (by decide) hr (fun hr => ?_) (fun hr => ?_)
      · refine z_iload O 6 dX9_feed_51 rfl ?_
        refine z_bipush O dX9_feed_53 kbi_12 ?_
        refine z_icmp_ge (tgt := 62) O dX9_feed_55 (by decide) hr (fun hr => ?_) (fun hr => ?_)
        · refine z_iload O 6 dX9_feed_62 rfl ?_
          refine z_bipush O dX9_feed_64 kbi_16 ?_
          refine z_icmp_ge (tgt := 74) O dX9_feed_66 (by decide) hr (fun hr => ?_) (fun hr => ?_)
          · refine z_iload O 5 dX9_feed_74 rfl ?_
            exact wX9_feed_76 O N rec23 x0 x1 x2 x3 x4 x5 x6 x5 h hrec23 _ hr
          · refine z_iload O 4 dX9_feed_69 rfl ?_
            refine z_goto (tgt := 76) O dX9_feed_71 (by decide) ?_
            exact wX9_feed_76 O N rec23 x0 x1 x2 x3 x4 x5 x6 x4 h hrec23 _ hr
        · refine z_iload_n O 3 dX9_feed_58 rfl rfl ?_
          refine z_goto (tgt := 76) O dX9_feed_59 (by decide) ?_
          exact wX9_feed_76 O N rec23 x0 x1 x2 x3 x4 x5 x6 x3 h hrec23 _ hr
      · refine z_iload_n O 2 dX9_feed_47 rfl rfl ?_
        refine z_goto (tgt := 76) O dX9_feed_48 (by decide) ?_
        exact wX9_feed_76 O N rec23 x0 x1 x2 x3 x4 x5 x6 x2 h hrec23 _ hr
    · refine z_iload_n O 1 dX9_feed_36 rfl rfl ?_
      refine z_goto (tgt := 76) O dX9_feed_37 (by decide) ?_
      exact wX9_feed_76 O N rec23 x0 x1 x2 x3 x4 x5 x6 x1 h hrec23 _ hr
theorem wX9_feed_23 {K : ZC} (O : ZOk K cX9_feed RX9 "feed" 8 (some .int) 1 48) (N : Nat) (x0 : Option Nat) (x1 : Int32) (x2 : Int32) (x3 : Int32) (x4 : Int32) (x5 : Int32) : ∀ (n : Nat) (x6 : Int32) (h : AH) (r : Int32 × AH), lf (fun _ _ => none) (BX9_feed_23 N x0 x1 x2 x3 x4 x5) n x6 h = some r → Zw K (eIH r) h 23 [(0, vr x0), (1, vi x1), (2, vi x2), (3, vi x3), (4, vi x4), (5, vi x5), (6, vi x6)] [] := by
  intro n
  induction n with
  | zero => intro x6 h r hr; cases hr
  | succ n ih => intro x6 h r hr; exact wX9_feed_23B O N x0 x1 x2 x3 x4 x5 (lf (fun _ _ => none) (BX9_feed_23 N x0 x1 x2 x3 x4 x5) n)  ih x6 h r hr
def F_X9_feed (N : Nat) (x0 : Option Nat) (x1 : Int32) (x2 : Int32) (x3 : Int32) (x4 : Int32) (x5 : Int32) (h : AH) : Option (Int32 × AH) :=
  (ck h [9] x0).bind fun _ =>
  (pI h f_Model_thrown x0 (0 : Int32)).bind fun h1 =>
  (gI h1 f_Model_taped x0).bind fun v2 =>
  if (v2 + (20 : Int32)) ≤ (1000 : Int32) then
    LX9_feed_23 N x0 x1 x2 x3 x4 x5 (0 : Int32) h1
  else
    some ((-1 : Int32), h1)
theorem mX9_feed (l : Launch) (G : ZG) (N : Nat) (x0 : Option Nat) (x1 : Int32) (x2 : Int32) (x3 : Int32) (x4 : Int32) (x5 : Int32) (h : AH) (r : Int32 × AH) (hr : F_X9_feed N x0 x1 x2 x3 x4 x5 h = some r) : MZ l G yX9_feed cX9_feed 8 (some .int) 1 48 [vr x0, vi x1, vi x2, vi x3, vi x4, vi x5] h (eIH r) := by
  unfold F_X9_feed at hr
  refine MZ.of (by decide) [(0, vr x0), (1, vi x1), (2, vi x2), (3, vi x3), (4, vi x4), (5, vi x5)] rfl (Nat.le_of_ble_eq_true rfl) (fun K O => ?_)
  have O : ZOk K cX9_feed RX9 "feed" 8 (some .int) 1 48 := O
  refine bs hr (fun _ hck hr => ?_)
  refine z_aload_n O 0 dX9_feed_0 rfl rfl ?_
  refine z_iconst O dX9_feed_1 kic_0 ?_
  refine z_putI O o_Model_thrown (w_Model_thrown _) q1762 dX9_feed_2 hr (fun h1 hr => ?_)
  refine z_aload_n O 0 dX9_feed_5 rfl rfl ?_
  refine z_getI O o_Model_taped q1768 dX9_feed_6 hr (fun v2 hr => ?_)
  refine z_bipush O dX9_feed_9 kbi_20 ?_
  refine z_iadd O dX9_feed_11 ?_
  refine z_sipush O dX9_feed_12 ksi_1000 ?_
  refine z_icmp_le (tgt := 20) O dX9_feed_15 (by decide) hr (fun hr => ?_) (fun hr => ?_)
  · refine z_iconst O dX9_feed_20 kic_0 ?_
    refine z_istore O [(6, vi (0 : Int32)), (0, vr x0), (1, vi x1), (2, vi x2), (3, vi x3), (4, vi x4), (5, vi x5)] dX9_feed_21 (by decide) rfl ?_
    refine z_sub [1, 2, 3, 4, 5, 6, 0] rfl ?_
    exact wX9_feed_23 O N x0 x1 x2 x3 x4 x5 _ (0 : Int32) h1 _ hr
  · refine z_iconst O dX9_feed_18 kic_m1 ?_
    exact z_iret O dX9_feed_19 (by cases hr; rfl)
theorem fV_X9_isLivedIn : CVf RX9 yX9_isLivedIn cX9_isLivedIn 4 (some .boolean) 2 := ⟨q2525, qs117, q137, q2526, ⟨⟨by decide +kernel, by decide +kernel⟩, by decide +kernel⟩⟩
def BX9_isLivedIn_2 (N : Nat) (x0 : Option Nat) (x1 : Int32) (x2 : Int32) (h : AH) (rec2 : Int32 → Option (Int32)) : Int32 → Option (Int32) := fun x3 =>
  (gR h f_Model_land x0).bind fun v1 =>
  (gI h f_MLand_heirs v1).bind fun v2 =>
  if v2 ≤ x3 then
    zb (0 : Int32)
  else
    (gR h f_Model_land x0).bind fun v3 =>
    (gR h f_MLand_heirHouse v3).bind fun v4 =>
    (aI h 0 v4 x3).bind fun v5 =>
    if v5 = x1 then
      (gR h f_Model_v x0).bind fun v7 =>
      (aI h 0 v7 ((204 : Int32) + x3)).bind fun v8 =>
      if v8 = x2 then
        zb (1 : Int32)
      else
        jlet (x3 + (1 : Int32)) fun v9 =>
        rec2 v9
    else
      jlet (x3 + (1 : Int32)) fun v6 =>
      rec2 v6
def LX9_isLivedIn_2 (N : Nat) (x0 : Option Nat) (x1 : Int32) (x2 : Int32) (h : AH) : Int32 → Option (Int32) := lf (fun _ => none) (BX9_isLivedIn_2 N x0 x1 x2 h) N
theorem wX9_isLivedIn_2B {K : ZC} (O : ZOk K cX9_isLivedIn RX9 "isLivedIn" 4 (some .boolean) 1 48) (N : Nat) (x0 : Option Nat) (x1 : Int32) (x2 : Int32) (h : AH) (rec2 : Int32 → Option (Int32)) (hrec2 : ∀ (y3 : Int32) (ry : Int32), rec2 y3 = some ry → Zw K (eI h ry) h 2 [(0, vr x0), (1, vi x1), (2, vi x2), (3, vi y3)] []) (x3 : Int32) (r : Int32) (hr : BX9_isLivedIn_2 N x0 x1 x2 h rec2 x3 = some r) : Zw K (eI h r) h 2 [(0, vr x0), (1, vi x1), (2, vi x2), (3, vi x3)] [] := by
  unfold BX9_isLivedIn_2 at hr
  refine z_iload_n O 3 dX9_isLivedIn_2 rfl rfl ?_
  refine z_aload_n O 0 dX9_isLivedIn_3 rfl rfl ?_
  refine z_getR O o_Model_land q1765 dX9_isLivedIn_4 hr (fun v1 hr => ?_)
  refine z_getIN O o_MLand_heirs zn1908 dX9_isLivedIn_7 hr (fun v2 hr => ?_)
  refine z_icmp_ge (tgt := 48) O dX9_isLivedIn_10 (by decide) hr (fun hr => ?_) (fun hr => ?_)
  · refine z_iconst O dX9_isLivedIn_48 kic_0 ?_
    obtain ⟨e1, e2, -⟩ := zb_spec hr
    exact z_zret O e2 dX9_isLivedIn_49 (by cases e1; rfl)
  · refine z_aload_n O 0 dX9_isLivedIn_13 rfl rfl ?_
    refine z_getR O o_Model_land q1765 dX9_isLivedIn_14 hr (fun v3 hr => ?_)
    refine z_getRN O o_MLand_heirHouse zn1932 dX9_isLivedIn_17 hr (fun v4 hr => ?_)
    refine z_iload_n O 3 dX9_isLivedIn_20 rfl rfl ?_
    refine z_iaload O dX9_isLivedIn_21 hr (fun v5 hr => ?_)
    refine z_iload_n O 1 dX9_isLivedIn_22 rfl rfl ?_
    refine z_icmp_ne (tgt := 42) O dX9_isLivedIn_23 (by decide) hr (fun hr => ?_) (fun hr => ?_)
    · refine z_aload_n O 0 dX9_isLivedIn_26 rfl rfl ?_
      refine z_getR O o_Model_v q1778 dX9_isLivedIn_27 hr (fun v7 hr => ?_)
      refine z_sipush O dX9_isLivedIn_30 ksi_204 ?_
      refine z_iload_n O 3 dX9_isLivedIn_33 rfl rfl ?_
      refine z_iadd O dX9_isLivedIn_34 ?_
      refine z_iaload O dX9_isLivedIn_35 hr (fun v8 hr => ?_)
      refine z_iload_n O 2 dX9_isLivedIn_36 rfl rfl ?_
      refine z_icmp_ne (tgt := 42) O dX9_isLivedIn_37 (by decide) hr (fun hr => ?_) (fun hr => ?_)
      · refine z_iconst O dX9_isLivedIn_40 kic_1 ?_
        obtain ⟨e1, e2, -⟩ := zb_spec hr
        exact z_zret O e2 dX9_isLivedIn_41 (by cases e1; rfl)
      · refine z_iincL O 3 (fun v9 => [(3, vi v9), (0, vr x0), (1, vi x1), (2, vi x2)]) dX9_isLivedIn_42 rfl rfl (by decide) (fun _ => rfl) hr (fun v9 hr => ?_)
        refine z_goto (tgt := 2) O dX9_isLivedIn_45 (by decide) ?_
        refine z_sub [1, 2, 3, 0] rfl ?_
        exact hrec2 v9 _ hr
    · refine z_iincL O 3 (fun v6 => [(3, vi v6), (0, vr x0), (1, vi x1), (2, vi x2)]) dX9_isLivedIn_42 rfl rfl (by decide) (fun _ => rfl) hr (fun v6 hr => ?_)
      refine z_goto (tgt := 2) O dX9_isLivedIn_45 (by decide) ?_
      refine z_sub [1, 2, 3, 0] rfl ?_
      exact hrec2 v6 _ hr
theorem wX9_isLivedIn_2 {K : ZC} (O : ZOk K cX9_isLivedIn RX9 "isLivedIn" 4 (some .boolean) 1 48) (N : Nat) (x0 : Option Nat) (x1 : Int32) (x2 : Int32) (h : AH) : ∀ (n : Nat) (x3 : Int32) (r : Int32), lf (fun _ => none) (BX9_isLivedIn_2 N x0 x1 x2 h) n x3 = some r → Zw K (eI h r) h 2 [(0, vr x0), (1, vi x1), (2, vi x2), (3, vi x3)] [] := by
  intro n
  induction n with
  | zero => intro x3 r hr; cases hr
  | succ n ih => intro x3 r hr; exact wX9_isLivedIn_2B O N x0 x1 x2 h (lf (fun _ => none) (BX9_isLivedIn_2 N x0 x1 x2 h) n)  ih x3 r hr
def F_X9_isLivedIn (N : Nat) (x0 : Option Nat) (x1 : Int32) (x2 : Int32) (h : AH) : Option (Int32) :=
  (ck h [9] x0).bind fun _ =>
  LX9_isLivedIn_2 N x0 x1 x2 h (0 : Int32)
theorem mX9_isLivedIn (l : Launch) (G : ZG) (N : Nat) (x0 : Option Nat) (x1 : Int32) (x2 : Int32) (h : AH) (r : Int32) (hr : F_X9_isLivedIn N x0 x1 x2 h = some r) : MZ l G yX9_isLivedIn cX9_isLivedIn 4 (some .boolean) 1 48 [vr x0, vi x1, vi x2] h (eI h r) := by
  unfold F_X9_isLivedIn at hr
  refine MZ.of (by decide) [(0, vr x0), (1, vi x1), (2, vi x2)] rfl (Nat.le_of_ble_eq_true rfl) (fun K O => ?_)
  have O : ZOk K cX9_isLivedIn RX9 "isLivedIn" 4 (some .boolean) 1 48 := O
  refine bs hr (fun _ hck hr => ?_)
  refine z_iconst O dX9_isLivedIn_0 kic_0 ?_
  refine z_istore_n O [(3, vi (0 : Int32)), (0, vr x0), (1, vi x1), (2, vi x2)] dX9_isLivedIn_1 rfl (by decide) rfl ?_
  refine z_sub [1, 2, 3, 0] rfl ?_
  exact wX9_isLivedIn_2 O N x0 x1 x2 h _ (0 : Int32) _ hr
theorem fV_X9_fill : CVf RX9 yX9_fill cX9_fill 3 (some .boolean) 2 := ⟨q2576, q2577, q137, q2578, ⟨⟨by decide +kernel, by decide +kernel⟩, by decide +kernel⟩⟩
def F_X9_fill (N : Nat) (x0 : Option Nat) (x1 : Int32) (x2 : Int32) (h : AH) : Option (Int32 × AH) :=
  (ck h [9] x0).bind fun _ =>
  (pI h f_Model_thrown x0 (0 : Int32)).bind fun h1 =>
  (F_X9_isSkin x0 x1 x2 h1).bind fun v2 =>
  if v2 = 0 then
    b2 (F_X9_denied x0 (1 : Int32) h1) fun v27 h26 =>
    (zb v27).bind fun v28 => some (v28, h26)
  else
    (gR h1 f_Model_v x0).bind fun v3 =>
    (F_X9_part x1 x2 (6 : Int32)).bind fun v4 =>
    (aI h1 0 v3 v4).bind fun v5 =>
    if v5 = (1 : Int32) then
      b2 (F_X9_denied x0 (5 : Int32) h1) fun v7 h6 =>
      (zb v7).bind fun v8 => some (v8, h6)
    else
      (gR h1 f_Model_v x0).bind fun v9 =>
      (F_X9_part x1 x2 (5 : Int32)).bind fun v10 =>
      (aI h1 0 v9 v10).bind fun v11 =>
      if v11 = (1 : Int32) then
        b2 (F_X9_denied x0 (5 : Int32) h1) fun v13 h12 =>
        (zb v13).bind fun v14 => some (v14, h12)
      else
        (F_X9_isLivedIn N x0 x1 x2 h1).bind fun v15 =>
        if v15 = 0 then
          (F_X9_keeps N x0 h1).bind fun h16 =>
          (gR h16 f_Model_v x0).bind fun v17 =>
          (F_X9_part x1 x2 (6 : Int32)).bind fun v18 =>
          (sA h16 0 v17 v18 (1 : Int32)).bind fun h19 =>
          b2 (F_X9_granted x0 h19) fun v21 h20 =>
          (zb v21).bind fun v22 => some (v22, h20)
        else
          b2 (F_X9_denied x0 (5 : Int32) h1) fun v24 h23 =>
          (zb v24).bind fun v25 => some (v25, h23)
theorem mX9_fill (l : Launch) (G : ZG) (N : Nat) (x0 : Option Nat) (x1 : Int32) (x2 : Int32) (h : AH) (r : Int32 × AH) (hr : F_X9_fill N x0 x1 x2 h = some r) : MZ l G yX9_fill cX9_fill 3 (some .boolean) 3 91 [vr x0, vi x1, vi x2] h (eIH r) := by
  unfold F_X9_fill at hr
  refine MZ.of (by decide) [(0, vr x0), (1, vi x1), (2, vi x2)] rfl (Nat.le_of_ble_eq_true rfl) (fun K O => ?_)
  have O : ZOk K cX9_fill RX9 "fill" 3 (some .boolean) 3 91 := O
  refine bs hr (fun _ hck hr => ?_)
  refine z_aload_n O 0 dX9_fill_0 rfl rfl ?_
  refine z_iconst O dX9_fill_1 kic_0 ?_
  refine z_putI O o_Model_thrown (w_Model_thrown _) q1762 dX9_fill_2 hr (fun h1 hr => ?_)
  refine z_aload_n O 0 dX9_fill_5 rfl rfl ?_
  refine z_iload_n O 1 dX9_fill_6 rfl rfl ?_
  refine z_iload_n O 2 dX9_fill_7 rfl rfl ?_
  refine bs hr (fun v2 hF hr => ?_)
  refine z_callV O [vi x1, vi x2] (vi v2) fV_X9_isSkin q2319 (fun l G => mX9_isSkin l G x0 x1 x2 h1 _ hF) (zck hF) rfl rfl ⟨Nat.le_of_ble_eq_true rfl, Nat.le_of_ble_eq_true rfl⟩ (Nat.le_of_ble_eq_true rfl) dX9_fill_8 ?_
  refine z_if_ne (tgt := 20) O dX9_fill_11 (by decide) hr (fun hr => ?_) (fun hr => ?_)
  · refine z_aload_n O 0 dX9_fill_14 rfl rfl ?_
    refine z_iconst O dX9_fill_15 kic_1 ?_
    refine b2s hr (fun v27 h26 hF hr => ?_)
    refine z_callV O [vi (1 : Int32)] (vi v27) fV_X9_denied q2579 (fun l G => mX9_denied l G x0 (1 : Int32) h1 _ hF) (zck hF) rfl rfl ⟨Nat.le_of_ble_eq_true rfl, Nat.le_of_ble_eq_true rfl⟩ (Nat.le_of_ble_eq_true rfl) dX9_fill_16 ?_
    refine bs hr (fun v28 e0 hr => ?_)
    obtain ⟨e1, e2, -⟩ := zb_spec e0
    exact z_zret O e2 dX9_fill_19 (by cases hr; cases e1; rfl)
  · refine z_aload_n O 0 dX9_fill_20 rfl rfl ?_
    refine z_getR O o_Model_v q1778 dX9_fill_21 hr (fun v3 hr => ?_)
    refine z_iload_n O 1 dX9_fill_24 rfl rfl ?_
    refine z_iload_n O 2 dX9_fill_25 rfl rfl ?_
    refine z_bipush O dX9_fill_26 kbi_6 ?_
    refine bs hr (fun v4 hF hr => ?_)
    refine z_callS O [vi x1, vi x2, vi (6 : Int32)] (vi v4) fS_X9_part q2223 (fun l G => mX9_part l G x1 x2 (6 : Int32) h1 _ hF) rfl ⟨Nat.le_of_ble_eq_true rfl, Nat.le_of_ble_eq_true rfl⟩ (Nat.le_of_ble_eq_true rfl) dX9_fill_28 ?_
    refine z_iaload O dX9_fill_31 hr (fun v5 hr => ?_)
    refine z_iconst O dX9_fill_32 kic_1 ?_
    refine z_icmp_eq (tgt := 60) O dX9_fill_33 (by decide) hr (fun hr => ?_) (fun hr => ?_)
    · refine z_aload_n O 0 dX9_fill_60 rfl rfl ?_
      refine z_iconst O dX9_fill_61 kic_5 ?_
      refine b2s hr (fun v7 h6 hF hr => ?_)
      refine z_callV O [vi (5 : Int32)] (vi v7) fV_X9_denied q2579 (fun l G => mX9_denied l G x0 (5 : Int32) h1 _ hF) (zck hF) rfl rfl ⟨Nat.le_of_ble_eq_true rfl, Nat.le_of_ble_eq_true rfl⟩ (Nat.le_of_ble_eq_true rfl) dX9_fill_62 ?_
      refine bs hr (fun v8 e0 hr => ?_)
      obtain ⟨e1, e2, -⟩ := zb_spec e0
      exact z_zret O e2 dX9_fill_65 (by cases hr; cases e1; rfl)
    · refine z_aload_n O 0 dX9_fill_36 rfl rfl ?_
      refine z_getR O o_Model_v q1778 dX9_fill_37 hr (fun v9 hr => ?_)
      refine z_iload_n O 1 dX9_fill_40 rfl rfl ?_
      refine z_iload_n O 2 dX9_fill_41 rfl rfl ?_
      refine z_iconst O dX9_fill_42 kic_5 ?_
      refine bs hr (fun v10 hF hr => ?_)
      refine z_callS O [vi x1, vi x2, vi (5 : Int32)] (vi v10) fS_X9_part q2223 (fun l G => mX9_part l G x1 x2 (5 : Int32) h1 _ hF) rfl ⟨Nat.le_of_ble_eq_true rfl, Nat.le_of_ble_eq_true rfl⟩ (Nat.le_of_ble_eq_true rfl) dX9_fill_43 ?_
      refine z_iaload O dX9_fill_46 hr (fun v11 hr => ?_)
      refine z_iconst O dX9_fill_47 kic_1 ?_
      refine z_icmp_eq (tgt := 60) O dX9_fill_48 (by decide) hr (fun hr => ?_) (fun hr => ?_)
      · refine z_aload_n O 0 dX9_fill_60 rfl rfl ?_
        refine z_iconst O dX9_fill_61 kic_5 ?_
        refine b2s hr (fun v13 h12 hF hr => ?_)
        refine z_callV O [vi (5 : Int32)] (vi v13) fV_X9_denied q2579 (fun l G => mX9_denied l G x0 (5 : Int32) h1 _ hF) (zck hF) rfl rfl ⟨Nat.le_of_ble_eq_true rfl, Nat.le_of_ble_eq_true rfl⟩ (Nat.le_of_ble_eq_true rfl) dX9_fill_62 ?_
        refine bs hr (fun v14 e0 hr => ?_)
        obtain ⟨e1, e2, -⟩ := zb_spec e0
        exact z_zret O e2 dX9_fill_65 (by cases hr; cases e1; rfl)
      · refine z_aload_n O 0 dX9_fill_51 rfl rfl ?_
        refine z_iload_n O 1 dX9_fill_52 rfl rfl ?_
        refine z_iload_n O 2 dX9_fill_53 rfl rfl ?_
        refine bs hr (fun v15 hF hr => ?_)
        refine z_callV O [vi x1, vi x2] (vi v15) fV_X9_isLivedIn q2523 (fun l G => mX9_isLivedIn l G N x0 x1 x2 h1 _ hF) (zck hF) rfl rfl ⟨Nat.le_of_ble_eq_true rfl, Nat.le_of_ble_eq_true rfl⟩ (Nat.le_of_ble_eq_true rfl) dX9_fill_54 ?_
        refine z_if_eq (tgt := 66) O dX9_fill_57 (by decide) hr (fun hr => ?_) (fun hr => ?_)
        · refine z_aload_n O 0 dX9_fill_66 rfl rfl ?_
          refine bs hr (fun h16 hF hr => ?_)
          refine z_callVv O [] fV_X9_keeps q2567 (fun l G => mX9_keeps l G N x0 h1 _ hF) (zck hF) rfl rfl ⟨Nat.le_of_ble_eq_true rfl, Nat.le_of_ble_eq_true rfl⟩ (Nat.le_of_ble_eq_true rfl) dX9_fill_67 ?_
          refine z_aload_n O 0 dX9_fill_70 rfl rfl ?_
          refine z_getR O o_Model_v q1778 dX9_fill_71 hr (fun v17 hr => ?_)
          refine z_iload_n O 1 dX9_fill_74 rfl rfl ?_
          refine z_iload_n O 2 dX9_fill_75 rfl rfl ?_
          refine z_bipush O dX9_fill_76 kbi_6 ?_
          refine bs hr (fun v18 hF hr => ?_)
          refine z_callS O [vi x1, vi x2, vi (6 : Int32)] (vi v18) fS_X9_part q2223 (fun l G => mX9_part l G x1 x2 (6 : Int32) h16 _ hF) rfl ⟨Nat.le_of_ble_eq_true rfl, Nat.le_of_ble_eq_true rfl⟩ (Nat.le_of_ble_eq_true rfl) dX9_fill_78 ?_
          refine z_iconst O dX9_fill_81 kic_1 ?_
          refine z_iastore O dX9_fill_82 hr (fun h19 hr => ?_)
          refine z_aload_n O 0 dX9_fill_83 rfl rfl ?_
          refine b2s hr (fun v21 h20 hF hr => ?_)
          refine z_callV O [] (vi v21) fV_X9_granted q2583 (fun l G => mX9_granted l G x0 h19 _ hF) (zck hF) rfl rfl ⟨Nat.le_of_ble_eq_true rfl, Nat.le_of_ble_eq_true rfl⟩ (Nat.le_of_ble_eq_true rfl) dX9_fill_84 ?_
          refine bs hr (fun v22 e0 hr => ?_)
          obtain ⟨e1, e2, -⟩ := zb_spec e0
          exact z_zret O e2 dX9_fill_87 (by cases hr; cases e1; rfl)
        · refine z_aload_n O 0 dX9_fill_60 rfl rfl ?_
          refine z_iconst O dX9_fill_61 kic_5 ?_
          refine b2s hr (fun v24 h23 hF hr => ?_)
          refine z_callV O [vi (5 : Int32)] (vi v24) fV_X9_denied q2579 (fun l G => mX9_denied l G x0 (5 : Int32) h1 _ hF) (zck hF) rfl rfl ⟨Nat.le_of_ble_eq_true rfl, Nat.le_of_ble_eq_true rfl⟩ (Nat.le_of_ble_eq_true rfl) dX9_fill_62 ?_
          refine bs hr (fun v25 e0 hr => ?_)
          obtain ⟨e1, e2, -⟩ := zb_spec e0
          exact z_zret O e2 dX9_fill_65 (by cases hr; cases e1; rfl)
theorem fS_X9_allSkins : CSf yX9_allSkins cX9_allSkins 3 (some .int) 1 := ⟨q2466, q137, q2467, ⟨⟨by decide +kernel, by decide +kernel⟩, by decide +kernel⟩⟩
def BX9_allSkins_4 (N : Nat) (x0 : Option Nat) (h : AH) (rec4 : Int32 → Int32 → Option (Int32)) : Int32 → Int32 → Option (Int32) := fun x1 x2 =>
  if (4 : Int32) ≤ x2 then
    some x1
  else
    (aI h 0 x0 ((0 : Int32) + x2)).bind fun v1 =>
    jlet (x1 + v1) fun v2 =>
    jlet (x2 + (1 : Int32)) fun v3 =>
    rec4 v2 v3
def LX9_allSkins_4 (N : Nat) (x0 : Option Nat) (h : AH) : Int32 → Int32 → Option (Int32) := lf (fun _ _ => none) (BX9_allSkins_4 N x0 h) N
theorem wX9_allSkins_4B {K : ZC} (O : ZOk K cX9_allSkins RX9 "allSkins" 3 (some .int) 1 48) (N : Nat) (x0 : Option Nat) (h : AH) (rec4 : Int32 → Int32 → Option (Int32)) (hrec4 : ∀ (y1 : Int32) (y2 : Int32) (ry : Int32), rec4 y1 y2 = some ry → Zw K (eI h ry) h 4 [(0, vr x0), (1, vi y1), (2, vi y2)] []) (x1 : Int32) (x2 : Int32) (r : Int32) (hr : BX9_allSkins_4 N x0 h rec4 x1 x2 = some r) : Zw K (eI h r) h 4 [(0, vr x0), (1, vi x1), (2, vi x2)] [] := by
  unfold BX9_allSkins_4 at hr
  refine z_iload_n O 2 dX9_allSkins_4 rfl rfl ?_
  refine z_iconst O dX9_allSkins_5 kic_4 ?_
  refine z_icmp_ge (tgt := 23) O dX9_allSkins_6 (by decide) hr (fun hr => ?_) (fun hr => ?_)
  · refine z_iload_n O 1 dX9_allSkins_23 rfl rfl ?_
    exact z_iret O dX9_allSkins_24 (by cases hr; rfl)
  · refine z_iload_n O 1 dX9_allSkins_9 rfl rfl ?_
    refine z_aload_n O 0 dX9_allSkins_10 rfl rfl ?_
    refine z_iconst O dX9_allSkins_11 kic_0 ?_
    refine z_iload_n O 2 dX9_allSkins_12 rfl rfl ?_
    refine z_iadd O dX9_allSkins_13 ?_
    refine z_iaload O dX9_allSkins_14 hr (fun v1 hr => ?_)
    refine z_iadd O dX9_allSkins_15 ?_
    refine z_letI hr (fun v2 hr => ?_)
    refine z_istore_n O [(1, vi v2), (0, vr x0), (2, vi x2)] dX9_allSkins_16 rfl (by decide) rfl ?_
    refine z_iincL O 2 (fun v3 => [(2, vi v3), (1, vi v2), (0, vr x0)]) dX9_allSkins_17 rfl rfl (by decide) (fun _ => rfl) hr (fun v3 hr => ?_)
    refine z_goto (tgt := 4) O dX9_allSkins_20 (by decide) ?_
    refine z_sub [2, 1, 0] rfl ?_
    exact hrec4 v2 v3 _ hr
theorem wX9_allSkins_4 {K : ZC} (O : ZOk K cX9_allSkins RX9 "allSkins" 3 (some .int) 1 48) (N : Nat) (x0 : Option Nat) (h : AH) : ∀ (n : Nat) (x1 : Int32) (x2 : Int32) (r : Int32), lf (fun _ _ => none) (BX9_allSkins_4 N x0 h) n x1 x2 = some r → Zw K (eI h r) h 4 [(0, vr x0), (1, vi x1), (2, vi x2)] [] := by
  intro n
  induction n with
  | zero => intro x1 x2 r hr; cases hr
  | succ n ih => intro x1 x2 r hr; exact wX9_allSkins_4B O N x0 h (lf (fun _ _ => none) (BX9_allSkins_4 N x0 h) n)  ih x1 x2 r hr
def F_X9_allSkins (N : Nat) (x0 : Option Nat) (h : AH) : Option (Int32) :=
  LX9_allSkins_4 N x0 h (0 : Int32) (0 : Int32)
theorem mX9_allSkins (l : Launch) (G : ZG) (N : Nat) (x0 : Option Nat) (h : AH) (r : Int32) (hr : F_X9_allSkins N x0 h = some r) : MZ l G yX9_allSkins cX9_allSkins 3 (some .int) 1 48 [vr x0] h (eI h r) := by
  unfold F_X9_allSkins at hr
  refine MZ.of (by decide) [(0, vr x0)] rfl (Nat.le_of_ble_eq_true rfl) (fun K O => ?_)
  have O : ZOk K cX9_allSkins RX9 "allSkins" 3 (some .int) 1 48 := O
  refine z_iconst O dX9_allSkins_0 kic_0 ?_
  refine z_istore_n O [(1, vi (0 : Int32)), (0, vr x0)] dX9_allSkins_1 rfl (by decide) rfl ?_
  refine z_iconst O dX9_allSkins_2 kic_0 ?_
  refine z_istore_n O [(2, vi (0 : Int32)), (1, vi (0 : Int32)), (0, vr x0)] dX9_allSkins_3 rfl (by decide) rfl ?_
  refine z_sub [2, 1, 0] rfl ?_
  exact wX9_allSkins_4 O N x0 h _ (0 : Int32) (0 : Int32) _ hr
theorem fS_X9_swaps : CSf yX9_swaps cX9_swaps 4 (none : Option Jvm.ClassFile.FieldType) 3 := ⟨q2496, q137, q2497, ⟨⟨by decide +kernel, by decide +kernel⟩, by decide +kernel⟩⟩
def F_X9_swaps (x0 : Option Nat) (x1 : Int32) (x2 : Int32) (h : AH) : Option (AH) :=
  (aI h 0 x0 x1).bind fun v1 =>
  (aI h 0 x0 x2).bind fun v2 =>
  (sA h 0 x0 x1 v2).bind fun h3 =>
  (sA h3 0 x0 x2 v1).bind fun h4 =>
  some h4
theorem mX9_swaps (l : Launch) (G : ZG) (x0 : Option Nat) (x1 : Int32) (x2 : Int32) (h : AH) (r : AH) (hr : F_X9_swaps x0 x1 x2 h = some r) : MZ l G yX9_swaps cX9_swaps 4 (none : Option Jvm.ClassFile.FieldType) 1 48 [vr x0, vi x1, vi x2] h (eH r) := by
  unfold F_X9_swaps at hr
  refine MZ.of (by decide) [(0, vr x0), (1, vi x1), (2, vi x2)] rfl (Nat.le_of_ble_eq_true rfl) (fun K O => ?_)
  have O : ZOk K cX9_swaps RX9 "swaps" 4 (none : Option Jvm.ClassFile.FieldType) 1 48 := O
  refine z_aload_n O 0 dX9_swaps_0 rfl rfl ?_
  refine z_iload_n O 1 dX9_swaps_1 rfl rfl ?_
  refine z_iaload O dX9_swaps_2 hr (fun v1 hr => ?_)
  refine z_istore_n O [(3, vi v1), (0, vr x0), (1, vi x1), (2, vi x2)] dX9_swaps_3 rfl (by decide) rfl ?_
  refine z_aload_n O 1 dX9_swaps_4 rfl rfl ?_
  refine z_iload_n O 2 dX9_swaps_5 rfl rfl ?_
  refine z_aload_n O 1 dX9_swaps_6 rfl rfl ?_
  refine z_iload_n O 3 dX9_swaps_7 rfl rfl ?_
  refine z_iaload O dX9_swaps_8 hr (fun v2 hr => ?_)
  refine z_iastore O dX9_swaps_9 hr (fun h3 hr => ?_)
  refine z_aload_n O 1 dX9_swaps_10 rfl rfl ?_
  refine z_iload_n O 3 dX9_swaps_11 rfl rfl ?_
  refine z_iload_n O 0 dX9_swaps_12 rfl rfl ?_
  refine z_iastore O dX9_swaps_13 hr (fun h4 hr => ?_)
  exact z_vret O dX9_swaps_14 (by cases hr; rfl)
theorem fS_X9_turns : CSf yX9_turns cX9_turns 6 (some .boolean) 2 := ⟨q2493, q137, q2494, ⟨⟨by decide +kernel, by decide +kernel⟩, by decide +kernel⟩⟩
def BX9_turns_66 (N : Nat) (x0 : Option Nat) (rec66 : Int32 → Int32 → AH → Option (Int32 × AH)) : Int32 → Int32 → AH → Option (Int32 × AH) := fun x4 x5 h =>
  if x5 ≤ x4 then
    (zb (1 : Int32)).bind fun v1 => some (v1, h)
  else
    (F_X9_swaps x0 x4 x5 h).bind fun h2 =>
    jlet (x4 + (1 : Int32)) fun v3 =>
    jlet (x5 + (-1 : Int32)) fun v4 =>
    rec66 v3 v4 h2
def LX9_turns_66 (N : Nat) (x0 : Option Nat) : Int32 → Int32 → AH → Option (Int32 × AH) := lf (fun _ _ _ => none) (BX9_turns_66 N x0) N
theorem wX9_turns_66B {K : ZC} (O : ZOk K cX9_turns RX9 "turns" 6 (some .boolean) 2 71) (N : Nat) (x0 : Option Nat) (rec66 : Int32 → Int32 → AH → Option (Int32 × AH)) (hrec66 : ∀ (y4 : Int32) (y5 : Int32) (hy : AH) (ry : Int32 × AH), rec66 y4 y5 hy = some ry → Zw K (eIH ry) hy 66 [(0, vr x0), (4, vi y4), (5, vi y5)] []) (x4 : Int32) (x5 : Int32) (h : AH) (r : Int32 × AH) (hr : BX9_turns_66 N x0 rec66 x4 x5 h = some r) : Zw K (eIH r) h 66 [(0, vr x0), (4, vi x4), (5, vi x5)] [] := by
  unfold BX9_turns_66 at hr
  refine z_iload O 1 dX9_turns_66 rfl ?_
  refine z_iload O 2 dX9_turns_68 rfl ?_
  refine z_icmp_ge (tgt := 90) O dX9_turns_70 (by decide) hr (fun hr => ?_) (fun hr => ?_)
  · refine z_iconst O dX9_turns_90 kic_1 ?_
    refine bs hr (fun v1 e0 hr => ?_)
    obtain ⟨e1, e2, -⟩ := zb_spec e0
    exact z_zret O e2 dX9_turns_91 (by cases hr; cases e1; rfl)
  · refine z_aload_n O 0 dX9_turns_73 rfl rfl ?_
    refine z_iload O 1 dX9_turns_74 rfl ?_
    refine z_iload O 2 dX9_turns_76 rfl ?_
    refine bs hr (fun h2 hF hr => ?_)
    refine z_callSv O [vr x0, vi x4, vi x5] fS_X9_swaps q2495 (fun l G => mX9_swaps l G x0 x4 x5 h _ hF) rfl ⟨Nat.le_of_ble_eq_true rfl, Nat.le_of_ble_eq_true rfl⟩ (Nat.le_of_ble_eq_true rfl) dX9_turns_78 ?_
    refine z_iincL O 1 (fun v3 => [(4, vi v3), (0, vr x0), (5, vi x5)]) dX9_turns_81 rfl rfl (by decide) (fun _ => rfl) hr (fun v3 hr => ?_)
    refine z_iincL O 2 (fun v4 => [(5, vi v4), (4, vi v3), (0, vr x0)]) dX9_turns_84 rfl rfl (by decide) (fun _ => rfl) hr (fun v4 hr => ?_)
    refine z_goto (tgt := 66) O dX9_turns_87 (by decide) ?_
    refine z_sub [2, 1, 0] rfl ?_
    exact hrec66 v3 v4 h2 _ hr
theorem wX9_turns_66 {K : ZC} (O : ZOk K cX9_turns RX9 "turns" 6 (some .boolean) 2 71) (N : Nat) (x0 : Option Nat) : ∀ (n : Nat) (x4 : Int32) (x5 : Int32) (h : AH) (r : Int32 × AH), lf (fun _ _ _ => none) (BX9_turns_66 N x0) n x4 x5 h = some r → Zw K (eIH r) h 66 [(0, vr x0), (4, vi x4), (5, vi x5)] [] := by
  intro n
  induction n with
  | zero => intro x4 x5 h r hr; cases hr
  | succ n ih => intro x4 x5 h r hr; exact wX9_turns_66B O N x0 (lf (fun _ _ _ => none) (BX9_turns_66 N x0) n)  ih x4 x5 h r hr
def BX9_turns_35 (N : Nat) (x0 : Option Nat) (x1 : Int32) (x2 : Int32) (rec35 : Int32 → AH → Option (Int32 × AH)) : Int32 → AH → Option (Int32 × AH) := fun x3 h =>
  (aI h 0 x0 x3).bind fun v1 =>
  (aI h 0 x0 x2).bind fun v2 =>
  if v2 ≤ v1 then
    (F_X9_swaps x0 x2 x3 h).bind fun h3 =>
    jlet (x2 + (1 : Int32)) fun v4 =>
    jlet (x1 - (1 : Int32)) fun v5 =>
    LX9_turns_66 N x0 v4 v5 h3
  else
    jlet (x3 + (-1 : Int32)) fun v6 =>
    rec35 v6 h
def LX9_turns_35 (N : Nat) (x0 : Option Nat) (x1 : Int32) (x2 : Int32) : Int32 → AH → Option (Int32 × AH) := lf (fun _ _ => none) (BX9_turns_35 N x0 x1 x2) N
theorem wX9_turns_35B {K : ZC} (O : ZOk K cX9_turns RX9 "turns" 6 (some .boolean) 2 71) (N : Nat) (x0 : Option Nat) (x1 : Int32) (x2 : Int32) (rec35 : Int32 → AH → Option (Int32 × AH)) (hrec35 : ∀ (y3 : Int32) (hy : AH) (ry : Int32 × AH), rec35 y3 hy = some ry → Zw K (eIH ry) hy 35 [(0, vr x0), (1, vi x1), (2, vi x2), (3, vi y3)] []) (x3 : Int32) (h : AH) (r : Int32 × AH) (hr : BX9_turns_35 N x0 x1 x2 rec35 x3 h = some r) : Zw K (eIH r) h 35 [(0, vr x0), (1, vi x1), (2, vi x2), (3, vi x3)] [] := by
  unfold BX9_turns_35 at hr
  refine z_aload_n O 0 dX9_turns_35 rfl rfl ?_
  refine z_iload_n O 3 dX9_turns_36 rfl rfl ?_
  refine z_iaload O dX9_turns_37 hr (fun v1 hr => ?_)
  refine z_aload_n O 0 dX9_turns_38 rfl rfl ?_
  refine z_iload_n O 2 dX9_turns_39 rfl rfl ?_
  refine z_iaload O dX9_turns_40 hr (fun v2 hr => ?_)
  refine z_icmp_ge (tgt := 50) O dX9_turns_41 (by decide) hr (fun hr => ?_) (fun hr => ?_)
  · refine z_aload_n O 0 dX9_turns_50 rfl rfl ?_
    refine z_iload_n O 2 dX9_turns_51 rfl rfl ?_
    refine z_iload_n O 3 dX9_turns_52 rfl rfl ?_
    refine bs hr (fun h3 hF hr => ?_)
    refine z_callSv O [vr x0, vi x2, vi x3] fS_X9_swaps q2495 (fun l G => mX9_swaps l G x0 x2 x3 h _ hF) rfl ⟨Nat.le_of_ble_eq_true rfl, Nat.le_of_ble_eq_true rfl⟩ (Nat.le_of_ble_eq_true rfl) dX9_turns_53 ?_
    refine z_iload_n O 2 dX9_turns_56 rfl rfl ?_
    refine z_iconst O dX9_turns_57 kic_1 ?_
    refine z_iadd O dX9_turns_58 ?_
    refine z_letI hr (fun v4 hr => ?_)
    refine z_istore O [(4, vi v4), (0, vr x0), (1, vi x1), (2, vi x2), (3, vi x3)] dX9_turns_59 (by decide) rfl ?_
    refine z_iload_n O 2 dX9_turns_61 rfl rfl ?_
    refine z_iconst O dX9_turns_62 kic_1 ?_
    refine z_isub O dX9_turns_63 ?_
    refine z_letI hr (fun v5 hr => ?_)
    refine z_istore O [(5, vi v5), (4, vi v4), (0, vr x0), (1, vi x1), (2, vi x2), (3, vi x3)] dX9_turns_64 (by decide) rfl ?_
    refine z_sub [2, 1, 0] rfl ?_
    exact wX9_turns_66 O N x0 _ v4 v5 h3 _ hr
  · refine z_iincL O 3 (fun v6 => [(3, vi v6), (0, vr x0), (1, vi x1), (2, vi x2)]) dX9_turns_44 rfl rfl (by decide) (fun _ => rfl) hr (fun v6 hr => ?_)
    refine z_goto (tgt := 35) O dX9_turns_47 (by decide) ?_
    refine z_sub [1, 2, 3, 0] rfl ?_
    exact hrec35 v6 h _ hr
theorem wX9_turns_35 {K : ZC} (O : ZOk K cX9_turns RX9 "turns" 6 (some .boolean) 2 71) (N : Nat) (x0 : Option Nat) (x1 : Int32) (x2 : Int32) : ∀ (n : Nat) (x3 : Int32) (h : AH) (r : Int32 × AH), lf (fun _ _ => none) (BX9_turns_35 N x0 x1 x2) n x3 h = some r → Zw K (eIH r) h 35 [(0, vr x0), (1, vi x1), (2, vi x2), (3, vi x3)] [] := by
  intro n
  induction n with
  | zero => intro x3 h r hr; cases hr
  | succ n ih => intro x3 h r hr; exact wX9_turns_35B O N x0 x1 x2 (lf (fun _ _ => none) (BX9_turns_35 N x0 x1 x2) n)  ih x3 h r hr
def bX9_turns_25 (N : Nat) (x0 : Option Nat) (x1 : Int32) (x2 : Int32) (h : AH) : Option (Int32 × AH) :=
  if 0 ≤ x2 then
    jlet (x1 - (1 : Int32)) fun v1 =>
    LX9_turns_35 N x0 x1 x2 v1 h
  else
    (zb (0 : Int32)).bind fun v2 => some (v2, h)
theorem wX9_turns_25 {K : ZC} (O : ZOk K cX9_turns RX9 "turns" 6 (some .boolean) 2 71) (N : Nat) (x0 : Option Nat) (x1 : Int32) (x2 : Int32) (h : AH) (r : Int32 × AH) (hr : bX9_turns_25 N x0 x1 x2 h = some r) : Zw K (eIH r) h 25 [(0, vr x0), (1, vi x1), (2, vi x2)] [] := by
  unfold bX9_turns_25 at hr
  refine z_iload_n O 2 dX9_turns_25 rfl rfl ?_
  refine z_if_ge (tgt := 31) O dX9_turns_26 (by decide) hr (fun hr => ?_) (fun hr => ?_)
  · refine z_iload_n O 1 dX9_turns_31 rfl rfl ?_
    refine z_iconst O dX9_turns_32 kic_1 ?_
    refine z_isub O dX9_turns_33 ?_
    refine z_letI hr (fun v1 hr => ?_)
    refine z_istore_n O [(3, vi v1), (0, vr x0), (1, vi x1), (2, vi x2)] dX9_turns_34 rfl (by decide) rfl ?_
    refine z_sub [1, 2, 3, 0] rfl ?_
    exact wX9_turns_35 O N x0 x1 x2 _ v1 h _ hr
  · refine z_iconst O dX9_turns_29 kic_0 ?_
    refine bs hr (fun v2 e0 hr => ?_)
    obtain ⟨e1, e2, -⟩ := zb_spec e0
    exact z_zret O e2 dX9_turns_30 (by cases hr; cases e1; rfl)
def BX9_turns_4 (N : Nat) (x0 : Option Nat) (x1 : Int32) (rec4 : Int32 → AH → Option (Int32 × AH)) : Int32 → AH → Option (Int32 × AH) := fun x2 h =>
  if x2 < 0 then
    bX9_turns_25 N x0 x1 x2 h
  else
    (aI h 0 x0 x2).bind fun v1 =>
    (aI h 0 x0 (x2 + (1 : Int32))).bind fun v2 =>
    if v1 ≤ v2 then
      bX9_turns_25 N x0 x1 x2 h
    else
      jlet (x2 + (-1 : Int32)) fun v3 =>
      rec4 v3 h
def LX9_turns_4 (N : Nat) (x0 : Option Nat) (x1 : Int32) : Int32 → AH → Option (Int32 × AH) := lf (fun _ _ => none) (BX9_turns_4 N x0 x1) N
theorem wX9_turns_4B {K : ZC} (O : ZOk K cX9_turns RX9 "turns" 6 (some .boolean) 2 71) (N : Nat) (x0 : Option Nat) (x1 : Int32) (rec4 : Int32 → AH → Option (Int32 × AH)) (hrec4 : ∀ (y2 : Int32) (hy : AH) (ry : Int32 × AH), rec4 y2 hy = some ry → Zw K (eIH ry) hy 4 [(0, vr x0), (1, vi x1), (2, vi y2)] []) (x2 : Int32) (h : AH) (r : Int32 × AH) (hr : BX9_turns_4 N x0 x1 rec4 x2 h = some r) : Zw K (eIH r) h 4 [(0, vr x0), (1, vi x1), (2, vi x2)] [] := by
  unfold BX9_turns_4 at hr
  refine z_iload_n O 2 dX9_turns_4 rfl rfl ?_
  refine z_if_lt (tgt := 25) O dX9_turns_5 (by decide) hr (fun hr => ?_) (fun hr => ?_)
  · exact wX9_turns_25 O N x0 x1 x2 h _ hr
  · refine z_aload_n O 0 dX9_turns_8 rfl rfl ?_
    refine z_iload_n O 2 dX9_turns_9 rfl rfl ?_
    refine z_iaload O dX9_turns_10 hr (fun v1 hr => ?_)
    refine z_aload_n O 0 dX9_turns_11 rfl rfl ?_
    refine z_iload_n O 2 dX9_turns_12 rfl rfl ?_
    refine z_iconst O dX9_turns_13 kic_1 ?_
    refine z_iadd O dX9_turns_14 ?_
    refine z_iaload O dX9_turns_15 hr (fun v2 hr => ?_)
    refine z_icmp_le (tgt := 25) O dX9_turns_16 (by decide) hr (fun hr => ?_) (fun hr => ?_)
    · exact wX9_turns_25 O N x0 x1 x2 h _ hr
    · refine z_iincL O 2 (fun v3 => [(2, vi v3), (0, vr x0), (1, vi x1)]) dX9_turns_19 rfl rfl (by decide) (fun _ => rfl) hr (fun v3 hr => ?_)
      refine z_goto (tgt := 4) O dX9_turns_22 (by decide) ?_
      refine z_sub [1, 2, 0] rfl ?_
      exact hrec4 v3 h _ hr
theorem wX9_turns_4 {K : ZC} (O : ZOk K cX9_turns RX9 "turns" 6 (some .boolean) 2 71) (N : Nat) (x0 : Option Nat) (x1 : Int32) : ∀ (n : Nat) (x2 : Int32) (h : AH) (r : Int32 × AH), lf (fun _ _ => none) (BX9_turns_4 N x0 x1) n x2 h = some r → Zw K (eIH r) h 4 [(0, vr x0), (1, vi x1), (2, vi x2)] [] := by
  intro n
  induction n with
  | zero => intro x2 h r hr; cases hr
  | succ n ih => intro x2 h r hr; exact wX9_turns_4B O N x0 x1 (lf (fun _ _ => none) (BX9_turns_4 N x0 x1) n)  ih x2 h r hr
def F_X9_turns (N : Nat) (x0 : Option Nat) (x1 : Int32) (h : AH) : Option (Int32 × AH) :=
  jlet (x1 - (2 : Int32)) fun v1 =>
  LX9_turns_4 N x0 x1 v1 h
theorem mX9_turns (l : Launch) (G : ZG) (N : Nat) (x0 : Option Nat) (x1 : Int32) (h : AH) (r : Int32 × AH) (hr : F_X9_turns N x0 x1 h = some r) : MZ l G yX9_turns cX9_turns 6 (some .boolean) 2 71 [vr x0, vi x1] h (eIH r) := by
  unfold F_X9_turns at hr
  refine MZ.of (by decide) [(0, vr x0), (1, vi x1)] rfl (Nat.le_of_ble_eq_true rfl) (fun K O => ?_)
  have O : ZOk K cX9_turns RX9 "turns" 6 (some .boolean) 2 71 := O
  refine z_iload_n O 1 dX9_turns_0 rfl rfl ?_
  refine z_iconst O dX9_turns_1 kic_2 ?_
  refine z_isub O dX9_turns_2 ?_
  refine z_letI hr (fun v1 hr => ?_)
  refine z_istore_n O [(2, vi v1), (0, vr x0), (1, vi x1)] dX9_turns_3 rfl (by decide) rfl ?_
  refine z_sub [1, 2, 0] rfl ?_
  exact wX9_turns_4 O N x0 x1 _ v1 h _ hr
