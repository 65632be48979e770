/-! walks (printed by gen/desk.py): 26.wlam.lean -/
set_option maxRecDepth 100000
set_option maxHeartbeats 4000000
def wp_X1_lambda_nearest_0 (g : Nat → Nat) (M : Mem) (a0 : Nat) (x1 : Int32) (Q : Int32 → Mem → Prop) : Prop := m_tg M a0 = 7 ∧ wp_X6_mayRepairIn g M a0 x1 (fun (r4 : Int32) (M2 : Mem) => m_le M M2 → ((r4 = 0 ∨ r4 = 1) ∧ Q r4 M2))
theorem bk_X1_lambda_nearest_0_0 (G : Gp) (C : m_Cx) (n0 s0 : Nat) (M0 : Mem) (Q : Int32 → Mem → Prop) (X : m_in G C RX1 cX1_lambda_nearest_0 2 (some .boolean) "lambda$nearest$0" 3 61 n0 s0) (M : Mem) (a0 : Nat) (x1 : Int32) (hw : wp_X1_lambda_nearest_0 G.2 M a0 x1 Q) : pW G C 2 n0 s0 M0 (m_Q G C n0 s0 (va_Qi (m_q1 M0 Q) (m_W G) (m_A G))) M 0 [(0, vR (some a0)), (1, vI x1)] [] := by
  refine pw_aload_n X dX1_lambda_nearest_0_0 rfl rfl ?_
  refine pw_iload_n X dX1_lambda_nearest_0_1 rfl rfl ?_
  obtain ⟨ht1, hw⟩ := hw
  refine pw_runi X (m_cV X (b := a0) (ci := 6) (q := (RX6, TX6, tyX6, 15)) (met_X6_mayRepairIn G C.2.1 M a0 x1 _ hw) ht1 rfl (lw_V q1630 q1631 q1632 q110 q1633) ⟨rfl, nh_X6_mayRepairIn⟩ ⟨Nat.le_of_ble_eq_true rfl, Nat.le_of_ble_eq_true rfl⟩ rfl (Nat.le_of_ble_eq_true rfl) dX1_lambda_nearest_0_2) (fun r4 M2 hle3 hx => ?_)
  replace hw := hx hle3
  clear hx
  have ht5 : m_tg M2 a0 = 7 := m_le_tg hle3 ht1
  exact pw_zret X (m_nz hw.1) hw.2 dX1_lambda_nearest_0_5
theorem met_X1_lambda_nearest_0 (G : Gp) (l : Launch) (M : Mem) (a0 : Nat) (x1 : Int32) (Q : Int32 → Mem → Prop) (hw : wp_X1_lambda_nearest_0 G.2 M a0 x1 Q) : m_K G l yX1_lambda_nearest_0 cX1_lambda_nearest_0 2 (some .boolean) 3 61 [vR (some a0), vI x1] M (va_Qi (m_q1 M Q) (m_W G) (m_A G)) := by
  refine m_met (by decide) (Nat.le_of_ble_eq_true rfl) (fun C e X => ?_)
  exact bk_X1_lambda_nearest_0_0 G C _ _ M Q X M a0 x1 hw
theorem nh_X1_lambda_nearest_0 : m_nMH yX1_lambda_nearest_0 2 := by decide +kernel

def wp_X1_lambda_nearest_1 (g : Nat → Nat) (M : Mem) (a0 : Nat) (x1 : Int32) (Q : Int32 → Mem → Prop) : Prop := m_tg M a0 = 7 ∧ wp_X6_mayTowFrom g M a0 x1 (fun (r4 : Int32) (M2 : Mem) => m_le M M2 → ((r4 = 0 ∨ r4 = 1) ∧ Q r4 M2))
theorem bk_X1_lambda_nearest_1_0 (G : Gp) (C : m_Cx) (n0 s0 : Nat) (M0 : Mem) (Q : Int32 → Mem → Prop) (X : m_in G C RX1 cX1_lambda_nearest_1 2 (some .boolean) "lambda$nearest$1" 3 61 n0 s0) (M : Mem) (a0 : Nat) (x1 : Int32) (hw : wp_X1_lambda_nearest_1 G.2 M a0 x1 Q) : pW G C 2 n0 s0 M0 (m_Q G C n0 s0 (va_Qi (m_q1 M0 Q) (m_W G) (m_A G))) M 0 [(0, vR (some a0)), (1, vI x1)] [] := by
  refine pw_aload_n X dX1_lambda_nearest_1_0 rfl rfl ?_
  refine pw_iload_n X dX1_lambda_nearest_1_1 rfl rfl ?_
  obtain ⟨ht1, hw⟩ := hw
  refine pw_runi X (m_cV X (b := a0) (ci := 6) (q := (RX6, TX6, tyX6, 15)) (met_X6_mayTowFrom G C.2.1 M a0 x1 _ hw) ht1 rfl (lw_V q1572 q1573 q1574 q110 q1575) ⟨rfl, nh_X6_mayTowFrom⟩ ⟨Nat.le_of_ble_eq_true rfl, Nat.le_of_ble_eq_true rfl⟩ rfl (Nat.le_of_ble_eq_true rfl) dX1_lambda_nearest_1_2) (fun r4 M2 hle3 hx => ?_)
  replace hw := hx hle3
  clear hx
  have ht5 : m_tg M2 a0 = 7 := m_le_tg hle3 ht1
  exact pw_zret X (m_nz hw.1) hw.2 dX1_lambda_nearest_1_5
theorem met_X1_lambda_nearest_1 (G : Gp) (l : Launch) (M : Mem) (a0 : Nat) (x1 : Int32) (Q : Int32 → Mem → Prop) (hw : wp_X1_lambda_nearest_1 G.2 M a0 x1 Q) : m_K G l yX1_lambda_nearest_1 cX1_lambda_nearest_1 2 (some .boolean) 3 61 [vR (some a0), vI x1] M (va_Qi (m_q1 M Q) (m_W G) (m_A G)) := by
  refine m_met (by decide) (Nat.le_of_ble_eq_true rfl) (fun C e X => ?_)
  exact bk_X1_lambda_nearest_1_0 G C _ _ M Q X M a0 x1 hw
theorem nh_X1_lambda_nearest_1 : m_nMH yX1_lambda_nearest_1 2 := by decide +kernel

def wp_X0_lambda_member_0 (g : Nat → Nat) (M : Mem) (x0 : Int32) (a1 : Nat) (Q : Int32 → Mem → Prop) : Prop := m_tg M a1 = 9 ∧ ((¬ (m_gi M a1 1) = x0 → Q 0 M) ∧ ((m_gi M a1 1) = x0 → Q 1 M))
theorem bk_X0_lambda_member_0_0 (G : Gp) (C : m_Cx) (n0 s0 : Nat) (M0 : Mem) (Q : Int32 → Mem → Prop) (X : m_in G C RX0 cX0_lambda_member_0 2 (some .int) "lambda$member$0" 0 0 n0 s0) (M : Mem) (x0 : Int32) (a1 : Nat) (hw : wp_X0_lambda_member_0 G.2 M x0 a1 Q) : pW G C 2 n0 s0 M0 (m_Q G C n0 s0 (va_Qi (m_q1 M0 Q) (m_W G) (m_A G))) M 0 [(0, vI x0), (1, vR (some a1))] [] := by
  refine pw_aload_n X dX0_lambda_member_0_0 rfl rfl ?_
  obtain ⟨ht1, hw⟩ := hw
  refine pw_getN X (q := (RX8, TX8, tyX8, 13)) (ci := 8) (k := 1) (ref := "PatrolDesk$Call") (host := "PatrolDesk") (vI (m_gi M a1 1)) ht1 rfl (by decide) in_X8 q1212 (Or.inl rfl) rfl dX0_lambda_member_0_1 ?_
  refine pw_iload_n X dX0_lambda_member_0_4 rfl rfl ?_
  refine pw_icmp_ne X 12 dX0_lambda_member_0_5 (by decide) (fun c2 => ?_) (fun c2 => ?_)
  · replace hw := hw.1 c2
    refine pw_iconst X 0 dX0_lambda_member_0_12 (by decide) ?_
    exact pw_iret X hw dX0_lambda_member_0_13
  · replace hw := hw.2 c2
    refine pw_iconst X 1 dX0_lambda_member_0_8 (by decide) ?_
    refine pw_goto X 13 dX0_lambda_member_0_9 (by decide) ?_
    exact pw_iret X hw dX0_lambda_member_0_13
theorem met_X0_lambda_member_0 (G : Gp) (l : Launch) (M : Mem) (x0 : Int32) (a1 : Nat) (Q : Int32 → Mem → Prop) (hw : wp_X0_lambda_member_0 G.2 M x0 a1 Q) : m_K G l yX0_lambda_member_0 cX0_lambda_member_0 2 (some .int) 0 0 [vI x0, vR (some a1)] M (va_Qi (m_q1 M Q) (m_W G) (m_A G)) := by
  refine m_met (by decide) (Nat.le_of_ble_eq_true rfl) (fun C e X => ?_)
  exact bk_X0_lambda_member_0_0 G C _ _ M Q X M x0 a1 hw
theorem nh_X0_lambda_member_0 : m_nMH yX0_lambda_member_0 2 := by decide +kernel

def wp_X0_lambda_member_1 (g : Nat → Nat) (M : Mem) (a0 : Nat) (x1 : Int32) (a2 : Nat) (Q : Int32 → Mem → Prop) : Prop := m_tg M a2 = 9 ∧ ((¬ (m_gi M a2 1) = x1 → Q 0 M) ∧ ((m_gi M a2 1) = x1 → m_tg M a0 = 1 ∧ ∃ u4 : Nat, (m_gr M a0 0) = some u4 ∧ m_tg M u4 = 2 ∧ wp_X8_waited g M a2 (m_gi M u4 7) (fun (r9 : Int32) (M7 : Mem) => m_le M M7 → Q r9 M7)))
theorem bk_X0_lambda_member_1_0 (G : Gp) (C : m_Cx) (n0 s0 : Nat) (M0 : Mem) (Q : Int32 → Mem → Prop) (X : m_in G C RX0 cX0_lambda_member_1 3 (some .int) "lambda$member$1" 1 21 n0 s0) (M : Mem) (a0 : Nat) (x1 : Int32) (a2 : Nat) (hw : wp_X0_lambda_member_1 G.2 M a0 x1 a2 Q) : pW G C 3 n0 s0 M0 (m_Q G C n0 s0 (va_Qi (m_q1 M0 Q) (m_W G) (m_A G))) M 0 [(0, vR (some a0)), (1, vI x1), (2, vR (some a2))] [] := by
  refine pw_aload_n X dX0_lambda_member_1_0 rfl rfl ?_
  obtain ⟨ht1, hw⟩ := hw
  refine pw_getN X (q := (RX8, TX8, tyX8, 13)) (ci := 8) (k := 1) (ref := "PatrolDesk$Call") (host := "PatrolDesk") (vI (m_gi M a2 1)) ht1 rfl (by decide) in_X8 q1212 (Or.inl rfl) rfl dX0_lambda_member_1_1 ?_
  refine pw_iload_n X dX0_lambda_member_1_4 rfl rfl ?_
  refine pw_icmp_ne X 22 dX0_lambda_member_1_5 (by decide) (fun c2 => ?_) (fun c2 => ?_)
  · replace hw := hw.1 c2
    refine pw_iconst X 0 dX0_lambda_member_1_22 (by decide) ?_
    exact pw_iret X hw dX0_lambda_member_1_23
  · replace hw := hw.2 c2
    refine pw_aload_n X dX0_lambda_member_1_8 rfl rfl ?_
    refine pw_aload_n X dX0_lambda_member_1_9 rfl rfl ?_
    obtain ⟨ht3, hw⟩ := hw
    obtain ⟨u4, he5, hw⟩ := hw
    refine pw_get X (q := (RX0, TX0, tyX0, 4)) (ci := 0) (k := 0) (ref := "PatrolDesk") (vR (some u4)) ht3 rfl (by decide) in_X0 q948 (Or.inl rfl) (by rw [he5]; rfl) dX0_lambda_member_1_10 ?_
    obtain ⟨ht6, hw⟩ := hw
    refine pw_getN X (q := (RX1, TX1, tyX1, 8)) (ci := 1) (k := 7) (ref := "PatrolDesk$State") (host := "PatrolDesk") (vI (m_gi M u4 7)) ht6 rfl (by decide) in_X1 q176 (Or.inl rfl) rfl dX0_lambda_member_1_13 ?_
    refine pw_runi X (m_cV X (b := a2) (ci := 8) (q := (RX8, TX8, tyX8, 13)) (met_X8_waited G C.2.1 M a2 (m_gi M u4 7) _ hw) ht1 rfl (lw_V q1410 q1411 q1412 q112 q1413) ⟨rfl, nh_X8_waited⟩ ⟨Nat.le_of_ble_eq_true rfl, Nat.le_of_ble_eq_true rfl⟩ rfl (Nat.le_of_ble_eq_true rfl) dX0_lambda_member_1_16) (fun r9 M7 hle8 hx => ?_)
    replace hw := hx hle8
    clear hx
    have ht10 : m_tg M7 a2 = 9 := m_le_tg hle8 ht1
    have ht11 : m_tg M7 a0 = 1 := m_le_tg hle8 ht3
    have ht12 : m_tg M7 u4 = 2 := m_le_tg hle8 ht6
    refine pw_goto X 23 dX0_lambda_member_1_19 (by decide) ?_
    exact pw_iret X hw dX0_lambda_member_1_23
theorem met_X0_lambda_member_1 (G : Gp) (l : Launch) (M : Mem) (a0 : Nat) (x1 : Int32) (a2 : Nat) (Q : Int32 → Mem → Prop) (hw : wp_X0_lambda_member_1 G.2 M a0 x1 a2 Q) : m_K G l yX0_lambda_member_1 cX0_lambda_member_1 3 (some .int) 1 21 [vR (some a0), vI x1, vR (some a2)] M (va_Qi (m_q1 M Q) (m_W G) (m_A G)) := by
  refine m_met (by decide) (Nat.le_of_ble_eq_true rfl) (fun C e X => ?_)
  exact bk_X0_lambda_member_1_0 G C _ _ M Q X M a0 x1 a2 hw
theorem nh_X0_lambda_member_1 : m_nMH yX0_lambda_member_1 2 := by decide +kernel

def wp_X0_lambda_member_2 (g : Nat → Nat) (M : Mem) (x0 : Int32) (a1 : Nat) (Q : Int32 → Mem → Prop) : Prop := m_tg M a1 = 9 ∧ ((¬ (m_gi M a1 1) = x0 → Q 0 M) ∧ ((m_gi M a1 1) = x0 → (((m_gi M a1 5) = 0 → Q 0 M) ∧ (¬ (m_gi M a1 5) = 0 → Q 1 M))))
theorem bk_X0_lambda_member_2_0 (G : Gp) (C : m_Cx) (n0 s0 : Nat) (M0 : Mem) (Q : Int32 → Mem → Prop) (X : m_in G C RX0 cX0_lambda_member_2 2 (some .int) "lambda$member$2" 0 0 n0 s0) (M : Mem) (x0 : Int32) (a1 : Nat) (hw : wp_X0_lambda_member_2 G.2 M x0 a1 Q) : pW G C 2 n0 s0 M0 (m_Q G C n0 s0 (va_Qi (m_q1 M0 Q) (m_W G) (m_A G))) M 0 [(0, vI x0), (1, vR (some a1))] [] := by
  refine pw_aload_n X dX0_lambda_member_2_0 rfl rfl ?_
  obtain ⟨ht1, hw⟩ := hw
  refine pw_getN X (q := (RX8, TX8, tyX8, 13)) (ci := 8) (k := 1) (ref := "PatrolDesk$Call") (host := "PatrolDesk") (vI (m_gi M a1 1)) ht1 rfl (by decide) in_X8 q1212 (Or.inl rfl) rfl dX0_lambda_member_2_1 ?_
  refine pw_iload_n X dX0_lambda_member_2_4 rfl rfl ?_
  refine pw_icmp_ne X 19 dX0_lambda_member_2_5 (by decide) (fun c2 => ?_) (fun c2 => ?_)
  · replace hw := hw.1 c2
    refine pw_iconst X 0 dX0_lambda_member_2_19 (by decide) ?_
    exact pw_iret X hw dX0_lambda_member_2_20
  · replace hw := hw.2 c2
    refine pw_aload_n X dX0_lambda_member_2_8 rfl rfl ?_
    refine pw_getN X (q := (RX8, TX8, tyX8, 13)) (ci := 8) (k := 5) (ref := "PatrolDesk$Call") (host := "PatrolDesk") (vI (m_gi M a1 5)) ht1 rfl (by decide) in_X8 q1223 (Or.inl rfl) rfl dX0_lambda_member_2_9 ?_
    refine pw_if_eq X 19 dX0_lambda_member_2_12 (by decide) (fun c3 => ?_) (fun c3 => ?_)
    · replace hw := hw.1 c3
      refine pw_iconst X 0 dX0_lambda_member_2_19 (by decide) ?_
      exact pw_iret X hw dX0_lambda_member_2_20
    · replace hw := hw.2 c3
      refine pw_iconst X 1 dX0_lambda_member_2_15 (by decide) ?_
      refine pw_goto X 20 dX0_lambda_member_2_16 (by decide) ?_
      exact pw_iret X hw dX0_lambda_member_2_20
theorem met_X0_lambda_member_2 (G : Gp) (l : Launch) (M : Mem) (x0 : Int32) (a1 : Nat) (Q : Int32 → Mem → Prop) (hw : wp_X0_lambda_member_2 G.2 M x0 a1 Q) : m_K G l yX0_lambda_member_2 cX0_lambda_member_2 2 (some .int) 0 0 [vI x0, vR (some a1)] M (va_Qi (m_q1 M Q) (m_W G) (m_A G)) := by
  refine m_met (by decide) (Nat.le_of_ble_eq_true rfl) (fun C e X => ?_)
  exact bk_X0_lambda_member_2_0 G C _ _ M Q X M x0 a1 hw
theorem nh_X0_lambda_member_2 : m_nMH yX0_lambda_member_2 2 := by decide +kernel

def wp_X0_lambda_member_3 (g : Nat → Nat) (M : Mem) (x0 : Int32) (a1 : Nat) (Q : Int32 → Mem → Prop) : Prop := m_tg M a1 = 9 ∧ ((¬ (m_gi M a1 1) = x0 → Q 0 M) ∧ ((m_gi M a1 1) = x0 → (((m_gi M a1 9) = (-5) → Q 0 M) ∧ (¬ (m_gi M a1 9) = (-5) → wp_X8_waited g M a1 0 (fun (r6 : Int32) (M4 : Mem) => m_le M M4 → ((r6 ≤ (m_gi M4 a1 3) → Q 0 M4) ∧ (¬ r6 ≤ (m_gi M4 a1 3) → Q 1 M4)))))))
theorem bk_X0_lambda_member_3_0 (G : Gp) (C : m_Cx) (n0 s0 : Nat) (M0 : Mem) (Q : Int32 → Mem → Prop) (X : m_in G C RX0 cX0_lambda_member_3 2 (some .int) "lambda$member$3" 1 21 n0 s0) (M : Mem) (x0 : Int32) (a1 : Nat) (hw : wp_X0_lambda_member_3 G.2 M x0 a1 Q) : pW G C 2 n0 s0 M0 (m_Q G C n0 s0 (va_Qi (m_q1 M0 Q) (m_W G) (m_A G))) M 0 [(0, vI x0), (1, vR (some a1))] [] := by
  refine pw_aload_n X dX0_lambda_member_3_0 rfl rfl ?_
  obtain ⟨ht1, hw⟩ := hw
  refine pw_getN X (q := (RX8, TX8, tyX8, 13)) (ci := 8) (k := 1) (ref := "PatrolDesk$Call") (host := "PatrolDesk") (vI (m_gi M a1 1)) ht1 rfl (by decide) in_X8 q1212 (Or.inl rfl) rfl dX0_lambda_member_3_1 ?_
  refine pw_iload_n X dX0_lambda_member_3_4 rfl rfl ?_
  refine pw_icmp_ne X 33 dX0_lambda_member_3_5 (by decide) (fun c2 => ?_) (fun c2 => ?_)
  · replace hw := hw.1 c2
    refine pw_iconst X 0 dX0_lambda_member_3_33 (by decide) ?_
    exact pw_iret X hw dX0_lambda_member_3_34
  · replace hw := hw.2 c2
    refine pw_aload_n X dX0_lambda_member_3_8 rfl rfl ?_
    refine pw_getN X (q := (RX8, TX8, tyX8, 13)) (ci := 8) (k := 9) (ref := "PatrolDesk$Call") (host := "PatrolDesk") (vI (m_gi M a1 9)) ht1 rfl (by decide) in_X8 q1235 (Or.inl rfl) rfl dX0_lambda_member_3_9 ?_
    refine pw_bipush X (-5) dX0_lambda_member_3_12 (by decide) ?_
    refine pw_icmp_eq X 33 dX0_lambda_member_3_14 (by decide) (fun c3 => ?_) (fun c3 => ?_)
    · replace hw := hw.1 c3
      refine pw_iconst X 0 dX0_lambda_member_3_33 (by decide) ?_
      exact pw_iret X hw dX0_lambda_member_3_34
    · replace hw := hw.2 c3
      refine pw_aload_n X dX0_lambda_member_3_17 rfl rfl ?_
      refine pw_iconst X 0 dX0_lambda_member_3_18 (by decide) ?_
      refine pw_runi X (m_cV X (b := a1) (ci := 8) (q := (RX8, TX8, tyX8, 13)) (met_X8_waited G C.2.1 M a1 0 _ hw) ht1 rfl (lw_V q1410 q1411 q1412 q112 q1413) ⟨rfl, nh_X8_waited⟩ ⟨Nat.le_of_ble_eq_true rfl, Nat.le_of_ble_eq_true rfl⟩ rfl (Nat.le_of_ble_eq_true rfl) dX0_lambda_member_3_19) (fun r6 M4 hle5 hx => ?_)
      replace hw := hx hle5
      clear hx
      have ht7 : m_tg M4 a1 = 9 := m_le_tg hle5 ht1
      refine pw_aload_n X dX0_lambda_member_3_22 rfl rfl ?_
      refine pw_getN X (q := (RX8, TX8, tyX8, 13)) (ci := 8) (k := 3) (ref := "PatrolDesk$Call") (host := "PatrolDesk") (vI (m_gi M4 a1 3)) ht7 rfl (by decide) in_X8 q1218 (Or.inl rfl) rfl dX0_lambda_member_3_23 ?_
      refine pw_icmp_le X 33 dX0_lambda_member_3_26 (by decide) (fun c8 => ?_) (fun c8 => ?_)
      · replace hw := hw.1 c8
        refine pw_iconst X 0 dX0_lambda_member_3_33 (by decide) ?_
        exact pw_iret X hw dX0_lambda_member_3_34
      · replace hw := hw.2 c8
        refine pw_iconst X 1 dX0_lambda_member_3_29 (by decide) ?_
        refine pw_goto X 34 dX0_lambda_member_3_30 (by decide) ?_
        exact pw_iret X hw dX0_lambda_member_3_34
theorem met_X0_lambda_member_3 (G : Gp) (l : Launch) (M : Mem) (x0 : Int32) (a1 : Nat) (Q : Int32 → Mem → Prop) (hw : wp_X0_lambda_member_3 G.2 M x0 a1 Q) : m_K G l yX0_lambda_member_3 cX0_lambda_member_3 2 (some .int) 1 21 [vI x0, vR (some a1)] M (va_Qi (m_q1 M Q) (m_W G) (m_A G)) := by
  refine m_met (by decide) (Nat.le_of_ble_eq_true rfl) (fun C e X => ?_)
  exact bk_X0_lambda_member_3_0 G C _ _ M Q X M x0 a1 hw
theorem nh_X0_lambda_member_3 : m_nMH yX0_lambda_member_3 2 := by decide +kernel

def wp_X0_lambda_count_4 (g : Nat → Nat) (M : Mem) (x0 : Int32) (a1 : Nat) (Q : Int32 → Mem → Prop) : Prop := m_tg M a1 = 9 ∧ ((¬ (m_gi M a1 7) = (x0 - 7) → Q 0 M) ∧ ((m_gi M a1 7) = (x0 - 7) → Q 1 M))
theorem bk_X0_lambda_count_4_0 (G : Gp) (C : m_Cx) (n0 s0 : Nat) (M0 : Mem) (Q : Int32 → Mem → Prop) (X : m_in G C RX0 cX0_lambda_count_4 2 (some .int) "lambda$count$4" 0 0 n0 s0) (M : Mem) (x0 : Int32) (a1 : Nat) (hw : wp_X0_lambda_count_4 G.2 M x0 a1 Q) : pW G C 2 n0 s0 M0 (m_Q G C n0 s0 (va_Qi (m_q1 M0 Q) (m_W G) (m_A G))) M 0 [(0, vI x0), (1, vR (some a1))] [] := by
  refine pw_aload_n X dX0_lambda_count_4_0 rfl rfl ?_
  obtain ⟨ht1, hw⟩ := hw
  refine pw_getN X (q := (RX8, TX8, tyX8, 13)) (ci := 8) (k := 7) (ref := "PatrolDesk$Call") (host := "PatrolDesk") (vI (m_gi M a1 7)) ht1 rfl (by decide) in_X8 q1229 (Or.inl rfl) rfl dX0_lambda_count_4_1 ?_
  refine pw_iload_n X dX0_lambda_count_4_4 rfl rfl ?_
  refine pw_bipush X 7 dX0_lambda_count_4_5 (by decide) ?_
  refine pw_isub X dX0_lambda_count_4_7 ?_
  refine pw_icmp_ne X 15 dX0_lambda_count_4_8 (by decide) (fun c2 => ?_) (fun c2 => ?_)
  · replace hw := hw.1 c2
    refine pw_iconst X 0 dX0_lambda_count_4_15 (by decide) ?_
    exact pw_iret X hw dX0_lambda_count_4_16
  · replace hw := hw.2 c2
    refine pw_iconst X 1 dX0_lambda_count_4_11 (by decide) ?_
    refine pw_goto X 16 dX0_lambda_count_4_12 (by decide) ?_
    exact pw_iret X hw dX0_lambda_count_4_16
theorem met_X0_lambda_count_4 (G : Gp) (l : Launch) (M : Mem) (x0 : Int32) (a1 : Nat) (Q : Int32 → Mem → Prop) (hw : wp_X0_lambda_count_4 G.2 M x0 a1 Q) : m_K G l yX0_lambda_count_4 cX0_lambda_count_4 2 (some .int) 0 0 [vI x0, vR (some a1)] M (va_Qi (m_q1 M Q) (m_W G) (m_A G)) := by
  refine m_met (by decide) (Nat.le_of_ble_eq_true rfl) (fun C e X => ?_)
  exact bk_X0_lambda_count_4_0 G C _ _ M Q X M x0 a1 hw
theorem nh_X0_lambda_count_4 : m_nMH yX0_lambda_count_4 2 := by decide +kernel

def wp_X0_lambda_count_5 (g : Nat → Nat) (M : Mem) (a0 : Nat) (a1 : Nat) (Q : Int32 → Mem → Prop) : Prop := m_tg M a0 = 1 ∧ ∃ u2 : Nat, (m_gr M a0 0) = some u2 ∧ m_tg M u2 = 2 ∧ m_tg M a1 = 9 ∧ wp_X8_waited g M a1 (m_gi M u2 7) (fun (r8 : Int32) (M6 : Mem) => m_le M M6 → Q r8 M6)
theorem bk_X0_lambda_count_5_0 (G : Gp) (C : m_Cx) (n0 s0 : Nat) (M0 : Mem) (Q : Int32 → Mem → Prop) (X : m_in G C RX0 cX0_lambda_count_5 2 (some .int) "lambda$count$5" 1 21 n0 s0) (M : Mem) (a0 : Nat) (a1 : Nat) (hw : wp_X0_lambda_count_5 G.2 M a0 a1 Q) : pW G C 2 n0 s0 M0 (m_Q G C n0 s0 (va_Qi (m_q1 M0 Q) (m_W G) (m_A G))) M 0 [(0, vR (some a0)), (1, vR (some a1))] [] := by
  refine pw_aload_n X dX0_lambda_count_5_0 rfl rfl ?_
  refine pw_aload_n X dX0_lambda_count_5_1 rfl rfl ?_
  obtain ⟨ht1, hw⟩ := hw
  obtain ⟨u2, he3, hw⟩ := hw
  refine pw_get X (q := (RX0, TX0, tyX0, 4)) (ci := 0) (k := 0) (ref := "PatrolDesk") (vR (some u2)) ht1 rfl (by decide) in_X0 q948 (Or.inl rfl) (by rw [he3]; rfl) dX0_lambda_count_5_2 ?_
  obtain ⟨ht4, hw⟩ := hw
  refine pw_getN X (q := (RX1, TX1, tyX1, 8)) (ci := 1) (k := 7) (ref := "PatrolDesk$State") (host := "PatrolDesk") (vI (m_gi M u2 7)) ht4 rfl (by decide) in_X1 q176 (Or.inl rfl) rfl dX0_lambda_count_5_5 ?_
  obtain ⟨ht5, hw⟩ := hw
  refine pw_runi X (m_cV X (b := a1) (ci := 8) (q := (RX8, TX8, tyX8, 13)) (met_X8_waited G C.2.1 M a1 (m_gi M u2 7) _ hw) ht5 rfl (lw_V q1410 q1411 q1412 q112 q1413) ⟨rfl, nh_X8_waited⟩ ⟨Nat.le_of_ble_eq_true rfl, Nat.le_of_ble_eq_true rfl⟩ rfl (Nat.le_of_ble_eq_true rfl) dX0_lambda_count_5_8) (fun r8 M6 hle7 hx => ?_)
  replace hw := hx hle7
  clear hx
  have ht9 : m_tg M6 a0 = 1 := m_le_tg hle7 ht1
  have ht10 : m_tg M6 u2 = 2 := m_le_tg hle7 ht4
  have ht11 : m_tg M6 a1 = 9 := m_le_tg hle7 ht5
  exact pw_iret X hw dX0_lambda_count_5_11
theorem met_X0_lambda_count_5 (G : Gp) (l : Launch) (M : Mem) (a0 : Nat) (a1 : Nat) (Q : Int32 → Mem → Prop) (hw : wp_X0_lambda_count_5 G.2 M a0 a1 Q) : m_K G l yX0_lambda_count_5 cX0_lambda_count_5 2 (some .int) 1 21 [vR (some a0), vR (some a1)] M (va_Qi (m_q1 M Q) (m_W G) (m_A G)) := by
  refine m_met (by decide) (Nat.le_of_ble_eq_true rfl) (fun C e X => ?_)
  exact bk_X0_lambda_count_5_0 G C _ _ M Q X M a0 a1 hw
theorem nh_X0_lambda_count_5 : m_nMH yX0_lambda_count_5 1 := by decide +kernel

def wp_X0_lambda_count_6 (g : Nat → Nat) (M : Mem) (a0 : Nat) (Q : Int32 → Mem → Prop) : Prop := m_tg M a0 = 9 ∧ (((m_gi M a0 5) = 0 → Q 0 M) ∧ (¬ (m_gi M a0 5) = 0 → Q 1 M))
theorem bk_X0_lambda_count_6_0 (G : Gp) (C : m_Cx) (n0 s0 : Nat) (M0 : Mem) (Q : Int32 → Mem → Prop) (X : m_in G C RX0 cX0_lambda_count_6 1 (some .int) "lambda$count$6" 0 0 n0 s0) (M : Mem) (a0 : Nat) (hw : wp_X0_lambda_count_6 G.2 M a0 Q) : pW G C 1 n0 s0 M0 (m_Q G C n0 s0 (va_Qi (m_q1 M0 Q) (m_W G) (m_A G))) M 0 [(0, vR (some a0))] [] := by
  refine pw_aload_n X dX0_lambda_count_6_0 rfl rfl ?_
  obtain ⟨ht1, hw⟩ := hw
  refine pw_getN X (q := (RX8, TX8, tyX8, 13)) (ci := 8) (k := 5) (ref := "PatrolDesk$Call") (host := "PatrolDesk") (vI (m_gi M a0 5)) ht1 rfl (by decide) in_X8 q1223 (Or.inl rfl) rfl dX0_lambda_count_6_1 ?_
  refine pw_if_eq X 11 dX0_lambda_count_6_4 (by decide) (fun c2 => ?_) (fun c2 => ?_)
  · replace hw := hw.1 c2
    refine pw_iconst X 0 dX0_lambda_count_6_11 (by decide) ?_
    exact pw_iret X hw dX0_lambda_count_6_12
  · replace hw := hw.2 c2
    refine pw_iconst X 1 dX0_lambda_count_6_7 (by decide) ?_
    refine pw_goto X 12 dX0_lambda_count_6_8 (by decide) ?_
    exact pw_iret X hw dX0_lambda_count_6_12
theorem met_X0_lambda_count_6 (G : Gp) (l : Launch) (M : Mem) (a0 : Nat) (Q : Int32 → Mem → Prop) (hw : wp_X0_lambda_count_6 G.2 M a0 Q) : m_K G l yX0_lambda_count_6 cX0_lambda_count_6 1 (some .int) 0 0 [vR (some a0)] M (va_Qi (m_q1 M Q) (m_W G) (m_A G)) := by
  refine m_met (by decide) (Nat.le_of_ble_eq_true rfl) (fun C e X => ?_)
  exact bk_X0_lambda_count_6_0 G C _ _ M Q X M a0 hw
theorem nh_X0_lambda_count_6 : m_nMH yX0_lambda_count_6 1 := by decide +kernel
