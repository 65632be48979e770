/-! walks (printed by gen/desk.py): 22.wsmall.lean -/
set_option maxRecDepth 100000
set_option maxHeartbeats 4000000
def wp_X0_inRange (g : Nat → Nat) (M : Mem) (x0 : Int32) (x1 : Int32) (x2 : Int32) (Q : Int32 → Mem → Prop) : Prop := ((x0 < x1 → Q 0 M) ∧ (¬ x0 < x1 → ((x2 < x0 → Q 0 M) ∧ (¬ x2 < x0 → Q 1 M))))
theorem bk_X0_inRange_0 (G : Gp) (C : m_Cx) (n0 s0 : Nat) (M0 : Mem) (Q : Int32 → Mem → Prop) (X : m_in G C RX0 cX0_inRange 3 (some .boolean) "inRange" 0 0 n0 s0) (M : Mem) (x0 : Int32) (x1 : Int32) (x2 : Int32) (hw : wp_X0_inRange G.2 M x0 x1 x2 Q) : pW G C 3 n0 s0 M0 (m_Q G C n0 s0 (va_Qi (m_q1 M0 Q) (m_W G) (m_A G))) M 0 [(0, vI x0), (1, vI x1), (2, vI x2)] [] := by
  refine pw_iload_n X dX0_inRange_0 rfl rfl ?_
  refine pw_iload_n X dX0_inRange_1 rfl rfl ?_
  refine pw_icmp_lt X 14 dX0_inRange_2 (by decide) (fun c1 => ?_) (fun c1 => ?_)
  · replace hw := hw.1 c1
    refine pw_iconst X 0 dX0_inRange_14 (by decide) ?_
    exact pw_zret X (by decide) hw dX0_inRange_15
  · replace hw := hw.2 c1
    refine pw_iload_n X dX0_inRange_5 rfl rfl ?_
    refine pw_iload_n X dX0_inRange_6 rfl rfl ?_
    refine pw_icmp_gt X 14 dX0_inRange_7 (by decide) (fun c2 => ?_) (fun c2 => ?_)
    · replace hw := hw.1 c2
      refine pw_iconst X 0 dX0_inRange_14 (by decide) ?_
      exact pw_zret X (by decide) hw dX0_inRange_15
    · replace hw := hw.2 c2
      refine pw_iconst X 1 dX0_inRange_10 (by decide) ?_
      refine pw_goto X 15 dX0_inRange_11 (by decide) ?_
      exact pw_zret X (by decide) hw dX0_inRange_15
theorem met_X0_inRange (G : Gp) (l : Launch) (M : Mem) (x0 : Int32) (x1 : Int32) (x2 : Int32) (Q : Int32 → Mem → Prop) (hw : wp_X0_inRange G.2 M x0 x1 x2 Q) : m_K G l yX0_inRange cX0_inRange 3 (some .boolean) 0 0 [vI x0, vI x1, vI x2] M (va_Qi (m_q1 M Q) (m_W G) (m_A G)) := by
  refine m_met (by decide) (Nat.le_of_ble_eq_true rfl) (fun C e X => ?_)
  exact bk_X0_inRange_0 G C _ _ M Q X M x0 x1 x2 hw
theorem nh_X0_inRange : m_nMH yX0_inRange 3 := by decide +kernel

def wp_X0_isArea (g : Nat → Nat) (M : Mem) (x0 : Int32) (Q : Int32 → Mem → Prop) : Prop := wp_X0_inRange g M x0 0 11 (fun (r3 : Int32) (M1 : Mem) => m_le M M1 → ((r3 = 0 ∨ r3 = 1) ∧ Q r3 M1))
theorem bk_X0_isArea_0 (G : Gp) (C : m_Cx) (n0 s0 : Nat) (M0 : Mem) (Q : Int32 → Mem → Prop) (X : m_in G C RX0 cX0_isArea 1 (some .boolean) "isArea" 1 22 n0 s0) (M : Mem) (x0 : Int32) (hw : wp_X0_isArea G.2 M x0 Q) : pW G C 1 n0 s0 M0 (m_Q G C n0 s0 (va_Qi (m_q1 M0 Q) (m_W G) (m_A G))) M 0 [(0, vI x0)] [] := by
  refine pw_iload_n X dX0_isArea_0 rfl rfl ?_
  refine pw_iconst X 0 dX0_isArea_1 (by decide) ?_
  refine pw_bipush X 11 dX0_isArea_2 (by decide) ?_
  refine pw_runi X (m_cS X (met_X0_inRange G C.2.1 M x0 0 11 _ hw) (lw_S q968 q969 q78 q970) nh_X0_inRange ⟨Nat.le_of_ble_eq_true rfl, Nat.le_of_ble_eq_true rfl⟩ rfl (Nat.le_of_ble_eq_true rfl) dX0_isArea_4) (fun r3 M1 hle2 hx => ?_)
  replace hw := hx hle2
  clear hx
  exact pw_zret X (m_nz hw.1) hw.2 dX0_isArea_7
theorem met_X0_isArea (G : Gp) (l : Launch) (M : Mem) (x0 : Int32) (Q : Int32 → Mem → Prop) (hw : wp_X0_isArea G.2 M x0 Q) : m_K G l yX0_isArea cX0_isArea 1 (some .boolean) 1 22 [vI x0] M (va_Qi (m_q1 M Q) (m_W G) (m_A G)) := by
  refine m_met (by decide) (Nat.le_of_ble_eq_true rfl) (fun C e X => ?_)
  exact bk_X0_isArea_0 G C _ _ M Q X M x0 hw
theorem nh_X0_isArea : m_nMH yX0_isArea 1 := by decide +kernel

def wp_X0_regionOf (g : Nat → Nat) (M : Mem) (x0 : Int32) (Q : Int32 → Mem → Prop) : Prop := Q (x0 / 4) M
theorem bk_X0_regionOf_0 (G : Gp) (C : m_Cx) (n0 s0 : Nat) (M0 : Mem) (Q : Int32 → Mem → Prop) (X : m_in G C RX0 cX0_regionOf 1 (some .int) "regionOf" 0 0 n0 s0) (M : Mem) (x0 : Int32) (hw : wp_X0_regionOf G.2 M x0 Q) : pW G C 1 n0 s0 M0 (m_Q G C n0 s0 (va_Qi (m_q1 M0 Q) (m_W G) (m_A G))) M 0 [(0, vI x0)] [] := by
  refine pw_iload_n X dX0_regionOf_0 rfl rfl ?_
  refine pw_iconst X 4 dX0_regionOf_1 (by decide) ?_
  refine pw_idiv X dX0_regionOf_2 (by decide) ?_
  exact pw_iret X hw dX0_regionOf_3
theorem met_X0_regionOf (G : Gp) (l : Launch) (M : Mem) (x0 : Int32) (Q : Int32 → Mem → Prop) (hw : wp_X0_regionOf G.2 M x0 Q) : m_K G l yX0_regionOf cX0_regionOf 1 (some .int) 0 0 [vI x0] M (va_Qi (m_q1 M Q) (m_W G) (m_A G)) := by
  refine m_met (by decide) (Nat.le_of_ble_eq_true rfl) (fun C e X => ?_)
  exact bk_X0_regionOf_0 G C _ _ M Q X M x0 hw
theorem nh_X0_regionOf : m_nMH yX0_regionOf 1 := by decide +kernel

def wp_X5_init (g : Nat → Nat) (M : Mem) (a0 : Nat) (x1 : Int32) (Q : Mem → Prop) : Prop := m_tg M a0 = 6 ∧ ∀ M2 : Mem, M2 = (m_pi M a0 3 (-5)) → ∀ M6 : Mem, M6 = (m_pi M2 a0 0 x1) → Q M6
theorem bk_X5_init_0 (G : Gp) (C : m_Cx) (n0 s0 : Nat) (M0 : Mem) (Q : Mem → Prop) (X : m_in G C RX5 cX5_init 2 none "<init>" 1 12 n0 s0) (M : Mem) (a0 : Nat) (x1 : Int32) (hw : wp_X5_init G.2 M a0 x1 Q) : pW G C 2 n0 s0 M0 (m_Q G C n0 s0 (va_Qv (m_q0 M0 Q) (m_W G) (m_A G))) M 0 [(0, vR (some a0)), (1, vI x1)] [] := by
  refine pw_aload_n X dX5_init_0 rfl rfl ?_
  refine pw_objInit X rfl q1050 q127 q128 dX5_init_1 (Nat.le_of_ble_eq_true rfl) (Nat.le_of_ble_eq_true rfl) ?_
  refine pw_aload_n X dX5_init_4 rfl rfl ?_
  refine pw_bipush X (-5) dX5_init_5 (by decide) ?_
  obtain ⟨ht1, hw⟩ := hw
  obtain ⟨M2, hM3⟩ : ∃ z : Mem, z = (m_pi M a0 3 (-5)) := ⟨_, rfl⟩
  replace hw := hw M2 hM3
  refine pw_put X (q := (RX5, TX5, tyX5, 5)) (ci := 5) (k := 3) (ref := "PatrolDesk$Member") M2 hM3.symm ht1 rfl (by decide) in_X5 tyX5_ok nmX5 q1060 (Or.inl rfl) rfl (m_kd_i (fun _ _ => rfl)) rfl rfl dX5_init_7 ?_
  have hle4 : m_le M M2 := by rw [hM3]; exact m_le_pi
  have ht5 : m_tg M2 a0 = 6 := m_le_tg hle4 ht1
  refine pw_aload_n X dX5_init_10 rfl rfl ?_
  refine pw_iload_n X dX5_init_11 rfl rfl ?_
  obtain ⟨M6, hM7⟩ : ∃ z : Mem, z = (m_pi M2 a0 0 x1) := ⟨_, rfl⟩
  replace hw := hw M6 hM7
  refine pw_putF X (q := (RX5, TX5, tyX5, 5)) (ci := 5) (k := 0) (ref := "PatrolDesk$Member") M6 hM7.symm ht5 rfl (by decide) in_X5 tyX5_ok nmX5 q1051 (Or.inl rfl) rfl rfl rfl (m_kd_i (fun _ _ => rfl)) rfl rfl dX5_init_12 ?_
  have hle8 : m_le M2 M6 := by rw [hM7]; exact m_le_pi
  have ht9 : m_tg M6 a0 = 6 := m_le_tg hle8 ht5
  exact pw_vret X hw dX5_init_15
theorem met_X5_init (G : Gp) (l : Launch) (M : Mem) (a0 : Nat) (x1 : Int32) (Q : Mem → Prop) (hw : wp_X5_init G.2 M a0 x1 Q) : m_K G l yX5_init cX5_init 2 none 1 12 [vR (some a0), vI x1] M (va_Qv (m_q0 M Q) (m_W G) (m_A G)) := by
  refine m_met (by decide) (Nat.le_of_ble_eq_true rfl) (fun C e X => ?_)
  exact bk_X5_init_0 G C _ _ M Q X M a0 x1 hw
theorem nh_X5_init : m_nMH yX5_init 1 := by decide +kernel

def wp_X5_isCallback (g : Nat → Nat) (M : Mem) (a0 : Nat) (x1 : Int32) (Q : Int32 → Mem → Prop) : Prop := m_tg M a0 = 6 ∧ (((m_gi M a0 3) = (-5) → Q 0 M) ∧ (¬ (m_gi M a0 3) = (-5) → ((120 < (x1 - (m_gi M a0 4)) → Q 0 M) ∧ (¬ 120 < (x1 - (m_gi M a0 4)) → Q 1 M))))
theorem bk_X5_isCallback_0 (G : Gp) (C : m_Cx) (n0 s0 : Nat) (M0 : Mem) (Q : Int32 → Mem → Prop) (X : m_in G C RX5 cX5_isCallback 2 (some .boolean) "isCallback" 0 0 n0 s0) (M : Mem) (a0 : Nat) (x1 : Int32) (hw : wp_X5_isCallback G.2 M a0 x1 Q) : pW G C 2 n0 s0 M0 (m_Q G C n0 s0 (va_Qi (m_q1 M0 Q) (m_W G) (m_A G))) M 0 [(0, vR (some a0)), (1, vI x1)] [] := by
  refine pw_aload_n X dX5_isCallback_0 rfl rfl ?_
  obtain ⟨ht1, hw⟩ := hw
  refine pw_get X (q := (RX5, TX5, tyX5, 5)) (ci := 5) (k := 3) (ref := "PatrolDesk$Member") (vI (m_gi M a0 3)) ht1 rfl (by decide) in_X5 q1060 (Or.inl rfl) rfl dX5_isCallback_1 ?_
  refine pw_bipush X (-5) dX5_isCallback_4 (by decide) ?_
  refine pw_icmp_eq X 24 dX5_isCallback_6 (by decide) (fun c2 => ?_) (fun c2 => ?_)
  · replace hw := hw.1 c2
    refine pw_iconst X 0 dX5_isCallback_24 (by decide) ?_
    exact pw_zret X (by decide) hw dX5_isCallback_25
  · replace hw := hw.2 c2
    refine pw_iload_n X dX5_isCallback_9 rfl rfl ?_
    refine pw_aload_n X dX5_isCallback_10 rfl rfl ?_
    refine pw_get X (q := (RX5, TX5, tyX5, 5)) (ci := 5) (k := 4) (ref := "PatrolDesk$Member") (vI (m_gi M a0 4)) ht1 rfl (by decide) in_X5 q1062 (Or.inl rfl) rfl dX5_isCallback_11 ?_
    refine pw_isub X dX5_isCallback_14 ?_
    refine pw_bipush X 120 dX5_isCallback_15 (by decide) ?_
    refine pw_icmp_gt X 24 dX5_isCallback_17 (by decide) (fun c3 => ?_) (fun c3 => ?_)
    · replace hw := hw.1 c3
      refine pw_iconst X 0 dX5_isCallback_24 (by decide) ?_
      exact pw_zret X (by decide) hw dX5_isCallback_25
    · replace hw := hw.2 c3
      refine pw_iconst X 1 dX5_isCallback_20 (by decide) ?_
      refine pw_goto X 25 dX5_isCallback_21 (by decide) ?_
      exact pw_zret X (by decide) hw dX5_isCallback_25
theorem met_X5_isCallback (G : Gp) (l : Launch) (M : Mem) (a0 : Nat) (x1 : Int32) (Q : Int32 → Mem → Prop) (hw : wp_X5_isCallback G.2 M a0 x1 Q) : m_K G l yX5_isCallback cX5_isCallback 2 (some .boolean) 0 0 [vR (some a0), vI x1] M (va_Qi (m_q1 M Q) (m_W G) (m_A G)) := by
  refine m_met (by decide) (Nat.le_of_ble_eq_true rfl) (fun C e X => ?_)
  exact bk_X5_isCallback_0 G C _ _ M Q X M a0 x1 hw
theorem nh_X5_isCallback : m_nMH yX5_isCallback 1 := by decide +kernel

def wp_X5_fee_b36 (g : Nat → Nat) (M : Mem) (sx0 : Int32) (sx1 : Int32) (sx2 : Int32) (Q : Int32 → Mem → Prop) : Prop := Q (if sx0 < (sx1 - sx2) then (sx1 - sx2) else sx0) M
def wp_X5_fee_b27 (g : Nat → Nat) (M : Mem) (lx1 : Int32) (sx0 : Int32) (sx1 : Int32) (Q : Int32 → Mem → Prop) : Prop := ((lx1 = 0 → wp_X5_fee_b36 g M sx0 sx1 0 Q) ∧ (¬ lx1 = 0 → wp_X5_fee_b36 g M sx0 sx1 5 Q))
def wp_X5_fee (g : Nat → Nat) (M : Mem) (a0 : Nat) (x1 : Int32) (Q : Int32 → Mem → Prop) : Prop := m_tg M a0 = 6 ∧ ((¬ (m_gi M a0 0) = 0 → ((¬ (m_gi M a0 0) = 1 → wp_X5_fee_b27 g M x1 0 0 Q) ∧ ((m_gi M a0 0) = 1 → wp_X5_fee_b27 g M x1 0 10 Q))) ∧ ((m_gi M a0 0) = 0 → wp_X5_fee_b27 g M x1 0 20 Q))
theorem bk_X5_fee_36 (G : Gp) (C : m_Cx) (n0 s0 : Nat) (M0 : Mem) (Q : Int32 → Mem → Prop) (X : m_in G C RX5 cX5_fee 2 (some .int) "fee" 1 13 n0 s0) (M : Mem) (sx0 : Int32) (sx1 : Int32) (sx2 : Int32) (hw : wp_X5_fee_b36 G.2 M sx0 sx1 sx2 Q) : pW G C 2 n0 s0 M0 (m_Q G C n0 s0 (va_Qi (m_q1 M0 Q) (m_W G) (m_A G))) M 36 [] [vI sx2, vI sx1, vI sx0] := by
  refine pw_isub X dX5_fee_36 ?_
  refine pw_mmax X q1585 q298 q92 q299 (Nat.le_of_ble_eq_true rfl) (Nat.le_of_ble_eq_true rfl) dX5_fee_37 ?_
  exact pw_iret X hw dX5_fee_40
theorem bk_X5_fee_27 (G : Gp) (C : m_Cx) (n0 s0 : Nat) (M0 : Mem) (Q : Int32 → Mem → Prop) (X : m_in G C RX5 cX5_fee 2 (some .int) "fee" 1 13 n0 s0) (M : Mem) (lx1 : Int32) (sx0 : Int32) (sx1 : Int32) (hw : wp_X5_fee_b27 G.2 M lx1 sx0 sx1 Q) : pW G C 2 n0 s0 M0 (m_Q G C n0 s0 (va_Qi (m_q1 M0 Q) (m_W G) (m_A G))) M 27 [(1, vI lx1)] [vI sx1, vI sx0] := by
  refine pw_iload_n X dX5_fee_27 rfl rfl ?_
  refine pw_if_eq X 35 dX5_fee_28 (by decide) (fun c1 => ?_) (fun c1 => ?_)
  · replace hw := hw.1 c1
    refine pw_iconst X 0 dX5_fee_35 (by decide) ?_
    refine pw_lo [] rfl ?_
    exact bk_X5_fee_36 G C n0 s0 M0 Q X _ sx0 sx1 0 hw
  · replace hw := hw.2 c1
    refine pw_iconst X 5 dX5_fee_31 (by decide) ?_
    refine pw_goto X 36 dX5_fee_32 (by decide) ?_
    refine pw_lo [] rfl ?_
    exact bk_X5_fee_36 G C n0 s0 M0 Q X _ sx0 sx1 5 hw
theorem bk_X5_fee_0 (G : Gp) (C : m_Cx) (n0 s0 : Nat) (M0 : Mem) (Q : Int32 → Mem → Prop) (X : m_in G C RX5 cX5_fee 2 (some .int) "fee" 1 13 n0 s0) (M : Mem) (a0 : Nat) (x1 : Int32) (hw : wp_X5_fee G.2 M a0 x1 Q) : pW G C 2 n0 s0 M0 (m_Q G C n0 s0 (va_Qi (m_q1 M0 Q) (m_W G) (m_A G))) M 0 [(0, vR (some a0)), (1, vI x1)] [] := by
  refine pw_iconst X 0 dX5_fee_0 (by decide) ?_
  refine pw_aload_n X dX5_fee_1 rfl rfl ?_
  obtain ⟨ht1, hw⟩ := hw
  refine pw_get X (q := (RX5, TX5, tyX5, 5)) (ci := 5) (k := 0) (ref := "PatrolDesk$Member") (vI (m_gi M a0 0)) ht1 rfl (by decide) in_X5 q1051 (Or.inl rfl) rfl dX5_fee_2 ?_
  refine pw_if_ne X 13 dX5_fee_5 (by decide) (fun c2 => ?_) (fun c2 => ?_)
  · replace hw := hw.1 c2
    refine pw_aload_n X dX5_fee_13 rfl rfl ?_
    refine pw_get X (q := (RX5, TX5, tyX5, 5)) (ci := 5) (k := 0) (ref := "PatrolDesk$Member") (vI (m_gi M a0 0)) ht1 rfl (by decide) in_X5 q1051 (Or.inl rfl) rfl dX5_fee_14 ?_
    refine pw_iconst X 1 dX5_fee_17 (by decide) ?_
    refine pw_icmp_ne X 26 dX5_fee_18 (by decide) (fun c3 => ?_) (fun c3 => ?_)
    · replace hw := hw.1 c3
      refine pw_iconst X 0 dX5_fee_26 (by decide) ?_
      refine pw_lo [1] rfl ?_
      exact bk_X5_fee_27 G C n0 s0 M0 Q X _ x1 0 0 hw
    · replace hw := hw.2 c3
      refine pw_bipush X 10 dX5_fee_21 (by decide) ?_
      refine pw_goto X 27 dX5_fee_23 (by decide) ?_
      refine pw_lo [1] rfl ?_
      exact bk_X5_fee_27 G C n0 s0 M0 Q X _ x1 0 10 hw
  · replace hw := hw.2 c2
    refine pw_bipush X 20 dX5_fee_8 (by decide) ?_
    refine pw_goto X 27 dX5_fee_10 (by decide) ?_
    refine pw_lo [1] rfl ?_
    exact bk_X5_fee_27 G C n0 s0 M0 Q X _ x1 0 20 hw
theorem met_X5_fee (G : Gp) (l : Launch) (M : Mem) (a0 : Nat) (x1 : Int32) (Q : Int32 → Mem → Prop) (hw : wp_X5_fee G.2 M a0 x1 Q) : m_K G l yX5_fee cX5_fee 2 (some .int) 1 13 [vR (some a0), vI x1] M (va_Qi (m_q1 M Q) (m_W G) (m_A G)) := by
  refine m_met (by decide) (Nat.le_of_ble_eq_true rfl) (fun C e X => ?_)
  exact bk_X5_fee_0 G C _ _ M Q X M a0 x1 hw
theorem nh_X5_fee : m_nMH yX5_fee 1 := by decide +kernel

def wp_X5_copy (g : Nat → Nat) (M : Mem) (a0 : Nat) (Q : Option Nat → Mem → Prop) : Prop := m_fits M 5 ∧ ∀ u2 : Nat, m_tg M u2 = 0 → ∀ M4 : Mem, M4 = (m_al M u2 6 0 5) → m_tg M4 a0 = 6 ∧ wp_X5_init g M4 u2 (m_gi M4 a0 0) (fun (M9 : Mem) => m_le M4 M9 → ∀ M13 : Mem, M13 = (m_pi M9 u2 1 (m_gi M9 a0 1)) → ∀ M18 : Mem, M18 = (m_pi M13 u2 2 (m_gi M13 a0 2)) → ∀ M23 : Mem, M23 = (m_pi M18 u2 3 (m_gi M18 a0 3)) → ∀ M28 : Mem, M28 = (m_pi M23 u2 4 (m_gi M23 a0 4)) → Q (some u2) M28)
theorem bk_X5_copy_0 (G : Gp) (C : m_Cx) (n0 s0 : Nat) (M0 : Mem) (Q : Option Nat → Mem → Prop) (X : m_in G C RX5 cX5_copy 2 (some (.object "PatrolDesk$Member")) "copy" 2 33 n0 s0) (M : Mem) (a0 : Nat) (hw : wp_X5_copy G.2 M a0 Q) : pW G C 2 n0 s0 M0 (m_Q G C n0 s0 (va_Qq (m_q1 M0 Q) (m_W G) (m_A G))) M 0 [(0, vR (some a0))] [] := by
  obtain ⟨hf1, hw⟩ := hw
  refine pw_new X (ci := 5) (q := (RX5, TX5, tyX5, 5)) hf1 rfl in_X5 tyX5_ok q1045 q1046 q109 dX5_copy_0 (fun u2 h03 => ?_)
  obtain ⟨M4, hM5⟩ : ∃ z : Mem, z = (m_al M u2 6 0 5) := ⟨_, rfl⟩
  replace hw := hw u2 h03 M4 hM5
  have hle6 : m_le M M4 := by rw [hM5]; exact m_le_al h03
  change pW _ _ _ _ _ _ _ (m_al M u2 6 0 5) _ _ _
  rw [← hM5]
  have ht7 : m_tg M4 u2 = 6 := by rw [hM5, m_tg_al, if_pos rfl]
  refine pw_dup X dX5_copy_3 ?_
  refine pw_aload_n X dX5_copy_4 rfl rfl ?_
  obtain ⟨ht8, hw⟩ := hw
  refine pw_get X (q := (RX5, TX5, tyX5, 5)) (ci := 5) (k := 0) (ref := "PatrolDesk$Member") (vI (m_gi M4 a0 0)) ht8 rfl (by decide) in_X5 q1051 (Or.inl rfl) rfl dX5_copy_5 ?_
  refine pw_runv X (m_cI X (b := u2) (met_X5_init G C.2.1 M4 u2 (m_gi M4 a0 0) _ hw) q1049 q109 q1047 q1048 rfl nh_X5_init ⟨Nat.le_of_ble_eq_true rfl, Nat.le_of_ble_eq_true rfl⟩ rfl (Nat.le_of_ble_eq_true rfl) dX5_copy_8) (fun M9 hle10 hx => ?_)
  replace hw := hx hle10
  clear hx
  have ht11 : m_tg M9 u2 = 6 := m_le_tg hle10 ht7
  have ht12 : m_tg M9 a0 = 6 := m_le_tg hle10 ht8
  refine pw_astore_n X [(0, vR (some a0)), (1, vR (some u2))] [1, 0] dX5_copy_11 rfl (by decide) rfl ?_
  refine pw_aload_n X dX5_copy_12 rfl rfl ?_
  refine pw_aload_n X dX5_copy_13 rfl rfl ?_
  refine pw_get X (q := (RX5, TX5, tyX5, 5)) (ci := 5) (k := 1) (ref := "PatrolDesk$Member") (vI (m_gi M9 a0 1)) ht12 rfl (by decide) in_X5 q1054 (Or.inl rfl) rfl dX5_copy_14 ?_
  obtain ⟨M13, hM14⟩ : ∃ z : Mem, z = (m_pi M9 u2 1 (m_gi M9 a0 1)) := ⟨_, rfl⟩
  replace hw := hw M13 hM14
  refine pw_put X (q := (RX5, TX5, tyX5, 5)) (ci := 5) (k := 1) (ref := "PatrolDesk$Member") M13 hM14.symm ht11 rfl (by decide) in_X5 tyX5_ok nmX5 q1054 (Or.inl rfl) rfl (m_kd_i (fun _ _ => rfl)) rfl rfl dX5_copy_17 ?_
  have hle15 : m_le M9 M13 := by rw [hM14]; exact m_le_pi
  have ht16 : m_tg M13 u2 = 6 := m_le_tg hle15 ht11
  have ht17 : m_tg M13 a0 = 6 := m_le_tg hle15 ht12
  refine pw_aload_n X dX5_copy_20 rfl rfl ?_
  refine pw_aload_n X dX5_copy_21 rfl rfl ?_
  refine pw_get X (q := (RX5, TX5, tyX5, 5)) (ci := 5) (k := 2) (ref := "PatrolDesk$Member") (vI (m_gi M13 a0 2)) ht17 rfl (by decide) in_X5 q1057 (Or.inl rfl) rfl dX5_copy_22 ?_
  obtain ⟨M18, hM19⟩ : ∃ z : Mem, z = (m_pi M13 u2 2 (m_gi M13 a0 2)) := ⟨_, rfl⟩
  replace hw := hw M18 hM19
  refine pw_put X (q := (RX5, TX5, tyX5, 5)) (ci := 5) (k := 2) (ref := "PatrolDesk$Member") M18 hM19.symm ht16 rfl (by decide) in_X5 tyX5_ok nmX5 q1057 (Or.inl rfl) rfl (m_kd_i (fun _ _ => rfl)) rfl rfl dX5_copy_25 ?_
  have hle20 : m_le M13 M18 := by rw [hM19]; exact m_le_pi
  have ht21 : m_tg M18 u2 = 6 := m_le_tg hle20 ht16
  have ht22 : m_tg M18 a0 = 6 := m_le_tg hle20 ht17
  refine pw_aload_n X dX5_copy_28 rfl rfl ?_
  refine pw_aload_n X dX5_copy_29 rfl rfl ?_
  refine pw_get X (q := (RX5, TX5, tyX5, 5)) (ci := 5) (k := 3) (ref := "PatrolDesk$Member") (vI (m_gi M18 a0 3)) ht22 rfl (by decide) in_X5 q1060 (Or.inl rfl) rfl dX5_copy_30 ?_
  obtain ⟨M23, hM24⟩ : ∃ z : Mem, z = (m_pi M18 u2 3 (m_gi M18 a0 3)) := ⟨_, rfl⟩
  replace hw := hw M23 hM24
  refine pw_put X (q := (RX5, TX5, tyX5, 5)) (ci := 5) (k := 3) (ref := "PatrolDesk$Member") M23 hM24.symm ht21 rfl (by decide) in_X5 tyX5_ok nmX5 q1060 (Or.inl rfl) rfl (m_kd_i (fun _ _ => rfl)) rfl rfl dX5_copy_33 ?_
  have hle25 : m_le M18 M23 := by rw [hM24]; exact m_le_pi
  have ht26 : m_tg M23 u2 = 6 := m_le_tg hle25 ht21
  have ht27 : m_tg M23 a0 = 6 := m_le_tg hle25 ht22
  refine pw_aload_n X dX5_copy_36 rfl rfl ?_
  refine pw_aload_n X dX5_copy_37 rfl rfl ?_
  refine pw_get X (q := (RX5, TX5, tyX5, 5)) (ci := 5) (k := 4) (ref := "PatrolDesk$Member") (vI (m_gi M23 a0 4)) ht27 rfl (by decide) in_X5 q1062 (Or.inl rfl) rfl dX5_copy_38 ?_
  obtain ⟨M28, hM29⟩ : ∃ z : Mem, z = (m_pi M23 u2 4 (m_gi M23 a0 4)) := ⟨_, rfl⟩
  replace hw := hw M28 hM29
  refine pw_put X (q := (RX5, TX5, tyX5, 5)) (ci := 5) (k := 4) (ref := "PatrolDesk$Member") M28 hM29.symm ht26 rfl (by decide) in_X5 tyX5_ok nmX5 q1062 (Or.inl rfl) rfl (m_kd_i (fun _ _ => rfl)) rfl rfl dX5_copy_41 ?_
  have hle30 : m_le M23 M28 := by rw [hM29]; exact m_le_pi
  have ht31 : m_tg M28 u2 = 6 := m_le_tg hle30 ht26
  have ht32 : m_tg M28 a0 = 6 := m_le_tg hle30 ht27
  refine pw_aload_n X dX5_copy_44 rfl rfl ?_
  exact pw_aret X (Or.inl ⟨_, rfl⟩) hw dX5_copy_45
theorem met_X5_copy (G : Gp) (l : Launch) (M : Mem) (a0 : Nat) (Q : Option Nat → Mem → Prop) (hw : wp_X5_copy G.2 M a0 Q) : m_K G l yX5_copy cX5_copy 2 (some (.object "PatrolDesk$Member")) 2 33 [vR (some a0)] M (va_Qq (m_q1 M Q) (m_W G) (m_A G)) := by
  refine m_met (by decide) (Nat.le_of_ble_eq_true rfl) (fun C e X => ?_)
  exact bk_X5_copy_0 G C _ _ M Q X M a0 hw
theorem nh_X5_copy : m_nMH yX5_copy 0 := by decide +kernel

def wp_X6_init (g : Nat → Nat) (M : Mem) (a0 : Nat) (x1 : Int32) (x2 : Int32) (x3 : Int32) (x4 : Int32) (Q : Mem → Prop) : Prop := m_tg M a0 = 7 ∧ ∀ M2 : Mem, M2 = (m_pi M a0 6 (-5)) → ∀ M6 : Mem, M6 = (m_pi M2 a0 7 (-5)) → ∀ M10 : Mem, M10 = (m_pi M6 a0 8 (-5)) → ∀ M14 : Mem, M14 = (m_pi M10 a0 9 (-5)) → ∀ M18 : Mem, M18 = (m_pi M14 a0 0 x1) → ∀ M22 : Mem, M22 = (m_pi M18 a0 1 x2) → ∀ M26 : Mem, M26 = (m_pi M22 a0 2 x3) → (x4 = 0 ∨ x4 = 1) ∧ ∀ M31 : Mem, M31 = (m_pi M26 a0 3 x4) → ∀ M35 : Mem, M35 = (m_pi M31 a0 4 x2) → Q M35
theorem bk_X6_init_0 (G : Gp) (C : m_Cx) (n0 s0 : Nat) (M0 : Mem) (Q : Mem → Prop) (X : m_in G C RX6 cX6_init 5 none "<init>" 1 12 n0 s0) (M : Mem) (a0 : Nat) (x1 : Int32) (x2 : Int32) (x3 : Int32) (x4 : Int32) (hw : wp_X6_init G.2 M a0 x1 x2 x3 x4 Q) : pW G C 5 n0 s0 M0 (m_Q G C n0 s0 (va_Qv (m_q0 M0 Q) (m_W G) (m_A G))) M 0 [(0, vR (some a0)), (1, vI x1), (2, vI x2), (3, vI x3), (4, vI x4)] [] := by
  refine pw_aload_n X dX6_init_0 rfl rfl ?_
  refine pw_objInit X rfl q1087 q127 q128 dX6_init_1 (Nat.le_of_ble_eq_true rfl) (Nat.le_of_ble_eq_true rfl) ?_
  refine pw_aload_n X dX6_init_4 rfl rfl ?_
  refine pw_bipush X (-5) dX6_init_5 (by decide) ?_
  obtain ⟨ht1, hw⟩ := hw
  obtain ⟨M2, hM3⟩ : ∃ z : Mem, z = (m_pi M a0 6 (-5)) := ⟨_, rfl⟩
  replace hw := hw M2 hM3
  refine pw_put X (q := (RX6, TX6, tyX6, 15)) (ci := 6) (k := 6) (ref := "PatrolDesk$Patrol") M2 hM3.symm ht1 rfl (by decide) in_X6 tyX6_ok nmX6 q1104 (Or.inl rfl) rfl (m_kd_i (fun _ _ => rfl)) rfl rfl dX6_init_7 ?_
  have hle4 : m_le M M2 := by rw [hM3]; exact m_le_pi
  have ht5 : m_tg M2 a0 = 7 := m_le_tg hle4 ht1
  refine pw_aload_n X dX6_init_10 rfl rfl ?_
  refine pw_bipush X (-5) dX6_init_11 (by decide) ?_
  obtain ⟨M6, hM7⟩ : ∃ z : Mem, z = (m_pi M2 a0 7 (-5)) := ⟨_, rfl⟩
  replace hw := hw M6 hM7
  refine pw_put X (q := (RX6, TX6, tyX6, 15)) (ci := 6) (k := 7) (ref := "PatrolDesk$Patrol") M6 hM7.symm ht5 rfl (by decide) in_X6 tyX6_ok nmX6 q1107 (Or.inl rfl) rfl (m_kd_i (fun _ _ => rfl)) rfl rfl dX6_init_13 ?_
  have hle8 : m_le M2 M6 := by rw [hM7]; exact m_le_pi
  have ht9 : m_tg M6 a0 = 7 := m_le_tg hle8 ht5
  refine pw_aload_n X dX6_init_16 rfl rfl ?_
  refine pw_bipush X (-5) dX6_init_17 (by decide) ?_
  obtain ⟨M10, hM11⟩ : ∃ z : Mem, z = (m_pi M6 a0 8 (-5)) := ⟨_, rfl⟩
  replace hw := hw M10 hM11
  refine pw_put X (q := (RX6, TX6, tyX6, 15)) (ci := 6) (k := 8) (ref := "PatrolDesk$Patrol") M10 hM11.symm ht9 rfl (by decide) in_X6 tyX6_ok nmX6 q1110 (Or.inl rfl) rfl (m_kd_i (fun _ _ => rfl)) rfl rfl dX6_init_19 ?_
  have hle12 : m_le M6 M10 := by rw [hM11]; exact m_le_pi
  have ht13 : m_tg M10 a0 = 7 := m_le_tg hle12 ht9
  refine pw_aload_n X dX6_init_22 rfl rfl ?_
  refine pw_bipush X (-5) dX6_init_23 (by decide) ?_
  obtain ⟨M14, hM15⟩ : ∃ z : Mem, z = (m_pi M10 a0 9 (-5)) := ⟨_, rfl⟩
  replace hw := hw M14 hM15
  refine pw_put X (q := (RX6, TX6, tyX6, 15)) (ci := 6) (k := 9) (ref := "PatrolDesk$Patrol") M14 hM15.symm ht13 rfl (by decide) in_X6 tyX6_ok nmX6 q1112 (Or.inl rfl) rfl (m_kd_i (fun _ _ => rfl)) rfl rfl dX6_init_25 ?_
  have hle16 : m_le M10 M14 := by rw [hM15]; exact m_le_pi
  have ht17 : m_tg M14 a0 = 7 := m_le_tg hle16 ht13
  refine pw_aload_n X dX6_init_28 rfl rfl ?_
  refine pw_iload_n X dX6_init_29 rfl rfl ?_
  obtain ⟨M18, hM19⟩ : ∃ z : Mem, z = (m_pi M14 a0 0 x1) := ⟨_, rfl⟩
  replace hw := hw M18 hM19
  refine pw_putF X (q := (RX6, TX6, tyX6, 15)) (ci := 6) (k := 0) (ref := "PatrolDesk$Patrol") M18 hM19.symm ht17 rfl (by decide) in_X6 tyX6_ok nmX6 q1088 (Or.inl rfl) rfl rfl rfl (m_kd_i (fun _ _ => rfl)) rfl rfl dX6_init_30 ?_
  have hle20 : m_le M14 M18 := by rw [hM19]; exact m_le_pi
  have ht21 : m_tg M18 a0 = 7 := m_le_tg hle20 ht17
  refine pw_aload_n X dX6_init_33 rfl rfl ?_
  refine pw_iload_n X dX6_init_34 rfl rfl ?_
  obtain ⟨M22, hM23⟩ : ∃ z : Mem, z = (m_pi M18 a0 1 x2) := ⟨_, rfl⟩
  replace hw := hw M22 hM23
  refine pw_putF X (q := (RX6, TX6, tyX6, 15)) (ci := 6) (k := 1) (ref := "PatrolDesk$Patrol") M22 hM23.symm ht21 rfl (by decide) in_X6 tyX6_ok nmX6 q1091 (Or.inl rfl) rfl rfl rfl (m_kd_i (fun _ _ => rfl)) rfl rfl dX6_init_35 ?_
  have hle24 : m_le M18 M22 := by rw [hM23]; exact m_le_pi
  have ht25 : m_tg M22 a0 = 7 := m_le_tg hle24 ht21
  refine pw_aload_n X dX6_init_38 rfl rfl ?_
  refine pw_iload_n X dX6_init_39 rfl rfl ?_
  obtain ⟨M26, hM27⟩ : ∃ z : Mem, z = (m_pi M22 a0 2 x3) := ⟨_, rfl⟩
  replace hw := hw M26 hM27
  refine pw_putF X (q := (RX6, TX6, tyX6, 15)) (ci := 6) (k := 2) (ref := "PatrolDesk$Patrol") M26 hM27.symm ht25 rfl (by decide) in_X6 tyX6_ok nmX6 q1093 (Or.inl rfl) rfl rfl rfl (m_kd_i (fun _ _ => rfl)) rfl rfl dX6_init_40 ?_
  have hle28 : m_le M22 M26 := by rw [hM27]; exact m_le_pi
  have ht29 : m_tg M26 a0 = 7 := m_le_tg hle28 ht25
  refine pw_aload_n X dX6_init_43 rfl rfl ?_
  refine pw_iload X dX6_init_44 rfl ?_
  obtain ⟨hz30, hw⟩ := hw
  obtain ⟨M31, hM32⟩ : ∃ z : Mem, z = (m_pi M26 a0 3 x4) := ⟨_, rfl⟩
  replace hw := hw M31 hM32
  refine pw_putF X (q := (RX6, TX6, tyX6, 15)) (ci := 6) (k := 3) (ref := "PatrolDesk$Patrol") M31 hM32.symm ht29 rfl (by decide) in_X6 tyX6_ok nmX6 q1096 (Or.inl rfl) rfl rfl rfl (m_kd_i (fun _ _ => rfl)) (m_nz hz30) (m_fz hz30) dX6_init_46 ?_
  have hle33 : m_le M26 M31 := by rw [hM32]; exact m_le_pi
  have ht34 : m_tg M31 a0 = 7 := m_le_tg hle33 ht29
  refine pw_aload_n X dX6_init_49 rfl rfl ?_
  refine pw_iload_n X dX6_init_50 rfl rfl ?_
  obtain ⟨M35, hM36⟩ : ∃ z : Mem, z = (m_pi M31 a0 4 x2) := ⟨_, rfl⟩
  replace hw := hw M35 hM36
  refine pw_put X (q := (RX6, TX6, tyX6, 15)) (ci := 6) (k := 4) (ref := "PatrolDesk$Patrol") M35 hM36.symm ht34 rfl (by decide) in_X6 tyX6_ok nmX6 q1098 (Or.inl rfl) rfl (m_kd_i (fun _ _ => rfl)) rfl rfl dX6_init_51 ?_
  have hle37 : m_le M31 M35 := by rw [hM36]; exact m_le_pi
  have ht38 : m_tg M35 a0 = 7 := m_le_tg hle37 ht34
  exact pw_vret X hw dX6_init_54
theorem met_X6_init (G : Gp) (l : Launch) (M : Mem) (a0 : Nat) (x1 : Int32) (x2 : Int32) (x3 : Int32) (x4 : Int32) (Q : Mem → Prop) (hw : wp_X6_init G.2 M a0 x1 x2 x3 x4 Q) : m_K G l yX6_init cX6_init 5 none 1 12 [vR (some a0), vI x1, vI x2, vI x3, vI x4] M (va_Qv (m_q0 M Q) (m_W G) (m_A G)) := by
  refine m_met (by decide) (Nat.le_of_ble_eq_true rfl) (fun C e X => ?_)
  exact bk_X6_init_0 G C _ _ M Q X M a0 x1 x2 x3 x4 hw
theorem nh_X6_init : m_nMH yX6_init 4 := by decide +kernel

def wp_X6_region (g : Nat → Nat) (M : Mem) (a0 : Nat) (Q : Int32 → Mem → Prop) : Prop := m_tg M a0 = 7 ∧ wp_X0_regionOf g M (m_gi M a0 1) (fun (r4 : Int32) (M2 : Mem) => m_le M M2 → Q r4 M2)
theorem bk_X6_region_0 (G : Gp) (C : m_Cx) (n0 s0 : Nat) (M0 : Mem) (Q : Int32 → Mem → Prop) (X : m_in G C RX6 cX6_region 1 (some .int) "region" 1 20 n0 s0) (M : Mem) (a0 : Nat) (hw : wp_X6_region G.2 M a0 Q) : pW G C 1 n0 s0 M0 (m_Q G C n0 s0 (va_Qi (m_q1 M0 Q) (m_W G) (m_A G))) M 0 [(0, vR (some a0))] [] := by
  refine pw_aload_n X dX6_region_0 rfl rfl ?_
  obtain ⟨ht1, hw⟩ := hw
  refine pw_get X (q := (RX6, TX6, tyX6, 15)) (ci := 6) (k := 1) (ref := "PatrolDesk$Patrol") (vI (m_gi M a0 1)) ht1 rfl (by decide) in_X6 q1091 (Or.inl rfl) rfl dX6_region_1 ?_
  refine pw_runi X (m_cSN X (met_X0_regionOf G C.2.1 M (m_gi M a0 1) _ hw) q1559 q1564 q1558 q78 nh_X0_regionOf ⟨Nat.le_of_ble_eq_true rfl, Nat.le_of_ble_eq_true rfl⟩ rfl (Nat.le_of_ble_eq_true rfl) dX6_region_4) (fun r4 M2 hle3 hx => ?_)
  replace hw := hx hle3
  clear hx
  have ht5 : m_tg M2 a0 = 7 := m_le_tg hle3 ht1
  exact pw_iret X hw dX6_region_7
theorem met_X6_region (G : Gp) (l : Launch) (M : Mem) (a0 : Nat) (Q : Int32 → Mem → Prop) (hw : wp_X6_region G.2 M a0 Q) : m_K G l yX6_region cX6_region 1 (some .int) 1 20 [vR (some a0)] M (va_Qi (m_q1 M Q) (m_W G) (m_A G)) := by
  refine m_met (by decide) (Nat.le_of_ble_eq_true rfl) (fun C e X => ?_)
  exact bk_X6_region_0 G C _ _ M Q X M a0 hw
theorem nh_X6_region : m_nMH yX6_region 0 := by decide +kernel

def wp_X6_isBusy (g : Nat → Nat) (M : Mem) (a0 : Nat) (Q : Int32 → Mem → Prop) : Prop := m_tg M a0 = 7 ∧ wp_X0_inRange g M (m_gi M a0 5) 1 3 (fun (r4 : Int32) (M2 : Mem) => m_le M M2 → ((r4 = 0 ∨ r4 = 1) ∧ Q r4 M2))
theorem bk_X6_isBusy_0 (G : Gp) (C : m_Cx) (n0 s0 : Nat) (M0 : Mem) (Q : Int32 → Mem → Prop) (X : m_in G C RX6 cX6_isBusy 1 (some .boolean) "isBusy" 1 22 n0 s0) (M : Mem) (a0 : Nat) (hw : wp_X6_isBusy G.2 M a0 Q) : pW G C 1 n0 s0 M0 (m_Q G C n0 s0 (va_Qi (m_q1 M0 Q) (m_W G) (m_A G))) M 0 [(0, vR (some a0))] [] := by
  refine pw_aload_n X dX6_isBusy_0 rfl rfl ?_
  obtain ⟨ht1, hw⟩ := hw
  refine pw_get X (q := (RX6, TX6, tyX6, 15)) (ci := 6) (k := 5) (ref := "PatrolDesk$Patrol") (vI (m_gi M a0 5)) ht1 rfl (by decide) in_X6 q1101 (Or.inl rfl) rfl dX6_isBusy_1 ?_
  refine pw_iconst X 1 dX6_isBusy_4 (by decide) ?_
  refine pw_iconst X 3 dX6_isBusy_5 (by decide) ?_
  refine pw_runi X (m_cSN X (met_X0_inRange G C.2.1 M (m_gi M a0 5) 1 3 _ hw) q970 q1426 q969 q78 nh_X0_inRange ⟨Nat.le_of_ble_eq_true rfl, Nat.le_of_ble_eq_true rfl⟩ rfl (Nat.le_of_ble_eq_true rfl) dX6_isBusy_6) (fun r4 M2 hle3 hx => ?_)
  replace hw := hx hle3
  clear hx
  have ht5 : m_tg M2 a0 = 7 := m_le_tg hle3 ht1
  exact pw_zret X (m_nz hw.1) hw.2 dX6_isBusy_9
theorem met_X6_isBusy (G : Gp) (l : Launch) (M : Mem) (a0 : Nat) (Q : Int32 → Mem → Prop) (hw : wp_X6_isBusy G.2 M a0 Q) : m_K G l yX6_isBusy cX6_isBusy 1 (some .boolean) 1 22 [vR (some a0)] M (va_Qi (m_q1 M Q) (m_W G) (m_A G)) := by
  refine m_met (by decide) (Nat.le_of_ble_eq_true rfl) (fun C e X => ?_)
  exact bk_X6_isBusy_0 G C _ _ M Q X M a0 hw
theorem nh_X6_isBusy : m_nMH yX6_isBusy 0 := by decide +kernel

def wp_X6_mayRepairIn (g : Nat → Nat) (M : Mem) (a0 : Nat) (x1 : Int32) (Q : Int32 → Mem → Prop) : Prop := m_tg M a0 = 7 ∧ wp_X6_region g M a0 (fun (r4 : Int32) (M2 : Mem) => m_le M M2 → wp_X0_regionOf g M2 x1 (fun (r8 : Int32) (M6 : Mem) => m_le M2 M6 → ((1 < (if 0 ≤ (r4 - r8) then (r4 - r8) else 0 - (r4 - r8)) → Q 0 M6) ∧ (¬ 1 < (if 0 ≤ (r4 - r8) then (r4 - r8) else 0 - (r4 - r8)) → Q 1 M6))))
theorem bk_X6_mayRepairIn_0 (G : Gp) (C : m_Cx) (n0 s0 : Nat) (M0 : Mem) (Q : Int32 → Mem → Prop) (X : m_in G C RX6 cX6_mayRepairIn 2 (some .boolean) "mayRepairIn" 2 40 n0 s0) (M : Mem) (a0 : Nat) (x1 : Int32) (hw : wp_X6_mayRepairIn G.2 M a0 x1 Q) : pW G C 2 n0 s0 M0 (m_Q G C n0 s0 (va_Qi (m_q1 M0 Q) (m_W G) (m_A G))) M 0 [(0, vR (some a0)), (1, vI x1)] [] := by
  refine pw_aload_n X dX6_mayRepairIn_0 rfl rfl ?_
  obtain ⟨ht1, hw⟩ := hw
  refine pw_runi X (m_cV X (b := a0) (ci := 6) (q := (RX6, TX6, tyX6, 15)) (met_X6_region G C.2.1 M a0 _ hw) ht1 rfl (lw_V q1576 q1561 q1562 q110 q1563) ⟨rfl, nh_X6_region⟩ ⟨Nat.le_of_ble_eq_true rfl, Nat.le_of_ble_eq_true rfl⟩ rfl (Nat.le_of_ble_eq_true rfl) dX6_mayRepairIn_1) (fun r4 M2 hle3 hx => ?_)
  replace hw := hx hle3
  clear hx
  have ht5 : m_tg M2 a0 = 7 := m_le_tg hle3 ht1
  refine pw_iload_n X dX6_mayRepairIn_4 rfl rfl ?_
  refine pw_runi X (m_cSN X (met_X0_regionOf G C.2.1 M2 x1 _ hw) q1559 q1564 q1558 q78 nh_X0_regionOf ⟨Nat.le_of_ble_eq_true rfl, Nat.le_of_ble_eq_true rfl⟩ rfl (Nat.le_of_ble_eq_true rfl) dX6_mayRepairIn_5) (fun r8 M6 hle7 hx => ?_)
  replace hw := hx hle7
  clear hx
  have ht9 : m_tg M6 a0 = 7 := m_le_tg hle7 ht5
  refine pw_isub X dX6_mayRepairIn_8 ?_
  refine pw_mabs X q1634 q1635 q92 q1636 (Nat.le_of_ble_eq_true rfl) (Nat.le_of_ble_eq_true rfl) dX6_mayRepairIn_9 ?_
  refine pw_iconst X 1 dX6_mayRepairIn_12 (by decide) ?_
  refine pw_icmp_gt X 20 dX6_mayRepairIn_13 (by decide) (fun c10 => ?_) (fun c10 => ?_)
  · replace hw := hw.1 c10
    refine pw_iconst X 0 dX6_mayRepairIn_20 (by decide) ?_
    exact pw_zret X (by decide) hw dX6_mayRepairIn_21
  · replace hw := hw.2 c10
    refine pw_iconst X 1 dX6_mayRepairIn_16 (by decide) ?_
    refine pw_goto X 21 dX6_mayRepairIn_17 (by decide) ?_
    exact pw_zret X (by decide) hw dX6_mayRepairIn_21
theorem met_X6_mayRepairIn (G : Gp) (l : Launch) (M : Mem) (a0 : Nat) (x1 : Int32) (Q : Int32 → Mem → Prop) (hw : wp_X6_mayRepairIn G.2 M a0 x1 Q) : m_K G l yX6_mayRepairIn cX6_mayRepairIn 2 (some .boolean) 2 40 [vR (some a0), vI x1] M (va_Qi (m_q1 M Q) (m_W G) (m_A G)) := by
  refine m_met (by decide) (Nat.le_of_ble_eq_true rfl) (fun C e X => ?_)
  exact bk_X6_mayRepairIn_0 G C _ _ M Q X M a0 x1 hw
theorem nh_X6_mayRepairIn : m_nMH yX6_mayRepairIn 1 := by decide +kernel

def wp_X6_mayTowFrom (g : Nat → Nat) (M : Mem) (a0 : Nat) (x1 : Int32) (Q : Int32 → Mem → Prop) : Prop := m_tg M a0 = 7 ∧ (((m_gi M a0 3) = 0 → Q 0 M) ∧ (¬ (m_gi M a0 3) = 0 → wp_X6_region g M a0 (fun (r5 : Int32) (M3 : Mem) => m_le M M3 → wp_X0_regionOf g M3 x1 (fun (r9 : Int32) (M7 : Mem) => m_le M3 M7 → ((¬ r5 = r9 → Q 0 M7) ∧ (r5 = r9 → Q 1 M7))))))
theorem bk_X6_mayTowFrom_0 (G : Gp) (C : m_Cx) (n0 s0 : Nat) (M0 : Mem) (Q : Int32 → Mem → Prop) (X : m_in G C RX6 cX6_mayTowFrom 2 (some .boolean) "mayTowFrom" 2 40 n0 s0) (M : Mem) (a0 : Nat) (x1 : Int32) (hw : wp_X6_mayTowFrom G.2 M a0 x1 Q) : pW G C 2 n0 s0 M0 (m_Q G C n0 s0 (va_Qi (m_q1 M0 Q) (m_W G) (m_A G))) M 0 [(0, vR (some a0)), (1, vI x1)] [] := by
  refine pw_aload_n X dX6_mayTowFrom_0 rfl rfl ?_
  obtain ⟨ht1, hw⟩ := hw
  refine pw_get X (q := (RX6, TX6, tyX6, 15)) (ci := 6) (k := 3) (ref := "PatrolDesk$Patrol") (vI (m_gi M a0 3)) ht1 rfl (by decide) in_X6 q1096 (Or.inl rfl) rfl dX6_mayTowFrom_1 ?_
  refine pw_if_eq X 22 dX6_mayTowFrom_4 (by decide) (fun c2 => ?_) (fun c2 => ?_)
  · replace hw := hw.1 c2
    refine pw_iconst X 0 dX6_mayTowFrom_22 (by decide) ?_
    exact pw_zret X (by decide) hw dX6_mayTowFrom_23
  · replace hw := hw.2 c2
    refine pw_aload_n X dX6_mayTowFrom_7 rfl rfl ?_
    refine pw_runi X (m_cV X (b := a0) (ci := 6) (q := (RX6, TX6, tyX6, 15)) (met_X6_region G C.2.1 M a0 _ hw) ht1 rfl (lw_V q1576 q1561 q1562 q110 q1563) ⟨rfl, nh_X6_region⟩ ⟨Nat.le_of_ble_eq_true rfl, Nat.le_of_ble_eq_true rfl⟩ rfl (Nat.le_of_ble_eq_true rfl) dX6_mayTowFrom_8) (fun r5 M3 hle4 hx => ?_)
    replace hw := hx hle4
    clear hx
    have ht6 : m_tg M3 a0 = 7 := m_le_tg hle4 ht1
    refine pw_iload_n X dX6_mayTowFrom_11 rfl rfl ?_
    refine pw_runi X (m_cSN X (met_X0_regionOf G C.2.1 M3 x1 _ hw) q1559 q1564 q1558 q78 nh_X0_regionOf ⟨Nat.le_of_ble_eq_true rfl, Nat.le_of_ble_eq_true rfl⟩ rfl (Nat.le_of_ble_eq_true rfl) dX6_mayTowFrom_12) (fun r9 M7 hle8 hx => ?_)
    replace hw := hx hle8
    clear hx
    have ht10 : m_tg M7 a0 = 7 := m_le_tg hle8 ht6
    refine pw_icmp_ne X 22 dX6_mayTowFrom_15 (by decide) (fun c11 => ?_) (fun c11 => ?_)
    · replace hw := hw.1 c11
      refine pw_iconst X 0 dX6_mayTowFrom_22 (by decide) ?_
      exact pw_zret X (by decide) hw dX6_mayTowFrom_23
    · replace hw := hw.2 c11
      refine pw_iconst X 1 dX6_mayTowFrom_18 (by decide) ?_
      refine pw_goto X 23 dX6_mayTowFrom_19 (by decide) ?_
      exact pw_zret X (by decide) hw dX6_mayTowFrom_23
theorem met_X6_mayTowFrom (G : Gp) (l : Launch) (M : Mem) (a0 : Nat) (x1 : Int32) (Q : Int32 → Mem → Prop) (hw : wp_X6_mayTowFrom G.2 M a0 x1 Q) : m_K G l yX6_mayTowFrom cX6_mayTowFrom 2 (some .boolean) 2 40 [vR (some a0), vI x1] M (va_Qi (m_q1 M Q) (m_W G) (m_A G)) := by
  refine m_met (by decide) (Nat.le_of_ble_eq_true rfl) (fun C e X => ?_)
  exact bk_X6_mayTowFrom_0 G C _ _ M Q X M a0 x1 hw
theorem nh_X6_mayTowFrom : m_nMH yX6_mayTowFrom 1 := by decide +kernel

def wp_X6_begin (g : Nat → Nat) (M : Mem) (a0 : Nat) (x1 : Int32) (x2 : Int32) (x3 : Int32) (Q : Mem → Prop) : Prop := m_tg M a0 = 7 ∧ ∀ M2 : Mem, M2 = (m_pi M a0 5 x1) → ∀ M6 : Mem, M6 = (m_pi M2 a0 6 x2) → ∀ M10 : Mem, M10 = (m_pi M6 a0 7 x3) → Q M10
theorem bk_X6_begin_0 (G : Gp) (C : m_Cx) (n0 s0 : Nat) (M0 : Mem) (Q : Mem → Prop) (X : m_in G C RX6 cX6_begin 4 none "begin" 0 0 n0 s0) (M : Mem) (a0 : Nat) (x1 : Int32) (x2 : Int32) (x3 : Int32) (hw : wp_X6_begin G.2 M a0 x1 x2 x3 Q) : pW G C 4 n0 s0 M0 (m_Q G C n0 s0 (va_Qv (m_q0 M0 Q) (m_W G) (m_A G))) M 0 [(0, vR (some a0)), (1, vI x1), (2, vI x2), (3, vI x3)] [] := by
  refine pw_aload_n X dX6_begin_0 rfl rfl ?_
  refine pw_iload_n X dX6_begin_1 rfl rfl ?_
  obtain ⟨ht1, hw⟩ := hw
  obtain ⟨M2, hM3⟩ : ∃ z : Mem, z = (m_pi M a0 5 x1) := ⟨_, rfl⟩
  replace hw := hw M2 hM3
  refine pw_put X (q := (RX6, TX6, tyX6, 15)) (ci := 6) (k := 5) (ref := "PatrolDesk$Patrol") M2 hM3.symm ht1 rfl (by decide) in_X6 tyX6_ok nmX6 q1101 (Or.inl rfl) rfl (m_kd_i (fun _ _ => rfl)) rfl rfl dX6_begin_2 ?_
  have hle4 : m_le M M2 := by rw [hM3]; exact m_le_pi
  have ht5 : m_tg M2 a0 = 7 := m_le_tg hle4 ht1
  refine pw_aload_n X dX6_begin_5 rfl rfl ?_
  refine pw_iload_n X dX6_begin_6 rfl rfl ?_
  obtain ⟨M6, hM7⟩ : ∃ z : Mem, z = (m_pi M2 a0 6 x2) := ⟨_, rfl⟩
  replace hw := hw M6 hM7
  refine pw_put X (q := (RX6, TX6, tyX6, 15)) (ci := 6) (k := 6) (ref := "PatrolDesk$Patrol") M6 hM7.symm ht5 rfl (by decide) in_X6 tyX6_ok nmX6 q1104 (Or.inl rfl) rfl (m_kd_i (fun _ _ => rfl)) rfl rfl dX6_begin_7 ?_
  have hle8 : m_le M2 M6 := by rw [hM7]; exact m_le_pi
  have ht9 : m_tg M6 a0 = 7 := m_le_tg hle8 ht5
  refine pw_aload_n X dX6_begin_10 rfl rfl ?_
  refine pw_iload_n X dX6_begin_11 rfl rfl ?_
  obtain ⟨M10, hM11⟩ : ∃ z : Mem, z = (m_pi M6 a0 7 x3) := ⟨_, rfl⟩
  replace hw := hw M10 hM11
  refine pw_put X (q := (RX6, TX6, tyX6, 15)) (ci := 6) (k := 7) (ref := "PatrolDesk$Patrol") M10 hM11.symm ht9 rfl (by decide) in_X6 tyX6_ok nmX6 q1107 (Or.inl rfl) rfl (m_kd_i (fun _ _ => rfl)) rfl rfl dX6_begin_12 ?_
  have hle12 : m_le M6 M10 := by rw [hM11]; exact m_le_pi
  have ht13 : m_tg M10 a0 = 7 := m_le_tg hle12 ht9
  exact pw_vret X hw dX6_begin_15
theorem met_X6_begin (G : Gp) (l : Launch) (M : Mem) (a0 : Nat) (x1 : Int32) (x2 : Int32) (x3 : Int32) (Q : Mem → Prop) (hw : wp_X6_begin G.2 M a0 x1 x2 x3 Q) : m_K G l yX6_begin cX6_begin 4 none 0 0 [vR (some a0), vI x1, vI x2, vI x3] M (va_Qv (m_q0 M Q) (m_W G) (m_A G)) := by
  refine m_met (by decide) (Nat.le_of_ble_eq_true rfl) (fun C e X => ?_)
  exact bk_X6_begin_0 G C _ _ M Q X M a0 x1 x2 x3 hw
theorem nh_X6_begin : m_nMH yX6_begin 3 := by decide +kernel

def wp_X6_becomeFree (g : Nat → Nat) (M : Mem) (a0 : Nat) (Q : Mem → Prop) : Prop := m_tg M a0 = 7 ∧ ∀ M2 : Mem, M2 = (m_pi M a0 5 0) → ∀ M6 : Mem, M6 = (m_pi M2 a0 6 (-5)) → ∀ M10 : Mem, M10 = (m_pi M6 a0 7 (-5)) → ∀ M14 : Mem, M14 = (m_pi M10 a0 8 (-5)) → ∀ M18 : Mem, M18 = (m_pi M14 a0 9 (-5)) → Q M18
theorem bk_X6_becomeFree_0 (G : Gp) (C : m_Cx) (n0 s0 : Nat) (M0 : Mem) (Q : Mem → Prop) (X : m_in G C RX6 cX6_becomeFree 1 none "becomeFree" 0 0 n0 s0) (M : Mem) (a0 : Nat) (hw : wp_X6_becomeFree G.2 M a0 Q) : pW G C 1 n0 s0 M0 (m_Q G C n0 s0 (va_Qv (m_q0 M0 Q) (m_W G) (m_A G))) M 0 [(0, vR (some a0))] [] := by
  refine pw_aload_n X dX6_becomeFree_0 rfl rfl ?_
  refine pw_iconst X 0 dX6_becomeFree_1 (by decide) ?_
  obtain ⟨ht1, hw⟩ := hw
  obtain ⟨M2, hM3⟩ : ∃ z : Mem, z = (m_pi M a0 5 0) := ⟨_, rfl⟩
  replace hw := hw M2 hM3
  refine pw_put X (q := (RX6, TX6, tyX6, 15)) (ci := 6) (k := 5) (ref := "PatrolDesk$Patrol") M2 hM3.symm ht1 rfl (by decide) in_X6 tyX6_ok nmX6 q1101 (Or.inl rfl) rfl (m_kd_i (fun _ _ => rfl)) rfl rfl dX6_becomeFree_2 ?_
  have hle4 : m_le M M2 := by rw [hM3]; exact m_le_pi
  have ht5 : m_tg M2 a0 = 7 := m_le_tg hle4 ht1
  refine pw_aload_n X dX6_becomeFree_5 rfl rfl ?_
  refine pw_bipush X (-5) dX6_becomeFree_6 (by decide) ?_
  obtain ⟨M6, hM7⟩ : ∃ z : Mem, z = (m_pi M2 a0 6 (-5)) := ⟨_, rfl⟩
  replace hw := hw M6 hM7
  refine pw_put X (q := (RX6, TX6, tyX6, 15)) (ci := 6) (k := 6) (ref := "PatrolDesk$Patrol") M6 hM7.symm ht5 rfl (by decide) in_X6 tyX6_ok nmX6 q1104 (Or.inl rfl) rfl (m_kd_i (fun _ _ => rfl)) rfl rfl dX6_becomeFree_8 ?_
  have hle8 : m_le M2 M6 := by rw [hM7]; exact m_le_pi
  have ht9 : m_tg M6 a0 = 7 := m_le_tg hle8 ht5
  refine pw_aload_n X dX6_becomeFree_11 rfl rfl ?_
  refine pw_bipush X (-5) dX6_becomeFree_12 (by decide) ?_
  obtain ⟨M10, hM11⟩ : ∃ z : Mem, z = (m_pi M6 a0 7 (-5)) := ⟨_, rfl⟩
  replace hw := hw M10 hM11
  refine pw_put X (q := (RX6, TX6, tyX6, 15)) (ci := 6) (k := 7) (ref := "PatrolDesk$Patrol") M10 hM11.symm ht9 rfl (by decide) in_X6 tyX6_ok nmX6 q1107 (Or.inl rfl) rfl (m_kd_i (fun _ _ => rfl)) rfl rfl dX6_becomeFree_14 ?_
  have hle12 : m_le M6 M10 := by rw [hM11]; exact m_le_pi
  have ht13 : m_tg M10 a0 = 7 := m_le_tg hle12 ht9
  refine pw_aload_n X dX6_becomeFree_17 rfl rfl ?_
  refine pw_bipush X (-5) dX6_becomeFree_18 (by decide) ?_
  obtain ⟨M14, hM15⟩ : ∃ z : Mem, z = (m_pi M10 a0 8 (-5)) := ⟨_, rfl⟩
  replace hw := hw M14 hM15
  refine pw_put X (q := (RX6, TX6, tyX6, 15)) (ci := 6) (k := 8) (ref := "PatrolDesk$Patrol") M14 hM15.symm ht13 rfl (by decide) in_X6 tyX6_ok nmX6 q1110 (Or.inl rfl) rfl (m_kd_i (fun _ _ => rfl)) rfl rfl dX6_becomeFree_20 ?_
  have hle16 : m_le M10 M14 := by rw [hM15]; exact m_le_pi
  have ht17 : m_tg M14 a0 = 7 := m_le_tg hle16 ht13
  refine pw_aload_n X dX6_becomeFree_23 rfl rfl ?_
  refine pw_bipush X (-5) dX6_becomeFree_24 (by decide) ?_
  obtain ⟨M18, hM19⟩ : ∃ z : Mem, z = (m_pi M14 a0 9 (-5)) := ⟨_, rfl⟩
  replace hw := hw M18 hM19
  refine pw_put X (q := (RX6, TX6, tyX6, 15)) (ci := 6) (k := 9) (ref := "PatrolDesk$Patrol") M18 hM19.symm ht17 rfl (by decide) in_X6 tyX6_ok nmX6 q1112 (Or.inl rfl) rfl (m_kd_i (fun _ _ => rfl)) rfl rfl dX6_becomeFree_26 ?_
  have hle20 : m_le M14 M18 := by rw [hM19]; exact m_le_pi
  have ht21 : m_tg M18 a0 = 7 := m_le_tg hle20 ht17
  exact pw_vret X hw dX6_becomeFree_29
theorem met_X6_becomeFree (G : Gp) (l : Launch) (M : Mem) (a0 : Nat) (Q : Mem → Prop) (hw : wp_X6_becomeFree G.2 M a0 Q) : m_K G l yX6_becomeFree cX6_becomeFree 1 none 0 0 [vR (some a0)] M (va_Qv (m_q0 M Q) (m_W G) (m_A G)) := by
  refine m_met (by decide) (Nat.le_of_ble_eq_true rfl) (fun C e X => ?_)
  exact bk_X6_becomeFree_0 G C _ _ M Q X M a0 hw
theorem nh_X6_becomeFree : m_nMH yX6_becomeFree 0 := by decide +kernel

def wp_X6_copy (g : Nat → Nat) (M : Mem) (a0 : Nat) (Q : Option Nat → Mem → Prop) : Prop := m_fits M 15 ∧ ∀ u2 : Nat, m_tg M u2 = 0 → ∀ M4 : Mem, M4 = (m_al M u2 7 0 15) → m_tg M4 a0 = 7 ∧ wp_X6_init g M4 u2 (m_gi M4 a0 0) (m_gi M4 a0 1) (m_gi M4 a0 2) (m_gi M4 a0 3) (fun (M9 : Mem) => m_le M4 M9 → ∀ M13 : Mem, M13 = (m_pi M9 u2 4 (m_gi M9 a0 4)) → ∀ M18 : Mem, M18 = (m_pi M13 u2 5 (m_gi M13 a0 5)) → ∀ M23 : Mem, M23 = (m_pi M18 u2 6 (m_gi M18 a0 6)) → ∀ M28 : Mem, M28 = (m_pi M23 u2 7 (m_gi M23 a0 7)) → ∀ M33 : Mem, M33 = (m_pi M28 u2 8 (m_gi M28 a0 8)) → ∀ M38 : Mem, M38 = (m_pi M33 u2 9 (m_gi M33 a0 9)) → ∀ M43 : Mem, M43 = (m_pi M38 u2 10 (m_gi M38 a0 10)) → ∀ M48 : Mem, M48 = (m_pi M43 u2 11 (m_gi M43 a0 11)) → ∀ M53 : Mem, M53 = (m_pi M48 u2 12 (m_gi M48 a0 12)) → ∀ M58 : Mem, M58 = (m_pi M53 u2 13 (m_gi M53 a0 13)) → ∀ M63 : Mem, M63 = (m_pi M58 u2 14 (m_gi M58 a0 14)) → Q (some u2) M63)
theorem bk_X6_copy_0 (G : Gp) (C : m_Cx) (n0 s0 : Nat) (M0 : Mem) (Q : Option Nat → Mem → Prop) (X : m_in G C RX6 cX6_copy 2 (some (.object "PatrolDesk$Patrol")) "copy" 2 36 n0 s0) (M : Mem) (a0 : Nat) (hw : wp_X6_copy G.2 M a0 Q) : pW G C 2 n0 s0 M0 (m_Q G C n0 s0 (va_Qq (m_q1 M0 Q) (m_W G) (m_A G))) M 0 [(0, vR (some a0))] [] := by
  obtain ⟨hf1, hw⟩ := hw
  refine pw_new X (ci := 6) (q := (RX6, TX6, tyX6, 15)) hf1 rfl in_X6 tyX6_ok q1082 q1083 q110 dX6_copy_0 (fun u2 h03 => ?_)
  obtain ⟨M4, hM5⟩ : ∃ z : Mem, z = (m_al M u2 7 0 15) := ⟨_, rfl⟩
  replace hw := hw u2 h03 M4 hM5
  have hle6 : m_le M M4 := by rw [hM5]; exact m_le_al h03
  change pW _ _ _ _ _ _ _ (m_al M u2 7 0 15) _ _ _
  rw [← hM5]
  have ht7 : m_tg M4 u2 = 7 := by rw [hM5, m_tg_al, if_pos rfl]
  refine pw_dup X dX6_copy_3 ?_
  refine pw_aload_n X dX6_copy_4 rfl rfl ?_
  obtain ⟨ht8, hw⟩ := hw
  refine pw_get X (q := (RX6, TX6, tyX6, 15)) (ci := 6) (k := 0) (ref := "PatrolDesk$Patrol") (vI (m_gi M4 a0 0)) ht8 rfl (by decide) in_X6 q1088 (Or.inl rfl) rfl dX6_copy_5 ?_
  refine pw_aload_n X dX6_copy_8 rfl rfl ?_
  refine pw_get X (q := (RX6, TX6, tyX6, 15)) (ci := 6) (k := 1) (ref := "PatrolDesk$Patrol") (vI (m_gi M4 a0 1)) ht8 rfl (by decide) in_X6 q1091 (Or.inl rfl) rfl dX6_copy_9 ?_
  refine pw_aload_n X dX6_copy_12 rfl rfl ?_
  refine pw_get X (q := (RX6, TX6, tyX6, 15)) (ci := 6) (k := 2) (ref := "PatrolDesk$Patrol") (vI (m_gi M4 a0 2)) ht8 rfl (by decide) in_X6 q1093 (Or.inl rfl) rfl dX6_copy_13 ?_
  refine pw_aload_n X dX6_copy_16 rfl rfl ?_
  refine pw_get X (q := (RX6, TX6, tyX6, 15)) (ci := 6) (k := 3) (ref := "PatrolDesk$Patrol") (vI (m_gi M4 a0 3)) ht8 rfl (by decide) in_X6 q1096 (Or.inl rfl) rfl dX6_copy_17 ?_
  refine pw_runv X (m_cI X (b := u2) (met_X6_init G C.2.1 M4 u2 (m_gi M4 a0 0) (m_gi M4 a0 1) (m_gi M4 a0 2) (m_gi M4 a0 3) _ hw) q1086 q110 q1084 q1085 rfl nh_X6_init ⟨Nat.le_of_ble_eq_true rfl, Nat.le_of_ble_eq_true rfl⟩ rfl (Nat.le_of_ble_eq_true rfl) dX6_copy_20) (fun M9 hle10 hx => ?_)
  replace hw := hx hle10
  clear hx
  have ht11 : m_tg M9 u2 = 7 := m_le_tg hle10 ht7
  have ht12 : m_tg M9 a0 = 7 := m_le_tg hle10 ht8
  refine pw_astore_n X [(0, vR (some a0)), (1, vR (some u2))] [1, 0] dX6_copy_23 rfl (by decide) rfl ?_
  refine pw_aload_n X dX6_copy_24 rfl rfl ?_
  refine pw_aload_n X dX6_copy_25 rfl rfl ?_
  refine pw_get X (q := (RX6, TX6, tyX6, 15)) (ci := 6) (k := 4) (ref := "PatrolDesk$Patrol") (vI (m_gi M9 a0 4)) ht12 rfl (by decide) in_X6 q1098 (Or.inl rfl) rfl dX6_copy_26 ?_
  obtain ⟨M13, hM14⟩ : ∃ z : Mem, z = (m_pi M9 u2 4 (m_gi M9 a0 4)) := ⟨_, rfl⟩
  replace hw := hw M13 hM14
  refine pw_put X (q := (RX6, TX6, tyX6, 15)) (ci := 6) (k := 4) (ref := "PatrolDesk$Patrol") M13 hM14.symm ht11 rfl (by decide) in_X6 tyX6_ok nmX6 q1098 (Or.inl rfl) rfl (m_kd_i (fun _ _ => rfl)) rfl rfl dX6_copy_29 ?_
  have hle15 : m_le M9 M13 := by rw [hM14]; exact m_le_pi
  have ht16 : m_tg M13 u2 = 7 := m_le_tg hle15 ht11
  have ht17 : m_tg M13 a0 = 7 := m_le_tg hle15 ht12
  refine pw_aload_n X dX6_copy_32 rfl rfl ?_
  refine pw_aload_n X dX6_copy_33 rfl rfl ?_
  refine pw_get X (q := (RX6, TX6, tyX6, 15)) (ci := 6) (k := 5) (ref := "PatrolDesk$Patrol") (vI (m_gi M13 a0 5)) ht17 rfl (by decide) in_X6 q1101 (Or.inl rfl) rfl dX6_copy_34 ?_
  obtain ⟨M18, hM19⟩ : ∃ z : Mem, z = (m_pi M13 u2 5 (m_gi M13 a0 5)) := ⟨_, rfl⟩
  replace hw := hw M18 hM19
  refine pw_put X (q := (RX6, TX6, tyX6, 15)) (ci := 6) (k := 5) (ref := "PatrolDesk$Patrol") M18 hM19.symm ht16 rfl (by decide) in_X6 tyX6_ok nmX6 q1101 (Or.inl rfl) rfl (m_kd_i (fun _ _ => rfl)) rfl rfl dX6_copy_37 ?_
  have hle20 : m_le M13 M18 := by rw [hM19]; exact m_le_pi
  have ht21 : m_tg M18 u2 = 7 := m_le_tg hle20 ht16
  have ht22 : m_tg M18 a0 = 7 := m_le_tg hle20 ht17
  refine pw_aload_n X dX6_copy_40 rfl rfl ?_
  refine pw_aload_n X dX6_copy_41 rfl rfl ?_
  refine pw_get X (q := (RX6, TX6, tyX6, 15)) (ci := 6) (k := 6) (ref := "PatrolDesk$Patrol") (vI (m_gi M18 a0 6)) ht22 rfl (by decide) in_X6 q1104 (Or.inl rfl) rfl dX6_copy_42 ?_
  obtain ⟨M23, hM24⟩ : ∃ z : Mem, z = (m_pi M18 u2 6 (m_gi M18 a0 6)) := ⟨_, rfl⟩
  replace hw := hw M23 hM24
  refine pw_put X (q := (RX6, TX6, tyX6, 15)) (ci := 6) (k := 6) (ref := "PatrolDesk$Patrol") M23 hM24.symm ht21 rfl (by decide) in_X6 tyX6_ok nmX6 q1104 (Or.inl rfl) rfl (m_kd_i (fun _ _ => rfl)) rfl rfl dX6_copy_45 ?_
  have hle25 : m_le M18 M23 := by rw [hM24]; exact m_le_pi
  have ht26 : m_tg M23 u2 = 7 := m_le_tg hle25 ht21
  have ht27 : m_tg M23 a0 = 7 := m_le_tg hle25 ht22
  refine pw_aload_n X dX6_copy_48 rfl rfl ?_
  refine pw_aload_n X dX6_copy_49 rfl rfl ?_
  refine pw_get X (q := (RX6, TX6, tyX6, 15)) (ci := 6) (k := 7) (ref := "PatrolDesk$Patrol") (vI (m_gi M23 a0 7)) ht27 rfl (by decide) in_X6 q1107 (Or.inl rfl) rfl dX6_copy_50 ?_
  obtain ⟨M28, hM29⟩ : ∃ z : Mem, z = (m_pi M23 u2 7 (m_gi M23 a0 7)) := ⟨_, rfl⟩
  replace hw := hw M28 hM29
  refine pw_put X (q := (RX6, TX6, tyX6, 15)) (ci := 6) (k := 7) (ref := "PatrolDesk$Patrol") M28 hM29.symm ht26 rfl (by decide) in_X6 tyX6_ok nmX6 q1107 (Or.inl rfl) rfl (m_kd_i (fun _ _ => rfl)) rfl rfl dX6_copy_53 ?_
  have hle30 : m_le M23 M28 := by rw [hM29]; exact m_le_pi
  have ht31 : m_tg M28 u2 = 7 := m_le_tg hle30 ht26
  have ht32 : m_tg M28 a0 = 7 := m_le_tg hle30 ht27
  refine pw_aload_n X dX6_copy_56 rfl rfl ?_
  refine pw_aload_n X dX6_copy_57 rfl rfl ?_
  refine pw_get X (q := (RX6, TX6, tyX6, 15)) (ci := 6) (k := 8) (ref := "PatrolDesk$Patrol") (vI (m_gi M28 a0 8)) ht32 rfl (by decide) in_X6 q1110 (Or.inl rfl) rfl dX6_copy_58 ?_
  obtain ⟨M33, hM34⟩ : ∃ z : Mem, z = (m_pi M28 u2 8 (m_gi M28 a0 8)) := ⟨_, rfl⟩
  replace hw := hw M33 hM34
  refine pw_put X (q := (RX6, TX6, tyX6, 15)) (ci := 6) (k := 8) (ref := "PatrolDesk$Patrol") M33 hM34.symm ht31 rfl (by decide) in_X6 tyX6_ok nmX6 q1110 (Or.inl rfl) rfl (m_kd_i (fun _ _ => rfl)) rfl rfl dX6_copy_61 ?_
  have hle35 : m_le M28 M33 := by rw [hM34]; exact m_le_pi
  have ht36 : m_tg M33 u2 = 7 := m_le_tg hle35 ht31
  have ht37 : m_tg M33 a0 = 7 := m_le_tg hle35 ht32
  refine pw_aload_n X dX6_copy_64 rfl rfl ?_
  refine pw_aload_n X dX6_copy_65 rfl rfl ?_
  refine pw_get X (q := (RX6, TX6, tyX6, 15)) (ci := 6) (k := 9) (ref := "PatrolDesk$Patrol") (vI (m_gi M33 a0 9)) ht37 rfl (by decide) in_X6 q1112 (Or.inl rfl) rfl dX6_copy_66 ?_
  obtain ⟨M38, hM39⟩ : ∃ z : Mem, z = (m_pi M33 u2 9 (m_gi M33 a0 9)) := ⟨_, rfl⟩
  replace hw := hw M38 hM39
  refine pw_put X (q := (RX6, TX6, tyX6, 15)) (ci := 6) (k := 9) (ref := "PatrolDesk$Patrol") M38 hM39.symm ht36 rfl (by decide) in_X6 tyX6_ok nmX6 q1112 (Or.inl rfl) rfl (m_kd_i (fun _ _ => rfl)) rfl rfl dX6_copy_69 ?_
  have hle40 : m_le M33 M38 := by rw [hM39]; exact m_le_pi
  have ht41 : m_tg M38 u2 = 7 := m_le_tg hle40 ht36
  have ht42 : m_tg M38 a0 = 7 := m_le_tg hle40 ht37
  refine pw_aload_n X dX6_copy_72 rfl rfl ?_
  refine pw_aload_n X dX6_copy_73 rfl rfl ?_
  refine pw_get X (q := (RX6, TX6, tyX6, 15)) (ci := 6) (k := 10) (ref := "PatrolDesk$Patrol") (vI (m_gi M38 a0 10)) ht42 rfl (by decide) in_X6 q1114 (Or.inl rfl) rfl dX6_copy_74 ?_
  obtain ⟨M43, hM44⟩ : ∃ z : Mem, z = (m_pi M38 u2 10 (m_gi M38 a0 10)) := ⟨_, rfl⟩
  replace hw := hw M43 hM44
  refine pw_put X (q := (RX6, TX6, tyX6, 15)) (ci := 6) (k := 10) (ref := "PatrolDesk$Patrol") M43 hM44.symm ht41 rfl (by decide) in_X6 tyX6_ok nmX6 q1114 (Or.inl rfl) rfl (m_kd_i (fun _ _ => rfl)) rfl rfl dX6_copy_77 ?_
  have hle45 : m_le M38 M43 := by rw [hM44]; exact m_le_pi
  have ht46 : m_tg M43 u2 = 7 := m_le_tg hle45 ht41
  have ht47 : m_tg M43 a0 = 7 := m_le_tg hle45 ht42
  refine pw_aload_n X dX6_copy_80 rfl rfl ?_
  refine pw_aload_n X dX6_copy_81 rfl rfl ?_
  refine pw_get X (q := (RX6, TX6, tyX6, 15)) (ci := 6) (k := 11) (ref := "PatrolDesk$Patrol") (vI (m_gi M43 a0 11)) ht47 rfl (by decide) in_X6 q1117 (Or.inl rfl) rfl dX6_copy_82 ?_
  obtain ⟨M48, hM49⟩ : ∃ z : Mem, z = (m_pi M43 u2 11 (m_gi M43 a0 11)) := ⟨_, rfl⟩
  replace hw := hw M48 hM49
  refine pw_put X (q := (RX6, TX6, tyX6, 15)) (ci := 6) (k := 11) (ref := "PatrolDesk$Patrol") M48 hM49.symm ht46 rfl (by decide) in_X6 tyX6_ok nmX6 q1117 (Or.inl rfl) rfl (m_kd_i (fun _ _ => rfl)) rfl rfl dX6_copy_85 ?_
  have hle50 : m_le M43 M48 := by rw [hM49]; exact m_le_pi
  have ht51 : m_tg M48 u2 = 7 := m_le_tg hle50 ht46
  have ht52 : m_tg M48 a0 = 7 := m_le_tg hle50 ht47
  refine pw_aload_n X dX6_copy_88 rfl rfl ?_
  refine pw_aload_n X dX6_copy_89 rfl rfl ?_
  refine pw_get X (q := (RX6, TX6, tyX6, 15)) (ci := 6) (k := 12) (ref := "PatrolDesk$Patrol") (vI (m_gi M48 a0 12)) ht52 rfl (by decide) in_X6 q1120 (Or.inl rfl) rfl dX6_copy_90 ?_
  obtain ⟨M53, hM54⟩ : ∃ z : Mem, z = (m_pi M48 u2 12 (m_gi M48 a0 12)) := ⟨_, rfl⟩
  replace hw := hw M53 hM54
  refine pw_put X (q := (RX6, TX6, tyX6, 15)) (ci := 6) (k := 12) (ref := "PatrolDesk$Patrol") M53 hM54.symm ht51 rfl (by decide) in_X6 tyX6_ok nmX6 q1120 (Or.inl rfl) rfl (m_kd_i (fun _ _ => rfl)) rfl rfl dX6_copy_93 ?_
  have hle55 : m_le M48 M53 := by rw [hM54]; exact m_le_pi
  have ht56 : m_tg M53 u2 = 7 := m_le_tg hle55 ht51
  have ht57 : m_tg M53 a0 = 7 := m_le_tg hle55 ht52
  refine pw_aload_n X dX6_copy_96 rfl rfl ?_
  refine pw_aload_n X dX6_copy_97 rfl rfl ?_
  refine pw_get X (q := (RX6, TX6, tyX6, 15)) (ci := 6) (k := 13) (ref := "PatrolDesk$Patrol") (vI (m_gi M53 a0 13)) ht57 rfl (by decide) in_X6 q1123 (Or.inl rfl) rfl dX6_copy_98 ?_
  obtain ⟨M58, hM59⟩ : ∃ z : Mem, z = (m_pi M53 u2 13 (m_gi M53 a0 13)) := ⟨_, rfl⟩
  replace hw := hw M58 hM59
  refine pw_put X (q := (RX6, TX6, tyX6, 15)) (ci := 6) (k := 13) (ref := "PatrolDesk$Patrol") M58 hM59.symm ht56 rfl (by decide) in_X6 tyX6_ok nmX6 q1123 (Or.inl rfl) rfl (m_kd_i (fun _ _ => rfl)) rfl rfl dX6_copy_101 ?_
  have hle60 : m_le M53 M58 := by rw [hM59]; exact m_le_pi
  have ht61 : m_tg M58 u2 = 7 := m_le_tg hle60 ht56
  have ht62 : m_tg M58 a0 = 7 := m_le_tg hle60 ht57
  refine pw_aload_n X dX6_copy_104 rfl rfl ?_
  refine pw_aload_n X dX6_copy_105 rfl rfl ?_
  refine pw_get X (q := (RX6, TX6, tyX6, 15)) (ci := 6) (k := 14) (ref := "PatrolDesk$Patrol") (vI (m_gi M58 a0 14)) ht62 rfl (by decide) in_X6 q1126 (Or.inl rfl) rfl dX6_copy_106 ?_
  obtain ⟨M63, hM64⟩ : ∃ z : Mem, z = (m_pi M58 u2 14 (m_gi M58 a0 14)) := ⟨_, rfl⟩
  replace hw := hw M63 hM64
  refine pw_put X (q := (RX6, TX6, tyX6, 15)) (ci := 6) (k := 14) (ref := "PatrolDesk$Patrol") M63 hM64.symm ht61 rfl (by decide) in_X6 tyX6_ok nmX6 q1126 (Or.inl rfl) rfl (m_kd_i (fun _ _ => rfl)) rfl rfl dX6_copy_109 ?_
  have hle65 : m_le M58 M63 := by rw [hM64]; exact m_le_pi
  have ht66 : m_tg M63 u2 = 7 := m_le_tg hle65 ht61
  have ht67 : m_tg M63 a0 = 7 := m_le_tg hle65 ht62
  refine pw_aload_n X dX6_copy_112 rfl rfl ?_
  exact pw_aret X (Or.inl ⟨_, rfl⟩) hw dX6_copy_113
theorem met_X6_copy (G : Gp) (l : Launch) (M : Mem) (a0 : Nat) (Q : Option Nat → Mem → Prop) (hw : wp_X6_copy G.2 M a0 Q) : m_K G l yX6_copy cX6_copy 2 (some (.object "PatrolDesk$Patrol")) 2 36 [vR (some a0)] M (va_Qq (m_q1 M Q) (m_W G) (m_A G)) := by
  refine m_met (by decide) (Nat.le_of_ble_eq_true rfl) (fun C e X => ?_)
  exact bk_X6_copy_0 G C _ _ M Q X M a0 hw
theorem nh_X6_copy : m_nMH yX6_copy 0 := by decide +kernel

def wp_X7_init (g : Nat → Nat) (M : Mem) (a0 : Nat) (x1 : Int32) (x2 : Int32) (Q : Mem → Prop) : Prop := m_tg M a0 = 8 ∧ ∀ M2 : Mem, M2 = (m_pi M a0 0 x1) → ∀ M6 : Mem, M6 = (m_pi M2 a0 1 x2) → Q M6
theorem bk_X7_init_0 (G : Gp) (C : m_Cx) (n0 s0 : Nat) (M0 : Mem) (Q : Mem → Prop) (X : m_in G C RX7 cX7_init 3 none "<init>" 1 12 n0 s0) (M : Mem) (a0 : Nat) (x1 : Int32) (x2 : Int32) (hw : wp_X7_init G.2 M a0 x1 x2 Q) : pW G C 3 n0 s0 M0 (m_Q G C n0 s0 (va_Qv (m_q0 M0 Q) (m_W G) (m_A G))) M 0 [(0, vR (some a0)), (1, vI x1), (2, vI x2)] [] := by
  refine pw_aload_n X dX7_init_0 rfl rfl ?_
  refine pw_objInit X rfl q1170 q127 q128 dX7_init_1 (Nat.le_of_ble_eq_true rfl) (Nat.le_of_ble_eq_true rfl) ?_
  refine pw_aload_n X dX7_init_4 rfl rfl ?_
  refine pw_iload_n X dX7_init_5 rfl rfl ?_
  obtain ⟨ht1, hw⟩ := hw
  obtain ⟨M2, hM3⟩ : ∃ z : Mem, z = (m_pi M a0 0 x1) := ⟨_, rfl⟩
  replace hw := hw M2 hM3
  refine pw_putF X (q := (RX7, TX7, tyX7, 5)) (ci := 7) (k := 0) (ref := "PatrolDesk$Garage") M2 hM3.symm ht1 rfl (by decide) in_X7 tyX7_ok nmX7 q1171 (Or.inl rfl) rfl rfl rfl (m_kd_i (fun _ _ => rfl)) rfl rfl dX7_init_6 ?_
  have hle4 : m_le M M2 := by rw [hM3]; exact m_le_pi
  have ht5 : m_tg M2 a0 = 8 := m_le_tg hle4 ht1
  refine pw_aload_n X dX7_init_9 rfl rfl ?_
  refine pw_iload_n X dX7_init_10 rfl rfl ?_
  obtain ⟨M6, hM7⟩ : ∃ z : Mem, z = (m_pi M2 a0 1 x2) := ⟨_, rfl⟩
  replace hw := hw M6 hM7
  refine pw_putF X (q := (RX7, TX7, tyX7, 5)) (ci := 7) (k := 1) (ref := "PatrolDesk$Garage") M6 hM7.symm ht5 rfl (by decide) in_X7 tyX7_ok nmX7 q1174 (Or.inl rfl) rfl rfl rfl (m_kd_i (fun _ _ => rfl)) rfl rfl dX7_init_11 ?_
  have hle8 : m_le M2 M6 := by rw [hM7]; exact m_le_pi
  have ht9 : m_tg M6 a0 = 8 := m_le_tg hle8 ht5
  exact pw_vret X hw dX7_init_14
theorem met_X7_init (G : Gp) (l : Launch) (M : Mem) (a0 : Nat) (x1 : Int32) (x2 : Int32) (Q : Mem → Prop) (hw : wp_X7_init G.2 M a0 x1 x2 Q) : m_K G l yX7_init cX7_init 3 none 1 12 [vR (some a0), vI x1, vI x2] M (va_Qv (m_q0 M Q) (m_W G) (m_A G)) := by
  refine m_met (by decide) (Nat.le_of_ble_eq_true rfl) (fun C e X => ?_)
  exact bk_X7_init_0 G C _ _ M Q X M a0 x1 x2 hw
theorem nh_X7_init : m_nMH yX7_init 2 := by decide +kernel

def wp_X7_hasPlace (g : Nat → Nat) (M : Mem) (a0 : Nat) (Q : Int32 → Mem → Prop) : Prop := m_tg M a0 = 8 ∧ (((m_gi M a0 1) ≤ ((m_gi M a0 2) + (m_gi M a0 3)) → Q 0 M) ∧ (¬ (m_gi M a0 1) ≤ ((m_gi M a0 2) + (m_gi M a0 3)) → Q 1 M))
theorem bk_X7_hasPlace_0 (G : Gp) (C : m_Cx) (n0 s0 : Nat) (M0 : Mem) (Q : Int32 → Mem → Prop) (X : m_in G C RX7 cX7_hasPlace 1 (some .boolean) "hasPlace" 0 0 n0 s0) (M : Mem) (a0 : Nat) (hw : wp_X7_hasPlace G.2 M a0 Q) : pW G C 1 n0 s0 M0 (m_Q G C n0 s0 (va_Qi (m_q1 M0 Q) (m_W G) (m_A G))) M 0 [(0, vR (some a0))] [] := by
  refine pw_aload_n X dX7_hasPlace_0 rfl rfl ?_
  obtain ⟨ht1, hw⟩ := hw
  refine pw_get X (q := (RX7, TX7, tyX7, 5)) (ci := 7) (k := 2) (ref := "PatrolDesk$Garage") (vI (m_gi M a0 2)) ht1 rfl (by decide) in_X7 q1176 (Or.inl rfl) rfl dX7_hasPlace_1 ?_
  refine pw_aload_n X dX7_hasPlace_4 rfl rfl ?_
  refine pw_get X (q := (RX7, TX7, tyX7, 5)) (ci := 7) (k := 3) (ref := "PatrolDesk$Garage") (vI (m_gi M a0 3)) ht1 rfl (by decide) in_X7 q1179 (Or.inl rfl) rfl dX7_hasPlace_5 ?_
  refine pw_iadd X dX7_hasPlace_8 ?_
  refine pw_aload_n X dX7_hasPlace_9 rfl rfl ?_
  refine pw_get X (q := (RX7, TX7, tyX7, 5)) (ci := 7) (k := 1) (ref := "PatrolDesk$Garage") (vI (m_gi M a0 1)) ht1 rfl (by decide) in_X7 q1174 (Or.inl rfl) rfl dX7_hasPlace_10 ?_
  refine pw_icmp_ge X 20 dX7_hasPlace_13 (by decide) (fun c2 => ?_) (fun c2 => ?_)
  · replace hw := hw.1 c2
    refine pw_iconst X 0 dX7_hasPlace_20 (by decide) ?_
    exact pw_zret X (by decide) hw dX7_hasPlace_21
  · replace hw := hw.2 c2
    refine pw_iconst X 1 dX7_hasPlace_16 (by decide) ?_
    refine pw_goto X 21 dX7_hasPlace_17 (by decide) ?_
    exact pw_zret X (by decide) hw dX7_hasPlace_21
theorem met_X7_hasPlace (G : Gp) (l : Launch) (M : Mem) (a0 : Nat) (Q : Int32 → Mem → Prop) (hw : wp_X7_hasPlace G.2 M a0 Q) : m_K G l yX7_hasPlace cX7_hasPlace 1 (some .boolean) 0 0 [vR (some a0)] M (va_Qi (m_q1 M Q) (m_W G) (m_A G)) := by
  refine m_met (by decide) (Nat.le_of_ble_eq_true rfl) (fun C e X => ?_)
  exact bk_X7_hasPlace_0 G C _ _ M Q X M a0 hw
theorem nh_X7_hasPlace : m_nMH yX7_hasPlace 0 := by decide +kernel

def wp_X7_copy (g : Nat → Nat) (M : Mem) (a0 : Nat) (Q : Option Nat → Mem → Prop) : Prop := m_fits M 5 ∧ ∀ u2 : Nat, m_tg M u2 = 0 → ∀ M4 : Mem, M4 = (m_al M u2 8 0 5) → m_tg M4 a0 = 8 ∧ wp_X7_init g M4 u2 (m_gi M4 a0 0) (m_gi M4 a0 1) (fun (M9 : Mem) => m_le M4 M9 → ∀ M13 : Mem, M13 = (m_pi M9 u2 2 (m_gi M9 a0 2)) → ∀ M18 : Mem, M18 = (m_pi M13 u2 3 (m_gi M13 a0 3)) → ∀ M23 : Mem, M23 = (m_pi M18 u2 4 (m_gi M18 a0 4)) → Q (some u2) M23)
theorem bk_X7_copy_0 (G : Gp) (C : m_Cx) (n0 s0 : Nat) (M0 : Mem) (Q : Option Nat → Mem → Prop) (X : m_in G C RX7 cX7_copy 2 (some (.object "PatrolDesk$Garage")) "copy" 2 34 n0 s0) (M : Mem) (a0 : Nat) (hw : wp_X7_copy G.2 M a0 Q) : pW G C 2 n0 s0 M0 (m_Q G C n0 s0 (va_Qq (m_q1 M0 Q) (m_W G) (m_A G))) M 0 [(0, vR (some a0))] [] := by
  obtain ⟨hf1, hw⟩ := hw
  refine pw_new X (ci := 7) (q := (RX7, TX7, tyX7, 5)) hf1 rfl in_X7 tyX7_ok q1165 q1166 q111 dX7_copy_0 (fun u2 h03 => ?_)
  obtain ⟨M4, hM5⟩ : ∃ z : Mem, z = (m_al M u2 8 0 5) := ⟨_, rfl⟩
  replace hw := hw u2 h03 M4 hM5
  have hle6 : m_le M M4 := by rw [hM5]; exact m_le_al h03
  change pW _ _ _ _ _ _ _ (m_al M u2 8 0 5) _ _ _
  rw [← hM5]
  have ht7 : m_tg M4 u2 = 8 := by rw [hM5, m_tg_al, if_pos rfl]
  refine pw_dup X dX7_copy_3 ?_
  refine pw_aload_n X dX7_copy_4 rfl rfl ?_
  obtain ⟨ht8, hw⟩ := hw
  refine pw_get X (q := (RX7, TX7, tyX7, 5)) (ci := 7) (k := 0) (ref := "PatrolDesk$Garage") (vI (m_gi M4 a0 0)) ht8 rfl (by decide) in_X7 q1171 (Or.inl rfl) rfl dX7_copy_5 ?_
  refine pw_aload_n X dX7_copy_8 rfl rfl ?_
  refine pw_get X (q := (RX7, TX7, tyX7, 5)) (ci := 7) (k := 1) (ref := "PatrolDesk$Garage") (vI (m_gi M4 a0 1)) ht8 rfl (by decide) in_X7 q1174 (Or.inl rfl) rfl dX7_copy_9 ?_
  refine pw_runv X (m_cI X (b := u2) (met_X7_init G C.2.1 M4 u2 (m_gi M4 a0 0) (m_gi M4 a0 1) _ hw) q1169 q111 q1167 q1168 rfl nh_X7_init ⟨Nat.le_of_ble_eq_true rfl, Nat.le_of_ble_eq_true rfl⟩ rfl (Nat.le_of_ble_eq_true rfl) dX7_copy_12) (fun M9 hle10 hx => ?_)
  replace hw := hx hle10
  clear hx
  have ht11 : m_tg M9 u2 = 8 := m_le_tg hle10 ht7
  have ht12 : m_tg M9 a0 = 8 := m_le_tg hle10 ht8
  refine pw_astore_n X [(0, vR (some a0)), (1, vR (some u2))] [1, 0] dX7_copy_15 rfl (by decide) rfl ?_
  refine pw_aload_n X dX7_copy_16 rfl rfl ?_
  refine pw_aload_n X dX7_copy_17 rfl rfl ?_
  refine pw_get X (q := (RX7, TX7, tyX7, 5)) (ci := 7) (k := 2) (ref := "PatrolDesk$Garage") (vI (m_gi M9 a0 2)) ht12 rfl (by decide) in_X7 q1176 (Or.inl rfl) rfl dX7_copy_18 ?_
  obtain ⟨M13, hM14⟩ : ∃ z : Mem, z = (m_pi M9 u2 2 (m_gi M9 a0 2)) := ⟨_, rfl⟩
  replace hw := hw M13 hM14
  refine pw_put X (q := (RX7, TX7, tyX7, 5)) (ci := 7) (k := 2) (ref := "PatrolDesk$Garage") M13 hM14.symm ht11 rfl (by decide) in_X7 tyX7_ok nmX7 q1176 (Or.inl rfl) rfl (m_kd_i (fun _ _ => rfl)) rfl rfl dX7_copy_21 ?_
  have hle15 : m_le M9 M13 := by rw [hM14]; exact m_le_pi
  have ht16 : m_tg M13 u2 = 8 := m_le_tg hle15 ht11
  have ht17 : m_tg M13 a0 = 8 := m_le_tg hle15 ht12
  refine pw_aload_n X dX7_copy_24 rfl rfl ?_
  refine pw_aload_n X dX7_copy_25 rfl rfl ?_
  refine pw_get X (q := (RX7, TX7, tyX7, 5)) (ci := 7) (k := 3) (ref := "PatrolDesk$Garage") (vI (m_gi M13 a0 3)) ht17 rfl (by decide) in_X7 q1179 (Or.inl rfl) rfl dX7_copy_26 ?_
  obtain ⟨M18, hM19⟩ : ∃ z : Mem, z = (m_pi M13 u2 3 (m_gi M13 a0 3)) := ⟨_, rfl⟩
  replace hw := hw M18 hM19
  refine pw_put X (q := (RX7, TX7, tyX7, 5)) (ci := 7) (k := 3) (ref := "PatrolDesk$Garage") M18 hM19.symm ht16 rfl (by decide) in_X7 tyX7_ok nmX7 q1179 (Or.inl rfl) rfl (m_kd_i (fun _ _ => rfl)) rfl rfl dX7_copy_29 ?_
  have hle20 : m_le M13 M18 := by rw [hM19]; exact m_le_pi
  have ht21 : m_tg M18 u2 = 8 := m_le_tg hle20 ht16
  have ht22 : m_tg M18 a0 = 8 := m_le_tg hle20 ht17
  refine pw_aload_n X dX7_copy_32 rfl rfl ?_
  refine pw_aload_n X dX7_copy_33 rfl rfl ?_
  refine pw_get X (q := (RX7, TX7, tyX7, 5)) (ci := 7) (k := 4) (ref := "PatrolDesk$Garage") (vI (m_gi M18 a0 4)) ht22 rfl (by decide) in_X7 q1182 (Or.inl rfl) rfl dX7_copy_34 ?_
  obtain ⟨M23, hM24⟩ : ∃ z : Mem, z = (m_pi M18 u2 4 (m_gi M18 a0 4)) := ⟨_, rfl⟩
  replace hw := hw M23 hM24
  refine pw_put X (q := (RX7, TX7, tyX7, 5)) (ci := 7) (k := 4) (ref := "PatrolDesk$Garage") M23 hM24.symm ht21 rfl (by decide) in_X7 tyX7_ok nmX7 q1182 (Or.inl rfl) rfl (m_kd_i (fun _ _ => rfl)) rfl rfl dX7_copy_37 ?_
  have hle25 : m_le M18 M23 := by rw [hM24]; exact m_le_pi
  have ht26 : m_tg M23 u2 = 8 := m_le_tg hle25 ht21
  have ht27 : m_tg M23 a0 = 8 := m_le_tg hle25 ht22
  refine pw_aload_n X dX7_copy_40 rfl rfl ?_
  exact pw_aret X (Or.inl ⟨_, rfl⟩) hw dX7_copy_41
theorem met_X7_copy (G : Gp) (l : Launch) (M : Mem) (a0 : Nat) (Q : Option Nat → Mem → Prop) (hw : wp_X7_copy G.2 M a0 Q) : m_K G l yX7_copy cX7_copy 2 (some (.object "PatrolDesk$Garage")) 2 34 [vR (some a0)] M (va_Qq (m_q1 M Q) (m_W G) (m_A G)) := by
  refine m_met (by decide) (Nat.le_of_ble_eq_true rfl) (fun C e X => ?_)
  exact bk_X7_copy_0 G C _ _ M Q X M a0 hw
theorem nh_X7_copy : m_nMH yX7_copy 0 := by decide +kernel

def wp_X8_init (g : Nat → Nat) (M : Mem) (a0 : Nat) (x1 : Int32) (x2 : Int32) (x3 : Int32) (x4 : Int32) (x5 : Int32) (x6 : Int32) (x7 : Int32) (Q : Mem → Prop) : Prop := m_tg M a0 = 9 ∧ ∀ M2 : Mem, M2 = (m_pi M a0 8 (-5)) → ∀ M6 : Mem, M6 = (m_pi M2 a0 9 (-5)) → ∀ M10 : Mem, M10 = (m_pi M6 a0 10 (-5)) → ∀ M14 : Mem, M14 = (m_pi M10 a0 11 (-5)) → ∀ M18 : Mem, M18 = (m_pi M14 a0 12 (-5)) → ∀ M22 : Mem, M22 = (m_pi M18 a0 0 x1) → ∀ M26 : Mem, M26 = (m_pi M22 a0 1 x2) → ∀ M30 : Mem, M30 = (m_pi M26 a0 6 x3) → ∀ M34 : Mem, M34 = (m_pi M30 a0 2 x4) → ∀ M38 : Mem, M38 = (m_pi M34 a0 3 x5) → ∀ M42 : Mem, M42 = (m_pi M38 a0 4 x6) → (x7 = 0 ∨ x7 = 1) ∧ ∀ M47 : Mem, M47 = (m_pi M42 a0 5 x7) → Q M47
theorem bk_X8_init_0 (G : Gp) (C : m_Cx) (n0 s0 : Nat) (M0 : Mem) (Q : Mem → Prop) (X : m_in G C RX8 cX8_init 8 none "<init>" 1 12 n0 s0) (M : Mem) (a0 : Nat) (x1 : Int32) (x2 : Int32) (x3 : Int32) (x4 : Int32) (x5 : Int32) (x6 : Int32) (x7 : Int32) (hw : wp_X8_init G.2 M a0 x1 x2 x3 x4 x5 x6 x7 Q) : pW G C 8 n0 s0 M0 (m_Q G C n0 s0 (va_Qv (m_q0 M0 Q) (m_W G) (m_A G))) M 0 [(0, vR (some a0)), (1, vI x1), (2, vI x2), (3, vI x3), (4, vI x4), (5, vI x5), (6, vI x6), (7, vI x7)] [] := by
  refine pw_aload_n X dX8_init_0 rfl rfl ?_
  refine pw_objInit X rfl q1206 q127 q128 dX8_init_1 (Nat.le_of_ble_eq_true rfl) (Nat.le_of_ble_eq_true rfl) ?_
  refine pw_aload_n X dX8_init_4 rfl rfl ?_
  refine pw_bipush X (-5) dX8_init_5 (by decide) ?_
  obtain ⟨ht1, hw⟩ := hw
  obtain ⟨M2, hM3⟩ : ∃ z : Mem, z = (m_pi M a0 8 (-5)) := ⟨_, rfl⟩
  replace hw := hw M2 hM3
  refine pw_put X (q := (RX8, TX8, tyX8, 13)) (ci := 8) (k := 8) (ref := "PatrolDesk$Call") M2 hM3.symm ht1 rfl (by decide) in_X8 tyX8_ok nmX8 q1230 (Or.inl rfl) rfl (m_kd_i (fun _ _ => rfl)) rfl rfl dX8_init_7 ?_
  have hle4 : m_le M M2 := by rw [hM3]; exact m_le_pi
  have ht5 : m_tg M2 a0 = 9 := m_le_tg hle4 ht1
  refine pw_aload_n X dX8_init_10 rfl rfl ?_
  refine pw_bipush X (-5) dX8_init_11 (by decide) ?_
  obtain ⟨M6, hM7⟩ : ∃ z : Mem, z = (m_pi M2 a0 9 (-5)) := ⟨_, rfl⟩
  replace hw := hw M6 hM7
  refine pw_put X (q := (RX8, TX8, tyX8, 13)) (ci := 8) (k := 9) (ref := "PatrolDesk$Call") M6 hM7.symm ht5 rfl (by decide) in_X8 tyX8_ok nmX8 q1233 (Or.inl rfl) rfl (m_kd_i (fun _ _ => rfl)) rfl rfl dX8_init_13 ?_
  have hle8 : m_le M2 M6 := by rw [hM7]; exact m_le_pi
  have ht9 : m_tg M6 a0 = 9 := m_le_tg hle8 ht5
  refine pw_aload_n X dX8_init_16 rfl rfl ?_
  refine pw_bipush X (-5) dX8_init_17 (by decide) ?_
  obtain ⟨M10, hM11⟩ : ∃ z : Mem, z = (m_pi M6 a0 10 (-5)) := ⟨_, rfl⟩
  replace hw := hw M10 hM11
  refine pw_put X (q := (RX8, TX8, tyX8, 13)) (ci := 8) (k := 10) (ref := "PatrolDesk$Call") M10 hM11.symm ht9 rfl (by decide) in_X8 tyX8_ok nmX8 q1236 (Or.inl rfl) rfl (m_kd_i (fun _ _ => rfl)) rfl rfl dX8_init_19 ?_
  have hle12 : m_le M6 M10 := by rw [hM11]; exact m_le_pi
  have ht13 : m_tg M10 a0 = 9 := m_le_tg hle12 ht9
  refine pw_aload_n X dX8_init_22 rfl rfl ?_
  refine pw_bipush X (-5) dX8_init_23 (by decide) ?_
  obtain ⟨M14, hM15⟩ : ∃ z : Mem, z = (m_pi M10 a0 11 (-5)) := ⟨_, rfl⟩
  replace hw := hw M14 hM15
  refine pw_put X (q := (RX8, TX8, tyX8, 13)) (ci := 8) (k := 11) (ref := "PatrolDesk$Call") M14 hM15.symm ht13 rfl (by decide) in_X8 tyX8_ok nmX8 q1239 (Or.inl rfl) rfl (m_kd_i (fun _ _ => rfl)) rfl rfl dX8_init_25 ?_
  have hle16 : m_le M10 M14 := by rw [hM15]; exact m_le_pi
  have ht17 : m_tg M14 a0 = 9 := m_le_tg hle16 ht13
  refine pw_aload_n X dX8_init_28 rfl rfl ?_
  refine pw_bipush X (-5) dX8_init_29 (by decide) ?_
  obtain ⟨M18, hM19⟩ : ∃ z : Mem, z = (m_pi M14 a0 12 (-5)) := ⟨_, rfl⟩
  replace hw := hw M18 hM19
  refine pw_put X (q := (RX8, TX8, tyX8, 13)) (ci := 8) (k := 12) (ref := "PatrolDesk$Call") M18 hM19.symm ht17 rfl (by decide) in_X8 tyX8_ok nmX8 q1241 (Or.inl rfl) rfl (m_kd_i (fun _ _ => rfl)) rfl rfl dX8_init_31 ?_
  have hle20 : m_le M14 M18 := by rw [hM19]; exact m_le_pi
  have ht21 : m_tg M18 a0 = 9 := m_le_tg hle20 ht17
  refine pw_aload_n X dX8_init_34 rfl rfl ?_
  refine pw_iload_n X dX8_init_35 rfl rfl ?_
  obtain ⟨M22, hM23⟩ : ∃ z : Mem, z = (m_pi M18 a0 0 x1) := ⟨_, rfl⟩
  replace hw := hw M22 hM23
  refine pw_putF X (q := (RX8, TX8, tyX8, 13)) (ci := 8) (k := 0) (ref := "PatrolDesk$Call") M22 hM23.symm ht21 rfl (by decide) in_X8 tyX8_ok nmX8 q1207 (Or.inl rfl) rfl rfl rfl (m_kd_i (fun _ _ => rfl)) rfl rfl dX8_init_36 ?_
  have hle24 : m_le M18 M22 := by rw [hM23]; exact m_le_pi
  have ht25 : m_tg M22 a0 = 9 := m_le_tg hle24 ht21
  refine pw_aload_n X dX8_init_39 rfl rfl ?_
  refine pw_iload_n X dX8_init_40 rfl rfl ?_
  obtain ⟨M26, hM27⟩ : ∃ z : Mem, z = (m_pi M22 a0 1 x2) := ⟨_, rfl⟩
  replace hw := hw M26 hM27
  refine pw_putF X (q := (RX8, TX8, tyX8, 13)) (ci := 8) (k := 1) (ref := "PatrolDesk$Call") M26 hM27.symm ht25 rfl (by decide) in_X8 tyX8_ok nmX8 q1210 (Or.inl rfl) rfl rfl rfl (m_kd_i (fun _ _ => rfl)) rfl rfl dX8_init_41 ?_
  have hle28 : m_le M22 M26 := by rw [hM27]; exact m_le_pi
  have ht29 : m_tg M26 a0 = 9 := m_le_tg hle28 ht25
  refine pw_aload_n X dX8_init_44 rfl rfl ?_
  refine pw_iload_n X dX8_init_45 rfl rfl ?_
  obtain ⟨M30, hM31⟩ : ∃ z : Mem, z = (m_pi M26 a0 6 x3) := ⟨_, rfl⟩
  replace hw := hw M30 hM31
  refine pw_put X (q := (RX8, TX8, tyX8, 13)) (ci := 8) (k := 6) (ref := "PatrolDesk$Call") M30 hM31.symm ht29 rfl (by decide) in_X8 tyX8_ok nmX8 q1224 (Or.inl rfl) rfl (m_kd_i (fun _ _ => rfl)) rfl rfl dX8_init_46 ?_
  have hle32 : m_le M26 M30 := by rw [hM31]; exact m_le_pi
  have ht33 : m_tg M30 a0 = 9 := m_le_tg hle32 ht29
  refine pw_aload_n X dX8_init_49 rfl rfl ?_
  refine pw_iload X dX8_init_50 rfl ?_
  obtain ⟨M34, hM35⟩ : ∃ z : Mem, z = (m_pi M30 a0 2 x4) := ⟨_, rfl⟩
  replace hw := hw M34 hM35
  refine pw_putF X (q := (RX8, TX8, tyX8, 13)) (ci := 8) (k := 2) (ref := "PatrolDesk$Call") M34 hM35.symm ht33 rfl (by decide) in_X8 tyX8_ok nmX8 q1213 (Or.inl rfl) rfl rfl rfl (m_kd_i (fun _ _ => rfl)) rfl rfl dX8_init_52 ?_
  have hle36 : m_le M30 M34 := by rw [hM35]; exact m_le_pi
  have ht37 : m_tg M34 a0 = 9 := m_le_tg hle36 ht33
  refine pw_aload_n X dX8_init_55 rfl rfl ?_
  refine pw_iload X dX8_init_56 rfl ?_
  obtain ⟨M38, hM39⟩ : ∃ z : Mem, z = (m_pi M34 a0 3 x5) := ⟨_, rfl⟩
  replace hw := hw M38 hM39
  refine pw_putF X (q := (RX8, TX8, tyX8, 13)) (ci := 8) (k := 3) (ref := "PatrolDesk$Call") M38 hM39.symm ht37 rfl (by decide) in_X8 tyX8_ok nmX8 q1216 (Or.inl rfl) rfl rfl rfl (m_kd_i (fun _ _ => rfl)) rfl rfl dX8_init_58 ?_
  have hle40 : m_le M34 M38 := by rw [hM39]; exact m_le_pi
  have ht41 : m_tg M38 a0 = 9 := m_le_tg hle40 ht37
  refine pw_aload_n X dX8_init_61 rfl rfl ?_
  refine pw_iload X dX8_init_62 rfl ?_
  obtain ⟨M42, hM43⟩ : ∃ z : Mem, z = (m_pi M38 a0 4 x6) := ⟨_, rfl⟩
  replace hw := hw M42 hM43
  refine pw_putF X (q := (RX8, TX8, tyX8, 13)) (ci := 8) (k := 4) (ref := "PatrolDesk$Call") M42 hM43.symm ht41 rfl (by decide) in_X8 tyX8_ok nmX8 q1219 (Or.inl rfl) rfl rfl rfl (m_kd_i (fun _ _ => rfl)) rfl rfl dX8_init_64 ?_
  have hle44 : m_le M38 M42 := by rw [hM43]; exact m_le_pi
  have ht45 : m_tg M42 a0 = 9 := m_le_tg hle44 ht41
  refine pw_aload_n X dX8_init_67 rfl rfl ?_
  refine pw_iload X dX8_init_68 rfl ?_
  obtain ⟨hz46, hw⟩ := hw
  obtain ⟨M47, hM48⟩ : ∃ z : Mem, z = (m_pi M42 a0 5 x7) := ⟨_, rfl⟩
  replace hw := hw M47 hM48
  refine pw_putF X (q := (RX8, TX8, tyX8, 13)) (ci := 8) (k := 5) (ref := "PatrolDesk$Call") M47 hM48.symm ht45 rfl (by decide) in_X8 tyX8_ok nmX8 q1221 (Or.inl rfl) rfl rfl rfl (m_kd_i (fun _ _ => rfl)) (m_nz hz46) (m_fz hz46) dX8_init_70 ?_
  have hle49 : m_le M42 M47 := by rw [hM48]; exact m_le_pi
  have ht50 : m_tg M47 a0 = 9 := m_le_tg hle49 ht45
  exact pw_vret X hw dX8_init_73
theorem met_X8_init (G : Gp) (l : Launch) (M : Mem) (a0 : Nat) (x1 : Int32) (x2 : Int32) (x3 : Int32) (x4 : Int32) (x5 : Int32) (x6 : Int32) (x7 : Int32) (Q : Mem → Prop) (hw : wp_X8_init G.2 M a0 x1 x2 x3 x4 x5 x6 x7 Q) : m_K G l yX8_init cX8_init 8 none 1 12 [vR (some a0), vI x1, vI x2, vI x3, vI x4, vI x5, vI x6, vI x7] M (va_Qv (m_q0 M Q) (m_W G) (m_A G)) := by
  refine m_met (by decide) (Nat.le_of_ble_eq_true rfl) (fun C e X => ?_)
  exact bk_X8_init_0 G C _ _ M Q X M a0 x1 x2 x3 x4 x5 x6 x7 hw
theorem nh_X8_init : m_nMH yX8_init 7 := by decide +kernel

def wp_X8_isUnderWay (g : Nat → Nat) (M : Mem) (a0 : Nat) (Q : Int32 → Mem → Prop) : Prop := m_tg M a0 = 9 ∧ ((4 < (m_gi M a0 7) → Q 0 M) ∧ (¬ 4 < (m_gi M a0 7) → Q 1 M))
theorem bk_X8_isUnderWay_0 (G : Gp) (C : m_Cx) (n0 s0 : Nat) (M0 : Mem) (Q : Int32 → Mem → Prop) (X : m_in G C RX8 cX8_isUnderWay 1 (some .boolean) "isUnderWay" 0 0 n0 s0) (M : Mem) (a0 : Nat) (hw : wp_X8_isUnderWay G.2 M a0 Q) : pW G C 1 n0 s0 M0 (m_Q G C n0 s0 (va_Qi (m_q1 M0 Q) (m_W G) (m_A G))) M 0 [(0, vR (some a0))] [] := by
  refine pw_aload_n X dX8_isUnderWay_0 rfl rfl ?_
  obtain ⟨ht1, hw⟩ := hw
  refine pw_get X (q := (RX8, TX8, tyX8, 13)) (ci := 8) (k := 7) (ref := "PatrolDesk$Call") (vI (m_gi M a0 7)) ht1 rfl (by decide) in_X8 q1227 (Or.inl rfl) rfl dX8_isUnderWay_1 ?_
  refine pw_iconst X 4 dX8_isUnderWay_4 (by decide) ?_
  refine pw_icmp_gt X 12 dX8_isUnderWay_5 (by decide) (fun c2 => ?_) (fun c2 => ?_)
  · replace hw := hw.1 c2
    refine pw_iconst X 0 dX8_isUnderWay_12 (by decide) ?_
    exact pw_zret X (by decide) hw dX8_isUnderWay_13
  · replace hw := hw.2 c2
    refine pw_iconst X 1 dX8_isUnderWay_8 (by decide) ?_
    refine pw_goto X 13 dX8_isUnderWay_9 (by decide) ?_
    exact pw_zret X (by decide) hw dX8_isUnderWay_13
theorem met_X8_isUnderWay (G : Gp) (l : Launch) (M : Mem) (a0 : Nat) (Q : Int32 → Mem → Prop) (hw : wp_X8_isUnderWay G.2 M a0 Q) : m_K G l yX8_isUnderWay cX8_isUnderWay 1 (some .boolean) 0 0 [vR (some a0)] M (va_Qi (m_q1 M Q) (m_W G) (m_A G)) := by
  refine m_met (by decide) (Nat.le_of_ble_eq_true rfl) (fun C e X => ?_)
  exact bk_X8_isUnderWay_0 G C _ _ M Q X M a0 hw
theorem nh_X8_isUnderWay : m_nMH yX8_isUnderWay 0 := by decide +kernel

def wp_X8_isWaiting (g : Nat → Nat) (M : Mem) (a0 : Nat) (Q : Int32 → Mem → Prop) : Prop := m_tg M a0 = 9 ∧ (((m_gi M a0 7) = 0 → Q 1 M) ∧ (¬ (m_gi M a0 7) = 0 → ((¬ (m_gi M a0 7) = 3 → Q 0 M) ∧ ((m_gi M a0 7) = 3 → ((¬ (m_gi M a0 8) = (-5) → Q 0 M) ∧ ((m_gi M a0 8) = (-5) → Q 1 M))))))
theorem bk_X8_isWaiting_0 (G : Gp) (C : m_Cx) (n0 s0 : Nat) (M0 : Mem) (Q : Int32 → Mem → Prop) (X : m_in G C RX8 cX8_isWaiting 1 (some .boolean) "isWaiting" 0 0 n0 s0) (M : Mem) (a0 : Nat) (hw : wp_X8_isWaiting G.2 M a0 Q) : pW G C 1 n0 s0 M0 (m_Q G C n0 s0 (va_Qi (m_q1 M0 Q) (m_W G) (m_A G))) M 0 [(0, vR (some a0))] [] := by
  refine pw_aload_n X dX8_isWaiting_0 rfl rfl ?_
  obtain ⟨ht1, hw⟩ := hw
  refine pw_get X (q := (RX8, TX8, tyX8, 13)) (ci := 8) (k := 7) (ref := "PatrolDesk$Call") (vI (m_gi M a0 7)) ht1 rfl (by decide) in_X8 q1227 (Or.inl rfl) rfl dX8_isWaiting_1 ?_
  refine pw_if_eq X 24 dX8_isWaiting_4 (by decide) (fun c2 => ?_) (fun c2 => ?_)
  · replace hw := hw.1 c2
    refine pw_iconst X 1 dX8_isWaiting_24 (by decide) ?_
    refine pw_goto X 29 dX8_isWaiting_25 (by decide) ?_
    exact pw_zret X (by decide) hw dX8_isWaiting_29
  · replace hw := hw.2 c2
    refine pw_aload_n X dX8_isWaiting_7 rfl rfl ?_
    refine pw_get X (q := (RX8, TX8, tyX8, 13)) (ci := 8) (k := 7) (ref := "PatrolDesk$Call") (vI (m_gi M a0 7)) ht1 rfl (by decide) in_X8 q1227 (Or.inl rfl) rfl dX8_isWaiting_8 ?_
    refine pw_iconst X 3 dX8_isWaiting_11 (by decide) ?_
    refine pw_icmp_ne X 28 dX8_isWaiting_12 (by decide) (fun c3 => ?_) (fun c3 => ?_)
    · replace hw := hw.1 c3
      refine pw_iconst X 0 dX8_isWaiting_28 (by decide) ?_
      exact pw_zret X (by decide) hw dX8_isWaiting_29
    · replace hw := hw.2 c3
      refine pw_aload_n X dX8_isWaiting_15 rfl rfl ?_
      refine pw_get X (q := (RX8, TX8, tyX8, 13)) (ci := 8) (k := 8) (ref := "PatrolDesk$Call") (vI (m_gi M a0 8)) ht1 rfl (by decide) in_X8 q1230 (Or.inl rfl) rfl dX8_isWaiting_16 ?_
      refine pw_bipush X (-5) dX8_isWaiting_19 (by decide) ?_
      refine pw_icmp_ne X 28 dX8_isWaiting_21 (by decide) (fun c4 => ?_) (fun c4 => ?_)
      · replace hw := hw.1 c4
        refine pw_iconst X 0 dX8_isWaiting_28 (by decide) ?_
        exact pw_zret X (by decide) hw dX8_isWaiting_29
      · replace hw := hw.2 c4
        refine pw_iconst X 1 dX8_isWaiting_24 (by decide) ?_
        refine pw_goto X 29 dX8_isWaiting_25 (by decide) ?_
        exact pw_zret X (by decide) hw dX8_isWaiting_29
theorem met_X8_isWaiting (G : Gp) (l : Launch) (M : Mem) (a0 : Nat) (Q : Int32 → Mem → Prop) (hw : wp_X8_isWaiting G.2 M a0 Q) : m_K G l yX8_isWaiting cX8_isWaiting 1 (some .boolean) 0 0 [vR (some a0)] M (va_Qi (m_q1 M Q) (m_W G) (m_A G)) := by
  refine m_met (by decide) (Nat.le_of_ble_eq_true rfl) (fun C e X => ?_)
  exact bk_X8_isWaiting_0 G C _ _ M Q X M a0 hw
theorem nh_X8_isWaiting : m_nMH yX8_isWaiting 0 := by decide +kernel

def wp_X8_waited (g : Nat → Nat) (M : Mem) (a0 : Nat) (x1 : Int32) (Q : Int32 → Mem → Prop) : Prop := m_tg M a0 = 9 ∧ ((¬ (m_gi M a0 10) = (-5) → Q ((m_gi M a0 10) - (m_gi M a0 4)) M) ∧ ((m_gi M a0 10) = (-5) → Q (x1 - (m_gi M a0 4)) M))
theorem bk_X8_waited_0 (G : Gp) (C : m_Cx) (n0 s0 : Nat) (M0 : Mem) (Q : Int32 → Mem → Prop) (X : m_in G C RX8 cX8_waited 2 (some .int) "waited" 0 0 n0 s0) (M : Mem) (a0 : Nat) (x1 : Int32) (hw : wp_X8_waited G.2 M a0 x1 Q) : pW G C 2 n0 s0 M0 (m_Q G C n0 s0 (va_Qi (m_q1 M0 Q) (m_W G) (m_A G))) M 0 [(0, vR (some a0)), (1, vI x1)] [] := by
  refine pw_aload_n X dX8_waited_0 rfl rfl ?_
  obtain ⟨ht1, hw⟩ := hw
  refine pw_get X (q := (RX8, TX8, tyX8, 13)) (ci := 8) (k := 10) (ref := "PatrolDesk$Call") (vI (m_gi M a0 10)) ht1 rfl (by decide) in_X8 q1236 (Or.inl rfl) rfl dX8_waited_1 ?_
  refine pw_bipush X (-5) dX8_waited_4 (by decide) ?_
  refine pw_icmp_ne X 13 dX8_waited_6 (by decide) (fun c2 => ?_) (fun c2 => ?_)
  · replace hw := hw.1 c2
    refine pw_aload_n X dX8_waited_13 rfl rfl ?_
    refine pw_get X (q := (RX8, TX8, tyX8, 13)) (ci := 8) (k := 10) (ref := "PatrolDesk$Call") (vI (m_gi M a0 10)) ht1 rfl (by decide) in_X8 q1236 (Or.inl rfl) rfl dX8_waited_14 ?_
    refine pw_aload_n X dX8_waited_17 rfl rfl ?_
    refine pw_get X (q := (RX8, TX8, tyX8, 13)) (ci := 8) (k := 4) (ref := "PatrolDesk$Call") (vI (m_gi M a0 4)) ht1 rfl (by decide) in_X8 q1219 (Or.inl rfl) rfl dX8_waited_18 ?_
    refine pw_isub X dX8_waited_21 ?_
    exact pw_iret X hw dX8_waited_22
  · replace hw := hw.2 c2
    refine pw_iload_n X dX8_waited_9 rfl rfl ?_
    refine pw_goto X 17 dX8_waited_10 (by decide) ?_
    refine pw_aload_n X dX8_waited_17 rfl rfl ?_
    refine pw_get X (q := (RX8, TX8, tyX8, 13)) (ci := 8) (k := 4) (ref := "PatrolDesk$Call") (vI (m_gi M a0 4)) ht1 rfl (by decide) in_X8 q1219 (Or.inl rfl) rfl dX8_waited_18 ?_
    refine pw_isub X dX8_waited_21 ?_
    exact pw_iret X hw dX8_waited_22
theorem met_X8_waited (G : Gp) (l : Launch) (M : Mem) (a0 : Nat) (x1 : Int32) (Q : Int32 → Mem → Prop) (hw : wp_X8_waited G.2 M a0 x1 Q) : m_K G l yX8_waited cX8_waited 2 (some .int) 0 0 [vR (some a0), vI x1] M (va_Qi (m_q1 M Q) (m_W G) (m_A G)) := by
  refine m_met (by decide) (Nat.le_of_ble_eq_true rfl) (fun C e X => ?_)
  exact bk_X8_waited_0 G C _ _ M Q X M a0 x1 hw
theorem nh_X8_waited : m_nMH yX8_waited 1 := by decide +kernel

def wp_X8_rest (g : Nat → Nat) (M : Mem) (a0 : Nat) (x1 : Int32) (Q : Int32 → Mem → Prop) : Prop := m_tg M a0 = 9 ∧ Q ((m_gi M a0 3) - (x1 - (m_gi M a0 4))) M
theorem bk_X8_rest_0 (G : Gp) (C : m_Cx) (n0 s0 : Nat) (M0 : Mem) (Q : Int32 → Mem → Prop) (X : m_in G C RX8 cX8_rest 2 (some .int) "rest" 0 0 n0 s0) (M : Mem) (a0 : Nat) (x1 : Int32) (hw : wp_X8_rest G.2 M a0 x1 Q) : pW G C 2 n0 s0 M0 (m_Q G C n0 s0 (va_Qi (m_q1 M0 Q) (m_W G) (m_A G))) M 0 [(0, vR (some a0)), (1, vI x1)] [] := by
  refine pw_aload_n X dX8_rest_0 rfl rfl ?_
  obtain ⟨ht1, hw⟩ := hw
  refine pw_get X (q := (RX8, TX8, tyX8, 13)) (ci := 8) (k := 3) (ref := "PatrolDesk$Call") (vI (m_gi M a0 3)) ht1 rfl (by decide) in_X8 q1216 (Or.inl rfl) rfl dX8_rest_1 ?_
  refine pw_iload_n X dX8_rest_4 rfl rfl ?_
  refine pw_aload_n X dX8_rest_5 rfl rfl ?_
  refine pw_get X (q := (RX8, TX8, tyX8, 13)) (ci := 8) (k := 4) (ref := "PatrolDesk$Call") (vI (m_gi M a0 4)) ht1 rfl (by decide) in_X8 q1219 (Or.inl rfl) rfl dX8_rest_6 ?_
  refine pw_isub X dX8_rest_9 ?_
  refine pw_isub X dX8_rest_10 ?_
  exact pw_iret X hw dX8_rest_11
theorem met_X8_rest (G : Gp) (l : Launch) (M : Mem) (a0 : Nat) (x1 : Int32) (Q : Int32 → Mem → Prop) (hw : wp_X8_rest G.2 M a0 x1 Q) : m_K G l yX8_rest cX8_rest 2 (some .int) 0 0 [vR (some a0), vI x1] M (va_Qi (m_q1 M Q) (m_W G) (m_A G)) := by
  refine m_met (by decide) (Nat.le_of_ble_eq_true rfl) (fun C e X => ?_)
  exact bk_X8_rest_0 G C _ _ M Q X M a0 x1 hw
theorem nh_X8_rest : m_nMH yX8_rest 1 := by decide +kernel

def wp_X8_end (g : Nat → Nat) (M : Mem) (a0 : Nat) (x1 : Int32) (x2 : Int32) (Q : Mem → Prop) : Prop := m_tg M a0 = 9 ∧ ∀ M2 : Mem, M2 = (m_pi M a0 7 x1) → ∀ M6 : Mem, M6 = (m_pi M2 a0 8 (-5)) → ∀ M10 : Mem, M10 = (m_pi M6 a0 11 x2) → Q M10
theorem bk_X8_end_0 (G : Gp) (C : m_Cx) (n0 s0 : Nat) (M0 : Mem) (Q : Mem → Prop) (X : m_in G C RX8 cX8_end 3 none "end" 0 0 n0 s0) (M : Mem) (a0 : Nat) (x1 : Int32) (x2 : Int32) (hw : wp_X8_end G.2 M a0 x1 x2 Q) : pW G C 3 n0 s0 M0 (m_Q G C n0 s0 (va_Qv (m_q0 M0 Q) (m_W G) (m_A G))) M 0 [(0, vR (some a0)), (1, vI x1), (2, vI x2)] [] := by
  refine pw_aload_n X dX8_end_0 rfl rfl ?_
  refine pw_iload_n X dX8_end_1 rfl rfl ?_
  obtain ⟨ht1, hw⟩ := hw
  obtain ⟨M2, hM3⟩ : ∃ z : Mem, z = (m_pi M a0 7 x1) := ⟨_, rfl⟩
  replace hw := hw M2 hM3
  refine pw_put X (q := (RX8, TX8, tyX8, 13)) (ci := 8) (k := 7) (ref := "PatrolDesk$Call") M2 hM3.symm ht1 rfl (by decide) in_X8 tyX8_ok nmX8 q1227 (Or.inl rfl) rfl (m_kd_i (fun _ _ => rfl)) rfl rfl dX8_end_2 ?_
  have hle4 : m_le M M2 := by rw [hM3]; exact m_le_pi
  have ht5 : m_tg M2 a0 = 9 := m_le_tg hle4 ht1
  refine pw_aload_n X dX8_end_5 rfl rfl ?_
  refine pw_bipush X (-5) dX8_end_6 (by decide) ?_
  obtain ⟨M6, hM7⟩ : ∃ z : Mem, z = (m_pi M2 a0 8 (-5)) := ⟨_, rfl⟩
  replace hw := hw M6 hM7
  refine pw_put X (q := (RX8, TX8, tyX8, 13)) (ci := 8) (k := 8) (ref := "PatrolDesk$Call") M6 hM7.symm ht5 rfl (by decide) in_X8 tyX8_ok nmX8 q1230 (Or.inl rfl) rfl (m_kd_i (fun _ _ => rfl)) rfl rfl dX8_end_8 ?_
  have hle8 : m_le M2 M6 := by rw [hM7]; exact m_le_pi
  have ht9 : m_tg M6 a0 = 9 := m_le_tg hle8 ht5
  refine pw_aload_n X dX8_end_11 rfl rfl ?_
  refine pw_iload_n X dX8_end_12 rfl rfl ?_
  obtain ⟨M10, hM11⟩ : ∃ z : Mem, z = (m_pi M6 a0 11 x2) := ⟨_, rfl⟩
  replace hw := hw M10 hM11
  refine pw_put X (q := (RX8, TX8, tyX8, 13)) (ci := 8) (k := 11) (ref := "PatrolDesk$Call") M10 hM11.symm ht9 rfl (by decide) in_X8 tyX8_ok nmX8 q1239 (Or.inl rfl) rfl (m_kd_i (fun _ _ => rfl)) rfl rfl dX8_end_13 ?_
  have hle12 : m_le M6 M10 := by rw [hM11]; exact m_le_pi
  have ht13 : m_tg M10 a0 = 9 := m_le_tg hle12 ht9
  exact pw_vret X hw dX8_end_16
theorem met_X8_end (G : Gp) (l : Launch) (M : Mem) (a0 : Nat) (x1 : Int32) (x2 : Int32) (Q : Mem → Prop) (hw : wp_X8_end G.2 M a0 x1 x2 Q) : m_K G l yX8_end cX8_end 3 none 0 0 [vR (some a0), vI x1, vI x2] M (va_Qv (m_q0 M Q) (m_W G) (m_A G)) := by
  refine m_met (by decide) (Nat.le_of_ble_eq_true rfl) (fun C e X => ?_)
  exact bk_X8_end_0 G C _ _ M Q X M a0 x1 x2 hw
theorem nh_X8_end : m_nMH yX8_end 2 := by decide +kernel

def wp_X8_waitForTow (g : Nat → Nat) (M : Mem) (a0 : Nat) (x1 : Int32) (Q : Mem → Prop) : Prop := m_tg M a0 = 9 ∧ ∀ M2 : Mem, M2 = (m_pi M a0 6 x1) → ∀ M6 : Mem, M6 = (m_pi M2 a0 7 3) → ∀ M10 : Mem, M10 = (m_pi M6 a0 8 (-5)) → Q M10
theorem bk_X8_waitForTow_0 (G : Gp) (C : m_Cx) (n0 s0 : Nat) (M0 : Mem) (Q : Mem → Prop) (X : m_in G C RX8 cX8_waitForTow 2 none "waitForTow" 0 0 n0 s0) (M : Mem) (a0 : Nat) (x1 : Int32) (hw : wp_X8_waitForTow G.2 M a0 x1 Q) : pW G C 2 n0 s0 M0 (m_Q G C n0 s0 (va_Qv (m_q0 M0 Q) (m_W G) (m_A G))) M 0 [(0, vR (some a0)), (1, vI x1)] [] := by
  refine pw_aload_n X dX8_waitForTow_0 rfl rfl ?_
  refine pw_iload_n X dX8_waitForTow_1 rfl rfl ?_
  obtain ⟨ht1, hw⟩ := hw
  obtain ⟨M2, hM3⟩ : ∃ z : Mem, z = (m_pi M a0 6 x1) := ⟨_, rfl⟩
  replace hw := hw M2 hM3
  refine pw_put X (q := (RX8, TX8, tyX8, 13)) (ci := 8) (k := 6) (ref := "PatrolDesk$Call") M2 hM3.symm ht1 rfl (by decide) in_X8 tyX8_ok nmX8 q1224 (Or.inl rfl) rfl (m_kd_i (fun _ _ => rfl)) rfl rfl dX8_waitForTow_2 ?_
  have hle4 : m_le M M2 := by rw [hM3]; exact m_le_pi
  have ht5 : m_tg M2 a0 = 9 := m_le_tg hle4 ht1
  refine pw_aload_n X dX8_waitForTow_5 rfl rfl ?_
  refine pw_iconst X 3 dX8_waitForTow_6 (by decide) ?_
  obtain ⟨M6, hM7⟩ : ∃ z : Mem, z = (m_pi M2 a0 7 3) := ⟨_, rfl⟩
  replace hw := hw M6 hM7
  refine pw_put X (q := (RX8, TX8, tyX8, 13)) (ci := 8) (k := 7) (ref := "PatrolDesk$Call") M6 hM7.symm ht5 rfl (by decide) in_X8 tyX8_ok nmX8 q1227 (Or.inl rfl) rfl (m_kd_i (fun _ _ => rfl)) rfl rfl dX8_waitForTow_7 ?_
  have hle8 : m_le M2 M6 := by rw [hM7]; exact m_le_pi
  have ht9 : m_tg M6 a0 = 9 := m_le_tg hle8 ht5
  refine pw_aload_n X dX8_waitForTow_10 rfl rfl ?_
  refine pw_bipush X (-5) dX8_waitForTow_11 (by decide) ?_
  obtain ⟨M10, hM11⟩ : ∃ z : Mem, z = (m_pi M6 a0 8 (-5)) := ⟨_, rfl⟩
  replace hw := hw M10 hM11
  refine pw_put X (q := (RX8, TX8, tyX8, 13)) (ci := 8) (k := 8) (ref := "PatrolDesk$Call") M10 hM11.symm ht9 rfl (by decide) in_X8 tyX8_ok nmX8 q1230 (Or.inl rfl) rfl (m_kd_i (fun _ _ => rfl)) rfl rfl dX8_waitForTow_13 ?_
  have hle12 : m_le M6 M10 := by rw [hM11]; exact m_le_pi
  have ht13 : m_tg M10 a0 = 9 := m_le_tg hle12 ht9
  exact pw_vret X hw dX8_waitForTow_16
theorem met_X8_waitForTow (G : Gp) (l : Launch) (M : Mem) (a0 : Nat) (x1 : Int32) (Q : Mem → Prop) (hw : wp_X8_waitForTow G.2 M a0 x1 Q) : m_K G l yX8_waitForTow cX8_waitForTow 2 none 0 0 [vR (some a0), vI x1] M (va_Qv (m_q0 M Q) (m_W G) (m_A G)) := by
  refine m_met (by decide) (Nat.le_of_ble_eq_true rfl) (fun C e X => ?_)
  exact bk_X8_waitForTow_0 G C _ _ M Q X M a0 x1 hw
theorem nh_X8_waitForTow : m_nMH yX8_waitForTow 1 := by decide +kernel

def wp_X8_copy (g : Nat → Nat) (M : Mem) (a0 : Nat) (Q : Option Nat → Mem → Prop) : Prop := m_fits M 13 ∧ ∀ u2 : Nat, m_tg M u2 = 0 → ∀ M4 : Mem, M4 = (m_al M u2 9 0 13) → m_tg M4 a0 = 9 ∧ wp_X8_init g M4 u2 (m_gi M4 a0 0) (m_gi M4 a0 1) (m_gi M4 a0 6) (m_gi M4 a0 2) (m_gi M4 a0 3) (m_gi M4 a0 4) (m_gi M4 a0 5) (fun (M9 : Mem) => m_le M4 M9 → ∀ M13 : Mem, M13 = (m_pi M9 u2 7 (m_gi M9 a0 7)) → ∀ M18 : Mem, M18 = (m_pi M13 u2 8 (m_gi M13 a0 8)) → ∀ M23 : Mem, M23 = (m_pi M18 u2 9 (m_gi M18 a0 9)) → ∀ M28 : Mem, M28 = (m_pi M23 u2 10 (m_gi M23 a0 10)) → ∀ M33 : Mem, M33 = (m_pi M28 u2 11 (m_gi M28 a0 11)) → ∀ M38 : Mem, M38 = (m_pi M33 u2 12 (m_gi M33 a0 12)) → Q (some u2) M38)
theorem bk_X8_copy_0 (G : Gp) (C : m_Cx) (n0 s0 : Nat) (M0 : Mem) (Q : Option Nat → Mem → Prop) (X : m_in G C RX8 cX8_copy 2 (some (.object "PatrolDesk$Call")) "copy" 2 39 n0 s0) (M : Mem) (a0 : Nat) (hw : wp_X8_copy G.2 M a0 Q) : pW G C 2 n0 s0 M0 (m_Q G C n0 s0 (va_Qq (m_q1 M0 Q) (m_W G) (m_A G))) M 0 [(0, vR (some a0))] [] := by
  obtain ⟨hf1, hw⟩ := hw
  refine pw_new X (ci := 8) (q := (RX8, TX8, tyX8, 13)) hf1 rfl in_X8 tyX8_ok q1201 q1202 q112 dX8_copy_0 (fun u2 h03 => ?_)
  obtain ⟨M4, hM5⟩ : ∃ z : Mem, z = (m_al M u2 9 0 13) := ⟨_, rfl⟩
  replace hw := hw u2 h03 M4 hM5
  have hle6 : m_le M M4 := by rw [hM5]; exact m_le_al h03
  change pW _ _ _ _ _ _ _ (m_al M u2 9 0 13) _ _ _
  rw [← hM5]
  have ht7 : m_tg M4 u2 = 9 := by rw [hM5, m_tg_al, if_pos rfl]
  refine pw_dup X dX8_copy_3 ?_
  refine pw_aload_n X dX8_copy_4 rfl rfl ?_
  obtain ⟨ht8, hw⟩ := hw
  refine pw_get X (q := (RX8, TX8, tyX8, 13)) (ci := 8) (k := 0) (ref := "PatrolDesk$Call") (vI (m_gi M4 a0 0)) ht8 rfl (by decide) in_X8 q1207 (Or.inl rfl) rfl dX8_copy_5 ?_
  refine pw_aload_n X dX8_copy_8 rfl rfl ?_
  refine pw_get X (q := (RX8, TX8, tyX8, 13)) (ci := 8) (k := 1) (ref := "PatrolDesk$Call") (vI (m_gi M4 a0 1)) ht8 rfl (by decide) in_X8 q1210 (Or.inl rfl) rfl dX8_copy_9 ?_
  refine pw_aload_n X dX8_copy_12 rfl rfl ?_
  refine pw_get X (q := (RX8, TX8, tyX8, 13)) (ci := 8) (k := 6) (ref := "PatrolDesk$Call") (vI (m_gi M4 a0 6)) ht8 rfl (by decide) in_X8 q1224 (Or.inl rfl) rfl dX8_copy_13 ?_
  refine pw_aload_n X dX8_copy_16 rfl rfl ?_
  refine pw_get X (q := (RX8, TX8, tyX8, 13)) (ci := 8) (k := 2) (ref := "PatrolDesk$Call") (vI (m_gi M4 a0 2)) ht8 rfl (by decide) in_X8 q1213 (Or.inl rfl) rfl dX8_copy_17 ?_
  refine pw_aload_n X dX8_copy_20 rfl rfl ?_
  refine pw_get X (q := (RX8, TX8, tyX8, 13)) (ci := 8) (k := 3) (ref := "PatrolDesk$Call") (vI (m_gi M4 a0 3)) ht8 rfl (by decide) in_X8 q1216 (Or.inl rfl) rfl dX8_copy_21 ?_
  refine pw_aload_n X dX8_copy_24 rfl rfl ?_
  refine pw_get X (q := (RX8, TX8, tyX8, 13)) (ci := 8) (k := 4) (ref := "PatrolDesk$Call") (vI (m_gi M4 a0 4)) ht8 rfl (by decide) in_X8 q1219 (Or.inl rfl) rfl dX8_copy_25 ?_
  refine pw_aload_n X dX8_copy_28 rfl rfl ?_
  refine pw_get X (q := (RX8, TX8, tyX8, 13)) (ci := 8) (k := 5) (ref := "PatrolDesk$Call") (vI (m_gi M4 a0 5)) ht8 rfl (by decide) in_X8 q1221 (Or.inl rfl) rfl dX8_copy_29 ?_
  refine pw_runv X (m_cI X (b := u2) (met_X8_init G C.2.1 M4 u2 (m_gi M4 a0 0) (m_gi M4 a0 1) (m_gi M4 a0 6) (m_gi M4 a0 2) (m_gi M4 a0 3) (m_gi M4 a0 4) (m_gi M4 a0 5) _ hw) q1205 q112 q1203 q1204 rfl nh_X8_init ⟨Nat.le_of_ble_eq_true rfl, Nat.le_of_ble_eq_true rfl⟩ rfl (Nat.le_of_ble_eq_true rfl) dX8_copy_32) (fun M9 hle10 hx => ?_)
  replace hw := hx hle10
  clear hx
  have ht11 : m_tg M9 u2 = 9 := m_le_tg hle10 ht7
  have ht12 : m_tg M9 a0 = 9 := m_le_tg hle10 ht8
  refine pw_astore_n X [(0, vR (some a0)), (1, vR (some u2))] [1, 0] dX8_copy_35 rfl (by decide) rfl ?_
  refine pw_aload_n X dX8_copy_36 rfl rfl ?_
  refine pw_aload_n X dX8_copy_37 rfl rfl ?_
  refine pw_get X (q := (RX8, TX8, tyX8, 13)) (ci := 8) (k := 7) (ref := "PatrolDesk$Call") (vI (m_gi M9 a0 7)) ht12 rfl (by decide) in_X8 q1227 (Or.inl rfl) rfl dX8_copy_38 ?_
  obtain ⟨M13, hM14⟩ : ∃ z : Mem, z = (m_pi M9 u2 7 (m_gi M9 a0 7)) := ⟨_, rfl⟩
  replace hw := hw M13 hM14
  refine pw_put X (q := (RX8, TX8, tyX8, 13)) (ci := 8) (k := 7) (ref := "PatrolDesk$Call") M13 hM14.symm ht11 rfl (by decide) in_X8 tyX8_ok nmX8 q1227 (Or.inl rfl) rfl (m_kd_i (fun _ _ => rfl)) rfl rfl dX8_copy_41 ?_
  have hle15 : m_le M9 M13 := by rw [hM14]; exact m_le_pi
  have ht16 : m_tg M13 u2 = 9 := m_le_tg hle15 ht11
  have ht17 : m_tg M13 a0 = 9 := m_le_tg hle15 ht12
  refine pw_aload_n X dX8_copy_44 rfl rfl ?_
  refine pw_aload_n X dX8_copy_45 rfl rfl ?_
  refine pw_get X (q := (RX8, TX8, tyX8, 13)) (ci := 8) (k := 8) (ref := "PatrolDesk$Call") (vI (m_gi M13 a0 8)) ht17 rfl (by decide) in_X8 q1230 (Or.inl rfl) rfl dX8_copy_46 ?_
  obtain ⟨M18, hM19⟩ : ∃ z : Mem, z = (m_pi M13 u2 8 (m_gi M13 a0 8)) := ⟨_, rfl⟩
  replace hw := hw M18 hM19
  refine pw_put X (q := (RX8, TX8, tyX8, 13)) (ci := 8) (k := 8) (ref := "PatrolDesk$Call") M18 hM19.symm ht16 rfl (by decide) in_X8 tyX8_ok nmX8 q1230 (Or.inl rfl) rfl (m_kd_i (fun _ _ => rfl)) rfl rfl dX8_copy_49 ?_
  have hle20 : m_le M13 M18 := by rw [hM19]; exact m_le_pi
  have ht21 : m_tg M18 u2 = 9 := m_le_tg hle20 ht16
  have ht22 : m_tg M18 a0 = 9 := m_le_tg hle20 ht17
  refine pw_aload_n X dX8_copy_52 rfl rfl ?_
  refine pw_aload_n X dX8_copy_53 rfl rfl ?_
  refine pw_get X (q := (RX8, TX8, tyX8, 13)) (ci := 8) (k := 9) (ref := "PatrolDesk$Call") (vI (m_gi M18 a0 9)) ht22 rfl (by decide) in_X8 q1233 (Or.inl rfl) rfl dX8_copy_54 ?_
  obtain ⟨M23, hM24⟩ : ∃ z : Mem, z = (m_pi M18 u2 9 (m_gi M18 a0 9)) := ⟨_, rfl⟩
  replace hw := hw M23 hM24
  refine pw_put X (q := (RX8, TX8, tyX8, 13)) (ci := 8) (k := 9) (ref := "PatrolDesk$Call") M23 hM24.symm ht21 rfl (by decide) in_X8 tyX8_ok nmX8 q1233 (Or.inl rfl) rfl (m_kd_i (fun _ _ => rfl)) rfl rfl dX8_copy_57 ?_
  have hle25 : m_le M18 M23 := by rw [hM24]; exact m_le_pi
  have ht26 : m_tg M23 u2 = 9 := m_le_tg hle25 ht21
  have ht27 : m_tg M23 a0 = 9 := m_le_tg hle25 ht22
  refine pw_aload_n X dX8_copy_60 rfl rfl ?_
  refine pw_aload_n X dX8_copy_61 rfl rfl ?_
  refine pw_get X (q := (RX8, TX8, tyX8, 13)) (ci := 8) (k := 10) (ref := "PatrolDesk$Call") (vI (m_gi M23 a0 10)) ht27 rfl (by decide) in_X8 q1236 (Or.inl rfl) rfl dX8_copy_62 ?_
  obtain ⟨M28, hM29⟩ : ∃ z : Mem, z = (m_pi M23 u2 10 (m_gi M23 a0 10)) := ⟨_, rfl⟩
  replace hw := hw M28 hM29
  refine pw_put X (q := (RX8, TX8, tyX8, 13)) (ci := 8) (k := 10) (ref := "PatrolDesk$Call") M28 hM29.symm ht26 rfl (by decide) in_X8 tyX8_ok nmX8 q1236 (Or.inl rfl) rfl (m_kd_i (fun _ _ => rfl)) rfl rfl dX8_copy_65 ?_
  have hle30 : m_le M23 M28 := by rw [hM29]; exact m_le_pi
  have ht31 : m_tg M28 u2 = 9 := m_le_tg hle30 ht26
  have ht32 : m_tg M28 a0 = 9 := m_le_tg hle30 ht27
  refine pw_aload_n X dX8_copy_68 rfl rfl ?_
  refine pw_aload_n X dX8_copy_69 rfl rfl ?_
  refine pw_get X (q := (RX8, TX8, tyX8, 13)) (ci := 8) (k := 11) (ref := "PatrolDesk$Call") (vI (m_gi M28 a0 11)) ht32 rfl (by decide) in_X8 q1239 (Or.inl rfl) rfl dX8_copy_70 ?_
  obtain ⟨M33, hM34⟩ : ∃ z : Mem, z = (m_pi M28 u2 11 (m_gi M28 a0 11)) := ⟨_, rfl⟩
  replace hw := hw M33 hM34
  refine pw_put X (q := (RX8, TX8, tyX8, 13)) (ci := 8) (k := 11) (ref := "PatrolDesk$Call") M33 hM34.symm ht31 rfl (by decide) in_X8 tyX8_ok nmX8 q1239 (Or.inl rfl) rfl (m_kd_i (fun _ _ => rfl)) rfl rfl dX8_copy_73 ?_
  have hle35 : m_le M28 M33 := by rw [hM34]; exact m_le_pi
  have ht36 : m_tg M33 u2 = 9 := m_le_tg hle35 ht31
  have ht37 : m_tg M33 a0 = 9 := m_le_tg hle35 ht32
  refine pw_aload_n X dX8_copy_76 rfl rfl ?_
  refine pw_aload_n X dX8_copy_77 rfl rfl ?_
  refine pw_get X (q := (RX8, TX8, tyX8, 13)) (ci := 8) (k := 12) (ref := "PatrolDesk$Call") (vI (m_gi M33 a0 12)) ht37 rfl (by decide) in_X8 q1241 (Or.inl rfl) rfl dX8_copy_78 ?_
  obtain ⟨M38, hM39⟩ : ∃ z : Mem, z = (m_pi M33 u2 12 (m_gi M33 a0 12)) := ⟨_, rfl⟩
  replace hw := hw M38 hM39
  refine pw_put X (q := (RX8, TX8, tyX8, 13)) (ci := 8) (k := 12) (ref := "PatrolDesk$Call") M38 hM39.symm ht36 rfl (by decide) in_X8 tyX8_ok nmX8 q1241 (Or.inl rfl) rfl (m_kd_i (fun _ _ => rfl)) rfl rfl dX8_copy_81 ?_
  have hle40 : m_le M33 M38 := by rw [hM39]; exact m_le_pi
  have ht41 : m_tg M38 u2 = 9 := m_le_tg hle40 ht36
  have ht42 : m_tg M38 a0 = 9 := m_le_tg hle40 ht37
  refine pw_aload_n X dX8_copy_84 rfl rfl ?_
  exact pw_aret X (Or.inl ⟨_, rfl⟩) hw dX8_copy_85
theorem met_X8_copy (G : Gp) (l : Launch) (M : Mem) (a0 : Nat) (Q : Option Nat → Mem → Prop) (hw : wp_X8_copy G.2 M a0 Q) : m_K G l yX8_copy cX8_copy 2 (some (.object "PatrolDesk$Call")) 2 39 [vR (some a0)] M (va_Qq (m_q1 M Q) (m_W G) (m_A G)) := by
  refine m_met (by decide) (Nat.le_of_ble_eq_true rfl) (fun C e X => ?_)
  exact bk_X8_copy_0 G C _ _ M Q X M a0 hw
theorem nh_X8_copy : m_nMH yX8_copy 0 := by decide +kernel
